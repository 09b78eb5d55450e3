/-! SetupJobShop$Order -/
set_option maxRecDepth 100000
def RX3 : String := "SetupJobShop$Order"
def TX3 : u_T := fun k => match k with
  | 0 => ("SetupJobShop$Order", "row", "[I", true)
  | _ => ("SetupJobShop$Order", "size", "I", false)
def tyX3 : Nat → FieldType := fun k => match k with
  | 0 => .array .int
  | _ => .int
abbrev wsX30 : List Cond := u_ws RX3 TX3 2
theorem nmX3 : ∀ a, a < 2 → ∀ b, b < 2 → a ≠ b → (TX3 a).2.1 ≠ (TX3 b).2.1 := by decide +kernel
theorem tyX3_ok : ∀ k, k < 2 → parseFieldDescriptor (TX3 k).2.2.1 = some (tyX3 k) := by decide +kernel
abbrev cX3_init : ByteArray := prog_11_method_1_code
def yX3_init : MethodName := ⟨RX3, "<init>", "()V"⟩
def dkwX3_init_0 : List UInt8 := [42, 183, 0, 3, 42, 8, 188, 10, 181, 0, 9, 177]
abbrev dktX3_init_0 : List UInt8 := dkwX3_init_0 ++ []
theorem dksX3_init_0 : cX3_init.data.toList.drop 0 = dktX3_init_0 := by decide +kernel
theorem dX3_init_0 : decode cX3_init 0 = .ok (.aload_n 0, 1) := dk_42 (dk_at dksX3_init_0 0 rfl rfl)
theorem dX3_init_1 : decode cX3_init 1 = .ok (.invokespecial 3, 3) := dk_183 0 3 (dk_at dksX3_init_0 1 rfl rfl)
theorem dX3_init_4 : decode cX3_init 4 = .ok (.aload_n 0, 1) := dk_42 (dk_at dksX3_init_0 4 rfl rfl)
theorem dX3_init_5 : decode cX3_init 5 = .ok (.iconst 5, 1) := dk_8 (dk_at dksX3_init_0 5 rfl rfl)
theorem dX3_init_6 : decode cX3_init 6 = .ok (.newarray .int, 2) := dk_188_10 (dk_at dksX3_init_0 6 rfl rfl)
theorem dX3_init_8 : decode cX3_init 8 = .ok (.putfield 9, 3) := dk_181 0 9 (dk_at dksX3_init_0 8 rfl rfl)
theorem dX3_init_11 : decode cX3_init 11 = .ok (.return_, 1) := dk_177 (dk_at dksX3_init_0 11 rfl rfl)
abbrev cX3_take : ByteArray := prog_11_method_6_code
def yX3_take : MethodName := ⟨RX3, "take", "(LSetupJobShop$Order;)V"⟩
def dkwX3_take_0 : List UInt8 := [43, 180, 0, 9, 3, 42, 180, 0, 9, 3, 8, 184, 0, 19, 42, 43, 180, 0, 15, 181, 0, 15, 177]
abbrev dktX3_take_0 : List UInt8 := dkwX3_take_0 ++ []
theorem dksX3_take_0 : cX3_take.data.toList.drop 0 = dktX3_take_0 := by decide +kernel
theorem dX3_take_0 : decode cX3_take 0 = .ok (.aload_n 1, 1) := dk_43 (dk_at dksX3_take_0 0 rfl rfl)
theorem dX3_take_1 : decode cX3_take 1 = .ok (.getfield 9, 3) := dk_180 0 9 (dk_at dksX3_take_0 1 rfl rfl)
theorem dX3_take_4 : decode cX3_take 4 = .ok (.iconst 0, 1) := dk_3 (dk_at dksX3_take_0 4 rfl rfl)
theorem dX3_take_5 : decode cX3_take 5 = .ok (.aload_n 0, 1) := dk_42 (dk_at dksX3_take_0 5 rfl rfl)
theorem dX3_take_6 : decode cX3_take 6 = .ok (.getfield 9, 3) := dk_180 0 9 (dk_at dksX3_take_0 6 rfl rfl)
theorem dX3_take_9 : decode cX3_take 9 = .ok (.iconst 0, 1) := dk_3 (dk_at dksX3_take_0 9 rfl rfl)
theorem dX3_take_10 : decode cX3_take 10 = .ok (.iconst 5, 1) := dk_8 (dk_at dksX3_take_0 10 rfl rfl)
theorem dX3_take_11 : decode cX3_take 11 = .ok (.invokestatic 19, 3) := dk_184 0 19 (dk_at dksX3_take_0 11 rfl rfl)
theorem dX3_take_14 : decode cX3_take 14 = .ok (.aload_n 0, 1) := dk_42 (dk_at dksX3_take_0 14 rfl rfl)
theorem dX3_take_15 : decode cX3_take 15 = .ok (.aload_n 1, 1) := dk_43 (dk_at dksX3_take_0 15 rfl rfl)
theorem dX3_take_16 : decode cX3_take 16 = .ok (.getfield 15, 3) := dk_180 0 15 (dk_at dksX3_take_0 16 rfl rfl)
theorem dX3_take_19 : decode cX3_take 19 = .ok (.putfield 15, 3) := dk_181 0 15 (dk_at dksX3_take_0 19 rfl rfl)
theorem dX3_take_22 : decode cX3_take 22 = .ok (.return_, 1) := dk_177 (dk_at dksX3_take_0 22 rfl rfl)
abbrev cX3_sort : ByteArray := prog_11_method_8_code
def yX3_sort : MethodName := ⟨RX3, "sort", "()V"⟩
def dkwX3_sort_2 : List UInt8 := [132, 1, 1, 167, 255, 209, 177]
abbrev dktX3_sort_2 : List UInt8 := dkwX3_sort_2 ++ []
def dkwX3_sort_1 : List UInt8 := [42, 180, 0, 9, 28, 46, 164, 0, 16, 42, 28, 4, 100, 182, 0, 25, 132, 2, 255, 167, 255, 225]
abbrev dktX3_sort_1 : List UInt8 := dkwX3_sort_1 ++ dktX3_sort_2
def dkwX3_sort_0 : List UInt8 := [4, 60, 27, 42, 180, 0, 15, 162, 0, 45, 27, 61, 28, 158, 0, 33, 42, 180, 0, 9, 28, 4, 100, 46]
abbrev dktX3_sort_0 : List UInt8 := dkwX3_sort_0 ++ dktX3_sort_1
theorem dksX3_sort_0 : cX3_sort.data.toList.drop 0 = dktX3_sort_0 := by decide +kernel
theorem dksX3_sort_1 : cX3_sort.data.toList.drop 24 = dktX3_sort_1 := dk_seg dksX3_sort_0 24 rfl rfl
theorem dksX3_sort_2 : cX3_sort.data.toList.drop 46 = dktX3_sort_2 := dk_seg dksX3_sort_1 22 rfl rfl
theorem dX3_sort_0 : decode cX3_sort 0 = .ok (.iconst 1, 1) := dk_4 (dk_at dksX3_sort_0 0 rfl rfl)
theorem dX3_sort_1 : decode cX3_sort 1 = .ok (.istore_n 1, 1) := dk_60 (dk_at dksX3_sort_0 1 rfl rfl)
theorem dX3_sort_2 : decode cX3_sort 2 = .ok (.iload_n 1, 1) := dk_27 (dk_at dksX3_sort_0 2 rfl rfl)
theorem dX3_sort_3 : decode cX3_sort 3 = .ok (.aload_n 0, 1) := dk_42 (dk_at dksX3_sort_0 3 rfl rfl)
theorem dX3_sort_4 : decode cX3_sort 4 = .ok (.getfield 15, 3) := dk_180 0 15 (dk_at dksX3_sort_0 4 rfl rfl)
theorem dX3_sort_7 : decode cX3_sort 7 = .ok (.if_icmp .ge 45, 3) := dk_162 0 45 (dk_at dksX3_sort_0 7 rfl rfl)
theorem dX3_sort_10 : decode cX3_sort 10 = .ok (.iload_n 1, 1) := dk_27 (dk_at dksX3_sort_0 10 rfl rfl)
theorem dX3_sort_11 : decode cX3_sort 11 = .ok (.istore_n 2, 1) := dk_61 (dk_at dksX3_sort_0 11 rfl rfl)
theorem dX3_sort_12 : decode cX3_sort 12 = .ok (.iload_n 2, 1) := dk_28 (dk_at dksX3_sort_0 12 rfl rfl)
theorem dX3_sort_13 : decode cX3_sort 13 = .ok (.ifCond .le 33, 3) := dk_158 0 33 (dk_at dksX3_sort_0 13 rfl rfl)
theorem dX3_sort_16 : decode cX3_sort 16 = .ok (.aload_n 0, 1) := dk_42 (dk_at dksX3_sort_0 16 rfl rfl)
theorem dX3_sort_17 : decode cX3_sort 17 = .ok (.getfield 9, 3) := dk_180 0 9 (dk_at dksX3_sort_0 17 rfl rfl)
theorem dX3_sort_20 : decode cX3_sort 20 = .ok (.iload_n 2, 1) := dk_28 (dk_at dksX3_sort_0 20 rfl rfl)
theorem dX3_sort_21 : decode cX3_sort 21 = .ok (.iconst 1, 1) := dk_4 (dk_at dksX3_sort_0 21 rfl rfl)
theorem dX3_sort_22 : decode cX3_sort 22 = .ok (.isub, 1) := dk_100 (dk_at dksX3_sort_0 22 rfl rfl)
theorem dX3_sort_23 : decode cX3_sort 23 = .ok (.iaload, 1) := dk_46 (dk_at dksX3_sort_0 23 rfl rfl)
theorem dX3_sort_24 : decode cX3_sort 24 = .ok (.aload_n 0, 1) := dk_42 (dk_at dksX3_sort_1 0 rfl rfl)
theorem dX3_sort_25 : decode cX3_sort 25 = .ok (.getfield 9, 3) := dk_180 0 9 (dk_at dksX3_sort_1 1 rfl rfl)
theorem dX3_sort_28 : decode cX3_sort 28 = .ok (.iload_n 2, 1) := dk_28 (dk_at dksX3_sort_1 4 rfl rfl)
theorem dX3_sort_29 : decode cX3_sort 29 = .ok (.iaload, 1) := dk_46 (dk_at dksX3_sort_1 5 rfl rfl)
theorem dX3_sort_30 : decode cX3_sort 30 = .ok (.if_icmp .le 16, 3) := dk_164 0 16 (dk_at dksX3_sort_1 6 rfl rfl)
theorem dX3_sort_33 : decode cX3_sort 33 = .ok (.aload_n 0, 1) := dk_42 (dk_at dksX3_sort_1 9 rfl rfl)
theorem dX3_sort_34 : decode cX3_sort 34 = .ok (.iload_n 2, 1) := dk_28 (dk_at dksX3_sort_1 10 rfl rfl)
theorem dX3_sort_35 : decode cX3_sort 35 = .ok (.iconst 1, 1) := dk_4 (dk_at dksX3_sort_1 11 rfl rfl)
theorem dX3_sort_36 : decode cX3_sort 36 = .ok (.isub, 1) := dk_100 (dk_at dksX3_sort_1 12 rfl rfl)
theorem dX3_sort_37 : decode cX3_sort 37 = .ok (.invokevirtual 25, 3) := dk_182 0 25 (dk_at dksX3_sort_1 13 rfl rfl)
theorem dX3_sort_40 : decode cX3_sort 40 = .ok (.iinc 2 (-1), 3) := dk_132 2 255 (dk_at dksX3_sort_1 16 rfl rfl)
theorem dX3_sort_43 : decode cX3_sort 43 = .ok (.goto (-31), 3) := dk_167 255 225 (dk_at dksX3_sort_1 19 rfl rfl)
theorem dX3_sort_46 : decode cX3_sort 46 = .ok (.iinc 1 1, 3) := dk_132 1 1 (dk_at dksX3_sort_2 0 rfl rfl)
theorem dX3_sort_49 : decode cX3_sort 49 = .ok (.goto (-47), 3) := dk_167 255 209 (dk_at dksX3_sort_2 3 rfl rfl)
theorem dX3_sort_52 : decode cX3_sort 52 = .ok (.return_, 1) := dk_177 (dk_at dksX3_sort_2 6 rfl rfl)
abbrev cX3_swap : ByteArray := prog_11_method_4_code
def yX3_swap : MethodName := ⟨RX3, "swap", "(I)V"⟩
def dkwX3_swap_1 : List UInt8 := [180, 0, 9, 27, 4, 96, 28, 79, 177]
abbrev dktX3_swap_1 : List UInt8 := dkwX3_swap_1 ++ []
def dkwX3_swap_0 : List UInt8 := [42, 180, 0, 9, 27, 46, 61, 42, 180, 0, 9, 27, 42, 180, 0, 9, 27, 4, 96, 46, 79, 42]
abbrev dktX3_swap_0 : List UInt8 := dkwX3_swap_0 ++ dktX3_swap_1
theorem dksX3_swap_0 : cX3_swap.data.toList.drop 0 = dktX3_swap_0 := by decide +kernel
theorem dksX3_swap_1 : cX3_swap.data.toList.drop 22 = dktX3_swap_1 := dk_seg dksX3_swap_0 22 rfl rfl
theorem dX3_swap_0 : decode cX3_swap 0 = .ok (.aload_n 0, 1) := dk_42 (dk_at dksX3_swap_0 0 rfl rfl)
theorem dX3_swap_1 : decode cX3_swap 1 = .ok (.getfield 9, 3) := dk_180 0 9 (dk_at dksX3_swap_0 1 rfl rfl)
theorem dX3_swap_4 : decode cX3_swap 4 = .ok (.iload_n 1, 1) := dk_27 (dk_at dksX3_swap_0 4 rfl rfl)
theorem dX3_swap_5 : decode cX3_swap 5 = .ok (.iaload, 1) := dk_46 (dk_at dksX3_swap_0 5 rfl rfl)
theorem dX3_swap_6 : decode cX3_swap 6 = .ok (.istore_n 2, 1) := dk_61 (dk_at dksX3_swap_0 6 rfl rfl)
theorem dX3_swap_7 : decode cX3_swap 7 = .ok (.aload_n 0, 1) := dk_42 (dk_at dksX3_swap_0 7 rfl rfl)
theorem dX3_swap_8 : decode cX3_swap 8 = .ok (.getfield 9, 3) := dk_180 0 9 (dk_at dksX3_swap_0 8 rfl rfl)
theorem dX3_swap_11 : decode cX3_swap 11 = .ok (.iload_n 1, 1) := dk_27 (dk_at dksX3_swap_0 11 rfl rfl)
theorem dX3_swap_12 : decode cX3_swap 12 = .ok (.aload_n 0, 1) := dk_42 (dk_at dksX3_swap_0 12 rfl rfl)
theorem dX3_swap_13 : decode cX3_swap 13 = .ok (.getfield 9, 3) := dk_180 0 9 (dk_at dksX3_swap_0 13 rfl rfl)
theorem dX3_swap_16 : decode cX3_swap 16 = .ok (.iload_n 1, 1) := dk_27 (dk_at dksX3_swap_0 16 rfl rfl)
theorem dX3_swap_17 : decode cX3_swap 17 = .ok (.iconst 1, 1) := dk_4 (dk_at dksX3_swap_0 17 rfl rfl)
theorem dX3_swap_18 : decode cX3_swap 18 = .ok (.iadd, 1) := dk_96 (dk_at dksX3_swap_0 18 rfl rfl)
theorem dX3_swap_19 : decode cX3_swap 19 = .ok (.iaload, 1) := dk_46 (dk_at dksX3_swap_0 19 rfl rfl)
theorem dX3_swap_20 : decode cX3_swap 20 = .ok (.iastore, 1) := dk_79 (dk_at dksX3_swap_0 20 rfl rfl)
theorem dX3_swap_21 : decode cX3_swap 21 = .ok (.aload_n 0, 1) := dk_42 (dk_at dksX3_swap_0 21 rfl rfl)
theorem dX3_swap_22 : decode cX3_swap 22 = .ok (.getfield 9, 3) := dk_180 0 9 (dk_at dksX3_swap_1 0 rfl rfl)
theorem dX3_swap_25 : decode cX3_swap 25 = .ok (.iload_n 1, 1) := dk_27 (dk_at dksX3_swap_1 3 rfl rfl)
theorem dX3_swap_26 : decode cX3_swap 26 = .ok (.iconst 1, 1) := dk_4 (dk_at dksX3_swap_1 4 rfl rfl)
theorem dX3_swap_27 : decode cX3_swap 27 = .ok (.iadd, 1) := dk_96 (dk_at dksX3_swap_1 5 rfl rfl)
theorem dX3_swap_28 : decode cX3_swap 28 = .ok (.iload_n 2, 1) := dk_28 (dk_at dksX3_swap_1 6 rfl rfl)
theorem dX3_swap_29 : decode cX3_swap 29 = .ok (.iastore, 1) := dk_79 (dk_at dksX3_swap_1 7 rfl rfl)
theorem dX3_swap_30 : decode cX3_swap 30 = .ok (.return_, 1) := dk_177 (dk_at dksX3_swap_1 8 rfl rfl)
abbrev cX3_advance : ByteArray := prog_11_method_9_code
def yX3_advance : MethodName := ⟨RX3, "advance", "()Z"⟩
def dkwX3_advance_6 : List UInt8 := [21, 6, 79, 132, 4, 1, 132, 5, 255, 167, 255, 211, 4, 172]
abbrev dktX3_advance_6 : List UInt8 := dkwX3_advance_6 ++ []
def dkwX3_advance_5 : List UInt8 := [46, 54, 6, 42, 180, 0, 9, 21, 4, 42, 180, 0, 9, 21, 5, 46, 79, 42, 180, 0, 9, 21, 5]
abbrev dktX3_advance_5 : List UInt8 := dkwX3_advance_5 ++ dktX3_advance_6
def dkwX3_advance_4 : List UInt8 := [96, 54, 4, 42, 180, 0, 15, 4, 100, 54, 5, 21, 4, 21, 5, 162, 0, 44, 42, 180, 0, 9, 21, 4]
abbrev dktX3_advance_4 : List UInt8 := dkwX3_advance_4 ++ dktX3_advance_5
def dkwX3_advance_3 : List UInt8 := [27, 46, 62, 42, 180, 0, 9, 27, 42, 180, 0, 9, 28, 46, 79, 42, 180, 0, 9, 28, 29, 79, 27, 4]
abbrev dktX3_advance_3 : List UInt8 := dkwX3_advance_3 ++ dktX3_advance_4
def dkwX3_advance_2 : List UInt8 := [180, 0, 9, 28, 46, 42, 180, 0, 9, 27, 46, 162, 0, 9, 132, 2, 255, 167, 255, 238, 42, 180, 0, 9]
abbrev dktX3_advance_2 : List UInt8 := dkwX3_advance_2 ++ dktX3_advance_3
def dkwX3_advance_1 : List UInt8 := [46, 164, 0, 9, 132, 1, 255, 167, 255, 232, 27, 156, 0, 5, 3, 172, 42, 180, 0, 15, 4, 100, 61, 42]
abbrev dktX3_advance_1 : List UInt8 := dkwX3_advance_1 ++ dktX3_advance_2
def dkwX3_advance_0 : List UInt8 := [42, 180, 0, 15, 5, 100, 60, 27, 155, 0, 26, 42, 180, 0, 9, 27, 46, 42, 180, 0, 9, 27, 4, 96]
abbrev dktX3_advance_0 : List UInt8 := dkwX3_advance_0 ++ dktX3_advance_1
theorem dksX3_advance_0 : cX3_advance.data.toList.drop 0 = dktX3_advance_0 := by decide +kernel
theorem dksX3_advance_1 : cX3_advance.data.toList.drop 24 = dktX3_advance_1 := dk_seg dksX3_advance_0 24 rfl rfl
theorem dksX3_advance_2 : cX3_advance.data.toList.drop 48 = dktX3_advance_2 := dk_seg dksX3_advance_1 24 rfl rfl
theorem dksX3_advance_3 : cX3_advance.data.toList.drop 72 = dktX3_advance_3 := dk_seg dksX3_advance_2 24 rfl rfl
theorem dksX3_advance_4 : cX3_advance.data.toList.drop 96 = dktX3_advance_4 := dk_seg dksX3_advance_3 24 rfl rfl
theorem dksX3_advance_5 : cX3_advance.data.toList.drop 120 = dktX3_advance_5 := dk_seg dksX3_advance_4 24 rfl rfl
theorem dksX3_advance_6 : cX3_advance.data.toList.drop 143 = dktX3_advance_6 := dk_seg dksX3_advance_5 23 rfl rfl
theorem dX3_advance_0 : decode cX3_advance 0 = .ok (.aload_n 0, 1) := dk_42 (dk_at dksX3_advance_0 0 rfl rfl)
theorem dX3_advance_1 : decode cX3_advance 1 = .ok (.getfield 15, 3) := dk_180 0 15 (dk_at dksX3_advance_0 1 rfl rfl)
theorem dX3_advance_4 : decode cX3_advance 4 = .ok (.iconst 2, 1) := dk_5 (dk_at dksX3_advance_0 4 rfl rfl)
theorem dX3_advance_5 : decode cX3_advance 5 = .ok (.isub, 1) := dk_100 (dk_at dksX3_advance_0 5 rfl rfl)
theorem dX3_advance_6 : decode cX3_advance 6 = .ok (.istore_n 1, 1) := dk_60 (dk_at dksX3_advance_0 6 rfl rfl)
theorem dX3_advance_7 : decode cX3_advance 7 = .ok (.iload_n 1, 1) := dk_27 (dk_at dksX3_advance_0 7 rfl rfl)
theorem dX3_advance_8 : decode cX3_advance 8 = .ok (.ifCond .lt 26, 3) := dk_155 0 26 (dk_at dksX3_advance_0 8 rfl rfl)
theorem dX3_advance_11 : decode cX3_advance 11 = .ok (.aload_n 0, 1) := dk_42 (dk_at dksX3_advance_0 11 rfl rfl)
theorem dX3_advance_12 : decode cX3_advance 12 = .ok (.getfield 9, 3) := dk_180 0 9 (dk_at dksX3_advance_0 12 rfl rfl)
theorem dX3_advance_15 : decode cX3_advance 15 = .ok (.iload_n 1, 1) := dk_27 (dk_at dksX3_advance_0 15 rfl rfl)
theorem dX3_advance_16 : decode cX3_advance 16 = .ok (.iaload, 1) := dk_46 (dk_at dksX3_advance_0 16 rfl rfl)
theorem dX3_advance_17 : decode cX3_advance 17 = .ok (.aload_n 0, 1) := dk_42 (dk_at dksX3_advance_0 17 rfl rfl)
theorem dX3_advance_18 : decode cX3_advance 18 = .ok (.getfield 9, 3) := dk_180 0 9 (dk_at dksX3_advance_0 18 rfl rfl)
theorem dX3_advance_21 : decode cX3_advance 21 = .ok (.iload_n 1, 1) := dk_27 (dk_at dksX3_advance_0 21 rfl rfl)
theorem dX3_advance_22 : decode cX3_advance 22 = .ok (.iconst 1, 1) := dk_4 (dk_at dksX3_advance_0 22 rfl rfl)
theorem dX3_advance_23 : decode cX3_advance 23 = .ok (.iadd, 1) := dk_96 (dk_at dksX3_advance_0 23 rfl rfl)
theorem dX3_advance_24 : decode cX3_advance 24 = .ok (.iaload, 1) := dk_46 (dk_at dksX3_advance_1 0 rfl rfl)
theorem dX3_advance_25 : decode cX3_advance 25 = .ok (.if_icmp .le 9, 3) := dk_164 0 9 (dk_at dksX3_advance_1 1 rfl rfl)
theorem dX3_advance_28 : decode cX3_advance 28 = .ok (.iinc 1 (-1), 3) := dk_132 1 255 (dk_at dksX3_advance_1 4 rfl rfl)
theorem dX3_advance_31 : decode cX3_advance 31 = .ok (.goto (-24), 3) := dk_167 255 232 (dk_at dksX3_advance_1 7 rfl rfl)
theorem dX3_advance_34 : decode cX3_advance 34 = .ok (.iload_n 1, 1) := dk_27 (dk_at dksX3_advance_1 10 rfl rfl)
theorem dX3_advance_35 : decode cX3_advance 35 = .ok (.ifCond .ge 5, 3) := dk_156 0 5 (dk_at dksX3_advance_1 11 rfl rfl)
theorem dX3_advance_38 : decode cX3_advance 38 = .ok (.iconst 0, 1) := dk_3 (dk_at dksX3_advance_1 14 rfl rfl)
theorem dX3_advance_39 : decode cX3_advance 39 = .ok (.ireturn, 1) := dk_172 (dk_at dksX3_advance_1 15 rfl rfl)
theorem dX3_advance_40 : decode cX3_advance 40 = .ok (.aload_n 0, 1) := dk_42 (dk_at dksX3_advance_1 16 rfl rfl)
theorem dX3_advance_41 : decode cX3_advance 41 = .ok (.getfield 15, 3) := dk_180 0 15 (dk_at dksX3_advance_1 17 rfl rfl)
theorem dX3_advance_44 : decode cX3_advance 44 = .ok (.iconst 1, 1) := dk_4 (dk_at dksX3_advance_1 20 rfl rfl)
theorem dX3_advance_45 : decode cX3_advance 45 = .ok (.isub, 1) := dk_100 (dk_at dksX3_advance_1 21 rfl rfl)
theorem dX3_advance_46 : decode cX3_advance 46 = .ok (.istore_n 2, 1) := dk_61 (dk_at dksX3_advance_1 22 rfl rfl)
theorem dX3_advance_47 : decode cX3_advance 47 = .ok (.aload_n 0, 1) := dk_42 (dk_at dksX3_advance_1 23 rfl rfl)
theorem dX3_advance_48 : decode cX3_advance 48 = .ok (.getfield 9, 3) := dk_180 0 9 (dk_at dksX3_advance_2 0 rfl rfl)
theorem dX3_advance_51 : decode cX3_advance 51 = .ok (.iload_n 2, 1) := dk_28 (dk_at dksX3_advance_2 3 rfl rfl)
theorem dX3_advance_52 : decode cX3_advance 52 = .ok (.iaload, 1) := dk_46 (dk_at dksX3_advance_2 4 rfl rfl)
theorem dX3_advance_53 : decode cX3_advance 53 = .ok (.aload_n 0, 1) := dk_42 (dk_at dksX3_advance_2 5 rfl rfl)
theorem dX3_advance_54 : decode cX3_advance 54 = .ok (.getfield 9, 3) := dk_180 0 9 (dk_at dksX3_advance_2 6 rfl rfl)
theorem dX3_advance_57 : decode cX3_advance 57 = .ok (.iload_n 1, 1) := dk_27 (dk_at dksX3_advance_2 9 rfl rfl)
theorem dX3_advance_58 : decode cX3_advance 58 = .ok (.iaload, 1) := dk_46 (dk_at dksX3_advance_2 10 rfl rfl)
theorem dX3_advance_59 : decode cX3_advance 59 = .ok (.if_icmp .ge 9, 3) := dk_162 0 9 (dk_at dksX3_advance_2 11 rfl rfl)
theorem dX3_advance_62 : decode cX3_advance 62 = .ok (.iinc 2 (-1), 3) := dk_132 2 255 (dk_at dksX3_advance_2 14 rfl rfl)
theorem dX3_advance_65 : decode cX3_advance 65 = .ok (.goto (-18), 3) := dk_167 255 238 (dk_at dksX3_advance_2 17 rfl rfl)
theorem dX3_advance_68 : decode cX3_advance 68 = .ok (.aload_n 0, 1) := dk_42 (dk_at dksX3_advance_2 20 rfl rfl)
theorem dX3_advance_69 : decode cX3_advance 69 = .ok (.getfield 9, 3) := dk_180 0 9 (dk_at dksX3_advance_2 21 rfl rfl)
theorem dX3_advance_72 : decode cX3_advance 72 = .ok (.iload_n 1, 1) := dk_27 (dk_at dksX3_advance_3 0 rfl rfl)
theorem dX3_advance_73 : decode cX3_advance 73 = .ok (.iaload, 1) := dk_46 (dk_at dksX3_advance_3 1 rfl rfl)
theorem dX3_advance_74 : decode cX3_advance 74 = .ok (.istore_n 3, 1) := dk_62 (dk_at dksX3_advance_3 2 rfl rfl)
theorem dX3_advance_75 : decode cX3_advance 75 = .ok (.aload_n 0, 1) := dk_42 (dk_at dksX3_advance_3 3 rfl rfl)
theorem dX3_advance_76 : decode cX3_advance 76 = .ok (.getfield 9, 3) := dk_180 0 9 (dk_at dksX3_advance_3 4 rfl rfl)
theorem dX3_advance_79 : decode cX3_advance 79 = .ok (.iload_n 1, 1) := dk_27 (dk_at dksX3_advance_3 7 rfl rfl)
theorem dX3_advance_80 : decode cX3_advance 80 = .ok (.aload_n 0, 1) := dk_42 (dk_at dksX3_advance_3 8 rfl rfl)
theorem dX3_advance_81 : decode cX3_advance 81 = .ok (.getfield 9, 3) := dk_180 0 9 (dk_at dksX3_advance_3 9 rfl rfl)
theorem dX3_advance_84 : decode cX3_advance 84 = .ok (.iload_n 2, 1) := dk_28 (dk_at dksX3_advance_3 12 rfl rfl)
theorem dX3_advance_85 : decode cX3_advance 85 = .ok (.iaload, 1) := dk_46 (dk_at dksX3_advance_3 13 rfl rfl)
theorem dX3_advance_86 : decode cX3_advance 86 = .ok (.iastore, 1) := dk_79 (dk_at dksX3_advance_3 14 rfl rfl)
theorem dX3_advance_87 : decode cX3_advance 87 = .ok (.aload_n 0, 1) := dk_42 (dk_at dksX3_advance_3 15 rfl rfl)
theorem dX3_advance_88 : decode cX3_advance 88 = .ok (.getfield 9, 3) := dk_180 0 9 (dk_at dksX3_advance_3 16 rfl rfl)
theorem dX3_advance_91 : decode cX3_advance 91 = .ok (.iload_n 2, 1) := dk_28 (dk_at dksX3_advance_3 19 rfl rfl)
theorem dX3_advance_92 : decode cX3_advance 92 = .ok (.iload_n 3, 1) := dk_29 (dk_at dksX3_advance_3 20 rfl rfl)
theorem dX3_advance_93 : decode cX3_advance 93 = .ok (.iastore, 1) := dk_79 (dk_at dksX3_advance_3 21 rfl rfl)
theorem dX3_advance_94 : decode cX3_advance 94 = .ok (.iload_n 1, 1) := dk_27 (dk_at dksX3_advance_3 22 rfl rfl)
theorem dX3_advance_95 : decode cX3_advance 95 = .ok (.iconst 1, 1) := dk_4 (dk_at dksX3_advance_3 23 rfl rfl)
theorem dX3_advance_96 : decode cX3_advance 96 = .ok (.iadd, 1) := dk_96 (dk_at dksX3_advance_4 0 rfl rfl)
theorem dX3_advance_97 : decode cX3_advance 97 = .ok (.istore 4, 2) := dk_54 4 (dk_at dksX3_advance_4 1 rfl rfl)
theorem dX3_advance_99 : decode cX3_advance 99 = .ok (.aload_n 0, 1) := dk_42 (dk_at dksX3_advance_4 3 rfl rfl)
theorem dX3_advance_100 : decode cX3_advance 100 = .ok (.getfield 15, 3) := dk_180 0 15 (dk_at dksX3_advance_4 4 rfl rfl)
theorem dX3_advance_103 : decode cX3_advance 103 = .ok (.iconst 1, 1) := dk_4 (dk_at dksX3_advance_4 7 rfl rfl)
theorem dX3_advance_104 : decode cX3_advance 104 = .ok (.isub, 1) := dk_100 (dk_at dksX3_advance_4 8 rfl rfl)
theorem dX3_advance_105 : decode cX3_advance 105 = .ok (.istore 5, 2) := dk_54 5 (dk_at dksX3_advance_4 9 rfl rfl)
theorem dX3_advance_107 : decode cX3_advance 107 = .ok (.iload 4, 2) := dk_21 4 (dk_at dksX3_advance_4 11 rfl rfl)
theorem dX3_advance_109 : decode cX3_advance 109 = .ok (.iload 5, 2) := dk_21 5 (dk_at dksX3_advance_4 13 rfl rfl)
theorem dX3_advance_111 : decode cX3_advance 111 = .ok (.if_icmp .ge 44, 3) := dk_162 0 44 (dk_at dksX3_advance_4 15 rfl rfl)
theorem dX3_advance_114 : decode cX3_advance 114 = .ok (.aload_n 0, 1) := dk_42 (dk_at dksX3_advance_4 18 rfl rfl)
theorem dX3_advance_115 : decode cX3_advance 115 = .ok (.getfield 9, 3) := dk_180 0 9 (dk_at dksX3_advance_4 19 rfl rfl)
theorem dX3_advance_118 : decode cX3_advance 118 = .ok (.iload 4, 2) := dk_21 4 (dk_at dksX3_advance_4 22 rfl rfl)
theorem dX3_advance_120 : decode cX3_advance 120 = .ok (.iaload, 1) := dk_46 (dk_at dksX3_advance_5 0 rfl rfl)
theorem dX3_advance_121 : decode cX3_advance 121 = .ok (.istore 6, 2) := dk_54 6 (dk_at dksX3_advance_5 1 rfl rfl)
theorem dX3_advance_123 : decode cX3_advance 123 = .ok (.aload_n 0, 1) := dk_42 (dk_at dksX3_advance_5 3 rfl rfl)
theorem dX3_advance_124 : decode cX3_advance 124 = .ok (.getfield 9, 3) := dk_180 0 9 (dk_at dksX3_advance_5 4 rfl rfl)
theorem dX3_advance_127 : decode cX3_advance 127 = .ok (.iload 4, 2) := dk_21 4 (dk_at dksX3_advance_5 7 rfl rfl)
theorem dX3_advance_129 : decode cX3_advance 129 = .ok (.aload_n 0, 1) := dk_42 (dk_at dksX3_advance_5 9 rfl rfl)
theorem dX3_advance_130 : decode cX3_advance 130 = .ok (.getfield 9, 3) := dk_180 0 9 (dk_at dksX3_advance_5 10 rfl rfl)
theorem dX3_advance_133 : decode cX3_advance 133 = .ok (.iload 5, 2) := dk_21 5 (dk_at dksX3_advance_5 13 rfl rfl)
theorem dX3_advance_135 : decode cX3_advance 135 = .ok (.iaload, 1) := dk_46 (dk_at dksX3_advance_5 15 rfl rfl)
theorem dX3_advance_136 : decode cX3_advance 136 = .ok (.iastore, 1) := dk_79 (dk_at dksX3_advance_5 16 rfl rfl)
theorem dX3_advance_137 : decode cX3_advance 137 = .ok (.aload_n 0, 1) := dk_42 (dk_at dksX3_advance_5 17 rfl rfl)
theorem dX3_advance_138 : decode cX3_advance 138 = .ok (.getfield 9, 3) := dk_180 0 9 (dk_at dksX3_advance_5 18 rfl rfl)
theorem dX3_advance_141 : decode cX3_advance 141 = .ok (.iload 5, 2) := dk_21 5 (dk_at dksX3_advance_5 21 rfl rfl)
theorem dX3_advance_143 : decode cX3_advance 143 = .ok (.iload 6, 2) := dk_21 6 (dk_at dksX3_advance_6 0 rfl rfl)
theorem dX3_advance_145 : decode cX3_advance 145 = .ok (.iastore, 1) := dk_79 (dk_at dksX3_advance_6 2 rfl rfl)
theorem dX3_advance_146 : decode cX3_advance 146 = .ok (.iinc 4 1, 3) := dk_132 4 1 (dk_at dksX3_advance_6 3 rfl rfl)
theorem dX3_advance_149 : decode cX3_advance 149 = .ok (.iinc 5 (-1), 3) := dk_132 5 255 (dk_at dksX3_advance_6 6 rfl rfl)
theorem dX3_advance_152 : decode cX3_advance 152 = .ok (.goto (-45), 3) := dk_167 255 211 (dk_at dksX3_advance_6 9 rfl rfl)
theorem dX3_advance_155 : decode cX3_advance 155 = .ok (.iconst 1, 1) := dk_4 (dk_at dksX3_advance_6 12 rfl rfl)
theorem dX3_advance_156 : decode cX3_advance 156 = .ok (.ireturn, 1) := dk_172 (dk_at dksX3_advance_6 13 rfl rfl)
abbrev cX3_add : ByteArray := prog_11_method_2_code
def yX3_add : MethodName := ⟨RX3, "add", "(I)V"⟩
def dkwX3_add_0 : List UInt8 := [42, 180, 0, 9, 42, 180, 0, 15, 27, 79, 42, 89, 180, 0, 15, 4, 96, 181, 0, 15, 177]
abbrev dktX3_add_0 : List UInt8 := dkwX3_add_0 ++ []
theorem dksX3_add_0 : cX3_add.data.toList.drop 0 = dktX3_add_0 := by decide +kernel
theorem dX3_add_0 : decode cX3_add 0 = .ok (.aload_n 0, 1) := dk_42 (dk_at dksX3_add_0 0 rfl rfl)
theorem dX3_add_1 : decode cX3_add 1 = .ok (.getfield 9, 3) := dk_180 0 9 (dk_at dksX3_add_0 1 rfl rfl)
theorem dX3_add_4 : decode cX3_add 4 = .ok (.aload_n 0, 1) := dk_42 (dk_at dksX3_add_0 4 rfl rfl)
theorem dX3_add_5 : decode cX3_add 5 = .ok (.getfield 15, 3) := dk_180 0 15 (dk_at dksX3_add_0 5 rfl rfl)
theorem dX3_add_8 : decode cX3_add 8 = .ok (.iload_n 1, 1) := dk_27 (dk_at dksX3_add_0 8 rfl rfl)
theorem dX3_add_9 : decode cX3_add 9 = .ok (.iastore, 1) := dk_79 (dk_at dksX3_add_0 9 rfl rfl)
theorem dX3_add_10 : decode cX3_add 10 = .ok (.aload_n 0, 1) := dk_42 (dk_at dksX3_add_0 10 rfl rfl)
theorem dX3_add_11 : decode cX3_add 11 = .ok (.dup, 1) := dk_89 (dk_at dksX3_add_0 11 rfl rfl)
theorem dX3_add_12 : decode cX3_add 12 = .ok (.getfield 15, 3) := dk_180 0 15 (dk_at dksX3_add_0 12 rfl rfl)
theorem dX3_add_15 : decode cX3_add 15 = .ok (.iconst 1, 1) := dk_4 (dk_at dksX3_add_0 15 rfl rfl)
theorem dX3_add_16 : decode cX3_add 16 = .ok (.iadd, 1) := dk_96 (dk_at dksX3_add_0 16 rfl rfl)
theorem dX3_add_17 : decode cX3_add 17 = .ok (.putfield 15, 3) := dk_181 0 15 (dk_at dksX3_add_0 17 rfl rfl)
theorem dX3_add_20 : decode cX3_add 20 = .ok (.return_, 1) := dk_177 (dk_at dksX3_add_0 20 rfl rfl)
abbrev cX3_positionOf : ByteArray := prog_11_method_3_code
def yX3_positionOf : MethodName := ⟨RX3, "positionOf", "(I)I"⟩
def dkwX3_positionOf_1 : List UInt8 := [167, 255, 235, 28, 172]
abbrev dktX3_positionOf_1 : List UInt8 := dkwX3_positionOf_1 ++ []
def dkwX3_positionOf_0 : List UInt8 := [3, 61, 28, 42, 180, 0, 15, 162, 0, 19, 42, 180, 0, 9, 28, 46, 27, 159, 0, 9, 132, 2, 1]
abbrev dktX3_positionOf_0 : List UInt8 := dkwX3_positionOf_0 ++ dktX3_positionOf_1
theorem dksX3_positionOf_0 : cX3_positionOf.data.toList.drop 0 = dktX3_positionOf_0 := by decide +kernel
theorem dksX3_positionOf_1 : cX3_positionOf.data.toList.drop 23 = dktX3_positionOf_1 := dk_seg dksX3_positionOf_0 23 rfl rfl
theorem dX3_positionOf_0 : decode cX3_positionOf 0 = .ok (.iconst 0, 1) := dk_3 (dk_at dksX3_positionOf_0 0 rfl rfl)
theorem dX3_positionOf_1 : decode cX3_positionOf 1 = .ok (.istore_n 2, 1) := dk_61 (dk_at dksX3_positionOf_0 1 rfl rfl)
theorem dX3_positionOf_2 : decode cX3_positionOf 2 = .ok (.iload_n 2, 1) := dk_28 (dk_at dksX3_positionOf_0 2 rfl rfl)
theorem dX3_positionOf_3 : decode cX3_positionOf 3 = .ok (.aload_n 0, 1) := dk_42 (dk_at dksX3_positionOf_0 3 rfl rfl)
theorem dX3_positionOf_4 : decode cX3_positionOf 4 = .ok (.getfield 15, 3) := dk_180 0 15 (dk_at dksX3_positionOf_0 4 rfl rfl)
theorem dX3_positionOf_7 : decode cX3_positionOf 7 = .ok (.if_icmp .ge 19, 3) := dk_162 0 19 (dk_at dksX3_positionOf_0 7 rfl rfl)
theorem dX3_positionOf_10 : decode cX3_positionOf 10 = .ok (.aload_n 0, 1) := dk_42 (dk_at dksX3_positionOf_0 10 rfl rfl)
theorem dX3_positionOf_11 : decode cX3_positionOf 11 = .ok (.getfield 9, 3) := dk_180 0 9 (dk_at dksX3_positionOf_0 11 rfl rfl)
theorem dX3_positionOf_14 : decode cX3_positionOf 14 = .ok (.iload_n 2, 1) := dk_28 (dk_at dksX3_positionOf_0 14 rfl rfl)
theorem dX3_positionOf_15 : decode cX3_positionOf 15 = .ok (.iaload, 1) := dk_46 (dk_at dksX3_positionOf_0 15 rfl rfl)
theorem dX3_positionOf_16 : decode cX3_positionOf 16 = .ok (.iload_n 1, 1) := dk_27 (dk_at dksX3_positionOf_0 16 rfl rfl)
theorem dX3_positionOf_17 : decode cX3_positionOf 17 = .ok (.if_icmp .eq 9, 3) := dk_159 0 9 (dk_at dksX3_positionOf_0 17 rfl rfl)
theorem dX3_positionOf_20 : decode cX3_positionOf 20 = .ok (.iinc 2 1, 3) := dk_132 2 1 (dk_at dksX3_positionOf_0 20 rfl rfl)
theorem dX3_positionOf_23 : decode cX3_positionOf 23 = .ok (.goto (-21), 3) := dk_167 255 235 (dk_at dksX3_positionOf_1 0 rfl rfl)
theorem dX3_positionOf_26 : decode cX3_positionOf 26 = .ok (.iload_n 2, 1) := dk_28 (dk_at dksX3_positionOf_1 3 rfl rfl)
theorem dX3_positionOf_27 : decode cX3_positionOf 27 = .ok (.ireturn, 1) := dk_172 (dk_at dksX3_positionOf_1 4 rfl rfl)
abbrev cX3_move : ByteArray := prog_11_method_5_code
def yX3_move : MethodName := ⟨RX3, "move", "(II)V"⟩
def dkwX3_move_3 : List UInt8 := [180, 0, 9, 28, 29, 79, 177]
abbrev dktX3_move_3 : List UInt8 := dkwX3_move_3 ++ []
def dkwX3_move_2 : List UInt8 := [42, 180, 0, 9, 21, 4, 42, 180, 0, 9, 21, 4, 4, 100, 46, 79, 132, 4, 255, 167, 255, 231, 42]
abbrev dktX3_move_2 : List UInt8 := dkwX3_move_2 ++ dktX3_move_3
def dkwX3_move_1 : List UInt8 := [180, 0, 9, 21, 4, 4, 96, 46, 79, 132, 4, 1, 167, 255, 231, 27, 54, 4, 21, 4, 28, 164, 0, 25]
abbrev dktX3_move_1 : List UInt8 := dkwX3_move_1 ++ dktX3_move_2
def dkwX3_move_0 : List UInt8 := [42, 180, 0, 9, 27, 46, 62, 27, 54, 4, 21, 4, 28, 162, 0, 25, 42, 180, 0, 9, 21, 4, 42]
abbrev dktX3_move_0 : List UInt8 := dkwX3_move_0 ++ dktX3_move_1
theorem dksX3_move_0 : cX3_move.data.toList.drop 0 = dktX3_move_0 := by decide +kernel
theorem dksX3_move_1 : cX3_move.data.toList.drop 23 = dktX3_move_1 := dk_seg dksX3_move_0 23 rfl rfl
theorem dksX3_move_2 : cX3_move.data.toList.drop 47 = dktX3_move_2 := dk_seg dksX3_move_1 24 rfl rfl
theorem dksX3_move_3 : cX3_move.data.toList.drop 70 = dktX3_move_3 := dk_seg dksX3_move_2 23 rfl rfl
theorem dX3_move_0 : decode cX3_move 0 = .ok (.aload_n 0, 1) := dk_42 (dk_at dksX3_move_0 0 rfl rfl)
theorem dX3_move_1 : decode cX3_move 1 = .ok (.getfield 9, 3) := dk_180 0 9 (dk_at dksX3_move_0 1 rfl rfl)
theorem dX3_move_4 : decode cX3_move 4 = .ok (.iload_n 1, 1) := dk_27 (dk_at dksX3_move_0 4 rfl rfl)
theorem dX3_move_5 : decode cX3_move 5 = .ok (.iaload, 1) := dk_46 (dk_at dksX3_move_0 5 rfl rfl)
theorem dX3_move_6 : decode cX3_move 6 = .ok (.istore_n 3, 1) := dk_62 (dk_at dksX3_move_0 6 rfl rfl)
theorem dX3_move_7 : decode cX3_move 7 = .ok (.iload_n 1, 1) := dk_27 (dk_at dksX3_move_0 7 rfl rfl)
theorem dX3_move_8 : decode cX3_move 8 = .ok (.istore 4, 2) := dk_54 4 (dk_at dksX3_move_0 8 rfl rfl)
theorem dX3_move_10 : decode cX3_move 10 = .ok (.iload 4, 2) := dk_21 4 (dk_at dksX3_move_0 10 rfl rfl)
theorem dX3_move_12 : decode cX3_move 12 = .ok (.iload_n 2, 1) := dk_28 (dk_at dksX3_move_0 12 rfl rfl)
theorem dX3_move_13 : decode cX3_move 13 = .ok (.if_icmp .ge 25, 3) := dk_162 0 25 (dk_at dksX3_move_0 13 rfl rfl)
theorem dX3_move_16 : decode cX3_move 16 = .ok (.aload_n 0, 1) := dk_42 (dk_at dksX3_move_0 16 rfl rfl)
theorem dX3_move_17 : decode cX3_move 17 = .ok (.getfield 9, 3) := dk_180 0 9 (dk_at dksX3_move_0 17 rfl rfl)
theorem dX3_move_20 : decode cX3_move 20 = .ok (.iload 4, 2) := dk_21 4 (dk_at dksX3_move_0 20 rfl rfl)
theorem dX3_move_22 : decode cX3_move 22 = .ok (.aload_n 0, 1) := dk_42 (dk_at dksX3_move_0 22 rfl rfl)
theorem dX3_move_23 : decode cX3_move 23 = .ok (.getfield 9, 3) := dk_180 0 9 (dk_at dksX3_move_1 0 rfl rfl)
theorem dX3_move_26 : decode cX3_move 26 = .ok (.iload 4, 2) := dk_21 4 (dk_at dksX3_move_1 3 rfl rfl)
theorem dX3_move_28 : decode cX3_move 28 = .ok (.iconst 1, 1) := dk_4 (dk_at dksX3_move_1 5 rfl rfl)
theorem dX3_move_29 : decode cX3_move 29 = .ok (.iadd, 1) := dk_96 (dk_at dksX3_move_1 6 rfl rfl)
theorem dX3_move_30 : decode cX3_move 30 = .ok (.iaload, 1) := dk_46 (dk_at dksX3_move_1 7 rfl rfl)
theorem dX3_move_31 : decode cX3_move 31 = .ok (.iastore, 1) := dk_79 (dk_at dksX3_move_1 8 rfl rfl)
theorem dX3_move_32 : decode cX3_move 32 = .ok (.iinc 4 1, 3) := dk_132 4 1 (dk_at dksX3_move_1 9 rfl rfl)
theorem dX3_move_35 : decode cX3_move 35 = .ok (.goto (-25), 3) := dk_167 255 231 (dk_at dksX3_move_1 12 rfl rfl)
theorem dX3_move_38 : decode cX3_move 38 = .ok (.iload_n 1, 1) := dk_27 (dk_at dksX3_move_1 15 rfl rfl)
theorem dX3_move_39 : decode cX3_move 39 = .ok (.istore 4, 2) := dk_54 4 (dk_at dksX3_move_1 16 rfl rfl)
theorem dX3_move_41 : decode cX3_move 41 = .ok (.iload 4, 2) := dk_21 4 (dk_at dksX3_move_1 18 rfl rfl)
theorem dX3_move_43 : decode cX3_move 43 = .ok (.iload_n 2, 1) := dk_28 (dk_at dksX3_move_1 20 rfl rfl)
theorem dX3_move_44 : decode cX3_move 44 = .ok (.if_icmp .le 25, 3) := dk_164 0 25 (dk_at dksX3_move_1 21 rfl rfl)
theorem dX3_move_47 : decode cX3_move 47 = .ok (.aload_n 0, 1) := dk_42 (dk_at dksX3_move_2 0 rfl rfl)
theorem dX3_move_48 : decode cX3_move 48 = .ok (.getfield 9, 3) := dk_180 0 9 (dk_at dksX3_move_2 1 rfl rfl)
theorem dX3_move_51 : decode cX3_move 51 = .ok (.iload 4, 2) := dk_21 4 (dk_at dksX3_move_2 4 rfl rfl)
theorem dX3_move_53 : decode cX3_move 53 = .ok (.aload_n 0, 1) := dk_42 (dk_at dksX3_move_2 6 rfl rfl)
theorem dX3_move_54 : decode cX3_move 54 = .ok (.getfield 9, 3) := dk_180 0 9 (dk_at dksX3_move_2 7 rfl rfl)
theorem dX3_move_57 : decode cX3_move 57 = .ok (.iload 4, 2) := dk_21 4 (dk_at dksX3_move_2 10 rfl rfl)
theorem dX3_move_59 : decode cX3_move 59 = .ok (.iconst 1, 1) := dk_4 (dk_at dksX3_move_2 12 rfl rfl)
theorem dX3_move_60 : decode cX3_move 60 = .ok (.isub, 1) := dk_100 (dk_at dksX3_move_2 13 rfl rfl)
theorem dX3_move_61 : decode cX3_move 61 = .ok (.iaload, 1) := dk_46 (dk_at dksX3_move_2 14 rfl rfl)
theorem dX3_move_62 : decode cX3_move 62 = .ok (.iastore, 1) := dk_79 (dk_at dksX3_move_2 15 rfl rfl)
theorem dX3_move_63 : decode cX3_move 63 = .ok (.iinc 4 (-1), 3) := dk_132 4 255 (dk_at dksX3_move_2 16 rfl rfl)
theorem dX3_move_66 : decode cX3_move 66 = .ok (.goto (-25), 3) := dk_167 255 231 (dk_at dksX3_move_2 19 rfl rfl)
theorem dX3_move_69 : decode cX3_move 69 = .ok (.aload_n 0, 1) := dk_42 (dk_at dksX3_move_2 22 rfl rfl)
theorem dX3_move_70 : decode cX3_move 70 = .ok (.getfield 9, 3) := dk_180 0 9 (dk_at dksX3_move_3 0 rfl rfl)
theorem dX3_move_73 : decode cX3_move 73 = .ok (.iload_n 2, 1) := dk_28 (dk_at dksX3_move_3 3 rfl rfl)
theorem dX3_move_74 : decode cX3_move 74 = .ok (.iload_n 3, 1) := dk_29 (dk_at dksX3_move_3 4 rfl rfl)
theorem dX3_move_75 : decode cX3_move 75 = .ok (.iastore, 1) := dk_79 (dk_at dksX3_move_3 5 rfl rfl)
theorem dX3_move_76 : decode cX3_move 76 = .ok (.return_, 1) := dk_177 (dk_at dksX3_move_3 6 rfl rfl)
abbrev cX3_differences : ByteArray := prog_11_method_7_code
def yX3_differences : MethodName := ⟨RX3, "differences", "(LSetupJobShop$Order;)I"⟩
def dkwX3_differences_1 : List UInt8 := [159, 0, 6, 132, 2, 1, 132, 3, 1, 167, 255, 227, 28, 172]
abbrev dktX3_differences_1 : List UInt8 := dkwX3_differences_1 ++ []
def dkwX3_differences_0 : List UInt8 := [3, 61, 3, 62, 29, 42, 180, 0, 15, 162, 0, 27, 42, 180, 0, 9, 29, 46, 43, 180, 0, 9, 29, 46]
abbrev dktX3_differences_0 : List UInt8 := dkwX3_differences_0 ++ dktX3_differences_1
theorem dksX3_differences_0 : cX3_differences.data.toList.drop 0 = dktX3_differences_0 := by decide +kernel
theorem dksX3_differences_1 : cX3_differences.data.toList.drop 24 = dktX3_differences_1 := dk_seg dksX3_differences_0 24 rfl rfl
theorem dX3_differences_0 : decode cX3_differences 0 = .ok (.iconst 0, 1) := dk_3 (dk_at dksX3_differences_0 0 rfl rfl)
theorem dX3_differences_1 : decode cX3_differences 1 = .ok (.istore_n 2, 1) := dk_61 (dk_at dksX3_differences_0 1 rfl rfl)
theorem dX3_differences_2 : decode cX3_differences 2 = .ok (.iconst 0, 1) := dk_3 (dk_at dksX3_differences_0 2 rfl rfl)
theorem dX3_differences_3 : decode cX3_differences 3 = .ok (.istore_n 3, 1) := dk_62 (dk_at dksX3_differences_0 3 rfl rfl)
theorem dX3_differences_4 : decode cX3_differences 4 = .ok (.iload_n 3, 1) := dk_29 (dk_at dksX3_differences_0 4 rfl rfl)
theorem dX3_differences_5 : decode cX3_differences 5 = .ok (.aload_n 0, 1) := dk_42 (dk_at dksX3_differences_0 5 rfl rfl)
theorem dX3_differences_6 : decode cX3_differences 6 = .ok (.getfield 15, 3) := dk_180 0 15 (dk_at dksX3_differences_0 6 rfl rfl)
theorem dX3_differences_9 : decode cX3_differences 9 = .ok (.if_icmp .ge 27, 3) := dk_162 0 27 (dk_at dksX3_differences_0 9 rfl rfl)
theorem dX3_differences_12 : decode cX3_differences 12 = .ok (.aload_n 0, 1) := dk_42 (dk_at dksX3_differences_0 12 rfl rfl)
theorem dX3_differences_13 : decode cX3_differences 13 = .ok (.getfield 9, 3) := dk_180 0 9 (dk_at dksX3_differences_0 13 rfl rfl)
theorem dX3_differences_16 : decode cX3_differences 16 = .ok (.iload_n 3, 1) := dk_29 (dk_at dksX3_differences_0 16 rfl rfl)
theorem dX3_differences_17 : decode cX3_differences 17 = .ok (.iaload, 1) := dk_46 (dk_at dksX3_differences_0 17 rfl rfl)
theorem dX3_differences_18 : decode cX3_differences 18 = .ok (.aload_n 1, 1) := dk_43 (dk_at dksX3_differences_0 18 rfl rfl)
theorem dX3_differences_19 : decode cX3_differences 19 = .ok (.getfield 9, 3) := dk_180 0 9 (dk_at dksX3_differences_0 19 rfl rfl)
theorem dX3_differences_22 : decode cX3_differences 22 = .ok (.iload_n 3, 1) := dk_29 (dk_at dksX3_differences_0 22 rfl rfl)
theorem dX3_differences_23 : decode cX3_differences 23 = .ok (.iaload, 1) := dk_46 (dk_at dksX3_differences_0 23 rfl rfl)
theorem dX3_differences_24 : decode cX3_differences 24 = .ok (.if_icmp .eq 6, 3) := dk_159 0 6 (dk_at dksX3_differences_1 0 rfl rfl)
theorem dX3_differences_27 : decode cX3_differences 27 = .ok (.iinc 2 1, 3) := dk_132 2 1 (dk_at dksX3_differences_1 3 rfl rfl)
theorem dX3_differences_30 : decode cX3_differences 30 = .ok (.iinc 3 1, 3) := dk_132 3 1 (dk_at dksX3_differences_1 6 rfl rfl)
theorem dX3_differences_33 : decode cX3_differences 33 = .ok (.goto (-29), 3) := dk_167 255 227 (dk_at dksX3_differences_1 9 rfl rfl)
theorem dX3_differences_36 : decode cX3_differences 36 = .ok (.iload_n 2, 1) := dk_28 (dk_at dksX3_differences_1 12 rfl rfl)
theorem dX3_differences_37 : decode cX3_differences 37 = .ok (.ireturn, 1) := dk_172 (dk_at dksX3_differences_1 13 rfl rfl)
theorem q98 : (Jvm.Cond.initialized "SetupJobShop$Order") ∈ lw_all := lw_g (lw_at lw_m1 10 rfl) rfl
theorem q214 : (Jvm.Cond.selects "SetupJobShop$Order" ({ cls := "java/lang/Object", name := "getClass", desc := "()Ljava/lang/Class;" } : Jvm.MethodName) ({ cls := "java/lang/Object", name := "getClass", desc := "()Ljava/lang/Class;" } : Jvm.MethodName)) ∈ lw_all := lw_g (lw_at lw_m1 126 rfl) rfl
theorem q247 : (Jvm.Cond.instantiable "SetupJobShop$Order" (2 : Nat)) ∈ lw_all := lw_g (lw_at lw_m1 159 rfl) rfl
theorem q249 : (Jvm.Cond.instanceMethod ({ cls := "SetupJobShop$Order", name := "<init>", desc := "()V" } : Jvm.MethodName)) ∈ lw_all := lw_g (lw_at lw_m1 161 rfl) rfl
theorem q250 : (Jvm.Cond.code ({ cls := "SetupJobShop$Order", name := "<init>", desc := "()V" } : Jvm.MethodName) prog_11_method_1_code (1 : Nat) (Option.none : Option Jvm.ClassFile.FieldType)) ∈ lw_all := lw_g (lw_at lw_m1 162 rfl) rfl
theorem q251 : (Jvm.Cond.methodLink "SetupJobShop$Order" (3 : Nat) ({ cls := "java/lang/Object", name := "<init>", desc := "()V" } : Jvm.MethodName)) ∈ lw_all := lw_g (lw_at lw_m1 163 rfl) rfl
theorem q252 : (Jvm.Cond.fieldLink "SetupJobShop$Order" (9 : Nat) "SetupJobShop$Order" "row" "[I") ∈ lw_all := lw_g (lw_at lw_m1 164 rfl) rfl
theorem q257 : (Jvm.Cond.fieldLink "SetupJobShop$Order" (15 : Nat) "SetupJobShop$Order" "size" "I") ∈ lw_all := lw_g (lw_at lw_m1 169 rfl) rfl
theorem q261 : (Jvm.Cond.laysFinal "SetupJobShop$Order" "SetupJobShop$Order" "row" "[I") ∈ lw_all := lw_g (lw_at lw_m1 173 rfl) rfl
theorem q262 : (Jvm.Cond.soleField "SetupJobShop$Order" "row") ∈ lw_all := lw_g (lw_at lw_m1 174 rfl) rfl
theorem q263 : (Jvm.Cond.lays "SetupJobShop$Order" "SetupJobShop$Order" "size" "I") ∈ lw_all := lw_g (lw_at lw_m1 175 rfl) rfl
theorem q264 : (Jvm.Cond.soleField "SetupJobShop$Order" "size") ∈ lw_all := lw_g (lw_at lw_m1 176 rfl) rfl
theorem q265 : (Jvm.Cond.superclass "SetupJobShop$Order" "java/lang/Object") ∈ lw_all := lw_g (lw_at lw_m1 177 rfl) rfl
theorem q503 : (Jvm.Cond.instanceMethod ({ cls := "SetupJobShop$Order", name := "take", desc := "(LSetupJobShop$Order;)V" } : Jvm.MethodName)) ∈ lw_all := lw_g (lw_at lw_m2 175 rfl) rfl
theorem q504 : (Jvm.Cond.selects "SetupJobShop$Order" ({ cls := "SetupJobShop$Order", name := "take", desc := "(LSetupJobShop$Order;)V" } : Jvm.MethodName) ({ cls := "SetupJobShop$Order", name := "take", desc := "(LSetupJobShop$Order;)V" } : Jvm.MethodName)) ∈ lw_all := lw_g (lw_at lw_m2 176 rfl) rfl
theorem q505 : (Jvm.Cond.code ({ cls := "SetupJobShop$Order", name := "take", desc := "(LSetupJobShop$Order;)V" } : Jvm.MethodName) prog_11_method_6_code (2 : Nat) (Option.none : Option Jvm.ClassFile.FieldType)) ∈ lw_all := lw_g (lw_at lw_m2 177 rfl) rfl
theorem q506 : (Jvm.Cond.methodLink "SetupJobShop$Order" (19 : Nat) ({ cls := "java/lang/System", name := "arraycopy", desc := "(Ljava/lang/Object;ILjava/lang/Object;II)V" } : Jvm.MethodName)) ∈ lw_all := lw_g (lw_at lw_m2 178 rfl) rfl
theorem q512 : (Jvm.Cond.instanceMethod ({ cls := "SetupJobShop$Order", name := "sort", desc := "()V" } : Jvm.MethodName)) ∈ lw_all := lw_g (lw_at lw_m2 184 rfl) rfl
theorem q513 : (Jvm.Cond.selects "SetupJobShop$Order" ({ cls := "SetupJobShop$Order", name := "sort", desc := "()V" } : Jvm.MethodName) ({ cls := "SetupJobShop$Order", name := "sort", desc := "()V" } : Jvm.MethodName)) ∈ lw_all := lw_g (lw_at lw_m2 185 rfl) rfl
theorem q514 : (Jvm.Cond.code ({ cls := "SetupJobShop$Order", name := "sort", desc := "()V" } : Jvm.MethodName) prog_11_method_8_code (3 : Nat) (Option.none : Option Jvm.ClassFile.FieldType)) ∈ lw_all := lw_g (lw_at lw_m2 186 rfl) rfl
theorem q515 : (Jvm.Cond.methodLink "SetupJobShop$Order" (25 : Nat) ({ cls := "SetupJobShop$Order", name := "swap", desc := "(I)V" } : Jvm.MethodName)) ∈ lw_all := lw_g (lw_at lw_m2 187 rfl) rfl
theorem q516 : (Jvm.Cond.instanceMethod ({ cls := "SetupJobShop$Order", name := "swap", desc := "(I)V" } : Jvm.MethodName)) ∈ lw_all := lw_g (lw_at lw_m2 188 rfl) rfl
theorem q517 : (Jvm.Cond.selects "SetupJobShop$Order" ({ cls := "SetupJobShop$Order", name := "swap", desc := "(I)V" } : Jvm.MethodName) ({ cls := "SetupJobShop$Order", name := "swap", desc := "(I)V" } : Jvm.MethodName)) ∈ lw_all := lw_g (lw_at lw_m2 189 rfl) rfl
theorem q518 : (Jvm.Cond.code ({ cls := "SetupJobShop$Order", name := "swap", desc := "(I)V" } : Jvm.MethodName) prog_11_method_4_code (3 : Nat) (Option.none : Option Jvm.ClassFile.FieldType)) ∈ lw_all := lw_g (lw_at lw_m2 190 rfl) rfl
theorem q521 : (Jvm.Cond.instanceMethod ({ cls := "SetupJobShop$Order", name := "advance", desc := "()Z" } : Jvm.MethodName)) ∈ lw_all := lw_g (lw_at lw_m2 193 rfl) rfl
theorem q522 : (Jvm.Cond.selects "SetupJobShop$Order" ({ cls := "SetupJobShop$Order", name := "advance", desc := "()Z" } : Jvm.MethodName) ({ cls := "SetupJobShop$Order", name := "advance", desc := "()Z" } : Jvm.MethodName)) ∈ lw_all := lw_g (lw_at lw_m2 194 rfl) rfl
theorem q523 : (Jvm.Cond.code ({ cls := "SetupJobShop$Order", name := "advance", desc := "()Z" } : Jvm.MethodName) prog_11_method_9_code (7 : Nat) (Option.some Jvm.ClassFile.FieldType.boolean)) ∈ lw_all := lw_g (lw_at lw_m2 195 rfl) rfl
theorem q646 : (Jvm.Cond.instanceMethod ({ cls := "SetupJobShop$Order", name := "add", desc := "(I)V" } : Jvm.MethodName)) ∈ lw_all := lw_g (lw_at lw_m3 78 rfl) rfl
theorem q647 : (Jvm.Cond.selects "SetupJobShop$Order" ({ cls := "SetupJobShop$Order", name := "add", desc := "(I)V" } : Jvm.MethodName) ({ cls := "SetupJobShop$Order", name := "add", desc := "(I)V" } : Jvm.MethodName)) ∈ lw_all := lw_g (lw_at lw_m3 79 rfl) rfl
theorem q648 : (Jvm.Cond.code ({ cls := "SetupJobShop$Order", name := "add", desc := "(I)V" } : Jvm.MethodName) prog_11_method_2_code (2 : Nat) (Option.none : Option Jvm.ClassFile.FieldType)) ∈ lw_all := lw_g (lw_at lw_m3 80 rfl) rfl
theorem q919 : (Jvm.Cond.instanceMethod ({ cls := "SetupJobShop$Order", name := "positionOf", desc := "(I)I" } : Jvm.MethodName)) ∈ lw_all := lw_g (lw_at lw_m4 111 rfl) rfl
theorem q920 : (Jvm.Cond.selects "SetupJobShop$Order" ({ cls := "SetupJobShop$Order", name := "positionOf", desc := "(I)I" } : Jvm.MethodName) ({ cls := "SetupJobShop$Order", name := "positionOf", desc := "(I)I" } : Jvm.MethodName)) ∈ lw_all := lw_g (lw_at lw_m4 112 rfl) rfl
theorem q921 : (Jvm.Cond.code ({ cls := "SetupJobShop$Order", name := "positionOf", desc := "(I)I" } : Jvm.MethodName) prog_11_method_3_code (3 : Nat) (Option.some Jvm.ClassFile.FieldType.int)) ∈ lw_all := lw_g (lw_at lw_m4 113 rfl) rfl
theorem q1118 : (Jvm.Cond.instanceMethod ({ cls := "SetupJobShop$Order", name := "move", desc := "(II)V" } : Jvm.MethodName)) ∈ lw_all := lw_g (lw_at lw_m5 70 rfl) rfl
theorem q1119 : (Jvm.Cond.selects "SetupJobShop$Order" ({ cls := "SetupJobShop$Order", name := "move", desc := "(II)V" } : Jvm.MethodName) ({ cls := "SetupJobShop$Order", name := "move", desc := "(II)V" } : Jvm.MethodName)) ∈ lw_all := lw_g (lw_at lw_m5 71 rfl) rfl
theorem q1120 : (Jvm.Cond.code ({ cls := "SetupJobShop$Order", name := "move", desc := "(II)V" } : Jvm.MethodName) prog_11_method_5_code (5 : Nat) (Option.none : Option Jvm.ClassFile.FieldType)) ∈ lw_all := lw_g (lw_at lw_m5 72 rfl) rfl
theorem q1215 : (Jvm.Cond.instanceMethod ({ cls := "SetupJobShop$Order", name := "differences", desc := "(LSetupJobShop$Order;)I" } : Jvm.MethodName)) ∈ lw_all := lw_g (lw_at lw_m5 167 rfl) rfl
theorem q1216 : (Jvm.Cond.selects "SetupJobShop$Order" ({ cls := "SetupJobShop$Order", name := "differences", desc := "(LSetupJobShop$Order;)I" } : Jvm.MethodName) ({ cls := "SetupJobShop$Order", name := "differences", desc := "(LSetupJobShop$Order;)I" } : Jvm.MethodName)) ∈ lw_all := lw_g (lw_at lw_m5 168 rfl) rfl
theorem q1217 : (Jvm.Cond.code ({ cls := "SetupJobShop$Order", name := "differences", desc := "(LSetupJobShop$Order;)I" } : Jvm.MethodName) prog_11_method_7_code (4 : Nat) (Option.some Jvm.ClassFile.FieldType.int)) ∈ lw_all := lw_g (lw_at lw_m5 169 rfl) rfl
theorem q2291 : (Jvm.Cond.castable "SetupJobShop$Order" "java/lang/Object") ∈ lw_tbl := lw_at lw_m10 43 rfl
theorem in_X3 : ∀ w ∈ wsX30, w ∈ lw_all := lw_in wsX30 [261, 263] (by decide +kernel) (by decide +kernel)

/-! SetupJobShop$Job -/
set_option maxRecDepth 100000
def RX5 : String := "SetupJobShop$Job"
def TX5 : u_T := fun k => match k with
  | 0 => ("SetupJobShop$Job", "values", "[I", true)
  | _ => ("SetupJobShop$Job", "operations", "Ljava/util/ArrayList;", true)
def tyX5 : Nat → FieldType := fun k => match k with
  | 0 => .array .int
  | _ => .object "java/util/ArrayList"
abbrev wsX50 : List Cond := u_ws RX5 TX5 2
theorem nmX5 : ∀ a, a < 2 → ∀ b, b < 2 → a ≠ b → (TX5 a).2.1 ≠ (TX5 b).2.1 := by decide +kernel
theorem tyX5_ok : ∀ k, k < 2 → parseFieldDescriptor (TX5 k).2.2.1 = some (tyX5 k) := by decide +kernel
abbrev cX5_release : ByteArray := prog_8_method_2_code
def yX5_release : MethodName := ⟨RX5, "release", "()I"⟩
def dkwX5_release_0 : List UInt8 := [42, 180, 0, 7, 3, 46, 172]
abbrev dktX5_release_0 : List UInt8 := dkwX5_release_0 ++ []
theorem dksX5_release_0 : cX5_release.data.toList.drop 0 = dktX5_release_0 := by decide +kernel
theorem dX5_release_0 : decode cX5_release 0 = .ok (.aload_n 0, 1) := dk_42 (dk_at dksX5_release_0 0 rfl rfl)
theorem dX5_release_1 : decode cX5_release 1 = .ok (.getfield 7, 3) := dk_180 0 7 (dk_at dksX5_release_0 1 rfl rfl)
theorem dX5_release_4 : decode cX5_release 4 = .ok (.iconst 0, 1) := dk_3 (dk_at dksX5_release_0 4 rfl rfl)
theorem dX5_release_5 : decode cX5_release 5 = .ok (.iaload, 1) := dk_46 (dk_at dksX5_release_0 5 rfl rfl)
theorem dX5_release_6 : decode cX5_release 6 = .ok (.ireturn, 1) := dk_172 (dk_at dksX5_release_0 6 rfl rfl)
abbrev cX5_work : ByteArray := prog_8_method_6_code
def yX5_work : MethodName := ⟨RX5, "work", "(I)I"⟩
def dkwX5_work_1 : List UInt8 := [192, 0, 28, 180, 0, 34, 96, 61, 132, 3, 1, 167, 255, 225, 28, 172]
abbrev dktX5_work_1 : List UInt8 := dkwX5_work_1 ++ []
def dkwX5_work_0 : List UInt8 := [3, 61, 27, 62, 29, 42, 180, 0, 16, 182, 0, 20, 162, 0, 26, 28, 42, 180, 0, 16, 29, 182, 0, 24]
abbrev dktX5_work_0 : List UInt8 := dkwX5_work_0 ++ dktX5_work_1
theorem dksX5_work_0 : cX5_work.data.toList.drop 0 = dktX5_work_0 := by decide +kernel
theorem dksX5_work_1 : cX5_work.data.toList.drop 24 = dktX5_work_1 := dk_seg dksX5_work_0 24 rfl rfl
theorem dX5_work_0 : decode cX5_work 0 = .ok (.iconst 0, 1) := dk_3 (dk_at dksX5_work_0 0 rfl rfl)
theorem dX5_work_1 : decode cX5_work 1 = .ok (.istore_n 2, 1) := dk_61 (dk_at dksX5_work_0 1 rfl rfl)
theorem dX5_work_2 : decode cX5_work 2 = .ok (.iload_n 1, 1) := dk_27 (dk_at dksX5_work_0 2 rfl rfl)
theorem dX5_work_3 : decode cX5_work 3 = .ok (.istore_n 3, 1) := dk_62 (dk_at dksX5_work_0 3 rfl rfl)
theorem dX5_work_4 : decode cX5_work 4 = .ok (.iload_n 3, 1) := dk_29 (dk_at dksX5_work_0 4 rfl rfl)
theorem dX5_work_5 : decode cX5_work 5 = .ok (.aload_n 0, 1) := dk_42 (dk_at dksX5_work_0 5 rfl rfl)
theorem dX5_work_6 : decode cX5_work 6 = .ok (.getfield 16, 3) := dk_180 0 16 (dk_at dksX5_work_0 6 rfl rfl)
theorem dX5_work_9 : decode cX5_work 9 = .ok (.invokevirtual 20, 3) := dk_182 0 20 (dk_at dksX5_work_0 9 rfl rfl)
theorem dX5_work_12 : decode cX5_work 12 = .ok (.if_icmp .ge 26, 3) := dk_162 0 26 (dk_at dksX5_work_0 12 rfl rfl)
theorem dX5_work_15 : decode cX5_work 15 = .ok (.iload_n 2, 1) := dk_28 (dk_at dksX5_work_0 15 rfl rfl)
theorem dX5_work_16 : decode cX5_work 16 = .ok (.aload_n 0, 1) := dk_42 (dk_at dksX5_work_0 16 rfl rfl)
theorem dX5_work_17 : decode cX5_work 17 = .ok (.getfield 16, 3) := dk_180 0 16 (dk_at dksX5_work_0 17 rfl rfl)
theorem dX5_work_20 : decode cX5_work 20 = .ok (.iload_n 3, 1) := dk_29 (dk_at dksX5_work_0 20 rfl rfl)
theorem dX5_work_21 : decode cX5_work 21 = .ok (.invokevirtual 24, 3) := dk_182 0 24 (dk_at dksX5_work_0 21 rfl rfl)
theorem dX5_work_24 : decode cX5_work 24 = .ok (.checkcast 28, 3) := dk_192 0 28 (dk_at dksX5_work_1 0 rfl rfl)
theorem dX5_work_27 : decode cX5_work 27 = .ok (.getfield 34, 3) := dk_180 0 34 (dk_at dksX5_work_1 3 rfl rfl)
theorem dX5_work_30 : decode cX5_work 30 = .ok (.iadd, 1) := dk_96 (dk_at dksX5_work_1 6 rfl rfl)
theorem dX5_work_31 : decode cX5_work 31 = .ok (.istore_n 2, 1) := dk_61 (dk_at dksX5_work_1 7 rfl rfl)
theorem dX5_work_32 : decode cX5_work 32 = .ok (.iinc 3 1, 3) := dk_132 3 1 (dk_at dksX5_work_1 8 rfl rfl)
theorem dX5_work_35 : decode cX5_work 35 = .ok (.goto (-31), 3) := dk_167 255 225 (dk_at dksX5_work_1 11 rfl rfl)
theorem dX5_work_38 : decode cX5_work 38 = .ok (.iload_n 2, 1) := dk_28 (dk_at dksX5_work_1 14 rfl rfl)
theorem dX5_work_39 : decode cX5_work 39 = .ok (.ireturn, 1) := dk_172 (dk_at dksX5_work_1 15 rfl rfl)
abbrev cX5_due : ByteArray := prog_8_method_3_code
def yX5_due : MethodName := ⟨RX5, "due", "()I"⟩
def dkwX5_due_0 : List UInt8 := [42, 180, 0, 7, 4, 46, 172]
abbrev dktX5_due_0 : List UInt8 := dkwX5_due_0 ++ []
theorem dksX5_due_0 : cX5_due.data.toList.drop 0 = dktX5_due_0 := by decide +kernel
theorem dX5_due_0 : decode cX5_due 0 = .ok (.aload_n 0, 1) := dk_42 (dk_at dksX5_due_0 0 rfl rfl)
theorem dX5_due_1 : decode cX5_due 1 = .ok (.getfield 7, 3) := dk_180 0 7 (dk_at dksX5_due_0 1 rfl rfl)
theorem dX5_due_4 : decode cX5_due 4 = .ok (.iconst 1, 1) := dk_4 (dk_at dksX5_due_0 4 rfl rfl)
theorem dX5_due_5 : decode cX5_due 5 = .ok (.iaload, 1) := dk_46 (dk_at dksX5_due_0 5 rfl rfl)
theorem dX5_due_6 : decode cX5_due 6 = .ok (.ireturn, 1) := dk_172 (dk_at dksX5_due_0 6 rfl rfl)
abbrev cX5_weight : ByteArray := prog_8_method_4_code
def yX5_weight : MethodName := ⟨RX5, "weight", "()I"⟩
def dkwX5_weight_0 : List UInt8 := [42, 180, 0, 7, 5, 46, 172]
abbrev dktX5_weight_0 : List UInt8 := dkwX5_weight_0 ++ []
theorem dksX5_weight_0 : cX5_weight.data.toList.drop 0 = dktX5_weight_0 := by decide +kernel
theorem dX5_weight_0 : decode cX5_weight 0 = .ok (.aload_n 0, 1) := dk_42 (dk_at dksX5_weight_0 0 rfl rfl)
theorem dX5_weight_1 : decode cX5_weight 1 = .ok (.getfield 7, 3) := dk_180 0 7 (dk_at dksX5_weight_0 1 rfl rfl)
theorem dX5_weight_4 : decode cX5_weight 4 = .ok (.iconst 2, 1) := dk_5 (dk_at dksX5_weight_0 4 rfl rfl)
theorem dX5_weight_5 : decode cX5_weight 5 = .ok (.iaload, 1) := dk_46 (dk_at dksX5_weight_0 5 rfl rfl)
theorem dX5_weight_6 : decode cX5_weight 6 = .ok (.ireturn, 1) := dk_172 (dk_at dksX5_weight_0 6 rfl rfl)
abbrev cX5_init : ByteArray := prog_8_method_1_code
def yX5_init : MethodName := ⟨RX5, "<init>", "(III)V"⟩
def dkwX5_init_1 : List UInt8 := [180, 0, 7, 3, 27, 79, 42, 180, 0, 7, 4, 28, 79, 42, 180, 0, 7, 5, 29, 79, 177]
abbrev dktX5_init_1 : List UInt8 := dkwX5_init_1 ++ []
def dkwX5_init_0 : List UInt8 := [42, 183, 0, 1, 42, 6, 188, 10, 181, 0, 7, 42, 187, 0, 13, 89, 183, 0, 15, 181, 0, 16, 42]
abbrev dktX5_init_0 : List UInt8 := dkwX5_init_0 ++ dktX5_init_1
theorem dksX5_init_0 : cX5_init.data.toList.drop 0 = dktX5_init_0 := by decide +kernel
theorem dksX5_init_1 : cX5_init.data.toList.drop 23 = dktX5_init_1 := dk_seg dksX5_init_0 23 rfl rfl
theorem dX5_init_0 : decode cX5_init 0 = .ok (.aload_n 0, 1) := dk_42 (dk_at dksX5_init_0 0 rfl rfl)
theorem dX5_init_1 : decode cX5_init 1 = .ok (.invokespecial 1, 3) := dk_183 0 1 (dk_at dksX5_init_0 1 rfl rfl)
theorem dX5_init_4 : decode cX5_init 4 = .ok (.aload_n 0, 1) := dk_42 (dk_at dksX5_init_0 4 rfl rfl)
theorem dX5_init_5 : decode cX5_init 5 = .ok (.iconst 3, 1) := dk_6 (dk_at dksX5_init_0 5 rfl rfl)
theorem dX5_init_6 : decode cX5_init 6 = .ok (.newarray .int, 2) := dk_188_10 (dk_at dksX5_init_0 6 rfl rfl)
theorem dX5_init_8 : decode cX5_init 8 = .ok (.putfield 7, 3) := dk_181 0 7 (dk_at dksX5_init_0 8 rfl rfl)
theorem dX5_init_11 : decode cX5_init 11 = .ok (.aload_n 0, 1) := dk_42 (dk_at dksX5_init_0 11 rfl rfl)
theorem dX5_init_12 : decode cX5_init 12 = .ok (.new 13, 3) := dk_187 0 13 (dk_at dksX5_init_0 12 rfl rfl)
theorem dX5_init_15 : decode cX5_init 15 = .ok (.dup, 1) := dk_89 (dk_at dksX5_init_0 15 rfl rfl)
theorem dX5_init_16 : decode cX5_init 16 = .ok (.invokespecial 15, 3) := dk_183 0 15 (dk_at dksX5_init_0 16 rfl rfl)
theorem dX5_init_19 : decode cX5_init 19 = .ok (.putfield 16, 3) := dk_181 0 16 (dk_at dksX5_init_0 19 rfl rfl)
theorem dX5_init_22 : decode cX5_init 22 = .ok (.aload_n 0, 1) := dk_42 (dk_at dksX5_init_0 22 rfl rfl)
theorem dX5_init_23 : decode cX5_init 23 = .ok (.getfield 7, 3) := dk_180 0 7 (dk_at dksX5_init_1 0 rfl rfl)
theorem dX5_init_26 : decode cX5_init 26 = .ok (.iconst 0, 1) := dk_3 (dk_at dksX5_init_1 3 rfl rfl)
theorem dX5_init_27 : decode cX5_init 27 = .ok (.iload_n 1, 1) := dk_27 (dk_at dksX5_init_1 4 rfl rfl)
theorem dX5_init_28 : decode cX5_init 28 = .ok (.iastore, 1) := dk_79 (dk_at dksX5_init_1 5 rfl rfl)
theorem dX5_init_29 : decode cX5_init 29 = .ok (.aload_n 0, 1) := dk_42 (dk_at dksX5_init_1 6 rfl rfl)
theorem dX5_init_30 : decode cX5_init 30 = .ok (.getfield 7, 3) := dk_180 0 7 (dk_at dksX5_init_1 7 rfl rfl)
theorem dX5_init_33 : decode cX5_init 33 = .ok (.iconst 1, 1) := dk_4 (dk_at dksX5_init_1 10 rfl rfl)
theorem dX5_init_34 : decode cX5_init 34 = .ok (.iload_n 2, 1) := dk_28 (dk_at dksX5_init_1 11 rfl rfl)
theorem dX5_init_35 : decode cX5_init 35 = .ok (.iastore, 1) := dk_79 (dk_at dksX5_init_1 12 rfl rfl)
theorem dX5_init_36 : decode cX5_init 36 = .ok (.aload_n 0, 1) := dk_42 (dk_at dksX5_init_1 13 rfl rfl)
theorem dX5_init_37 : decode cX5_init 37 = .ok (.getfield 7, 3) := dk_180 0 7 (dk_at dksX5_init_1 14 rfl rfl)
theorem dX5_init_40 : decode cX5_init 40 = .ok (.iconst 2, 1) := dk_5 (dk_at dksX5_init_1 17 rfl rfl)
theorem dX5_init_41 : decode cX5_init 41 = .ok (.iload_n 3, 1) := dk_29 (dk_at dksX5_init_1 18 rfl rfl)
theorem dX5_init_42 : decode cX5_init 42 = .ok (.iastore, 1) := dk_79 (dk_at dksX5_init_1 19 rfl rfl)
theorem dX5_init_43 : decode cX5_init 43 = .ok (.return_, 1) := dk_177 (dk_at dksX5_init_1 20 rfl rfl)
abbrev cX5_visits : ByteArray := prog_8_method_5_code
def yX5_visits : MethodName := ⟨RX5, "visits", "(I)Z"⟩
def dkwX5_visits_2 : List UInt8 := [172]
abbrev dktX5_visits_2 : List UInt8 := dkwX5_visits_2 ++ []
def dkwX5_visits_1 : List UInt8 := [192, 0, 28, 180, 0, 30, 27, 160, 0, 7, 4, 167, 0, 4, 3, 128, 61, 132, 3, 1, 167, 255, 216, 28]
abbrev dktX5_visits_1 : List UInt8 := dkwX5_visits_1 ++ dktX5_visits_2
def dkwX5_visits_0 : List UInt8 := [3, 61, 3, 62, 29, 42, 180, 0, 16, 182, 0, 20, 162, 0, 35, 28, 42, 180, 0, 16, 29, 182, 0, 24]
abbrev dktX5_visits_0 : List UInt8 := dkwX5_visits_0 ++ dktX5_visits_1
theorem dksX5_visits_0 : cX5_visits.data.toList.drop 0 = dktX5_visits_0 := by decide +kernel
theorem dksX5_visits_1 : cX5_visits.data.toList.drop 24 = dktX5_visits_1 := dk_seg dksX5_visits_0 24 rfl rfl
theorem dksX5_visits_2 : cX5_visits.data.toList.drop 48 = dktX5_visits_2 := dk_seg dksX5_visits_1 24 rfl rfl
theorem dX5_visits_0 : decode cX5_visits 0 = .ok (.iconst 0, 1) := dk_3 (dk_at dksX5_visits_0 0 rfl rfl)
theorem dX5_visits_1 : decode cX5_visits 1 = .ok (.istore_n 2, 1) := dk_61 (dk_at dksX5_visits_0 1 rfl rfl)
theorem dX5_visits_2 : decode cX5_visits 2 = .ok (.iconst 0, 1) := dk_3 (dk_at dksX5_visits_0 2 rfl rfl)
theorem dX5_visits_3 : decode cX5_visits 3 = .ok (.istore_n 3, 1) := dk_62 (dk_at dksX5_visits_0 3 rfl rfl)
theorem dX5_visits_4 : decode cX5_visits 4 = .ok (.iload_n 3, 1) := dk_29 (dk_at dksX5_visits_0 4 rfl rfl)
theorem dX5_visits_5 : decode cX5_visits 5 = .ok (.aload_n 0, 1) := dk_42 (dk_at dksX5_visits_0 5 rfl rfl)
theorem dX5_visits_6 : decode cX5_visits 6 = .ok (.getfield 16, 3) := dk_180 0 16 (dk_at dksX5_visits_0 6 rfl rfl)
theorem dX5_visits_9 : decode cX5_visits 9 = .ok (.invokevirtual 20, 3) := dk_182 0 20 (dk_at dksX5_visits_0 9 rfl rfl)
theorem dX5_visits_12 : decode cX5_visits 12 = .ok (.if_icmp .ge 35, 3) := dk_162 0 35 (dk_at dksX5_visits_0 12 rfl rfl)
theorem dX5_visits_15 : decode cX5_visits 15 = .ok (.iload_n 2, 1) := dk_28 (dk_at dksX5_visits_0 15 rfl rfl)
theorem dX5_visits_16 : decode cX5_visits 16 = .ok (.aload_n 0, 1) := dk_42 (dk_at dksX5_visits_0 16 rfl rfl)
theorem dX5_visits_17 : decode cX5_visits 17 = .ok (.getfield 16, 3) := dk_180 0 16 (dk_at dksX5_visits_0 17 rfl rfl)
theorem dX5_visits_20 : decode cX5_visits 20 = .ok (.iload_n 3, 1) := dk_29 (dk_at dksX5_visits_0 20 rfl rfl)
theorem dX5_visits_21 : decode cX5_visits 21 = .ok (.invokevirtual 24, 3) := dk_182 0 24 (dk_at dksX5_visits_0 21 rfl rfl)
theorem dX5_visits_24 : decode cX5_visits 24 = .ok (.checkcast 28, 3) := dk_192 0 28 (dk_at dksX5_visits_1 0 rfl rfl)
theorem dX5_visits_27 : decode cX5_visits 27 = .ok (.getfield 30, 3) := dk_180 0 30 (dk_at dksX5_visits_1 3 rfl rfl)
theorem dX5_visits_30 : decode cX5_visits 30 = .ok (.iload_n 1, 1) := dk_27 (dk_at dksX5_visits_1 6 rfl rfl)
theorem dX5_visits_31 : decode cX5_visits 31 = .ok (.if_icmp .ne 7, 3) := dk_160 0 7 (dk_at dksX5_visits_1 7 rfl rfl)
theorem dX5_visits_34 : decode cX5_visits 34 = .ok (.iconst 1, 1) := dk_4 (dk_at dksX5_visits_1 10 rfl rfl)
theorem dX5_visits_35 : decode cX5_visits 35 = .ok (.goto 4, 3) := dk_167 0 4 (dk_at dksX5_visits_1 11 rfl rfl)
theorem dX5_visits_38 : decode cX5_visits 38 = .ok (.iconst 0, 1) := dk_3 (dk_at dksX5_visits_1 14 rfl rfl)
theorem dX5_visits_39 : decode cX5_visits 39 = .ok (.ior, 1) := dk_128 (dk_at dksX5_visits_1 15 rfl rfl)
theorem dX5_visits_40 : decode cX5_visits 40 = .ok (.istore_n 2, 1) := dk_61 (dk_at dksX5_visits_1 16 rfl rfl)
theorem dX5_visits_41 : decode cX5_visits 41 = .ok (.iinc 3 1, 3) := dk_132 3 1 (dk_at dksX5_visits_1 17 rfl rfl)
theorem dX5_visits_44 : decode cX5_visits 44 = .ok (.goto (-40), 3) := dk_167 255 216 (dk_at dksX5_visits_1 20 rfl rfl)
theorem dX5_visits_47 : decode cX5_visits 47 = .ok (.iload_n 2, 1) := dk_28 (dk_at dksX5_visits_1 23 rfl rfl)
theorem dX5_visits_48 : decode cX5_visits 48 = .ok (.ireturn, 1) := dk_172 (dk_at dksX5_visits_2 0 rfl rfl)
theorem q109 : (Jvm.Cond.initialized "SetupJobShop$Job") ∈ lw_all := lw_g (lw_at lw_m1 21 rfl) rfl
theorem q211 : (Jvm.Cond.selects "SetupJobShop$Job" ({ cls := "java/lang/Object", name := "getClass", desc := "()Ljava/lang/Class;" } : Jvm.MethodName) ({ cls := "java/lang/Object", name := "getClass", desc := "()Ljava/lang/Class;" } : Jvm.MethodName)) ∈ lw_all := lw_g (lw_at lw_m1 123 rfl) rfl
theorem q423 : (Jvm.Cond.instanceMethod ({ cls := "SetupJobShop$Job", name := "release", desc := "()I" } : Jvm.MethodName)) ∈ lw_all := lw_g (lw_at lw_m2 95 rfl) rfl
theorem q424 : (Jvm.Cond.selects "SetupJobShop$Job" ({ cls := "SetupJobShop$Job", name := "release", desc := "()I" } : Jvm.MethodName) ({ cls := "SetupJobShop$Job", name := "release", desc := "()I" } : Jvm.MethodName)) ∈ lw_all := lw_g (lw_at lw_m2 96 rfl) rfl
theorem q425 : (Jvm.Cond.code ({ cls := "SetupJobShop$Job", name := "release", desc := "()I" } : Jvm.MethodName) prog_8_method_2_code (1 : Nat) (Option.some Jvm.ClassFile.FieldType.int)) ∈ lw_all := lw_g (lw_at lw_m2 97 rfl) rfl
theorem q553 : (Jvm.Cond.instanceMethod ({ cls := "SetupJobShop$Job", name := "work", desc := "(I)I" } : Jvm.MethodName)) ∈ lw_all := lw_g (lw_at lw_m2 225 rfl) rfl
theorem q554 : (Jvm.Cond.selects "SetupJobShop$Job" ({ cls := "SetupJobShop$Job", name := "work", desc := "(I)I" } : Jvm.MethodName) ({ cls := "SetupJobShop$Job", name := "work", desc := "(I)I" } : Jvm.MethodName)) ∈ lw_all := lw_g (lw_at lw_m2 226 rfl) rfl
theorem q555 : (Jvm.Cond.code ({ cls := "SetupJobShop$Job", name := "work", desc := "(I)I" } : Jvm.MethodName) prog_8_method_6_code (4 : Nat) (Option.some Jvm.ClassFile.FieldType.int)) ∈ lw_all := lw_g (lw_at lw_m2 227 rfl) rfl
theorem q556 : (Jvm.Cond.methodLink "SetupJobShop$Job" (20 : Nat) ({ cls := "java/util/ArrayList", name := "size", desc := "()I" } : Jvm.MethodName)) ∈ lw_all := lw_g (lw_at lw_m2 228 rfl) rfl
theorem q557 : (Jvm.Cond.methodLink "SetupJobShop$Job" (24 : Nat) ({ cls := "java/util/ArrayList", name := "get", desc := "(I)Ljava/lang/Object;" } : Jvm.MethodName)) ∈ lw_all := lw_g (lw_at lw_m2 229 rfl) rfl
theorem q558 : (Jvm.Cond.classLink "SetupJobShop$Job" (28 : Nat) "SetupJobShop$Operation") ∈ lw_all := lw_g (lw_at lw_m2 230 rfl) rfl
theorem q571 : (Jvm.Cond.instantiable "SetupJobShop$Job" (2 : Nat)) ∈ lw_all := lw_g (lw_at lw_m3 3 rfl) rfl
theorem q573 : (Jvm.Cond.instanceMethod ({ cls := "SetupJobShop$Job", name := "due", desc := "()I" } : Jvm.MethodName)) ∈ lw_all := lw_g (lw_at lw_m3 5 rfl) rfl
theorem q574 : (Jvm.Cond.selects "SetupJobShop$Job" ({ cls := "SetupJobShop$Job", name := "due", desc := "()I" } : Jvm.MethodName) ({ cls := "SetupJobShop$Job", name := "due", desc := "()I" } : Jvm.MethodName)) ∈ lw_all := lw_g (lw_at lw_m3 6 rfl) rfl
theorem q575 : (Jvm.Cond.code ({ cls := "SetupJobShop$Job", name := "due", desc := "()I" } : Jvm.MethodName) prog_8_method_3_code (1 : Nat) (Option.some Jvm.ClassFile.FieldType.int)) ∈ lw_all := lw_g (lw_at lw_m3 7 rfl) rfl
theorem q577 : (Jvm.Cond.instanceMethod ({ cls := "SetupJobShop$Job", name := "weight", desc := "()I" } : Jvm.MethodName)) ∈ lw_all := lw_g (lw_at lw_m3 9 rfl) rfl
theorem q578 : (Jvm.Cond.selects "SetupJobShop$Job" ({ cls := "SetupJobShop$Job", name := "weight", desc := "()I" } : Jvm.MethodName) ({ cls := "SetupJobShop$Job", name := "weight", desc := "()I" } : Jvm.MethodName)) ∈ lw_all := lw_g (lw_at lw_m3 10 rfl) rfl
theorem q579 : (Jvm.Cond.code ({ cls := "SetupJobShop$Job", name := "weight", desc := "()I" } : Jvm.MethodName) prog_8_method_4_code (1 : Nat) (Option.some Jvm.ClassFile.FieldType.int)) ∈ lw_all := lw_g (lw_at lw_m3 11 rfl) rfl
theorem q581 : (Jvm.Cond.instanceMethod ({ cls := "SetupJobShop$Job", name := "<init>", desc := "(III)V" } : Jvm.MethodName)) ∈ lw_all := lw_g (lw_at lw_m3 13 rfl) rfl
theorem q582 : (Jvm.Cond.code ({ cls := "SetupJobShop$Job", name := "<init>", desc := "(III)V" } : Jvm.MethodName) prog_8_method_1_code (4 : Nat) (Option.none : Option Jvm.ClassFile.FieldType)) ∈ lw_all := lw_g (lw_at lw_m3 14 rfl) rfl
theorem q583 : (Jvm.Cond.methodLink "SetupJobShop$Job" (1 : Nat) ({ cls := "java/lang/Object", name := "<init>", desc := "()V" } : Jvm.MethodName)) ∈ lw_all := lw_g (lw_at lw_m3 15 rfl) rfl
theorem q584 : (Jvm.Cond.classLink "SetupJobShop$Job" (13 : Nat) "java/util/ArrayList") ∈ lw_all := lw_g (lw_at lw_m3 16 rfl) rfl
theorem q585 : (Jvm.Cond.methodLink "SetupJobShop$Job" (15 : Nat) ({ cls := "java/util/ArrayList", name := "<init>", desc := "()V" } : Jvm.MethodName)) ∈ lw_all := lw_g (lw_at lw_m3 17 rfl) rfl
theorem q586 : (Jvm.Cond.fieldLink "SetupJobShop$Job" (7 : Nat) "SetupJobShop$Job" "values" "[I") ∈ lw_all := lw_g (lw_at lw_m3 18 rfl) rfl
theorem q588 : (Jvm.Cond.fieldLink "SetupJobShop$Job" (16 : Nat) "SetupJobShop$Job" "operations" "Ljava/util/ArrayList;") ∈ lw_all := lw_g (lw_at lw_m3 20 rfl) rfl
theorem q591 : (Jvm.Cond.laysFinal "SetupJobShop$Job" "SetupJobShop$Job" "values" "[I") ∈ lw_all := lw_g (lw_at lw_m3 23 rfl) rfl
theorem q592 : (Jvm.Cond.soleField "SetupJobShop$Job" "values") ∈ lw_all := lw_g (lw_at lw_m3 24 rfl) rfl
theorem q593 : (Jvm.Cond.laysFinal "SetupJobShop$Job" "SetupJobShop$Job" "operations" "Ljava/util/ArrayList;") ∈ lw_all := lw_g (lw_at lw_m3 25 rfl) rfl
theorem q594 : (Jvm.Cond.soleField "SetupJobShop$Job" "operations") ∈ lw_all := lw_g (lw_at lw_m3 26 rfl) rfl
theorem q595 : (Jvm.Cond.superclass "SetupJobShop$Job" "java/lang/Object") ∈ lw_all := lw_g (lw_at lw_m3 27 rfl) rfl
theorem q618 : (Jvm.Cond.fieldLinkNest "SetupJobShop$Job" (30 : Nat) "SetupJobShop$Operation" "machine" "I" "SetupJobShop") ∈ lw_tbl := lw_at lw_m3 50 rfl
theorem q630 : (Jvm.Cond.fieldLinkNest "SetupJobShop$Job" (34 : Nat) "SetupJobShop$Operation" "duration" "I" "SetupJobShop") ∈ lw_tbl := lw_at lw_m3 62 rfl
theorem q837 : (Jvm.Cond.instanceMethod ({ cls := "SetupJobShop$Job", name := "visits", desc := "(I)Z" } : Jvm.MethodName)) ∈ lw_all := lw_g (lw_at lw_m4 29 rfl) rfl
theorem q838 : (Jvm.Cond.selects "SetupJobShop$Job" ({ cls := "SetupJobShop$Job", name := "visits", desc := "(I)Z" } : Jvm.MethodName) ({ cls := "SetupJobShop$Job", name := "visits", desc := "(I)Z" } : Jvm.MethodName)) ∈ lw_all := lw_g (lw_at lw_m4 30 rfl) rfl
theorem q839 : (Jvm.Cond.code ({ cls := "SetupJobShop$Job", name := "visits", desc := "(I)Z" } : Jvm.MethodName) prog_8_method_5_code (4 : Nat) (Option.some Jvm.ClassFile.FieldType.boolean)) ∈ lw_all := lw_g (lw_at lw_m4 31 rfl) rfl
theorem q2296 : (Jvm.Cond.castable "SetupJobShop$Job" "java/lang/Object") ∈ lw_tbl := lw_at lw_m10 48 rfl
theorem in_X5 : ∀ w ∈ wsX50, w ∈ lw_all := lw_in wsX50 [591, 593] (by decide +kernel) (by decide +kernel)

/-! SetupJobShop$Operation -/
set_option maxRecDepth 100000
def RX6 : String := "SetupJobShop$Operation"
def TX6 : u_T := fun k => match k with
  | 0 => ("SetupJobShop$Operation", "number", "I", true)
  | 1 => ("SetupJobShop$Operation", "job", "I", true)
  | 2 => ("SetupJobShop$Operation", "machine", "I", true)
  | 3 => ("SetupJobShop$Operation", "family", "I", true)
  | 4 => ("SetupJobShop$Operation", "index", "I", true)
  | _ => ("SetupJobShop$Operation", "duration", "I", false)
def tyX6 : Nat → FieldType := fun k => match k with
  | 0 => .int
  | 1 => .int
  | 2 => .int
  | 3 => .int
  | 4 => .int
  | _ => .int
abbrev wsX60 : List Cond := u_ws RX6 TX6 6
theorem nmX6 : ∀ a, a < 6 → ∀ b, b < 6 → a ≠ b → (TX6 a).2.1 ≠ (TX6 b).2.1 := by decide +kernel
theorem tyX6_ok : ∀ k, k < 6 → parseFieldDescriptor (TX6 k).2.2.1 = some (tyX6 k) := by decide +kernel
abbrev cX6_init : ByteArray := prog_10_method_1_code
def yX6_init : MethodName := ⟨RX6, "<init>", "(IIIIII)V"⟩
def dkwX6_init_1 : List UInt8 := [181, 0, 19, 42, 21, 5, 181, 0, 22, 42, 21, 6, 181, 0, 25, 177]
abbrev dktX6_init_1 : List UInt8 := dkwX6_init_1 ++ []
def dkwX6_init_0 : List UInt8 := [42, 183, 0, 1, 42, 27, 181, 0, 7, 42, 28, 181, 0, 13, 42, 29, 181, 0, 16, 42, 21, 4]
abbrev dktX6_init_0 : List UInt8 := dkwX6_init_0 ++ dktX6_init_1
theorem dksX6_init_0 : cX6_init.data.toList.drop 0 = dktX6_init_0 := by decide +kernel
theorem dksX6_init_1 : cX6_init.data.toList.drop 22 = dktX6_init_1 := dk_seg dksX6_init_0 22 rfl rfl
theorem dX6_init_0 : decode cX6_init 0 = .ok (.aload_n 0, 1) := dk_42 (dk_at dksX6_init_0 0 rfl rfl)
theorem dX6_init_1 : decode cX6_init 1 = .ok (.invokespecial 1, 3) := dk_183 0 1 (dk_at dksX6_init_0 1 rfl rfl)
theorem dX6_init_4 : decode cX6_init 4 = .ok (.aload_n 0, 1) := dk_42 (dk_at dksX6_init_0 4 rfl rfl)
theorem dX6_init_5 : decode cX6_init 5 = .ok (.iload_n 1, 1) := dk_27 (dk_at dksX6_init_0 5 rfl rfl)
theorem dX6_init_6 : decode cX6_init 6 = .ok (.putfield 7, 3) := dk_181 0 7 (dk_at dksX6_init_0 6 rfl rfl)
theorem dX6_init_9 : decode cX6_init 9 = .ok (.aload_n 0, 1) := dk_42 (dk_at dksX6_init_0 9 rfl rfl)
theorem dX6_init_10 : decode cX6_init 10 = .ok (.iload_n 2, 1) := dk_28 (dk_at dksX6_init_0 10 rfl rfl)
theorem dX6_init_11 : decode cX6_init 11 = .ok (.putfield 13, 3) := dk_181 0 13 (dk_at dksX6_init_0 11 rfl rfl)
theorem dX6_init_14 : decode cX6_init 14 = .ok (.aload_n 0, 1) := dk_42 (dk_at dksX6_init_0 14 rfl rfl)
theorem dX6_init_15 : decode cX6_init 15 = .ok (.iload_n 3, 1) := dk_29 (dk_at dksX6_init_0 15 rfl rfl)
theorem dX6_init_16 : decode cX6_init 16 = .ok (.putfield 16, 3) := dk_181 0 16 (dk_at dksX6_init_0 16 rfl rfl)
theorem dX6_init_19 : decode cX6_init 19 = .ok (.aload_n 0, 1) := dk_42 (dk_at dksX6_init_0 19 rfl rfl)
theorem dX6_init_20 : decode cX6_init 20 = .ok (.iload 4, 2) := dk_21 4 (dk_at dksX6_init_0 20 rfl rfl)
theorem dX6_init_22 : decode cX6_init 22 = .ok (.putfield 19, 3) := dk_181 0 19 (dk_at dksX6_init_1 0 rfl rfl)
theorem dX6_init_25 : decode cX6_init 25 = .ok (.aload_n 0, 1) := dk_42 (dk_at dksX6_init_1 3 rfl rfl)
theorem dX6_init_26 : decode cX6_init 26 = .ok (.iload 5, 2) := dk_21 5 (dk_at dksX6_init_1 4 rfl rfl)
theorem dX6_init_28 : decode cX6_init 28 = .ok (.putfield 22, 3) := dk_181 0 22 (dk_at dksX6_init_1 6 rfl rfl)
theorem dX6_init_31 : decode cX6_init 31 = .ok (.aload_n 0, 1) := dk_42 (dk_at dksX6_init_1 9 rfl rfl)
theorem dX6_init_32 : decode cX6_init 32 = .ok (.iload 6, 2) := dk_21 6 (dk_at dksX6_init_1 10 rfl rfl)
theorem dX6_init_34 : decode cX6_init 34 = .ok (.putfield 25, 3) := dk_181 0 25 (dk_at dksX6_init_1 12 rfl rfl)
theorem dX6_init_37 : decode cX6_init 37 = .ok (.return_, 1) := dk_177 (dk_at dksX6_init_1 15 rfl rfl)
theorem q114 : (Jvm.Cond.initialized "SetupJobShop$Operation") ∈ lw_all := lw_g (lw_at lw_m1 26 rfl) rfl
theorem q213 : (Jvm.Cond.selects "SetupJobShop$Operation" ({ cls := "java/lang/Object", name := "getClass", desc := "()Ljava/lang/Class;" } : Jvm.MethodName) ({ cls := "java/lang/Object", name := "getClass", desc := "()Ljava/lang/Class;" } : Jvm.MethodName)) ∈ lw_all := lw_g (lw_at lw_m1 125 rfl) rfl
theorem q600 : (Jvm.Cond.instantiable "SetupJobShop$Operation" (6 : Nat)) ∈ lw_all := lw_g (lw_at lw_m3 32 rfl) rfl
theorem q602 : (Jvm.Cond.instanceMethod ({ cls := "SetupJobShop$Operation", name := "<init>", desc := "(IIIIII)V" } : Jvm.MethodName)) ∈ lw_all := lw_g (lw_at lw_m3 34 rfl) rfl
theorem q603 : (Jvm.Cond.code ({ cls := "SetupJobShop$Operation", name := "<init>", desc := "(IIIIII)V" } : Jvm.MethodName) prog_10_method_1_code (7 : Nat) (Option.none : Option Jvm.ClassFile.FieldType)) ∈ lw_all := lw_g (lw_at lw_m3 35 rfl) rfl
theorem q604 : (Jvm.Cond.methodLink "SetupJobShop$Operation" (1 : Nat) ({ cls := "java/lang/Object", name := "<init>", desc := "()V" } : Jvm.MethodName)) ∈ lw_all := lw_g (lw_at lw_m3 36 rfl) rfl
theorem q605 : (Jvm.Cond.fieldLink "SetupJobShop$Operation" (7 : Nat) "SetupJobShop$Operation" "number" "I") ∈ lw_all := lw_g (lw_at lw_m3 37 rfl) rfl
theorem q610 : (Jvm.Cond.fieldLink "SetupJobShop$Operation" (13 : Nat) "SetupJobShop$Operation" "job" "I") ∈ lw_all := lw_g (lw_at lw_m3 42 rfl) rfl
theorem q614 : (Jvm.Cond.fieldLink "SetupJobShop$Operation" (19 : Nat) "SetupJobShop$Operation" "machine" "I") ∈ lw_all := lw_g (lw_at lw_m3 46 rfl) rfl
theorem q620 : (Jvm.Cond.fieldLink "SetupJobShop$Operation" (25 : Nat) "SetupJobShop$Operation" "family" "I") ∈ lw_all := lw_g (lw_at lw_m3 52 rfl) rfl
theorem q623 : (Jvm.Cond.fieldLink "SetupJobShop$Operation" (16 : Nat) "SetupJobShop$Operation" "index" "I") ∈ lw_all := lw_g (lw_at lw_m3 55 rfl) rfl
theorem q627 : (Jvm.Cond.fieldLink "SetupJobShop$Operation" (22 : Nat) "SetupJobShop$Operation" "duration" "I") ∈ lw_all := lw_g (lw_at lw_m3 59 rfl) rfl
theorem q632 : (Jvm.Cond.laysFinal "SetupJobShop$Operation" "SetupJobShop$Operation" "number" "I") ∈ lw_all := lw_g (lw_at lw_m3 64 rfl) rfl
theorem q633 : (Jvm.Cond.soleField "SetupJobShop$Operation" "number") ∈ lw_all := lw_g (lw_at lw_m3 65 rfl) rfl
theorem q634 : (Jvm.Cond.laysFinal "SetupJobShop$Operation" "SetupJobShop$Operation" "job" "I") ∈ lw_all := lw_g (lw_at lw_m3 66 rfl) rfl
theorem q635 : (Jvm.Cond.soleField "SetupJobShop$Operation" "job") ∈ lw_all := lw_g (lw_at lw_m3 67 rfl) rfl
theorem q636 : (Jvm.Cond.laysFinal "SetupJobShop$Operation" "SetupJobShop$Operation" "machine" "I") ∈ lw_all := lw_g (lw_at lw_m3 68 rfl) rfl
theorem q637 : (Jvm.Cond.soleField "SetupJobShop$Operation" "machine") ∈ lw_all := lw_g (lw_at lw_m3 69 rfl) rfl
theorem q638 : (Jvm.Cond.laysFinal "SetupJobShop$Operation" "SetupJobShop$Operation" "family" "I") ∈ lw_all := lw_g (lw_at lw_m3 70 rfl) rfl
theorem q639 : (Jvm.Cond.soleField "SetupJobShop$Operation" "family") ∈ lw_all := lw_g (lw_at lw_m3 71 rfl) rfl
theorem q640 : (Jvm.Cond.laysFinal "SetupJobShop$Operation" "SetupJobShop$Operation" "index" "I") ∈ lw_all := lw_g (lw_at lw_m3 72 rfl) rfl
theorem q641 : (Jvm.Cond.soleField "SetupJobShop$Operation" "index") ∈ lw_all := lw_g (lw_at lw_m3 73 rfl) rfl
theorem q642 : (Jvm.Cond.lays "SetupJobShop$Operation" "SetupJobShop$Operation" "duration" "I") ∈ lw_all := lw_g (lw_at lw_m3 74 rfl) rfl
theorem q643 : (Jvm.Cond.soleField "SetupJobShop$Operation" "duration") ∈ lw_all := lw_g (lw_at lw_m3 75 rfl) rfl
theorem q644 : (Jvm.Cond.superclass "SetupJobShop$Operation" "java/lang/Object") ∈ lw_all := lw_g (lw_at lw_m3 76 rfl) rfl
theorem q2299 : (Jvm.Cond.castable "SetupJobShop$Operation" "java/lang/Object") ∈ lw_tbl := lw_at lw_m10 51 rfl
theorem in_X6 : ∀ w ∈ wsX60, w ∈ lw_all := lw_in wsX60 [632, 634, 636, 638, 640, 642] (by decide +kernel) (by decide +kernel)

/-! SetupJobShop$Breakdown -/
set_option maxRecDepth 100000
def RX7 : String := "SetupJobShop$Breakdown"
def TX7 : u_T := fun k => match k with
  | 0 => ("SetupJobShop$Breakdown", "first", "I", true)
  | _ => ("SetupJobShop$Breakdown", "length", "I", true)
def tyX7 : Nat → FieldType := fun k => match k with
  | 0 => .int
  | _ => .int
abbrev wsX70 : List Cond := u_ws RX7 TX7 2
theorem nmX7 : ∀ a, a < 2 → ∀ b, b < 2 → a ≠ b → (TX7 a).2.1 ≠ (TX7 b).2.1 := by decide +kernel
theorem tyX7_ok : ∀ k, k < 2 → parseFieldDescriptor (TX7 k).2.2.1 = some (tyX7 k) := by decide +kernel
abbrev cX7_hinders : ByteArray := prog_3_method_2_code
def yX7_hinders : MethodName := ⟨RX7, "hinders", "(II)Z"⟩
def dkwX7_hinders_1 : List UInt8 := [167, 0, 4, 3, 172]
abbrev dktX7_hinders_1 : List UInt8 := dkwX7_hinders_1 ++ []
def dkwX7_hinders_0 : List UInt8 := [27, 42, 180, 0, 7, 42, 180, 0, 13, 96, 162, 0, 17, 42, 180, 0, 7, 27, 28, 96, 162, 0, 7, 4]
abbrev dktX7_hinders_0 : List UInt8 := dkwX7_hinders_0 ++ dktX7_hinders_1
theorem dksX7_hinders_0 : cX7_hinders.data.toList.drop 0 = dktX7_hinders_0 := by decide +kernel
theorem dksX7_hinders_1 : cX7_hinders.data.toList.drop 24 = dktX7_hinders_1 := dk_seg dksX7_hinders_0 24 rfl rfl
theorem dX7_hinders_0 : decode cX7_hinders 0 = .ok (.iload_n 1, 1) := dk_27 (dk_at dksX7_hinders_0 0 rfl rfl)
theorem dX7_hinders_1 : decode cX7_hinders 1 = .ok (.aload_n 0, 1) := dk_42 (dk_at dksX7_hinders_0 1 rfl rfl)
theorem dX7_hinders_2 : decode cX7_hinders 2 = .ok (.getfield 7, 3) := dk_180 0 7 (dk_at dksX7_hinders_0 2 rfl rfl)
theorem dX7_hinders_5 : decode cX7_hinders 5 = .ok (.aload_n 0, 1) := dk_42 (dk_at dksX7_hinders_0 5 rfl rfl)
theorem dX7_hinders_6 : decode cX7_hinders 6 = .ok (.getfield 13, 3) := dk_180 0 13 (dk_at dksX7_hinders_0 6 rfl rfl)
theorem dX7_hinders_9 : decode cX7_hinders 9 = .ok (.iadd, 1) := dk_96 (dk_at dksX7_hinders_0 9 rfl rfl)
theorem dX7_hinders_10 : decode cX7_hinders 10 = .ok (.if_icmp .ge 17, 3) := dk_162 0 17 (dk_at dksX7_hinders_0 10 rfl rfl)
theorem dX7_hinders_13 : decode cX7_hinders 13 = .ok (.aload_n 0, 1) := dk_42 (dk_at dksX7_hinders_0 13 rfl rfl)
theorem dX7_hinders_14 : decode cX7_hinders 14 = .ok (.getfield 7, 3) := dk_180 0 7 (dk_at dksX7_hinders_0 14 rfl rfl)
theorem dX7_hinders_17 : decode cX7_hinders 17 = .ok (.iload_n 1, 1) := dk_27 (dk_at dksX7_hinders_0 17 rfl rfl)
theorem dX7_hinders_18 : decode cX7_hinders 18 = .ok (.iload_n 2, 1) := dk_28 (dk_at dksX7_hinders_0 18 rfl rfl)
theorem dX7_hinders_19 : decode cX7_hinders 19 = .ok (.iadd, 1) := dk_96 (dk_at dksX7_hinders_0 19 rfl rfl)
theorem dX7_hinders_20 : decode cX7_hinders 20 = .ok (.if_icmp .ge 7, 3) := dk_162 0 7 (dk_at dksX7_hinders_0 20 rfl rfl)
theorem dX7_hinders_23 : decode cX7_hinders 23 = .ok (.iconst 1, 1) := dk_4 (dk_at dksX7_hinders_0 23 rfl rfl)
theorem dX7_hinders_24 : decode cX7_hinders 24 = .ok (.goto 4, 3) := dk_167 0 4 (dk_at dksX7_hinders_1 0 rfl rfl)
theorem dX7_hinders_27 : decode cX7_hinders 27 = .ok (.iconst 0, 1) := dk_3 (dk_at dksX7_hinders_1 3 rfl rfl)
theorem dX7_hinders_28 : decode cX7_hinders 28 = .ok (.ireturn, 1) := dk_172 (dk_at dksX7_hinders_1 4 rfl rfl)
abbrev cX7_init : ByteArray := prog_3_method_1_code
def yX7_init : MethodName := ⟨RX7, "<init>", "(II)V"⟩
def dkwX7_init_0 : List UInt8 := [42, 183, 0, 1, 42, 27, 181, 0, 7, 42, 28, 181, 0, 13, 177]
abbrev dktX7_init_0 : List UInt8 := dkwX7_init_0 ++ []
theorem dksX7_init_0 : cX7_init.data.toList.drop 0 = dktX7_init_0 := by decide +kernel
theorem dX7_init_0 : decode cX7_init 0 = .ok (.aload_n 0, 1) := dk_42 (dk_at dksX7_init_0 0 rfl rfl)
theorem dX7_init_1 : decode cX7_init 1 = .ok (.invokespecial 1, 3) := dk_183 0 1 (dk_at dksX7_init_0 1 rfl rfl)
theorem dX7_init_4 : decode cX7_init 4 = .ok (.aload_n 0, 1) := dk_42 (dk_at dksX7_init_0 4 rfl rfl)
theorem dX7_init_5 : decode cX7_init 5 = .ok (.iload_n 1, 1) := dk_27 (dk_at dksX7_init_0 5 rfl rfl)
theorem dX7_init_6 : decode cX7_init 6 = .ok (.putfield 7, 3) := dk_181 0 7 (dk_at dksX7_init_0 6 rfl rfl)
theorem dX7_init_9 : decode cX7_init 9 = .ok (.aload_n 0, 1) := dk_42 (dk_at dksX7_init_0 9 rfl rfl)
theorem dX7_init_10 : decode cX7_init 10 = .ok (.iload_n 2, 1) := dk_28 (dk_at dksX7_init_0 10 rfl rfl)
theorem dX7_init_11 : decode cX7_init 11 = .ok (.putfield 13, 3) := dk_181 0 13 (dk_at dksX7_init_0 11 rfl rfl)
theorem dX7_init_14 : decode cX7_init 14 = .ok (.return_, 1) := dk_177 (dk_at dksX7_init_0 14 rfl rfl)
theorem q115 : (Jvm.Cond.initialized "SetupJobShop$Breakdown") ∈ lw_all := lw_g (lw_at lw_m1 27 rfl) rfl
theorem q206 : (Jvm.Cond.selects "SetupJobShop$Breakdown" ({ cls := "java/lang/Object", name := "getClass", desc := "()Ljava/lang/Class;" } : Jvm.MethodName) ({ cls := "java/lang/Object", name := "getClass", desc := "()Ljava/lang/Class;" } : Jvm.MethodName)) ∈ lw_all := lw_g (lw_at lw_m1 118 rfl) rfl
theorem q437 : (Jvm.Cond.instanceMethod ({ cls := "SetupJobShop$Breakdown", name := "hinders", desc := "(II)Z" } : Jvm.MethodName)) ∈ lw_all := lw_g (lw_at lw_m2 109 rfl) rfl
theorem q438 : (Jvm.Cond.selects "SetupJobShop$Breakdown" ({ cls := "SetupJobShop$Breakdown", name := "hinders", desc := "(II)Z" } : Jvm.MethodName) ({ cls := "SetupJobShop$Breakdown", name := "hinders", desc := "(II)Z" } : Jvm.MethodName)) ∈ lw_all := lw_g (lw_at lw_m2 110 rfl) rfl
theorem q439 : (Jvm.Cond.code ({ cls := "SetupJobShop$Breakdown", name := "hinders", desc := "(II)Z" } : Jvm.MethodName) prog_3_method_2_code (3 : Nat) (Option.some Jvm.ClassFile.FieldType.boolean)) ∈ lw_all := lw_g (lw_at lw_m2 111 rfl) rfl
theorem q878 : (Jvm.Cond.instantiable "SetupJobShop$Breakdown" (2 : Nat)) ∈ lw_all := lw_g (lw_at lw_m4 70 rfl) rfl
theorem q880 : (Jvm.Cond.instanceMethod ({ cls := "SetupJobShop$Breakdown", name := "<init>", desc := "(II)V" } : Jvm.MethodName)) ∈ lw_all := lw_g (lw_at lw_m4 72 rfl) rfl
theorem q881 : (Jvm.Cond.code ({ cls := "SetupJobShop$Breakdown", name := "<init>", desc := "(II)V" } : Jvm.MethodName) prog_3_method_1_code (3 : Nat) (Option.none : Option Jvm.ClassFile.FieldType)) ∈ lw_all := lw_g (lw_at lw_m4 73 rfl) rfl
theorem q882 : (Jvm.Cond.methodLink "SetupJobShop$Breakdown" (1 : Nat) ({ cls := "java/lang/Object", name := "<init>", desc := "()V" } : Jvm.MethodName)) ∈ lw_all := lw_g (lw_at lw_m4 74 rfl) rfl
theorem q883 : (Jvm.Cond.fieldLink "SetupJobShop$Breakdown" (7 : Nat) "SetupJobShop$Breakdown" "first" "I") ∈ lw_all := lw_g (lw_at lw_m4 75 rfl) rfl
theorem q885 : (Jvm.Cond.fieldLink "SetupJobShop$Breakdown" (13 : Nat) "SetupJobShop$Breakdown" "length" "I") ∈ lw_all := lw_g (lw_at lw_m4 77 rfl) rfl
theorem q887 : (Jvm.Cond.laysFinal "SetupJobShop$Breakdown" "SetupJobShop$Breakdown" "first" "I") ∈ lw_all := lw_g (lw_at lw_m4 79 rfl) rfl
theorem q888 : (Jvm.Cond.soleField "SetupJobShop$Breakdown" "first") ∈ lw_all := lw_g (lw_at lw_m4 80 rfl) rfl
theorem q889 : (Jvm.Cond.laysFinal "SetupJobShop$Breakdown" "SetupJobShop$Breakdown" "length" "I") ∈ lw_all := lw_g (lw_at lw_m4 81 rfl) rfl
theorem q890 : (Jvm.Cond.soleField "SetupJobShop$Breakdown" "length") ∈ lw_all := lw_g (lw_at lw_m4 82 rfl) rfl
theorem q891 : (Jvm.Cond.superclass "SetupJobShop$Breakdown" "java/lang/Object") ∈ lw_all := lw_g (lw_at lw_m4 83 rfl) rfl
theorem q2300 : (Jvm.Cond.castable "SetupJobShop$Breakdown" "java/lang/Object") ∈ lw_tbl := lw_at lw_m10 52 rfl
theorem in_X7 : ∀ w ∈ wsX70, w ∈ lw_all := lw_in wsX70 [887, 889] (by decide +kernel) (by decide +kernel)

/-! SetupJobShop$Failure -/
set_option maxRecDepth 100000
def RX8 : String := "SetupJobShop$Failure"
def TX8 : u_T := fun k => match k with
  | 0 => ("java/lang/Throwable", "cause", "Ljava/lang/Throwable;", false)
  | 1 => ("java/lang/Throwable", "stackTrace", "[Ljava/lang/StackTraceElement;", false)
  | 2 => ("java/lang/Throwable", "suppressedExceptions", "Ljava/util/List;", false)
  | 3 => ("java/lang/Throwable", "detailMessage", "Ljava/lang/String;", false)
  | 4 => ("java/lang/Throwable", "backtrace", "Ljava/lang/Object;", false)
  | 5 => ("java/lang/Throwable", "depth", "I", false)
  | _ => ("SetupJobShop$Failure", "code", "I", true)
def tyX8 : Nat → FieldType := fun k => match k with
  | 0 => .object "java/lang/Throwable"
  | 1 => .array (.object "java/lang/StackTraceElement")
  | 2 => .object "java/util/List"
  | 3 => .object "java/lang/String"
  | 4 => .object "java/lang/Object"
  | 5 => .int
  | _ => .int
abbrev wsX80 : List Cond := u_ws RX8 TX8 7
theorem nmX8 : ∀ a, a < 7 → ∀ b, b < 7 → a ≠ b → (TX8 a).2.1 ≠ (TX8 b).2.1 := by decide +kernel
theorem tyX8_ok : ∀ k, k < 7 → parseFieldDescriptor (TX8 k).2.2.1 = some (tyX8 k) := by decide +kernel
abbrev cX8_init : ByteArray := prog_7_method_1_code
def yX8_init : MethodName := ⟨RX8, "<init>", "(I)V"⟩
def dkwX8_init_0 : List UInt8 := [42, 183, 0, 1, 42, 27, 181, 0, 7, 177]
abbrev dktX8_init_0 : List UInt8 := dkwX8_init_0 ++ []
theorem dksX8_init_0 : cX8_init.data.toList.drop 0 = dktX8_init_0 := by decide +kernel
theorem dX8_init_0 : decode cX8_init 0 = .ok (.aload_n 0, 1) := dk_42 (dk_at dksX8_init_0 0 rfl rfl)
theorem dX8_init_1 : decode cX8_init 1 = .ok (.invokespecial 1, 3) := dk_183 0 1 (dk_at dksX8_init_0 1 rfl rfl)
theorem dX8_init_4 : decode cX8_init 4 = .ok (.aload_n 0, 1) := dk_42 (dk_at dksX8_init_0 4 rfl rfl)
theorem dX8_init_5 : decode cX8_init 5 = .ok (.iload_n 1, 1) := dk_27 (dk_at dksX8_init_0 5 rfl rfl)
theorem dX8_init_6 : decode cX8_init 6 = .ok (.putfield 7, 3) := dk_181 0 7 (dk_at dksX8_init_0 6 rfl rfl)
theorem dX8_init_9 : decode cX8_init 9 = .ok (.return_, 1) := dk_177 (dk_at dksX8_init_0 9 rfl rfl)
abbrev cX8_init_2 : ByteArray := prog_7_method_2_code
def yX8_init_2 : MethodName := ⟨RX8, "<init>", "(ILjava/lang/Throwable;)V"⟩
def dkwX8_init_2_0 : List UInt8 := [42, 1, 44, 183, 0, 13, 42, 27, 181, 0, 7, 177]
abbrev dktX8_init_2_0 : List UInt8 := dkwX8_init_2_0 ++ []
theorem dksX8_init_2_0 : cX8_init_2.data.toList.drop 0 = dktX8_init_2_0 := by decide +kernel
theorem dX8_init_2_0 : decode cX8_init_2 0 = .ok (.aload_n 0, 1) := dk_42 (dk_at dksX8_init_2_0 0 rfl rfl)
theorem dX8_init_2_1 : decode cX8_init_2 1 = .ok (.aconst_null, 1) := dk_1 (dk_at dksX8_init_2_0 1 rfl rfl)
theorem dX8_init_2_2 : decode cX8_init_2 2 = .ok (.aload_n 2, 1) := dk_44 (dk_at dksX8_init_2_0 2 rfl rfl)
theorem dX8_init_2_3 : decode cX8_init_2 3 = .ok (.invokespecial 13, 3) := dk_183 0 13 (dk_at dksX8_init_2_0 3 rfl rfl)
theorem dX8_init_2_6 : decode cX8_init_2 6 = .ok (.aload_n 0, 1) := dk_42 (dk_at dksX8_init_2_0 6 rfl rfl)
theorem dX8_init_2_7 : decode cX8_init_2 7 = .ok (.iload_n 1, 1) := dk_27 (dk_at dksX8_init_2_0 7 rfl rfl)
theorem dX8_init_2_8 : decode cX8_init_2 8 = .ok (.putfield 7, 3) := dk_181 0 7 (dk_at dksX8_init_2_0 8 rfl rfl)
theorem dX8_init_2_11 : decode cX8_init_2 11 = .ok (.return_, 1) := dk_177 (dk_at dksX8_init_2_0 11 rfl rfl)
abbrev cX8_code : ByteArray := prog_7_method_3_code
def yX8_code : MethodName := ⟨RX8, "code", "()I"⟩
theorem dX8_code_0 : decode cX8_code 0 = .ok (.aload_n 0, 1) := by decide +kernel
theorem dX8_code_1 : decode cX8_code 1 = .ok (.getfield 7, 3) := by decide +kernel
theorem dX8_code_4 : decode cX8_code 4 = .ok (.ireturn, 1) := by decide +kernel
theorem q120 : (Jvm.Cond.initialized "SetupJobShop$Failure") ∈ lw_all := lw_g (lw_at lw_m1 32 rfl) rfl
theorem q210 : (Jvm.Cond.selects "SetupJobShop$Failure" ({ cls := "java/lang/Object", name := "getClass", desc := "()Ljava/lang/Class;" } : Jvm.MethodName) ({ cls := "java/lang/Object", name := "getClass", desc := "()Ljava/lang/Class;" } : Jvm.MethodName)) ∈ lw_all := lw_g (lw_at lw_m1 122 rfl) rfl
theorem q719 : (Jvm.Cond.selects "SetupJobShop$Failure" ({ cls := "java/lang/Throwable", name := "fillInStackTrace", desc := "()Ljava/lang/Throwable;" } : Jvm.MethodName) ({ cls := "java/lang/Throwable", name := "fillInStackTrace", desc := "()Ljava/lang/Throwable;" } : Jvm.MethodName)) ∈ lw_all := lw_g (lw_at lw_m3 151 rfl) rfl
theorem q1081 : (Jvm.Cond.instantiable "SetupJobShop$Failure" (7 : Nat)) ∈ lw_all := lw_g (lw_at lw_m5 33 rfl) rfl
theorem q1082 : (Jvm.Cond.castable "SetupJobShop$Failure" "SetupJobShop$Failure") ∈ lw_tbl := lw_at lw_m5 34 rfl
theorem q1083 : (Jvm.Cond.selects "SetupJobShop$Failure" ({ cls := "java/lang/Throwable", name := "fillInStackTrace", desc := "(I)Ljava/lang/Throwable;" } : Jvm.MethodName) ({ cls := "java/lang/Throwable", name := "fillInStackTrace", desc := "(I)Ljava/lang/Throwable;" } : Jvm.MethodName)) ∈ lw_all := lw_g (lw_at lw_m5 35 rfl) rfl
theorem q1084 : (Jvm.Cond.lays "SetupJobShop$Failure" "java/lang/Throwable" "cause" "Ljava/lang/Throwable;") ∈ lw_all := lw_g (lw_at lw_m5 36 rfl) rfl
theorem q1085 : (Jvm.Cond.lays "SetupJobShop$Failure" "java/lang/Throwable" "stackTrace" "[Ljava/lang/StackTraceElement;") ∈ lw_all := lw_g (lw_at lw_m5 37 rfl) rfl
theorem q1086 : (Jvm.Cond.lays "SetupJobShop$Failure" "java/lang/Throwable" "suppressedExceptions" "Ljava/util/List;") ∈ lw_all := lw_g (lw_at lw_m5 38 rfl) rfl
theorem q1087 : (Jvm.Cond.lays "SetupJobShop$Failure" "java/lang/Throwable" "detailMessage" "Ljava/lang/String;") ∈ lw_all := lw_g (lw_at lw_m5 39 rfl) rfl
theorem q1088 : (Jvm.Cond.lays "SetupJobShop$Failure" "java/lang/Throwable" "backtrace" "Ljava/lang/Object;") ∈ lw_all := lw_g (lw_at lw_m5 40 rfl) rfl
theorem q1090 : (Jvm.Cond.instanceMethod ({ cls := "SetupJobShop$Failure", name := "<init>", desc := "(I)V" } : Jvm.MethodName)) ∈ lw_all := lw_g (lw_at lw_m5 42 rfl) rfl
theorem q1091 : (Jvm.Cond.code ({ cls := "SetupJobShop$Failure", name := "<init>", desc := "(I)V" } : Jvm.MethodName) prog_7_method_1_code (2 : Nat) (Option.none : Option Jvm.ClassFile.FieldType)) ∈ lw_all := lw_g (lw_at lw_m5 43 rfl) rfl
theorem q1092 : (Jvm.Cond.methodLink "SetupJobShop$Failure" (1 : Nat) ({ cls := "java/lang/Exception", name := "<init>", desc := "()V" } : Jvm.MethodName)) ∈ lw_all := lw_g (lw_at lw_m5 44 rfl) rfl
theorem q1093 : (Jvm.Cond.fieldLink "SetupJobShop$Failure" (7 : Nat) "SetupJobShop$Failure" "code" "I") ∈ lw_all := lw_g (lw_at lw_m5 45 rfl) rfl
theorem q1094 : (Jvm.Cond.laysFinal "SetupJobShop$Failure" "SetupJobShop$Failure" "code" "I") ∈ lw_all := lw_g (lw_at lw_m5 46 rfl) rfl
theorem q1095 : (Jvm.Cond.soleField "SetupJobShop$Failure" "code") ∈ lw_all := lw_g (lw_at lw_m5 47 rfl) rfl
theorem q1096 : (Jvm.Cond.lays "SetupJobShop$Failure" "java/lang/Throwable" "depth" "I") ∈ lw_all := lw_g (lw_at lw_m5 48 rfl) rfl
theorem q1097 : (Jvm.Cond.superclass "SetupJobShop$Failure" "java/lang/Exception") ∈ lw_all := lw_g (lw_at lw_m5 49 rfl) rfl
theorem q1099 : (Jvm.Cond.instanceMethod ({ cls := "SetupJobShop$Failure", name := "<init>", desc := "(ILjava/lang/Throwable;)V" } : Jvm.MethodName)) ∈ lw_all := lw_g (lw_at lw_m5 51 rfl) rfl
theorem q1100 : (Jvm.Cond.code ({ cls := "SetupJobShop$Failure", name := "<init>", desc := "(ILjava/lang/Throwable;)V" } : Jvm.MethodName) prog_7_method_2_code (3 : Nat) (Option.none : Option Jvm.ClassFile.FieldType)) ∈ lw_all := lw_g (lw_at lw_m5 52 rfl) rfl
theorem q1101 : (Jvm.Cond.methodLink "SetupJobShop$Failure" (13 : Nat) ({ cls := "java/lang/Exception", name := "<init>", desc := "(Ljava/lang/String;Ljava/lang/Throwable;)V" } : Jvm.MethodName)) ∈ lw_all := lw_g (lw_at lw_m5 53 rfl) rfl
theorem q1760 : (Jvm.Cond.selects "SetupJobShop$Failure" ({ cls := "java/lang/Throwable", name := "getCause", desc := "()Ljava/lang/Throwable;" } : Jvm.MethodName) ({ cls := "java/lang/Throwable", name := "getCause", desc := "()Ljava/lang/Throwable;" } : Jvm.MethodName)) ∈ lw_all := lw_g (lw_at lw_m7 232 rfl) rfl
theorem q1771 : (Jvm.Cond.instanceMethod ({ cls := "SetupJobShop$Failure", name := "code", desc := "()I" } : Jvm.MethodName)) ∈ lw_all := lw_g (lw_at lw_m8 3 rfl) rfl
theorem q1772 : (Jvm.Cond.selects "SetupJobShop$Failure" ({ cls := "SetupJobShop$Failure", name := "code", desc := "()I" } : Jvm.MethodName) ({ cls := "SetupJobShop$Failure", name := "code", desc := "()I" } : Jvm.MethodName)) ∈ lw_all := lw_g (lw_at lw_m8 4 rfl) rfl
theorem q1773 : (Jvm.Cond.sameMethod "SetupJobShop$Failure" "SetupJobShop$Failure" "code" "()I") ∈ lw_all := lw_g (lw_at lw_m8 5 rfl) rfl
theorem q1778 : (Jvm.Cond.code ({ cls := "SetupJobShop$Failure", name := "code", desc := "()I" } : Jvm.MethodName) prog_7_method_3_code (1 : Nat) (Option.some Jvm.ClassFile.FieldType.int)) ∈ lw_all := lw_g (lw_at lw_m8 10 rfl) rfl
theorem q2304 : (Jvm.Cond.castable "SetupJobShop$Failure" "java/lang/Object") ∈ lw_tbl := lw_at lw_m10 56 rfl
theorem in_X8 : ∀ w ∈ wsX80, w ∈ lw_all := lw_in wsX80 [1084, 1085, 1086, 1087, 1088, 1096, 1094] (by decide +kernel) (by decide +kernel)

/-! SetupJobShop$Cycle -/
set_option maxRecDepth 100000
def RX9 : String := "SetupJobShop$Cycle"
def TX9 : u_T := fun k => match k with
  | 0 => ("java/lang/Throwable", "cause", "Ljava/lang/Throwable;", false)
  | 1 => ("java/lang/Throwable", "stackTrace", "[Ljava/lang/StackTraceElement;", false)
  | 2 => ("java/lang/Throwable", "suppressedExceptions", "Ljava/util/List;", false)
  | 3 => ("java/lang/Throwable", "detailMessage", "Ljava/lang/String;", false)
  | 4 => ("java/lang/Throwable", "backtrace", "Ljava/lang/Object;", false)
  | 5 => ("SetupJobShop$Failure", "code", "I", true)
  | _ => ("java/lang/Throwable", "depth", "I", false)
def tyX9 : Nat → FieldType := fun k => match k with
  | 0 => .object "java/lang/Throwable"
  | 1 => .array (.object "java/lang/StackTraceElement")
  | 2 => .object "java/util/List"
  | 3 => .object "java/lang/String"
  | 4 => .object "java/lang/Object"
  | 5 => .int
  | _ => .int
abbrev wsX90 : List Cond := u_ws RX9 TX9 7
theorem nmX9 : ∀ a, a < 7 → ∀ b, b < 7 → a ≠ b → (TX9 a).2.1 ≠ (TX9 b).2.1 := by decide +kernel
theorem tyX9_ok : ∀ k, k < 7 → parseFieldDescriptor (TX9 k).2.2.1 = some (tyX9 k) := by decide +kernel
abbrev cX9_init : ByteArray := prog_5_method_1_code
def yX9_init : MethodName := ⟨RX9, "<init>", "(II)V"⟩
def dkwX9_init_1 : List UInt8 := [177]
abbrev dktX9_init_1 : List UInt8 := dkwX9_init_1 ++ []
def dkwX9_init_0 : List UInt8 := [42, 4, 187, 0, 3, 89, 16, 100, 27, 96, 187, 0, 3, 89, 28, 183, 0, 5, 183, 0, 9, 183, 0, 9]
abbrev dktX9_init_0 : List UInt8 := dkwX9_init_0 ++ dktX9_init_1
theorem dksX9_init_0 : cX9_init.data.toList.drop 0 = dktX9_init_0 := by decide +kernel
theorem dksX9_init_1 : cX9_init.data.toList.drop 24 = dktX9_init_1 := dk_seg dksX9_init_0 24 rfl rfl
theorem dX9_init_0 : decode cX9_init 0 = .ok (.aload_n 0, 1) := dk_42 (dk_at dksX9_init_0 0 rfl rfl)
theorem dX9_init_1 : decode cX9_init 1 = .ok (.iconst 1, 1) := dk_4 (dk_at dksX9_init_0 1 rfl rfl)
theorem dX9_init_2 : decode cX9_init 2 = .ok (.new 3, 3) := dk_187 0 3 (dk_at dksX9_init_0 2 rfl rfl)
theorem dX9_init_5 : decode cX9_init 5 = .ok (.dup, 1) := dk_89 (dk_at dksX9_init_0 5 rfl rfl)
theorem dX9_init_6 : decode cX9_init 6 = .ok (.bipush 100, 2) := dk_16 100 (dk_at dksX9_init_0 6 rfl rfl)
theorem dX9_init_8 : decode cX9_init 8 = .ok (.iload_n 1, 1) := dk_27 (dk_at dksX9_init_0 8 rfl rfl)
theorem dX9_init_9 : decode cX9_init 9 = .ok (.iadd, 1) := dk_96 (dk_at dksX9_init_0 9 rfl rfl)
theorem dX9_init_10 : decode cX9_init 10 = .ok (.new 3, 3) := dk_187 0 3 (dk_at dksX9_init_0 10 rfl rfl)
theorem dX9_init_13 : decode cX9_init 13 = .ok (.dup, 1) := dk_89 (dk_at dksX9_init_0 13 rfl rfl)
theorem dX9_init_14 : decode cX9_init 14 = .ok (.iload_n 2, 1) := dk_28 (dk_at dksX9_init_0 14 rfl rfl)
theorem dX9_init_15 : decode cX9_init 15 = .ok (.invokespecial 5, 3) := dk_183 0 5 (dk_at dksX9_init_0 15 rfl rfl)
theorem dX9_init_18 : decode cX9_init 18 = .ok (.invokespecial 9, 3) := dk_183 0 9 (dk_at dksX9_init_0 18 rfl rfl)
theorem dX9_init_21 : decode cX9_init 21 = .ok (.invokespecial 9, 3) := dk_183 0 9 (dk_at dksX9_init_0 21 rfl rfl)
theorem dX9_init_24 : decode cX9_init 24 = .ok (.return_, 1) := dk_177 (dk_at dksX9_init_1 0 rfl rfl)
theorem q121 : (Jvm.Cond.initialized "SetupJobShop$Cycle") ∈ lw_all := lw_g (lw_at lw_m1 33 rfl) rfl
theorem q208 : (Jvm.Cond.selects "SetupJobShop$Cycle" ({ cls := "java/lang/Object", name := "getClass", desc := "()Ljava/lang/Class;" } : Jvm.MethodName) ({ cls := "java/lang/Object", name := "getClass", desc := "()Ljava/lang/Class;" } : Jvm.MethodName)) ∈ lw_all := lw_g (lw_at lw_m1 120 rfl) rfl
theorem q718 : (Jvm.Cond.selects "SetupJobShop$Cycle" ({ cls := "java/lang/Throwable", name := "fillInStackTrace", desc := "()Ljava/lang/Throwable;" } : Jvm.MethodName) ({ cls := "java/lang/Throwable", name := "fillInStackTrace", desc := "()Ljava/lang/Throwable;" } : Jvm.MethodName)) ∈ lw_all := lw_g (lw_at lw_m3 150 rfl) rfl
theorem q1059 : (Jvm.Cond.instantiable "SetupJobShop$Cycle" (7 : Nat)) ∈ lw_all := lw_g (lw_at lw_m5 11 rfl) rfl
theorem q1060 : (Jvm.Cond.castable "SetupJobShop$Cycle" "SetupJobShop$Cycle") ∈ lw_tbl := lw_at lw_m5 12 rfl
theorem q1061 : (Jvm.Cond.selects "SetupJobShop$Cycle" ({ cls := "java/lang/Throwable", name := "fillInStackTrace", desc := "(I)Ljava/lang/Throwable;" } : Jvm.MethodName) ({ cls := "java/lang/Throwable", name := "fillInStackTrace", desc := "(I)Ljava/lang/Throwable;" } : Jvm.MethodName)) ∈ lw_all := lw_g (lw_at lw_m5 13 rfl) rfl
theorem q1062 : (Jvm.Cond.lays "SetupJobShop$Cycle" "java/lang/Throwable" "cause" "Ljava/lang/Throwable;") ∈ lw_all := lw_g (lw_at lw_m5 14 rfl) rfl
theorem q1063 : (Jvm.Cond.lays "SetupJobShop$Cycle" "java/lang/Throwable" "stackTrace" "[Ljava/lang/StackTraceElement;") ∈ lw_all := lw_g (lw_at lw_m5 15 rfl) rfl
theorem q1064 : (Jvm.Cond.lays "SetupJobShop$Cycle" "java/lang/Throwable" "suppressedExceptions" "Ljava/util/List;") ∈ lw_all := lw_g (lw_at lw_m5 16 rfl) rfl
theorem q1065 : (Jvm.Cond.lays "SetupJobShop$Cycle" "java/lang/Throwable" "detailMessage" "Ljava/lang/String;") ∈ lw_all := lw_g (lw_at lw_m5 17 rfl) rfl
theorem q1066 : (Jvm.Cond.lays "SetupJobShop$Cycle" "java/lang/Throwable" "backtrace" "Ljava/lang/Object;") ∈ lw_all := lw_g (lw_at lw_m5 18 rfl) rfl
theorem q1078 : (Jvm.Cond.instanceMethod ({ cls := "SetupJobShop$Cycle", name := "<init>", desc := "(II)V" } : Jvm.MethodName)) ∈ lw_all := lw_g (lw_at lw_m5 30 rfl) rfl
theorem q1079 : (Jvm.Cond.code ({ cls := "SetupJobShop$Cycle", name := "<init>", desc := "(II)V" } : Jvm.MethodName) prog_5_method_1_code (3 : Nat) (Option.none : Option Jvm.ClassFile.FieldType)) ∈ lw_all := lw_g (lw_at lw_m5 31 rfl) rfl
theorem q1080 : (Jvm.Cond.classLink "SetupJobShop$Cycle" (3 : Nat) "SetupJobShop$Failure") ∈ lw_all := lw_g (lw_at lw_m5 32 rfl) rfl
theorem q1089 : (Jvm.Cond.methodLink "SetupJobShop$Cycle" (5 : Nat) ({ cls := "SetupJobShop$Failure", name := "<init>", desc := "(I)V" } : Jvm.MethodName)) ∈ lw_all := lw_g (lw_at lw_m5 41 rfl) rfl
theorem q1098 : (Jvm.Cond.methodLink "SetupJobShop$Cycle" (9 : Nat) ({ cls := "SetupJobShop$Failure", name := "<init>", desc := "(ILjava/lang/Throwable;)V" } : Jvm.MethodName)) ∈ lw_all := lw_g (lw_at lw_m5 50 rfl) rfl
theorem q1107 : (Jvm.Cond.laysFinal "SetupJobShop$Cycle" "SetupJobShop$Failure" "code" "I") ∈ lw_all := lw_g (lw_at lw_m5 59 rfl) rfl
theorem q1108 : (Jvm.Cond.lays "SetupJobShop$Cycle" "java/lang/Throwable" "depth" "I") ∈ lw_all := lw_g (lw_at lw_m5 60 rfl) rfl
theorem q1109 : (Jvm.Cond.superclass "SetupJobShop$Cycle" "SetupJobShop$Failure") ∈ lw_all := lw_g (lw_at lw_m5 61 rfl) rfl
theorem q1759 : (Jvm.Cond.selects "SetupJobShop$Cycle" ({ cls := "java/lang/Throwable", name := "getCause", desc := "()Ljava/lang/Throwable;" } : Jvm.MethodName) ({ cls := "java/lang/Throwable", name := "getCause", desc := "()Ljava/lang/Throwable;" } : Jvm.MethodName)) ∈ lw_all := lw_g (lw_at lw_m7 231 rfl) rfl
theorem q1775 : (Jvm.Cond.selects "SetupJobShop$Cycle" ({ cls := "SetupJobShop$Failure", name := "code", desc := "()I" } : Jvm.MethodName) ({ cls := "SetupJobShop$Failure", name := "code", desc := "()I" } : Jvm.MethodName)) ∈ lw_all := lw_g (lw_at lw_m8 7 rfl) rfl
theorem q2285 : (Jvm.Cond.castable "SetupJobShop$Cycle" "SetupJobShop$Failure") ∈ lw_tbl := lw_at lw_m10 37 rfl
theorem q2303 : (Jvm.Cond.castable "SetupJobShop$Cycle" "java/lang/Object") ∈ lw_tbl := lw_at lw_m10 55 rfl
theorem in_X9 : ∀ w ∈ wsX90, w ∈ lw_all := lw_in wsX90 [1062, 1063, 1064, 1065, 1066, 1107, 1108] (by decide +kernel) (by decide +kernel)

/-! SetupJobShop$Dispatcher -/
set_option maxRecDepth 100000
def RX10 : String := "SetupJobShop$Dispatcher"
def TX10 : u_T := fun k => match k with
  | 0 => ("SetupJobShop$Dispatcher", "shop", "LSetupJobShop$Shop;", true)
  | 1 => ("SetupJobShop$Dispatcher", "rule", "I", true)
  | 2 => ("SetupJobShop$Dispatcher", "earliest", "I", true)
  | 3 => ("SetupJobShop$Dispatcher", "starts", "[I", true)
  | _ => ("SetupJobShop$Dispatcher", "next", "[I", true)
def tyX10 : Nat → FieldType := fun k => match k with
  | 0 => .object "SetupJobShop$Shop"
  | 1 => .int
  | 2 => .int
  | 3 => .array .int
  | _ => .array .int
abbrev wsX100 : List Cond := u_ws RX10 TX10 5
theorem nmX10 : ∀ a, a < 5 → ∀ b, b < 5 → a ≠ b → (TX10 a).2.1 ≠ (TX10 b).2.1 := by decide +kernel
theorem tyX10_ok : ∀ k, k < 5 → parseFieldDescriptor (TX10 k).2.2.1 = some (tyX10 k) := by decide +kernel
abbrev cX10_init : ByteArray := prog_6_method_1_code
def yX10_init : MethodName := ⟨RX10, "<init>", "(LSetupJobShop$Shop;II)V"⟩
def dkwX10_init_1 : List UInt8 := [42, 28, 181, 0, 22, 42, 29, 181, 0, 26, 177]
abbrev dktX10_init_1 : List UInt8 := dkwX10_init_1 ++ []
def dkwX10_init_0 : List UInt8 := [42, 183, 0, 3, 42, 16, 20, 188, 10, 181, 0, 9, 42, 8, 188, 10, 181, 0, 15, 42, 43, 181, 0, 18]
abbrev dktX10_init_0 : List UInt8 := dkwX10_init_0 ++ dktX10_init_1
theorem dksX10_init_0 : cX10_init.data.toList.drop 0 = dktX10_init_0 := by decide +kernel
theorem dksX10_init_1 : cX10_init.data.toList.drop 24 = dktX10_init_1 := dk_seg dksX10_init_0 24 rfl rfl
theorem dX10_init_0 : decode cX10_init 0 = .ok (.aload_n 0, 1) := dk_42 (dk_at dksX10_init_0 0 rfl rfl)
theorem dX10_init_1 : decode cX10_init 1 = .ok (.invokespecial 3, 3) := dk_183 0 3 (dk_at dksX10_init_0 1 rfl rfl)
theorem dX10_init_4 : decode cX10_init 4 = .ok (.aload_n 0, 1) := dk_42 (dk_at dksX10_init_0 4 rfl rfl)
theorem dX10_init_5 : decode cX10_init 5 = .ok (.bipush 20, 2) := dk_16 20 (dk_at dksX10_init_0 5 rfl rfl)
theorem dX10_init_7 : decode cX10_init 7 = .ok (.newarray .int, 2) := dk_188_10 (dk_at dksX10_init_0 7 rfl rfl)
theorem dX10_init_9 : decode cX10_init 9 = .ok (.putfield 9, 3) := dk_181 0 9 (dk_at dksX10_init_0 9 rfl rfl)
theorem dX10_init_12 : decode cX10_init 12 = .ok (.aload_n 0, 1) := dk_42 (dk_at dksX10_init_0 12 rfl rfl)
theorem dX10_init_13 : decode cX10_init 13 = .ok (.iconst 5, 1) := dk_8 (dk_at dksX10_init_0 13 rfl rfl)
theorem dX10_init_14 : decode cX10_init 14 = .ok (.newarray .int, 2) := dk_188_10 (dk_at dksX10_init_0 14 rfl rfl)
theorem dX10_init_16 : decode cX10_init 16 = .ok (.putfield 15, 3) := dk_181 0 15 (dk_at dksX10_init_0 16 rfl rfl)
theorem dX10_init_19 : decode cX10_init 19 = .ok (.aload_n 0, 1) := dk_42 (dk_at dksX10_init_0 19 rfl rfl)
theorem dX10_init_20 : decode cX10_init 20 = .ok (.aload_n 1, 1) := dk_43 (dk_at dksX10_init_0 20 rfl rfl)
theorem dX10_init_21 : decode cX10_init 21 = .ok (.putfield 18, 3) := dk_181 0 18 (dk_at dksX10_init_0 21 rfl rfl)
theorem dX10_init_24 : decode cX10_init 24 = .ok (.aload_n 0, 1) := dk_42 (dk_at dksX10_init_1 0 rfl rfl)
theorem dX10_init_25 : decode cX10_init 25 = .ok (.iload_n 2, 1) := dk_28 (dk_at dksX10_init_1 1 rfl rfl)
theorem dX10_init_26 : decode cX10_init 26 = .ok (.putfield 22, 3) := dk_181 0 22 (dk_at dksX10_init_1 2 rfl rfl)
theorem dX10_init_29 : decode cX10_init 29 = .ok (.aload_n 0, 1) := dk_42 (dk_at dksX10_init_1 5 rfl rfl)
theorem dX10_init_30 : decode cX10_init 30 = .ok (.iload_n 3, 1) := dk_29 (dk_at dksX10_init_1 6 rfl rfl)
theorem dX10_init_31 : decode cX10_init 31 = .ok (.putfield 26, 3) := dk_181 0 26 (dk_at dksX10_init_1 7 rfl rfl)
theorem dX10_init_34 : decode cX10_init 34 = .ok (.return_, 1) := dk_177 (dk_at dksX10_init_1 10 rfl rfl)
abbrev cX10_run : ByteArray := prog_6_method_7_code
def yX10_run : MethodName := ⟨RX10, "run", "()V"⟩
def dkwX10_run_3 : List UInt8 := [182, 0, 119, 76, 167, 255, 196, 177]
abbrev dktX10_run_3 : List UInt8 := dkwX10_run_3 ++ []
def dkwX10_run_2 : List UInt8 := [192, 0, 41, 43, 180, 0, 123, 182, 0, 126, 42, 180, 0, 15, 43, 180, 0, 57, 92, 46, 4, 96, 79, 42]
abbrev dktX10_run_2 : List UInt8 := dkwX10_run_2 ++ dktX10_run_3
def dkwX10_run_1 : List UInt8 := [180, 0, 123, 42, 43, 182, 0, 109, 79, 42, 180, 0, 18, 180, 0, 29, 43, 180, 0, 86, 182, 0, 35]
abbrev dktX10_run_1 : List UInt8 := dkwX10_run_1 ++ dktX10_run_2
def dkwX10_run_0 : List UInt8 := [42, 42, 180, 0, 26, 182, 0, 115, 42, 182, 0, 119, 76, 43, 198, 0, 62, 42, 180, 0, 9, 43]
abbrev dktX10_run_0 : List UInt8 := dkwX10_run_0 ++ dktX10_run_1
theorem dksX10_run_0 : cX10_run.data.toList.drop 0 = dktX10_run_0 := by decide +kernel
theorem dksX10_run_1 : cX10_run.data.toList.drop 22 = dktX10_run_1 := dk_seg dksX10_run_0 22 rfl rfl
theorem dksX10_run_2 : cX10_run.data.toList.drop 45 = dktX10_run_2 := dk_seg dksX10_run_1 23 rfl rfl
theorem dksX10_run_3 : cX10_run.data.toList.drop 69 = dktX10_run_3 := dk_seg dksX10_run_2 24 rfl rfl
theorem dX10_run_0 : decode cX10_run 0 = .ok (.aload_n 0, 1) := dk_42 (dk_at dksX10_run_0 0 rfl rfl)
theorem dX10_run_1 : decode cX10_run 1 = .ok (.aload_n 0, 1) := dk_42 (dk_at dksX10_run_0 1 rfl rfl)
theorem dX10_run_2 : decode cX10_run 2 = .ok (.getfield 26, 3) := dk_180 0 26 (dk_at dksX10_run_0 2 rfl rfl)
theorem dX10_run_5 : decode cX10_run 5 = .ok (.invokevirtual 115, 3) := dk_182 0 115 (dk_at dksX10_run_0 5 rfl rfl)
theorem dX10_run_8 : decode cX10_run 8 = .ok (.aload_n 0, 1) := dk_42 (dk_at dksX10_run_0 8 rfl rfl)
theorem dX10_run_9 : decode cX10_run 9 = .ok (.invokevirtual 119, 3) := dk_182 0 119 (dk_at dksX10_run_0 9 rfl rfl)
theorem dX10_run_12 : decode cX10_run 12 = .ok (.astore_n 1, 1) := dk_76 (dk_at dksX10_run_0 12 rfl rfl)
theorem dX10_run_13 : decode cX10_run 13 = .ok (.aload_n 1, 1) := dk_43 (dk_at dksX10_run_0 13 rfl rfl)
theorem dX10_run_14 : decode cX10_run 14 = .ok (.ifnull 62, 3) := dk_198 0 62 (dk_at dksX10_run_0 14 rfl rfl)
theorem dX10_run_17 : decode cX10_run 17 = .ok (.aload_n 0, 1) := dk_42 (dk_at dksX10_run_0 17 rfl rfl)
theorem dX10_run_18 : decode cX10_run 18 = .ok (.getfield 9, 3) := dk_180 0 9 (dk_at dksX10_run_0 18 rfl rfl)
theorem dX10_run_21 : decode cX10_run 21 = .ok (.aload_n 1, 1) := dk_43 (dk_at dksX10_run_0 21 rfl rfl)
theorem dX10_run_22 : decode cX10_run 22 = .ok (.getfield 123, 3) := dk_180 0 123 (dk_at dksX10_run_1 0 rfl rfl)
theorem dX10_run_25 : decode cX10_run 25 = .ok (.aload_n 0, 1) := dk_42 (dk_at dksX10_run_1 3 rfl rfl)
theorem dX10_run_26 : decode cX10_run 26 = .ok (.aload_n 1, 1) := dk_43 (dk_at dksX10_run_1 4 rfl rfl)
theorem dX10_run_27 : decode cX10_run 27 = .ok (.invokevirtual 109, 3) := dk_182 0 109 (dk_at dksX10_run_1 5 rfl rfl)
theorem dX10_run_30 : decode cX10_run 30 = .ok (.iastore, 1) := dk_79 (dk_at dksX10_run_1 8 rfl rfl)
theorem dX10_run_31 : decode cX10_run 31 = .ok (.aload_n 0, 1) := dk_42 (dk_at dksX10_run_1 9 rfl rfl)
theorem dX10_run_32 : decode cX10_run 32 = .ok (.getfield 18, 3) := dk_180 0 18 (dk_at dksX10_run_1 10 rfl rfl)
theorem dX10_run_35 : decode cX10_run 35 = .ok (.getfield 29, 3) := dk_180 0 29 (dk_at dksX10_run_1 13 rfl rfl)
theorem dX10_run_38 : decode cX10_run 38 = .ok (.aload_n 1, 1) := dk_43 (dk_at dksX10_run_1 16 rfl rfl)
theorem dX10_run_39 : decode cX10_run 39 = .ok (.getfield 86, 3) := dk_180 0 86 (dk_at dksX10_run_1 17 rfl rfl)
theorem dX10_run_42 : decode cX10_run 42 = .ok (.invokevirtual 35, 3) := dk_182 0 35 (dk_at dksX10_run_1 20 rfl rfl)
theorem dX10_run_45 : decode cX10_run 45 = .ok (.checkcast 41, 3) := dk_192 0 41 (dk_at dksX10_run_2 0 rfl rfl)
theorem dX10_run_48 : decode cX10_run 48 = .ok (.aload_n 1, 1) := dk_43 (dk_at dksX10_run_2 3 rfl rfl)
theorem dX10_run_49 : decode cX10_run 49 = .ok (.getfield 123, 3) := dk_180 0 123 (dk_at dksX10_run_2 4 rfl rfl)
theorem dX10_run_52 : decode cX10_run 52 = .ok (.invokevirtual 126, 3) := dk_182 0 126 (dk_at dksX10_run_2 7 rfl rfl)
theorem dX10_run_55 : decode cX10_run 55 = .ok (.aload_n 0, 1) := dk_42 (dk_at dksX10_run_2 10 rfl rfl)
theorem dX10_run_56 : decode cX10_run 56 = .ok (.getfield 15, 3) := dk_180 0 15 (dk_at dksX10_run_2 11 rfl rfl)
theorem dX10_run_59 : decode cX10_run 59 = .ok (.aload_n 1, 1) := dk_43 (dk_at dksX10_run_2 14 rfl rfl)
theorem dX10_run_60 : decode cX10_run 60 = .ok (.getfield 57, 3) := dk_180 0 57 (dk_at dksX10_run_2 15 rfl rfl)
theorem dX10_run_63 : decode cX10_run 63 = .ok (.dup2, 1) := dk_92 (dk_at dksX10_run_2 18 rfl rfl)
theorem dX10_run_64 : decode cX10_run 64 = .ok (.iaload, 1) := dk_46 (dk_at dksX10_run_2 19 rfl rfl)
theorem dX10_run_65 : decode cX10_run 65 = .ok (.iconst 1, 1) := dk_4 (dk_at dksX10_run_2 20 rfl rfl)
theorem dX10_run_66 : decode cX10_run 66 = .ok (.iadd, 1) := dk_96 (dk_at dksX10_run_2 21 rfl rfl)
theorem dX10_run_67 : decode cX10_run 67 = .ok (.iastore, 1) := dk_79 (dk_at dksX10_run_2 22 rfl rfl)
theorem dX10_run_68 : decode cX10_run 68 = .ok (.aload_n 0, 1) := dk_42 (dk_at dksX10_run_2 23 rfl rfl)
theorem dX10_run_69 : decode cX10_run 69 = .ok (.invokevirtual 119, 3) := dk_182 0 119 (dk_at dksX10_run_3 0 rfl rfl)
theorem dX10_run_72 : decode cX10_run 72 = .ok (.astore_n 1, 1) := dk_76 (dk_at dksX10_run_3 3 rfl rfl)
theorem dX10_run_73 : decode cX10_run 73 = .ok (.goto (-60), 3) := dk_167 255 196 (dk_at dksX10_run_3 4 rfl rfl)
theorem dX10_run_76 : decode cX10_run 76 = .ok (.return_, 1) := dk_177 (dk_at dksX10_run_3 7 rfl rfl)
abbrev cX10_keep : ByteArray := prog_6_method_2_code
def yX10_keep : MethodName := ⟨RX10, "keep", "(I)V"⟩
def dkwX10_keep_5 : List UInt8 := [21, 4, 181, 0, 43, 132, 2, 1, 167, 255, 131, 177]
abbrev dktX10_keep_5 : List UInt8 := dkwX10_keep_5 ++ []
def dkwX10_keep_4 : List UInt8 := [21, 4, 46, 182, 0, 35, 192, 0, 55, 180, 0, 57, 92, 46, 4, 96, 79, 132, 4, 1, 167, 255, 166, 45]
abbrev dktX10_keep_4 : List UInt8 := dkwX10_keep_4 ++ dktX10_keep_5
def dkwX10_keep_3 : List UInt8 := [45, 180, 0, 49, 21, 4, 46, 46, 79, 42, 180, 0, 15, 42, 180, 0, 18, 180, 0, 52, 45, 180, 0, 49]
abbrev dktX10_keep_3 : List UInt8 := dkwX10_keep_3 ++ dktX10_keep_4
def dkwX10_keep_2 : List UInt8 := [46, 46, 27, 162, 0, 68, 42, 180, 0, 9, 45, 180, 0, 49, 21, 4, 46, 42, 180, 0, 18, 180, 0, 46]
abbrev dktX10_keep_2 : List UInt8 := dkwX10_keep_2 ++ dktX10_keep_3
def dkwX10_keep_1 : List UInt8 := [54, 4, 21, 4, 45, 180, 0, 43, 162, 0, 87, 42, 180, 0, 18, 180, 0, 46, 45, 180, 0, 49, 21, 4]
abbrev dktX10_keep_1 : List UInt8 := dkwX10_keep_1 ++ dktX10_keep_2
def dkwX10_keep_0 : List UInt8 := [3, 61, 28, 7, 162, 0, 126, 42, 180, 0, 18, 180, 0, 29, 28, 182, 0, 35, 192, 0, 41, 78, 3]
abbrev dktX10_keep_0 : List UInt8 := dkwX10_keep_0 ++ dktX10_keep_1
theorem dksX10_keep_0 : cX10_keep.data.toList.drop 0 = dktX10_keep_0 := by decide +kernel
theorem dksX10_keep_1 : cX10_keep.data.toList.drop 23 = dktX10_keep_1 := dk_seg dksX10_keep_0 23 rfl rfl
theorem dksX10_keep_2 : cX10_keep.data.toList.drop 47 = dktX10_keep_2 := dk_seg dksX10_keep_1 24 rfl rfl
theorem dksX10_keep_3 : cX10_keep.data.toList.drop 71 = dktX10_keep_3 := dk_seg dksX10_keep_2 24 rfl rfl
theorem dksX10_keep_4 : cX10_keep.data.toList.drop 95 = dktX10_keep_4 := dk_seg dksX10_keep_3 24 rfl rfl
theorem dksX10_keep_5 : cX10_keep.data.toList.drop 119 = dktX10_keep_5 := dk_seg dksX10_keep_4 24 rfl rfl
theorem dX10_keep_0 : decode cX10_keep 0 = .ok (.iconst 0, 1) := dk_3 (dk_at dksX10_keep_0 0 rfl rfl)
theorem dX10_keep_1 : decode cX10_keep 1 = .ok (.istore_n 2, 1) := dk_61 (dk_at dksX10_keep_0 1 rfl rfl)
theorem dX10_keep_2 : decode cX10_keep 2 = .ok (.iload_n 2, 1) := dk_28 (dk_at dksX10_keep_0 2 rfl rfl)
theorem dX10_keep_3 : decode cX10_keep 3 = .ok (.iconst 4, 1) := dk_7 (dk_at dksX10_keep_0 3 rfl rfl)
theorem dX10_keep_4 : decode cX10_keep 4 = .ok (.if_icmp .ge 126, 3) := dk_162 0 126 (dk_at dksX10_keep_0 4 rfl rfl)
theorem dX10_keep_7 : decode cX10_keep 7 = .ok (.aload_n 0, 1) := dk_42 (dk_at dksX10_keep_0 7 rfl rfl)
theorem dX10_keep_8 : decode cX10_keep 8 = .ok (.getfield 18, 3) := dk_180 0 18 (dk_at dksX10_keep_0 8 rfl rfl)
theorem dX10_keep_11 : decode cX10_keep 11 = .ok (.getfield 29, 3) := dk_180 0 29 (dk_at dksX10_keep_0 11 rfl rfl)
theorem dX10_keep_14 : decode cX10_keep 14 = .ok (.iload_n 2, 1) := dk_28 (dk_at dksX10_keep_0 14 rfl rfl)
theorem dX10_keep_15 : decode cX10_keep 15 = .ok (.invokevirtual 35, 3) := dk_182 0 35 (dk_at dksX10_keep_0 15 rfl rfl)
theorem dX10_keep_18 : decode cX10_keep 18 = .ok (.checkcast 41, 3) := dk_192 0 41 (dk_at dksX10_keep_0 18 rfl rfl)
theorem dX10_keep_21 : decode cX10_keep 21 = .ok (.astore_n 3, 1) := dk_78 (dk_at dksX10_keep_0 21 rfl rfl)
theorem dX10_keep_22 : decode cX10_keep 22 = .ok (.iconst 0, 1) := dk_3 (dk_at dksX10_keep_0 22 rfl rfl)
theorem dX10_keep_23 : decode cX10_keep 23 = .ok (.istore 4, 2) := dk_54 4 (dk_at dksX10_keep_1 0 rfl rfl)
theorem dX10_keep_25 : decode cX10_keep 25 = .ok (.iload 4, 2) := dk_21 4 (dk_at dksX10_keep_1 2 rfl rfl)
theorem dX10_keep_27 : decode cX10_keep 27 = .ok (.aload_n 3, 1) := dk_45 (dk_at dksX10_keep_1 4 rfl rfl)
theorem dX10_keep_28 : decode cX10_keep 28 = .ok (.getfield 43, 3) := dk_180 0 43 (dk_at dksX10_keep_1 5 rfl rfl)
theorem dX10_keep_31 : decode cX10_keep 31 = .ok (.if_icmp .ge 87, 3) := dk_162 0 87 (dk_at dksX10_keep_1 8 rfl rfl)
theorem dX10_keep_34 : decode cX10_keep 34 = .ok (.aload_n 0, 1) := dk_42 (dk_at dksX10_keep_1 11 rfl rfl)
theorem dX10_keep_35 : decode cX10_keep 35 = .ok (.getfield 18, 3) := dk_180 0 18 (dk_at dksX10_keep_1 12 rfl rfl)
theorem dX10_keep_38 : decode cX10_keep 38 = .ok (.getfield 46, 3) := dk_180 0 46 (dk_at dksX10_keep_1 15 rfl rfl)
theorem dX10_keep_41 : decode cX10_keep 41 = .ok (.aload_n 3, 1) := dk_45 (dk_at dksX10_keep_1 18 rfl rfl)
theorem dX10_keep_42 : decode cX10_keep 42 = .ok (.getfield 49, 3) := dk_180 0 49 (dk_at dksX10_keep_1 19 rfl rfl)
theorem dX10_keep_45 : decode cX10_keep 45 = .ok (.iload 4, 2) := dk_21 4 (dk_at dksX10_keep_1 22 rfl rfl)
theorem dX10_keep_47 : decode cX10_keep 47 = .ok (.iaload, 1) := dk_46 (dk_at dksX10_keep_2 0 rfl rfl)
theorem dX10_keep_48 : decode cX10_keep 48 = .ok (.iaload, 1) := dk_46 (dk_at dksX10_keep_2 1 rfl rfl)
theorem dX10_keep_49 : decode cX10_keep 49 = .ok (.iload_n 1, 1) := dk_27 (dk_at dksX10_keep_2 2 rfl rfl)
theorem dX10_keep_50 : decode cX10_keep 50 = .ok (.if_icmp .ge 68, 3) := dk_162 0 68 (dk_at dksX10_keep_2 3 rfl rfl)
theorem dX10_keep_53 : decode cX10_keep 53 = .ok (.aload_n 0, 1) := dk_42 (dk_at dksX10_keep_2 6 rfl rfl)
theorem dX10_keep_54 : decode cX10_keep 54 = .ok (.getfield 9, 3) := dk_180 0 9 (dk_at dksX10_keep_2 7 rfl rfl)
theorem dX10_keep_57 : decode cX10_keep 57 = .ok (.aload_n 3, 1) := dk_45 (dk_at dksX10_keep_2 10 rfl rfl)
theorem dX10_keep_58 : decode cX10_keep 58 = .ok (.getfield 49, 3) := dk_180 0 49 (dk_at dksX10_keep_2 11 rfl rfl)
theorem dX10_keep_61 : decode cX10_keep 61 = .ok (.iload 4, 2) := dk_21 4 (dk_at dksX10_keep_2 14 rfl rfl)
theorem dX10_keep_63 : decode cX10_keep 63 = .ok (.iaload, 1) := dk_46 (dk_at dksX10_keep_2 16 rfl rfl)
theorem dX10_keep_64 : decode cX10_keep 64 = .ok (.aload_n 0, 1) := dk_42 (dk_at dksX10_keep_2 17 rfl rfl)
theorem dX10_keep_65 : decode cX10_keep 65 = .ok (.getfield 18, 3) := dk_180 0 18 (dk_at dksX10_keep_2 18 rfl rfl)
theorem dX10_keep_68 : decode cX10_keep 68 = .ok (.getfield 46, 3) := dk_180 0 46 (dk_at dksX10_keep_2 21 rfl rfl)
theorem dX10_keep_71 : decode cX10_keep 71 = .ok (.aload_n 3, 1) := dk_45 (dk_at dksX10_keep_3 0 rfl rfl)
theorem dX10_keep_72 : decode cX10_keep 72 = .ok (.getfield 49, 3) := dk_180 0 49 (dk_at dksX10_keep_3 1 rfl rfl)
theorem dX10_keep_75 : decode cX10_keep 75 = .ok (.iload 4, 2) := dk_21 4 (dk_at dksX10_keep_3 4 rfl rfl)
theorem dX10_keep_77 : decode cX10_keep 77 = .ok (.iaload, 1) := dk_46 (dk_at dksX10_keep_3 6 rfl rfl)
theorem dX10_keep_78 : decode cX10_keep 78 = .ok (.iaload, 1) := dk_46 (dk_at dksX10_keep_3 7 rfl rfl)
theorem dX10_keep_79 : decode cX10_keep 79 = .ok (.iastore, 1) := dk_79 (dk_at dksX10_keep_3 8 rfl rfl)
theorem dX10_keep_80 : decode cX10_keep 80 = .ok (.aload_n 0, 1) := dk_42 (dk_at dksX10_keep_3 9 rfl rfl)
theorem dX10_keep_81 : decode cX10_keep 81 = .ok (.getfield 15, 3) := dk_180 0 15 (dk_at dksX10_keep_3 10 rfl rfl)
theorem dX10_keep_84 : decode cX10_keep 84 = .ok (.aload_n 0, 1) := dk_42 (dk_at dksX10_keep_3 13 rfl rfl)
theorem dX10_keep_85 : decode cX10_keep 85 = .ok (.getfield 18, 3) := dk_180 0 18 (dk_at dksX10_keep_3 14 rfl rfl)
theorem dX10_keep_88 : decode cX10_keep 88 = .ok (.getfield 52, 3) := dk_180 0 52 (dk_at dksX10_keep_3 17 rfl rfl)
theorem dX10_keep_91 : decode cX10_keep 91 = .ok (.aload_n 3, 1) := dk_45 (dk_at dksX10_keep_3 20 rfl rfl)
theorem dX10_keep_92 : decode cX10_keep 92 = .ok (.getfield 49, 3) := dk_180 0 49 (dk_at dksX10_keep_3 21 rfl rfl)
theorem dX10_keep_95 : decode cX10_keep 95 = .ok (.iload 4, 2) := dk_21 4 (dk_at dksX10_keep_4 0 rfl rfl)
theorem dX10_keep_97 : decode cX10_keep 97 = .ok (.iaload, 1) := dk_46 (dk_at dksX10_keep_4 2 rfl rfl)
theorem dX10_keep_98 : decode cX10_keep 98 = .ok (.invokevirtual 35, 3) := dk_182 0 35 (dk_at dksX10_keep_4 3 rfl rfl)
theorem dX10_keep_101 : decode cX10_keep 101 = .ok (.checkcast 55, 3) := dk_192 0 55 (dk_at dksX10_keep_4 6 rfl rfl)
theorem dX10_keep_104 : decode cX10_keep 104 = .ok (.getfield 57, 3) := dk_180 0 57 (dk_at dksX10_keep_4 9 rfl rfl)
theorem dX10_keep_107 : decode cX10_keep 107 = .ok (.dup2, 1) := dk_92 (dk_at dksX10_keep_4 12 rfl rfl)
theorem dX10_keep_108 : decode cX10_keep 108 = .ok (.iaload, 1) := dk_46 (dk_at dksX10_keep_4 13 rfl rfl)
theorem dX10_keep_109 : decode cX10_keep 109 = .ok (.iconst 1, 1) := dk_4 (dk_at dksX10_keep_4 14 rfl rfl)
theorem dX10_keep_110 : decode cX10_keep 110 = .ok (.iadd, 1) := dk_96 (dk_at dksX10_keep_4 15 rfl rfl)
theorem dX10_keep_111 : decode cX10_keep 111 = .ok (.iastore, 1) := dk_79 (dk_at dksX10_keep_4 16 rfl rfl)
theorem dX10_keep_112 : decode cX10_keep 112 = .ok (.iinc 4 1, 3) := dk_132 4 1 (dk_at dksX10_keep_4 17 rfl rfl)
theorem dX10_keep_115 : decode cX10_keep 115 = .ok (.goto (-90), 3) := dk_167 255 166 (dk_at dksX10_keep_4 20 rfl rfl)
theorem dX10_keep_118 : decode cX10_keep 118 = .ok (.aload_n 3, 1) := dk_45 (dk_at dksX10_keep_4 23 rfl rfl)
theorem dX10_keep_119 : decode cX10_keep 119 = .ok (.iload 4, 2) := dk_21 4 (dk_at dksX10_keep_5 0 rfl rfl)
theorem dX10_keep_121 : decode cX10_keep 121 = .ok (.putfield 43, 3) := dk_181 0 43 (dk_at dksX10_keep_5 2 rfl rfl)
theorem dX10_keep_124 : decode cX10_keep 124 = .ok (.iinc 2 1, 3) := dk_132 2 1 (dk_at dksX10_keep_5 5 rfl rfl)
theorem dX10_keep_127 : decode cX10_keep 127 = .ok (.goto (-125), 3) := dk_167 255 131 (dk_at dksX10_keep_5 8 rfl rfl)
theorem dX10_keep_130 : decode cX10_keep 130 = .ok (.return_, 1) := dk_177 (dk_at dksX10_keep_5 11 rfl rfl)
abbrev cX10_choose : ByteArray := prog_6_method_6_code
def yX10_choose : MethodName := ⟨RX10, "choose", "()LSetupJobShop$Operation;"⟩
def dkwX10_choose_5 : List UInt8 := [21, 6, 61, 132, 3, 1, 167, 255, 140, 43, 176]
abbrev dktX10_choose_5 : List UInt8 := dkwX10_choose_5 ++ []
def dkwX10_choose_4 : List UInt8 := [160, 0, 20, 42, 25, 5, 182, 0, 112, 42, 43, 182, 0, 112, 161, 0, 6, 167, 0, 9, 25, 5, 76]
abbrev dktX10_choose_4 : List UInt8 := dkwX10_choose_4 ++ dktX10_choose_5
def dkwX10_choose_3 : List UInt8 := [58, 5, 42, 25, 5, 182, 0, 109, 54, 6, 43, 198, 0, 32, 21, 6, 28, 163, 0, 32, 21, 6, 28]
abbrev dktX10_choose_3 : List UInt8 := dkwX10_choose_3 ++ dktX10_choose_4
def dkwX10_choose_2 : List UInt8 := [182, 0, 106, 160, 0, 6, 167, 0, 66, 25, 4, 42, 180, 0, 15, 29, 46, 182, 0, 35, 192, 0, 55]
abbrev dktX10_choose_2 : List UInt8 := dkwX10_choose_2 ++ dktX10_choose_3
def dkwX10_choose_1 : List UInt8 := [180, 0, 63, 29, 182, 0, 35, 192, 0, 66, 180, 0, 108, 58, 4, 42, 180, 0, 15, 29, 46, 25, 4]
abbrev dktX10_choose_1 : List UInt8 := dkwX10_choose_1 ++ dktX10_choose_2
def dkwX10_choose_0 : List UInt8 := [1, 76, 3, 61, 3, 62, 29, 42, 180, 0, 18, 180, 0, 63, 182, 0, 106, 162, 0, 108, 42, 180, 0, 18]
abbrev dktX10_choose_0 : List UInt8 := dkwX10_choose_0 ++ dktX10_choose_1
theorem dksX10_choose_0 : cX10_choose.data.toList.drop 0 = dktX10_choose_0 := by decide +kernel
theorem dksX10_choose_1 : cX10_choose.data.toList.drop 24 = dktX10_choose_1 := dk_seg dksX10_choose_0 24 rfl rfl
theorem dksX10_choose_2 : cX10_choose.data.toList.drop 47 = dktX10_choose_2 := dk_seg dksX10_choose_1 23 rfl rfl
theorem dksX10_choose_3 : cX10_choose.data.toList.drop 70 = dktX10_choose_3 := dk_seg dksX10_choose_2 23 rfl rfl
theorem dksX10_choose_4 : cX10_choose.data.toList.drop 93 = dktX10_choose_4 := dk_seg dksX10_choose_3 23 rfl rfl
theorem dksX10_choose_5 : cX10_choose.data.toList.drop 116 = dktX10_choose_5 := dk_seg dksX10_choose_4 23 rfl rfl
theorem dX10_choose_0 : decode cX10_choose 0 = .ok (.aconst_null, 1) := dk_1 (dk_at dksX10_choose_0 0 rfl rfl)
theorem dX10_choose_1 : decode cX10_choose 1 = .ok (.astore_n 1, 1) := dk_76 (dk_at dksX10_choose_0 1 rfl rfl)
theorem dX10_choose_2 : decode cX10_choose 2 = .ok (.iconst 0, 1) := dk_3 (dk_at dksX10_choose_0 2 rfl rfl)
theorem dX10_choose_3 : decode cX10_choose 3 = .ok (.istore_n 2, 1) := dk_61 (dk_at dksX10_choose_0 3 rfl rfl)
theorem dX10_choose_4 : decode cX10_choose 4 = .ok (.iconst 0, 1) := dk_3 (dk_at dksX10_choose_0 4 rfl rfl)
theorem dX10_choose_5 : decode cX10_choose 5 = .ok (.istore_n 3, 1) := dk_62 (dk_at dksX10_choose_0 5 rfl rfl)
theorem dX10_choose_6 : decode cX10_choose 6 = .ok (.iload_n 3, 1) := dk_29 (dk_at dksX10_choose_0 6 rfl rfl)
theorem dX10_choose_7 : decode cX10_choose 7 = .ok (.aload_n 0, 1) := dk_42 (dk_at dksX10_choose_0 7 rfl rfl)
theorem dX10_choose_8 : decode cX10_choose 8 = .ok (.getfield 18, 3) := dk_180 0 18 (dk_at dksX10_choose_0 8 rfl rfl)
theorem dX10_choose_11 : decode cX10_choose 11 = .ok (.getfield 63, 3) := dk_180 0 63 (dk_at dksX10_choose_0 11 rfl rfl)
theorem dX10_choose_14 : decode cX10_choose 14 = .ok (.invokevirtual 106, 3) := dk_182 0 106 (dk_at dksX10_choose_0 14 rfl rfl)
theorem dX10_choose_17 : decode cX10_choose 17 = .ok (.if_icmp .ge 108, 3) := dk_162 0 108 (dk_at dksX10_choose_0 17 rfl rfl)
theorem dX10_choose_20 : decode cX10_choose 20 = .ok (.aload_n 0, 1) := dk_42 (dk_at dksX10_choose_0 20 rfl rfl)
theorem dX10_choose_21 : decode cX10_choose 21 = .ok (.getfield 18, 3) := dk_180 0 18 (dk_at dksX10_choose_0 21 rfl rfl)
theorem dX10_choose_24 : decode cX10_choose 24 = .ok (.getfield 63, 3) := dk_180 0 63 (dk_at dksX10_choose_1 0 rfl rfl)
theorem dX10_choose_27 : decode cX10_choose 27 = .ok (.iload_n 3, 1) := dk_29 (dk_at dksX10_choose_1 3 rfl rfl)
theorem dX10_choose_28 : decode cX10_choose 28 = .ok (.invokevirtual 35, 3) := dk_182 0 35 (dk_at dksX10_choose_1 4 rfl rfl)
theorem dX10_choose_31 : decode cX10_choose 31 = .ok (.checkcast 66, 3) := dk_192 0 66 (dk_at dksX10_choose_1 7 rfl rfl)
theorem dX10_choose_34 : decode cX10_choose 34 = .ok (.getfield 108, 3) := dk_180 0 108 (dk_at dksX10_choose_1 10 rfl rfl)
theorem dX10_choose_37 : decode cX10_choose 37 = .ok (.astore 4, 2) := dk_58 4 (dk_at dksX10_choose_1 13 rfl rfl)
theorem dX10_choose_39 : decode cX10_choose 39 = .ok (.aload_n 0, 1) := dk_42 (dk_at dksX10_choose_1 15 rfl rfl)
theorem dX10_choose_40 : decode cX10_choose 40 = .ok (.getfield 15, 3) := dk_180 0 15 (dk_at dksX10_choose_1 16 rfl rfl)
theorem dX10_choose_43 : decode cX10_choose 43 = .ok (.iload_n 3, 1) := dk_29 (dk_at dksX10_choose_1 19 rfl rfl)
theorem dX10_choose_44 : decode cX10_choose 44 = .ok (.iaload, 1) := dk_46 (dk_at dksX10_choose_1 20 rfl rfl)
theorem dX10_choose_45 : decode cX10_choose 45 = .ok (.aload 4, 2) := dk_25 4 (dk_at dksX10_choose_1 21 rfl rfl)
theorem dX10_choose_47 : decode cX10_choose 47 = .ok (.invokevirtual 106, 3) := dk_182 0 106 (dk_at dksX10_choose_2 0 rfl rfl)
theorem dX10_choose_50 : decode cX10_choose 50 = .ok (.if_icmp .ne 6, 3) := dk_160 0 6 (dk_at dksX10_choose_2 3 rfl rfl)
theorem dX10_choose_53 : decode cX10_choose 53 = .ok (.goto 66, 3) := dk_167 0 66 (dk_at dksX10_choose_2 6 rfl rfl)
theorem dX10_choose_56 : decode cX10_choose 56 = .ok (.aload 4, 2) := dk_25 4 (dk_at dksX10_choose_2 9 rfl rfl)
theorem dX10_choose_58 : decode cX10_choose 58 = .ok (.aload_n 0, 1) := dk_42 (dk_at dksX10_choose_2 11 rfl rfl)
theorem dX10_choose_59 : decode cX10_choose 59 = .ok (.getfield 15, 3) := dk_180 0 15 (dk_at dksX10_choose_2 12 rfl rfl)
theorem dX10_choose_62 : decode cX10_choose 62 = .ok (.iload_n 3, 1) := dk_29 (dk_at dksX10_choose_2 15 rfl rfl)
theorem dX10_choose_63 : decode cX10_choose 63 = .ok (.iaload, 1) := dk_46 (dk_at dksX10_choose_2 16 rfl rfl)
theorem dX10_choose_64 : decode cX10_choose 64 = .ok (.invokevirtual 35, 3) := dk_182 0 35 (dk_at dksX10_choose_2 17 rfl rfl)
theorem dX10_choose_67 : decode cX10_choose 67 = .ok (.checkcast 55, 3) := dk_192 0 55 (dk_at dksX10_choose_2 20 rfl rfl)
theorem dX10_choose_70 : decode cX10_choose 70 = .ok (.astore 5, 2) := dk_58 5 (dk_at dksX10_choose_3 0 rfl rfl)
theorem dX10_choose_72 : decode cX10_choose 72 = .ok (.aload_n 0, 1) := dk_42 (dk_at dksX10_choose_3 2 rfl rfl)
theorem dX10_choose_73 : decode cX10_choose 73 = .ok (.aload 5, 2) := dk_25 5 (dk_at dksX10_choose_3 3 rfl rfl)
theorem dX10_choose_75 : decode cX10_choose 75 = .ok (.invokevirtual 109, 3) := dk_182 0 109 (dk_at dksX10_choose_3 5 rfl rfl)
theorem dX10_choose_78 : decode cX10_choose 78 = .ok (.istore 6, 2) := dk_54 6 (dk_at dksX10_choose_3 8 rfl rfl)
theorem dX10_choose_80 : decode cX10_choose 80 = .ok (.aload_n 1, 1) := dk_43 (dk_at dksX10_choose_3 10 rfl rfl)
theorem dX10_choose_81 : decode cX10_choose 81 = .ok (.ifnull 32, 3) := dk_198 0 32 (dk_at dksX10_choose_3 11 rfl rfl)
theorem dX10_choose_84 : decode cX10_choose 84 = .ok (.iload 6, 2) := dk_21 6 (dk_at dksX10_choose_3 14 rfl rfl)
theorem dX10_choose_86 : decode cX10_choose 86 = .ok (.iload_n 2, 1) := dk_28 (dk_at dksX10_choose_3 16 rfl rfl)
theorem dX10_choose_87 : decode cX10_choose 87 = .ok (.if_icmp .gt 32, 3) := dk_163 0 32 (dk_at dksX10_choose_3 17 rfl rfl)
theorem dX10_choose_90 : decode cX10_choose 90 = .ok (.iload 6, 2) := dk_21 6 (dk_at dksX10_choose_3 20 rfl rfl)
theorem dX10_choose_92 : decode cX10_choose 92 = .ok (.iload_n 2, 1) := dk_28 (dk_at dksX10_choose_3 22 rfl rfl)
theorem dX10_choose_93 : decode cX10_choose 93 = .ok (.if_icmp .ne 20, 3) := dk_160 0 20 (dk_at dksX10_choose_4 0 rfl rfl)
theorem dX10_choose_96 : decode cX10_choose 96 = .ok (.aload_n 0, 1) := dk_42 (dk_at dksX10_choose_4 3 rfl rfl)
theorem dX10_choose_97 : decode cX10_choose 97 = .ok (.aload 5, 2) := dk_25 5 (dk_at dksX10_choose_4 4 rfl rfl)
theorem dX10_choose_99 : decode cX10_choose 99 = .ok (.invokevirtual 112, 3) := dk_182 0 112 (dk_at dksX10_choose_4 6 rfl rfl)
theorem dX10_choose_102 : decode cX10_choose 102 = .ok (.aload_n 0, 1) := dk_42 (dk_at dksX10_choose_4 9 rfl rfl)
theorem dX10_choose_103 : decode cX10_choose 103 = .ok (.aload_n 1, 1) := dk_43 (dk_at dksX10_choose_4 10 rfl rfl)
theorem dX10_choose_104 : decode cX10_choose 104 = .ok (.invokevirtual 112, 3) := dk_182 0 112 (dk_at dksX10_choose_4 11 rfl rfl)
theorem dX10_choose_107 : decode cX10_choose 107 = .ok (.if_icmp .lt 6, 3) := dk_161 0 6 (dk_at dksX10_choose_4 14 rfl rfl)
theorem dX10_choose_110 : decode cX10_choose 110 = .ok (.goto 9, 3) := dk_167 0 9 (dk_at dksX10_choose_4 17 rfl rfl)
theorem dX10_choose_113 : decode cX10_choose 113 = .ok (.aload 5, 2) := dk_25 5 (dk_at dksX10_choose_4 20 rfl rfl)
theorem dX10_choose_115 : decode cX10_choose 115 = .ok (.astore_n 1, 1) := dk_76 (dk_at dksX10_choose_4 22 rfl rfl)
theorem dX10_choose_116 : decode cX10_choose 116 = .ok (.iload 6, 2) := dk_21 6 (dk_at dksX10_choose_5 0 rfl rfl)
theorem dX10_choose_118 : decode cX10_choose 118 = .ok (.istore_n 2, 1) := dk_61 (dk_at dksX10_choose_5 2 rfl rfl)
theorem dX10_choose_119 : decode cX10_choose 119 = .ok (.iinc 3 1, 3) := dk_132 3 1 (dk_at dksX10_choose_5 3 rfl rfl)
theorem dX10_choose_122 : decode cX10_choose 122 = .ok (.goto (-116), 3) := dk_167 255 140 (dk_at dksX10_choose_5 6 rfl rfl)
theorem dX10_choose_125 : decode cX10_choose 125 = .ok (.aload_n 1, 1) := dk_43 (dk_at dksX10_choose_5 9 rfl rfl)
theorem dX10_choose_126 : decode cX10_choose 126 = .ok (.areturn, 1) := dk_176 (dk_at dksX10_choose_5 10 rfl rfl)
abbrev cX10_startOf : ByteArray := prog_6_method_4_code
def yX10_startOf : MethodName := ⟨RX10, "startOf", "(LSetupJobShop$Operation;)I"⟩
def dkwX10_startOf_5 : List UInt8 := [192, 0, 55, 43, 182, 0, 89, 96, 184, 0, 72, 61, 42, 180, 0, 18, 43, 28, 182, 0, 93, 172]
abbrev dktX10_startOf_5 : List UInt8 := dkwX10_startOf_5 ++ []
def dkwX10_startOf_4 : List UInt8 := [42, 21, 5, 182, 0, 82, 42, 180, 0, 18, 42, 180, 0, 18, 180, 0, 52, 21, 5, 182, 0, 35]
abbrev dktX10_startOf_4 : List UInt8 := dkwX10_startOf_4 ++ dktX10_startOf_5
def dkwX10_startOf_3 : List UInt8 := [25, 4, 180, 0, 43, 158, 0, 53, 25, 4, 180, 0, 49, 25, 4, 180, 0, 43, 4, 100, 46, 54, 5, 28]
abbrev dktX10_startOf_3 : List UInt8 := dkwX10_startOf_3 ++ dktX10_startOf_4
def dkwX10_startOf_2 : List UInt8 := [184, 0, 72, 61, 42, 180, 0, 18, 180, 0, 29, 43, 180, 0, 86, 182, 0, 35, 192, 0, 41, 58, 4]
abbrev dktX10_startOf_2 : List UInt8 := dkwX10_startOf_2 ++ dktX10_startOf_3
def dkwX10_startOf_1 : List UInt8 := [184, 0, 72, 61, 42, 180, 0, 18, 43, 182, 0, 78, 62, 29, 2, 159, 0, 13, 28, 42, 29, 182, 0, 82]
abbrev dktX10_startOf_1 : List UInt8 := dkwX10_startOf_1 ++ dktX10_startOf_2
def dkwX10_startOf_0 : List UInt8 := [42, 180, 0, 26, 42, 180, 0, 18, 180, 0, 63, 43, 180, 0, 57, 182, 0, 35, 192, 0, 66, 182, 0, 68]
abbrev dktX10_startOf_0 : List UInt8 := dkwX10_startOf_0 ++ dktX10_startOf_1
theorem dksX10_startOf_0 : cX10_startOf.data.toList.drop 0 = dktX10_startOf_0 := by decide +kernel
theorem dksX10_startOf_1 : cX10_startOf.data.toList.drop 24 = dktX10_startOf_1 := dk_seg dksX10_startOf_0 24 rfl rfl
theorem dksX10_startOf_2 : cX10_startOf.data.toList.drop 48 = dktX10_startOf_2 := dk_seg dksX10_startOf_1 24 rfl rfl
theorem dksX10_startOf_3 : cX10_startOf.data.toList.drop 71 = dktX10_startOf_3 := dk_seg dksX10_startOf_2 23 rfl rfl
theorem dksX10_startOf_4 : cX10_startOf.data.toList.drop 95 = dktX10_startOf_4 := dk_seg dksX10_startOf_3 24 rfl rfl
theorem dksX10_startOf_5 : cX10_startOf.data.toList.drop 117 = dktX10_startOf_5 := dk_seg dksX10_startOf_4 22 rfl rfl
theorem dX10_startOf_0 : decode cX10_startOf 0 = .ok (.aload_n 0, 1) := dk_42 (dk_at dksX10_startOf_0 0 rfl rfl)
theorem dX10_startOf_1 : decode cX10_startOf 1 = .ok (.getfield 26, 3) := dk_180 0 26 (dk_at dksX10_startOf_0 1 rfl rfl)
theorem dX10_startOf_4 : decode cX10_startOf 4 = .ok (.aload_n 0, 1) := dk_42 (dk_at dksX10_startOf_0 4 rfl rfl)
theorem dX10_startOf_5 : decode cX10_startOf 5 = .ok (.getfield 18, 3) := dk_180 0 18 (dk_at dksX10_startOf_0 5 rfl rfl)
theorem dX10_startOf_8 : decode cX10_startOf 8 = .ok (.getfield 63, 3) := dk_180 0 63 (dk_at dksX10_startOf_0 8 rfl rfl)
theorem dX10_startOf_11 : decode cX10_startOf 11 = .ok (.aload_n 1, 1) := dk_43 (dk_at dksX10_startOf_0 11 rfl rfl)
theorem dX10_startOf_12 : decode cX10_startOf 12 = .ok (.getfield 57, 3) := dk_180 0 57 (dk_at dksX10_startOf_0 12 rfl rfl)
theorem dX10_startOf_15 : decode cX10_startOf 15 = .ok (.invokevirtual 35, 3) := dk_182 0 35 (dk_at dksX10_startOf_0 15 rfl rfl)
theorem dX10_startOf_18 : decode cX10_startOf 18 = .ok (.checkcast 66, 3) := dk_192 0 66 (dk_at dksX10_startOf_0 18 rfl rfl)
theorem dX10_startOf_21 : decode cX10_startOf 21 = .ok (.invokevirtual 68, 3) := dk_182 0 68 (dk_at dksX10_startOf_0 21 rfl rfl)
theorem dX10_startOf_24 : decode cX10_startOf 24 = .ok (.invokestatic 72, 3) := dk_184 0 72 (dk_at dksX10_startOf_1 0 rfl rfl)
theorem dX10_startOf_27 : decode cX10_startOf 27 = .ok (.istore_n 2, 1) := dk_61 (dk_at dksX10_startOf_1 3 rfl rfl)
theorem dX10_startOf_28 : decode cX10_startOf 28 = .ok (.aload_n 0, 1) := dk_42 (dk_at dksX10_startOf_1 4 rfl rfl)
theorem dX10_startOf_29 : decode cX10_startOf 29 = .ok (.getfield 18, 3) := dk_180 0 18 (dk_at dksX10_startOf_1 5 rfl rfl)
theorem dX10_startOf_32 : decode cX10_startOf 32 = .ok (.aload_n 1, 1) := dk_43 (dk_at dksX10_startOf_1 8 rfl rfl)
theorem dX10_startOf_33 : decode cX10_startOf 33 = .ok (.invokevirtual 78, 3) := dk_182 0 78 (dk_at dksX10_startOf_1 9 rfl rfl)
theorem dX10_startOf_36 : decode cX10_startOf 36 = .ok (.istore_n 3, 1) := dk_62 (dk_at dksX10_startOf_1 12 rfl rfl)
theorem dX10_startOf_37 : decode cX10_startOf 37 = .ok (.iload_n 3, 1) := dk_29 (dk_at dksX10_startOf_1 13 rfl rfl)
theorem dX10_startOf_38 : decode cX10_startOf 38 = .ok (.iconst (-1), 1) := dk_2 (dk_at dksX10_startOf_1 14 rfl rfl)
theorem dX10_startOf_39 : decode cX10_startOf 39 = .ok (.if_icmp .eq 13, 3) := dk_159 0 13 (dk_at dksX10_startOf_1 15 rfl rfl)
theorem dX10_startOf_42 : decode cX10_startOf 42 = .ok (.iload_n 2, 1) := dk_28 (dk_at dksX10_startOf_1 18 rfl rfl)
theorem dX10_startOf_43 : decode cX10_startOf 43 = .ok (.aload_n 0, 1) := dk_42 (dk_at dksX10_startOf_1 19 rfl rfl)
theorem dX10_startOf_44 : decode cX10_startOf 44 = .ok (.iload_n 3, 1) := dk_29 (dk_at dksX10_startOf_1 20 rfl rfl)
theorem dX10_startOf_45 : decode cX10_startOf 45 = .ok (.invokevirtual 82, 3) := dk_182 0 82 (dk_at dksX10_startOf_1 21 rfl rfl)
theorem dX10_startOf_48 : decode cX10_startOf 48 = .ok (.invokestatic 72, 3) := dk_184 0 72 (dk_at dksX10_startOf_2 0 rfl rfl)
theorem dX10_startOf_51 : decode cX10_startOf 51 = .ok (.istore_n 2, 1) := dk_61 (dk_at dksX10_startOf_2 3 rfl rfl)
theorem dX10_startOf_52 : decode cX10_startOf 52 = .ok (.aload_n 0, 1) := dk_42 (dk_at dksX10_startOf_2 4 rfl rfl)
theorem dX10_startOf_53 : decode cX10_startOf 53 = .ok (.getfield 18, 3) := dk_180 0 18 (dk_at dksX10_startOf_2 5 rfl rfl)
theorem dX10_startOf_56 : decode cX10_startOf 56 = .ok (.getfield 29, 3) := dk_180 0 29 (dk_at dksX10_startOf_2 8 rfl rfl)
theorem dX10_startOf_59 : decode cX10_startOf 59 = .ok (.aload_n 1, 1) := dk_43 (dk_at dksX10_startOf_2 11 rfl rfl)
theorem dX10_startOf_60 : decode cX10_startOf 60 = .ok (.getfield 86, 3) := dk_180 0 86 (dk_at dksX10_startOf_2 12 rfl rfl)
theorem dX10_startOf_63 : decode cX10_startOf 63 = .ok (.invokevirtual 35, 3) := dk_182 0 35 (dk_at dksX10_startOf_2 15 rfl rfl)
theorem dX10_startOf_66 : decode cX10_startOf 66 = .ok (.checkcast 41, 3) := dk_192 0 41 (dk_at dksX10_startOf_2 18 rfl rfl)
theorem dX10_startOf_69 : decode cX10_startOf 69 = .ok (.astore 4, 2) := dk_58 4 (dk_at dksX10_startOf_2 21 rfl rfl)
theorem dX10_startOf_71 : decode cX10_startOf 71 = .ok (.aload 4, 2) := dk_25 4 (dk_at dksX10_startOf_3 0 rfl rfl)
theorem dX10_startOf_73 : decode cX10_startOf 73 = .ok (.getfield 43, 3) := dk_180 0 43 (dk_at dksX10_startOf_3 2 rfl rfl)
theorem dX10_startOf_76 : decode cX10_startOf 76 = .ok (.ifCond .le 53, 3) := dk_158 0 53 (dk_at dksX10_startOf_3 5 rfl rfl)
theorem dX10_startOf_79 : decode cX10_startOf 79 = .ok (.aload 4, 2) := dk_25 4 (dk_at dksX10_startOf_3 8 rfl rfl)
theorem dX10_startOf_81 : decode cX10_startOf 81 = .ok (.getfield 49, 3) := dk_180 0 49 (dk_at dksX10_startOf_3 10 rfl rfl)
theorem dX10_startOf_84 : decode cX10_startOf 84 = .ok (.aload 4, 2) := dk_25 4 (dk_at dksX10_startOf_3 13 rfl rfl)
theorem dX10_startOf_86 : decode cX10_startOf 86 = .ok (.getfield 43, 3) := dk_180 0 43 (dk_at dksX10_startOf_3 15 rfl rfl)
theorem dX10_startOf_89 : decode cX10_startOf 89 = .ok (.iconst 1, 1) := dk_4 (dk_at dksX10_startOf_3 18 rfl rfl)
theorem dX10_startOf_90 : decode cX10_startOf 90 = .ok (.isub, 1) := dk_100 (dk_at dksX10_startOf_3 19 rfl rfl)
theorem dX10_startOf_91 : decode cX10_startOf 91 = .ok (.iaload, 1) := dk_46 (dk_at dksX10_startOf_3 20 rfl rfl)
theorem dX10_startOf_92 : decode cX10_startOf 92 = .ok (.istore 5, 2) := dk_54 5 (dk_at dksX10_startOf_3 21 rfl rfl)
theorem dX10_startOf_94 : decode cX10_startOf 94 = .ok (.iload_n 2, 1) := dk_28 (dk_at dksX10_startOf_3 23 rfl rfl)
theorem dX10_startOf_95 : decode cX10_startOf 95 = .ok (.aload_n 0, 1) := dk_42 (dk_at dksX10_startOf_4 0 rfl rfl)
theorem dX10_startOf_96 : decode cX10_startOf 96 = .ok (.iload 5, 2) := dk_21 5 (dk_at dksX10_startOf_4 1 rfl rfl)
theorem dX10_startOf_98 : decode cX10_startOf 98 = .ok (.invokevirtual 82, 3) := dk_182 0 82 (dk_at dksX10_startOf_4 3 rfl rfl)
theorem dX10_startOf_101 : decode cX10_startOf 101 = .ok (.aload_n 0, 1) := dk_42 (dk_at dksX10_startOf_4 6 rfl rfl)
theorem dX10_startOf_102 : decode cX10_startOf 102 = .ok (.getfield 18, 3) := dk_180 0 18 (dk_at dksX10_startOf_4 7 rfl rfl)
theorem dX10_startOf_105 : decode cX10_startOf 105 = .ok (.aload_n 0, 1) := dk_42 (dk_at dksX10_startOf_4 10 rfl rfl)
theorem dX10_startOf_106 : decode cX10_startOf 106 = .ok (.getfield 18, 3) := dk_180 0 18 (dk_at dksX10_startOf_4 11 rfl rfl)
theorem dX10_startOf_109 : decode cX10_startOf 109 = .ok (.getfield 52, 3) := dk_180 0 52 (dk_at dksX10_startOf_4 14 rfl rfl)
theorem dX10_startOf_112 : decode cX10_startOf 112 = .ok (.iload 5, 2) := dk_21 5 (dk_at dksX10_startOf_4 17 rfl rfl)
theorem dX10_startOf_114 : decode cX10_startOf 114 = .ok (.invokevirtual 35, 3) := dk_182 0 35 (dk_at dksX10_startOf_4 19 rfl rfl)
theorem dX10_startOf_117 : decode cX10_startOf 117 = .ok (.checkcast 55, 3) := dk_192 0 55 (dk_at dksX10_startOf_5 0 rfl rfl)
theorem dX10_startOf_120 : decode cX10_startOf 120 = .ok (.aload_n 1, 1) := dk_43 (dk_at dksX10_startOf_5 3 rfl rfl)
theorem dX10_startOf_121 : decode cX10_startOf 121 = .ok (.invokevirtual 89, 3) := dk_182 0 89 (dk_at dksX10_startOf_5 4 rfl rfl)
theorem dX10_startOf_124 : decode cX10_startOf 124 = .ok (.iadd, 1) := dk_96 (dk_at dksX10_startOf_5 7 rfl rfl)
theorem dX10_startOf_125 : decode cX10_startOf 125 = .ok (.invokestatic 72, 3) := dk_184 0 72 (dk_at dksX10_startOf_5 8 rfl rfl)
theorem dX10_startOf_128 : decode cX10_startOf 128 = .ok (.istore_n 2, 1) := dk_61 (dk_at dksX10_startOf_5 11 rfl rfl)
theorem dX10_startOf_129 : decode cX10_startOf 129 = .ok (.aload_n 0, 1) := dk_42 (dk_at dksX10_startOf_5 12 rfl rfl)
theorem dX10_startOf_130 : decode cX10_startOf 130 = .ok (.getfield 18, 3) := dk_180 0 18 (dk_at dksX10_startOf_5 13 rfl rfl)
theorem dX10_startOf_133 : decode cX10_startOf 133 = .ok (.aload_n 1, 1) := dk_43 (dk_at dksX10_startOf_5 16 rfl rfl)
theorem dX10_startOf_134 : decode cX10_startOf 134 = .ok (.iload_n 2, 1) := dk_28 (dk_at dksX10_startOf_5 17 rfl rfl)
theorem dX10_startOf_135 : decode cX10_startOf 135 = .ok (.invokevirtual 93, 3) := dk_182 0 93 (dk_at dksX10_startOf_5 18 rfl rfl)
theorem dX10_startOf_138 : decode cX10_startOf 138 = .ok (.ireturn, 1) := dk_172 (dk_at dksX10_startOf_5 21 rfl rfl)
abbrev cX10_endOf : ByteArray := prog_6_method_3_code
def yX10_endOf : MethodName := ⟨RX10, "endOf", "(I)I"⟩
def dkwX10_endOf_1 : List UInt8 := [172]
abbrev dktX10_endOf_1 : List UInt8 := dkwX10_endOf_1 ++ []
def dkwX10_endOf_0 : List UInt8 := [42, 180, 0, 9, 27, 46, 42, 180, 0, 18, 180, 0, 52, 27, 182, 0, 35, 192, 0, 55, 180, 0, 60, 96]
abbrev dktX10_endOf_0 : List UInt8 := dkwX10_endOf_0 ++ dktX10_endOf_1
theorem dksX10_endOf_0 : cX10_endOf.data.toList.drop 0 = dktX10_endOf_0 := by decide +kernel
theorem dksX10_endOf_1 : cX10_endOf.data.toList.drop 24 = dktX10_endOf_1 := dk_seg dksX10_endOf_0 24 rfl rfl
theorem dX10_endOf_0 : decode cX10_endOf 0 = .ok (.aload_n 0, 1) := dk_42 (dk_at dksX10_endOf_0 0 rfl rfl)
theorem dX10_endOf_1 : decode cX10_endOf 1 = .ok (.getfield 9, 3) := dk_180 0 9 (dk_at dksX10_endOf_0 1 rfl rfl)
theorem dX10_endOf_4 : decode cX10_endOf 4 = .ok (.iload_n 1, 1) := dk_27 (dk_at dksX10_endOf_0 4 rfl rfl)
theorem dX10_endOf_5 : decode cX10_endOf 5 = .ok (.iaload, 1) := dk_46 (dk_at dksX10_endOf_0 5 rfl rfl)
theorem dX10_endOf_6 : decode cX10_endOf 6 = .ok (.aload_n 0, 1) := dk_42 (dk_at dksX10_endOf_0 6 rfl rfl)
theorem dX10_endOf_7 : decode cX10_endOf 7 = .ok (.getfield 18, 3) := dk_180 0 18 (dk_at dksX10_endOf_0 7 rfl rfl)
theorem dX10_endOf_10 : decode cX10_endOf 10 = .ok (.getfield 52, 3) := dk_180 0 52 (dk_at dksX10_endOf_0 10 rfl rfl)
theorem dX10_endOf_13 : decode cX10_endOf 13 = .ok (.iload_n 1, 1) := dk_27 (dk_at dksX10_endOf_0 13 rfl rfl)
theorem dX10_endOf_14 : decode cX10_endOf 14 = .ok (.invokevirtual 35, 3) := dk_182 0 35 (dk_at dksX10_endOf_0 14 rfl rfl)
theorem dX10_endOf_17 : decode cX10_endOf 17 = .ok (.checkcast 55, 3) := dk_192 0 55 (dk_at dksX10_endOf_0 17 rfl rfl)
theorem dX10_endOf_20 : decode cX10_endOf 20 = .ok (.getfield 60, 3) := dk_180 0 60 (dk_at dksX10_endOf_0 20 rfl rfl)
theorem dX10_endOf_23 : decode cX10_endOf 23 = .ok (.iadd, 1) := dk_96 (dk_at dksX10_endOf_0 23 rfl rfl)
theorem dX10_endOf_24 : decode cX10_endOf 24 = .ok (.ireturn, 1) := dk_172 (dk_at dksX10_endOf_1 0 rfl rfl)
abbrev cX10_key : ByteArray := prog_6_method_5_code
def yX10_key : MethodName := ⟨RX10, "key", "(LSetupJobShop$Operation;)I"⟩
def dkwX10_key_2 : List UInt8 := [43, 180, 0, 60, 172, 44, 43, 180, 0, 97, 182, 0, 100, 116, 172, 44, 182, 0, 103, 172, 3, 172]
abbrev dktX10_key_2 : List UInt8 := dkwX10_key_2 ++ []
def dkwX10_key_1 : List UInt8 := [170, 0, 0, 0, 0, 46, 0, 0, 0, 0, 0, 0, 0, 2, 0, 0, 0, 26, 0, 0, 0, 31, 0, 0, 0, 41]
abbrev dktX10_key_1 : List UInt8 := dkwX10_key_1 ++ dktX10_key_2
def dkwX10_key_0 : List UInt8 := [42, 180, 0, 18, 180, 0, 63, 43, 180, 0, 57, 182, 0, 35, 192, 0, 66, 77, 42, 180, 0, 22]
abbrev dktX10_key_0 : List UInt8 := dkwX10_key_0 ++ dktX10_key_1
theorem dksX10_key_0 : cX10_key.data.toList.drop 0 = dktX10_key_0 := by decide +kernel
theorem dksX10_key_1 : cX10_key.data.toList.drop 22 = dktX10_key_1 := dk_seg dksX10_key_0 22 rfl rfl
theorem dksX10_key_2 : cX10_key.data.toList.drop 48 = dktX10_key_2 := dk_seg dksX10_key_1 26 rfl rfl
theorem dX10_key_0 : decode cX10_key 0 = .ok (.aload_n 0, 1) := dk_42 (dk_at dksX10_key_0 0 rfl rfl)
theorem dX10_key_1 : decode cX10_key 1 = .ok (.getfield 18, 3) := dk_180 0 18 (dk_at dksX10_key_0 1 rfl rfl)
theorem dX10_key_4 : decode cX10_key 4 = .ok (.getfield 63, 3) := dk_180 0 63 (dk_at dksX10_key_0 4 rfl rfl)
theorem dX10_key_7 : decode cX10_key 7 = .ok (.aload_n 1, 1) := dk_43 (dk_at dksX10_key_0 7 rfl rfl)
theorem dX10_key_8 : decode cX10_key 8 = .ok (.getfield 57, 3) := dk_180 0 57 (dk_at dksX10_key_0 8 rfl rfl)
theorem dX10_key_11 : decode cX10_key 11 = .ok (.invokevirtual 35, 3) := dk_182 0 35 (dk_at dksX10_key_0 11 rfl rfl)
theorem dX10_key_14 : decode cX10_key 14 = .ok (.checkcast 66, 3) := dk_192 0 66 (dk_at dksX10_key_0 14 rfl rfl)
theorem dX10_key_17 : decode cX10_key 17 = .ok (.astore_n 2, 1) := dk_77 (dk_at dksX10_key_0 17 rfl rfl)
theorem dX10_key_18 : decode cX10_key 18 = .ok (.aload_n 0, 1) := dk_42 (dk_at dksX10_key_0 18 rfl rfl)
theorem dX10_key_19 : decode cX10_key 19 = .ok (.getfield 22, 3) := dk_180 0 22 (dk_at dksX10_key_0 19 rfl rfl)
theorem dX10_key_22 : decode cX10_key 22 = .ok (.tableswitch 46 0 2 #[26, 31, 41], 26) := by decide +kernel
theorem dX10_key_48 : decode cX10_key 48 = .ok (.aload_n 1, 1) := dk_43 (dk_at dksX10_key_2 0 rfl rfl)
theorem dX10_key_49 : decode cX10_key 49 = .ok (.getfield 60, 3) := dk_180 0 60 (dk_at dksX10_key_2 1 rfl rfl)
theorem dX10_key_52 : decode cX10_key 52 = .ok (.ireturn, 1) := dk_172 (dk_at dksX10_key_2 4 rfl rfl)
theorem dX10_key_53 : decode cX10_key 53 = .ok (.aload_n 2, 1) := dk_44 (dk_at dksX10_key_2 5 rfl rfl)
theorem dX10_key_54 : decode cX10_key 54 = .ok (.aload_n 1, 1) := dk_43 (dk_at dksX10_key_2 6 rfl rfl)
theorem dX10_key_55 : decode cX10_key 55 = .ok (.getfield 97, 3) := dk_180 0 97 (dk_at dksX10_key_2 7 rfl rfl)
theorem dX10_key_58 : decode cX10_key 58 = .ok (.invokevirtual 100, 3) := dk_182 0 100 (dk_at dksX10_key_2 10 rfl rfl)
theorem dX10_key_61 : decode cX10_key 61 = .ok (.ineg, 1) := dk_116 (dk_at dksX10_key_2 13 rfl rfl)
theorem dX10_key_62 : decode cX10_key 62 = .ok (.ireturn, 1) := dk_172 (dk_at dksX10_key_2 14 rfl rfl)
theorem dX10_key_63 : decode cX10_key 63 = .ok (.aload_n 2, 1) := dk_44 (dk_at dksX10_key_2 15 rfl rfl)
theorem dX10_key_64 : decode cX10_key 64 = .ok (.invokevirtual 103, 3) := dk_182 0 103 (dk_at dksX10_key_2 16 rfl rfl)
theorem dX10_key_67 : decode cX10_key 67 = .ok (.ireturn, 1) := dk_172 (dk_at dksX10_key_2 19 rfl rfl)
theorem dX10_key_68 : decode cX10_key 68 = .ok (.iconst 0, 1) := dk_3 (dk_at dksX10_key_2 20 rfl rfl)
theorem dX10_key_69 : decode cX10_key 69 = .ok (.ireturn, 1) := dk_172 (dk_at dksX10_key_2 21 rfl rfl)
theorem q122 : (Jvm.Cond.initialized "SetupJobShop$Dispatcher") ∈ lw_all := lw_g (lw_at lw_m1 34 rfl) rfl
theorem q209 : (Jvm.Cond.selects "SetupJobShop$Dispatcher" ({ cls := "java/lang/Object", name := "getClass", desc := "()Ljava/lang/Class;" } : Jvm.MethodName) ({ cls := "java/lang/Object", name := "getClass", desc := "()Ljava/lang/Class;" } : Jvm.MethodName)) ∈ lw_all := lw_g (lw_at lw_m1 121 rfl) rfl
theorem q253 : (Jvm.Cond.fieldLinkNest "SetupJobShop$Dispatcher" (49 : Nat) "SetupJobShop$Order" "row" "[I" "SetupJobShop") ∈ lw_tbl := lw_at lw_m1 165 rfl
theorem q258 : (Jvm.Cond.fieldLinkNest "SetupJobShop$Dispatcher" (43 : Nat) "SetupJobShop$Order" "size" "I" "SetupJobShop") ∈ lw_tbl := lw_at lw_m1 170 rfl
theorem q269 : (Jvm.Cond.fieldLinkNest "SetupJobShop$Dispatcher" (63 : Nat) "SetupJobShop$Shop" "jobs" "Ljava/util/ArrayList;" "SetupJobShop") ∈ lw_tbl := lw_at lw_m1 181 rfl
theorem q272 : (Jvm.Cond.fieldLinkNest "SetupJobShop$Dispatcher" (52 : Nat) "SetupJobShop$Shop" "operations" "Ljava/util/ArrayList;" "SetupJobShop") ∈ lw_tbl := lw_at lw_m1 184 rfl
theorem q279 : (Jvm.Cond.fieldLinkNest "SetupJobShop$Dispatcher" (29 : Nat) "SetupJobShop$Shop" "orders" "Ljava/util/ArrayList;" "SetupJobShop") ∈ lw_tbl := lw_at lw_m1 191 rfl
theorem q286 : (Jvm.Cond.fieldLinkNest "SetupJobShop$Dispatcher" (46 : Nat) "SetupJobShop$Shop" "start" "[I" "SetupJobShop") ∈ lw_tbl := lw_at lw_m1 198 rfl
theorem q590 : (Jvm.Cond.fieldLinkNest "SetupJobShop$Dispatcher" (108 : Nat) "SetupJobShop$Job" "operations" "Ljava/util/ArrayList;" "SetupJobShop") ∈ lw_tbl := lw_at lw_m3 22 rfl
theorem q608 : (Jvm.Cond.fieldLinkNest "SetupJobShop$Dispatcher" (123 : Nat) "SetupJobShop$Operation" "number" "I" "SetupJobShop") ∈ lw_tbl := lw_at lw_m3 40 rfl
theorem q612 : (Jvm.Cond.fieldLinkNest "SetupJobShop$Dispatcher" (57 : Nat) "SetupJobShop$Operation" "job" "I" "SetupJobShop") ∈ lw_tbl := lw_at lw_m3 44 rfl
theorem q617 : (Jvm.Cond.fieldLinkNest "SetupJobShop$Dispatcher" (86 : Nat) "SetupJobShop$Operation" "machine" "I" "SetupJobShop") ∈ lw_tbl := lw_at lw_m3 49 rfl
theorem q624 : (Jvm.Cond.fieldLinkNest "SetupJobShop$Dispatcher" (97 : Nat) "SetupJobShop$Operation" "index" "I" "SetupJobShop") ∈ lw_tbl := lw_at lw_m3 56 rfl
theorem q629 : (Jvm.Cond.fieldLinkNest "SetupJobShop$Dispatcher" (60 : Nat) "SetupJobShop$Operation" "duration" "I" "SetupJobShop") ∈ lw_tbl := lw_at lw_m3 61 rfl
theorem q1133 : (Jvm.Cond.instantiable "SetupJobShop$Dispatcher" (5 : Nat)) ∈ lw_all := lw_g (lw_at lw_m5 85 rfl) rfl
theorem q1135 : (Jvm.Cond.instanceMethod ({ cls := "SetupJobShop$Dispatcher", name := "<init>", desc := "(LSetupJobShop$Shop;II)V" } : Jvm.MethodName)) ∈ lw_all := lw_g (lw_at lw_m5 87 rfl) rfl
theorem q1136 : (Jvm.Cond.code ({ cls := "SetupJobShop$Dispatcher", name := "<init>", desc := "(LSetupJobShop$Shop;II)V" } : Jvm.MethodName) prog_6_method_1_code (4 : Nat) (Option.none : Option Jvm.ClassFile.FieldType)) ∈ lw_all := lw_g (lw_at lw_m5 88 rfl) rfl
theorem q1137 : (Jvm.Cond.methodLink "SetupJobShop$Dispatcher" (3 : Nat) ({ cls := "java/lang/Object", name := "<init>", desc := "()V" } : Jvm.MethodName)) ∈ lw_all := lw_g (lw_at lw_m5 89 rfl) rfl
theorem q1138 : (Jvm.Cond.fieldLink "SetupJobShop$Dispatcher" (18 : Nat) "SetupJobShop$Dispatcher" "shop" "LSetupJobShop$Shop;") ∈ lw_all := lw_g (lw_at lw_m5 90 rfl) rfl
theorem q1139 : (Jvm.Cond.fieldLink "SetupJobShop$Dispatcher" (22 : Nat) "SetupJobShop$Dispatcher" "rule" "I") ∈ lw_all := lw_g (lw_at lw_m5 91 rfl) rfl
theorem q1140 : (Jvm.Cond.fieldLink "SetupJobShop$Dispatcher" (26 : Nat) "SetupJobShop$Dispatcher" "earliest" "I") ∈ lw_all := lw_g (lw_at lw_m5 92 rfl) rfl
theorem q1141 : (Jvm.Cond.fieldLink "SetupJobShop$Dispatcher" (9 : Nat) "SetupJobShop$Dispatcher" "starts" "[I") ∈ lw_all := lw_g (lw_at lw_m5 93 rfl) rfl
theorem q1142 : (Jvm.Cond.fieldLink "SetupJobShop$Dispatcher" (15 : Nat) "SetupJobShop$Dispatcher" "next" "[I") ∈ lw_all := lw_g (lw_at lw_m5 94 rfl) rfl
theorem q1143 : (Jvm.Cond.laysFinal "SetupJobShop$Dispatcher" "SetupJobShop$Dispatcher" "shop" "LSetupJobShop$Shop;") ∈ lw_all := lw_g (lw_at lw_m5 95 rfl) rfl
theorem q1144 : (Jvm.Cond.soleField "SetupJobShop$Dispatcher" "shop") ∈ lw_all := lw_g (lw_at lw_m5 96 rfl) rfl
theorem q1145 : (Jvm.Cond.laysFinal "SetupJobShop$Dispatcher" "SetupJobShop$Dispatcher" "rule" "I") ∈ lw_all := lw_g (lw_at lw_m5 97 rfl) rfl
theorem q1146 : (Jvm.Cond.soleField "SetupJobShop$Dispatcher" "rule") ∈ lw_all := lw_g (lw_at lw_m5 98 rfl) rfl
theorem q1147 : (Jvm.Cond.laysFinal "SetupJobShop$Dispatcher" "SetupJobShop$Dispatcher" "earliest" "I") ∈ lw_all := lw_g (lw_at lw_m5 99 rfl) rfl
theorem q1148 : (Jvm.Cond.soleField "SetupJobShop$Dispatcher" "earliest") ∈ lw_all := lw_g (lw_at lw_m5 100 rfl) rfl
theorem q1149 : (Jvm.Cond.laysFinal "SetupJobShop$Dispatcher" "SetupJobShop$Dispatcher" "starts" "[I") ∈ lw_all := lw_g (lw_at lw_m5 101 rfl) rfl
theorem q1150 : (Jvm.Cond.soleField "SetupJobShop$Dispatcher" "starts") ∈ lw_all := lw_g (lw_at lw_m5 102 rfl) rfl
theorem q1151 : (Jvm.Cond.laysFinal "SetupJobShop$Dispatcher" "SetupJobShop$Dispatcher" "next" "[I") ∈ lw_all := lw_g (lw_at lw_m5 103 rfl) rfl
theorem q1152 : (Jvm.Cond.soleField "SetupJobShop$Dispatcher" "next") ∈ lw_all := lw_g (lw_at lw_m5 104 rfl) rfl
theorem q1153 : (Jvm.Cond.superclass "SetupJobShop$Dispatcher" "java/lang/Object") ∈ lw_all := lw_g (lw_at lw_m5 105 rfl) rfl
theorem q1155 : (Jvm.Cond.instanceMethod ({ cls := "SetupJobShop$Dispatcher", name := "run", desc := "()V" } : Jvm.MethodName)) ∈ lw_all := lw_g (lw_at lw_m5 107 rfl) rfl
theorem q1156 : (Jvm.Cond.selects "SetupJobShop$Dispatcher" ({ cls := "SetupJobShop$Dispatcher", name := "run", desc := "()V" } : Jvm.MethodName) ({ cls := "SetupJobShop$Dispatcher", name := "run", desc := "()V" } : Jvm.MethodName)) ∈ lw_all := lw_g (lw_at lw_m5 108 rfl) rfl
theorem q1157 : (Jvm.Cond.code ({ cls := "SetupJobShop$Dispatcher", name := "run", desc := "()V" } : Jvm.MethodName) prog_6_method_7_code (2 : Nat) (Option.none : Option Jvm.ClassFile.FieldType)) ∈ lw_all := lw_g (lw_at lw_m5 109 rfl) rfl
theorem q1158 : (Jvm.Cond.methodLink "SetupJobShop$Dispatcher" (115 : Nat) ({ cls := "SetupJobShop$Dispatcher", name := "keep", desc := "(I)V" } : Jvm.MethodName)) ∈ lw_all := lw_g (lw_at lw_m5 110 rfl) rfl
theorem q1159 : (Jvm.Cond.privateMethod ({ cls := "SetupJobShop$Dispatcher", name := "keep", desc := "(I)V" } : Jvm.MethodName)) ∈ lw_tbl := lw_at lw_m5 111 rfl
theorem q1160 : (Jvm.Cond.instanceMethod ({ cls := "SetupJobShop$Dispatcher", name := "keep", desc := "(I)V" } : Jvm.MethodName)) ∈ lw_all := lw_g (lw_at lw_m5 112 rfl) rfl
theorem q1161 : (Jvm.Cond.code ({ cls := "SetupJobShop$Dispatcher", name := "keep", desc := "(I)V" } : Jvm.MethodName) prog_6_method_2_code (5 : Nat) (Option.none : Option Jvm.ClassFile.FieldType)) ∈ lw_all := lw_g (lw_at lw_m5 113 rfl) rfl
theorem q1162 : (Jvm.Cond.methodLink "SetupJobShop$Dispatcher" (35 : Nat) ({ cls := "java/util/ArrayList", name := "get", desc := "(I)Ljava/lang/Object;" } : Jvm.MethodName)) ∈ lw_all := lw_g (lw_at lw_m5 114 rfl) rfl
theorem q1163 : (Jvm.Cond.classLink "SetupJobShop$Dispatcher" (41 : Nat) "SetupJobShop$Order") ∈ lw_all := lw_g (lw_at lw_m5 115 rfl) rfl
theorem q1164 : (Jvm.Cond.classLink "SetupJobShop$Dispatcher" (55 : Nat) "SetupJobShop$Operation") ∈ lw_all := lw_g (lw_at lw_m5 116 rfl) rfl
theorem q1165 : (Jvm.Cond.methodLink "SetupJobShop$Dispatcher" (119 : Nat) ({ cls := "SetupJobShop$Dispatcher", name := "choose", desc := "()LSetupJobShop$Operation;" } : Jvm.MethodName)) ∈ lw_all := lw_g (lw_at lw_m5 117 rfl) rfl
theorem q1166 : (Jvm.Cond.privateMethod ({ cls := "SetupJobShop$Dispatcher", name := "choose", desc := "()LSetupJobShop$Operation;" } : Jvm.MethodName)) ∈ lw_tbl := lw_at lw_m5 118 rfl
theorem q1167 : (Jvm.Cond.instanceMethod ({ cls := "SetupJobShop$Dispatcher", name := "choose", desc := "()LSetupJobShop$Operation;" } : Jvm.MethodName)) ∈ lw_all := lw_g (lw_at lw_m5 119 rfl) rfl
theorem q1168 : (Jvm.Cond.code ({ cls := "SetupJobShop$Dispatcher", name := "choose", desc := "()LSetupJobShop$Operation;" } : Jvm.MethodName) prog_6_method_6_code (7 : Nat) (Option.some (Jvm.ClassFile.FieldType.object "SetupJobShop$Operation"))) ∈ lw_all := lw_g (lw_at lw_m5 120 rfl) rfl
theorem q1169 : (Jvm.Cond.methodLink "SetupJobShop$Dispatcher" (106 : Nat) ({ cls := "java/util/ArrayList", name := "size", desc := "()I" } : Jvm.MethodName)) ∈ lw_all := lw_g (lw_at lw_m5 121 rfl) rfl
theorem q1170 : (Jvm.Cond.classLink "SetupJobShop$Dispatcher" (66 : Nat) "SetupJobShop$Job") ∈ lw_all := lw_g (lw_at lw_m5 122 rfl) rfl
theorem q1171 : (Jvm.Cond.methodLink "SetupJobShop$Dispatcher" (109 : Nat) ({ cls := "SetupJobShop$Dispatcher", name := "startOf", desc := "(LSetupJobShop$Operation;)I" } : Jvm.MethodName)) ∈ lw_all := lw_g (lw_at lw_m5 123 rfl) rfl
theorem q1172 : (Jvm.Cond.privateMethod ({ cls := "SetupJobShop$Dispatcher", name := "startOf", desc := "(LSetupJobShop$Operation;)I" } : Jvm.MethodName)) ∈ lw_tbl := lw_at lw_m5 124 rfl
theorem q1173 : (Jvm.Cond.instanceMethod ({ cls := "SetupJobShop$Dispatcher", name := "startOf", desc := "(LSetupJobShop$Operation;)I" } : Jvm.MethodName)) ∈ lw_all := lw_g (lw_at lw_m5 125 rfl) rfl
theorem q1174 : (Jvm.Cond.code ({ cls := "SetupJobShop$Dispatcher", name := "startOf", desc := "(LSetupJobShop$Operation;)I" } : Jvm.MethodName) prog_6_method_4_code (6 : Nat) (Option.some Jvm.ClassFile.FieldType.int)) ∈ lw_all := lw_g (lw_at lw_m5 126 rfl) rfl
theorem q1175 : (Jvm.Cond.methodLink "SetupJobShop$Dispatcher" (68 : Nat) ({ cls := "SetupJobShop$Job", name := "release", desc := "()I" } : Jvm.MethodName)) ∈ lw_all := lw_g (lw_at lw_m5 127 rfl) rfl
theorem q1176 : (Jvm.Cond.methodLink "SetupJobShop$Dispatcher" (72 : Nat) ({ cls := "java/lang/Math", name := "max", desc := "(II)I" } : Jvm.MethodName)) ∈ lw_all := lw_g (lw_at lw_m5 128 rfl) rfl
theorem q1177 : (Jvm.Cond.methodLinkNest "SetupJobShop$Dispatcher" (78 : Nat) ({ cls := "SetupJobShop$Shop", name := "earlier", desc := "(LSetupJobShop$Operation;)I" } : Jvm.MethodName) "SetupJobShop") ∈ lw_tbl := lw_at lw_m5 129 rfl
theorem q1178 : (Jvm.Cond.methodLink "SetupJobShop$Dispatcher" (82 : Nat) ({ cls := "SetupJobShop$Dispatcher", name := "endOf", desc := "(I)I" } : Jvm.MethodName)) ∈ lw_all := lw_g (lw_at lw_m5 130 rfl) rfl
theorem q1179 : (Jvm.Cond.privateMethod ({ cls := "SetupJobShop$Dispatcher", name := "endOf", desc := "(I)I" } : Jvm.MethodName)) ∈ lw_tbl := lw_at lw_m5 131 rfl
theorem q1180 : (Jvm.Cond.instanceMethod ({ cls := "SetupJobShop$Dispatcher", name := "endOf", desc := "(I)I" } : Jvm.MethodName)) ∈ lw_all := lw_g (lw_at lw_m5 132 rfl) rfl
theorem q1181 : (Jvm.Cond.code ({ cls := "SetupJobShop$Dispatcher", name := "endOf", desc := "(I)I" } : Jvm.MethodName) prog_6_method_3_code (2 : Nat) (Option.some Jvm.ClassFile.FieldType.int)) ∈ lw_all := lw_g (lw_at lw_m5 133 rfl) rfl
theorem q1182 : (Jvm.Cond.methodLink "SetupJobShop$Dispatcher" (89 : Nat) ({ cls := "SetupJobShop$Shop", name := "setup", desc := "(LSetupJobShop$Operation;LSetupJobShop$Operation;)I" } : Jvm.MethodName)) ∈ lw_all := lw_g (lw_at lw_m5 134 rfl) rfl
theorem q1183 : (Jvm.Cond.methodLinkNest "SetupJobShop$Dispatcher" (93 : Nat) ({ cls := "SetupJobShop$Shop", name := "unhindered", desc := "(LSetupJobShop$Operation;I)I" } : Jvm.MethodName) "SetupJobShop") ∈ lw_tbl := lw_at lw_m5 135 rfl
theorem q1184 : (Jvm.Cond.methodLink "SetupJobShop$Dispatcher" (112 : Nat) ({ cls := "SetupJobShop$Dispatcher", name := "key", desc := "(LSetupJobShop$Operation;)I" } : Jvm.MethodName)) ∈ lw_all := lw_g (lw_at lw_m5 136 rfl) rfl
theorem q1185 : (Jvm.Cond.privateMethod ({ cls := "SetupJobShop$Dispatcher", name := "key", desc := "(LSetupJobShop$Operation;)I" } : Jvm.MethodName)) ∈ lw_tbl := lw_at lw_m5 137 rfl
theorem q1186 : (Jvm.Cond.instanceMethod ({ cls := "SetupJobShop$Dispatcher", name := "key", desc := "(LSetupJobShop$Operation;)I" } : Jvm.MethodName)) ∈ lw_all := lw_g (lw_at lw_m5 138 rfl) rfl
theorem q1187 : (Jvm.Cond.code ({ cls := "SetupJobShop$Dispatcher", name := "key", desc := "(LSetupJobShop$Operation;)I" } : Jvm.MethodName) prog_6_method_5_code (3 : Nat) (Option.some Jvm.ClassFile.FieldType.int)) ∈ lw_all := lw_g (lw_at lw_m5 139 rfl) rfl
theorem q1188 : (Jvm.Cond.methodLink "SetupJobShop$Dispatcher" (100 : Nat) ({ cls := "SetupJobShop$Job", name := "work", desc := "(I)I" } : Jvm.MethodName)) ∈ lw_all := lw_g (lw_at lw_m5 140 rfl) rfl
theorem q1189 : (Jvm.Cond.methodLink "SetupJobShop$Dispatcher" (103 : Nat) ({ cls := "SetupJobShop$Job", name := "due", desc := "()I" } : Jvm.MethodName)) ∈ lw_all := lw_g (lw_at lw_m5 141 rfl) rfl
theorem q1190 : (Jvm.Cond.methodLink "SetupJobShop$Dispatcher" (126 : Nat) ({ cls := "SetupJobShop$Order", name := "add", desc := "(I)V" } : Jvm.MethodName)) ∈ lw_all := lw_g (lw_at lw_m5 142 rfl) rfl
theorem q2305 : (Jvm.Cond.castable "SetupJobShop$Dispatcher" "java/lang/Object") ∈ lw_tbl := lw_at lw_m10 57 rfl
theorem in_X10 : ∀ w ∈ wsX100, w ∈ lw_all := lw_in wsX100 [1143, 1145, 1147, 1149, 1151] (by decide +kernel) (by decide +kernel)

/-! SetupJobShop$Search -/
set_option maxRecDepth 100000
def RX11 : String := "SetupJobShop$Search"
def TX11 : u_T := fun k => match k with
  | 0 => ("SetupJobShop$Search", "shop", "LSetupJobShop$Shop;", true)
  | 1 => ("SetupJobShop$Search", "tenure", "I", true)
  | 2 => ("SetupJobShop$Search", "made", "Ljava/util/ArrayList;", true)
  | 3 => ("SetupJobShop$Search", "best", "Ljava/util/ArrayList;", false)
  | 4 => ("SetupJobShop$Search", "least", "I", false)
  | 5 => ("SetupJobShop$Search", "steps", "I", false)
  | 6 => ("SetupJobShop$Search", "chosenMachine", "I", false)
  | 7 => ("SetupJobShop$Search", "chosenPosition", "I", false)
  | _ => ("SetupJobShop$Search", "chosenMakespan", "I", false)
def tyX11 : Nat → FieldType := fun k => match k with
  | 0 => .object "SetupJobShop$Shop"
  | 1 => .int
  | 2 => .object "java/util/ArrayList"
  | 3 => .object "java/util/ArrayList"
  | 4 => .int
  | 5 => .int
  | 6 => .int
  | 7 => .int
  | _ => .int
abbrev wsX110 : List Cond := u_ws RX11 TX11 9
theorem nmX11 : ∀ a, a < 9 → ∀ b, b < 9 → a ≠ b → (TX11 a).2.1 ≠ (TX11 b).2.1 := by decide +kernel
theorem tyX11_ok : ∀ k, k < 9 → parseFieldDescriptor (TX11 k).2.2.1 = some (tyX11 k) := by decide +kernel
abbrev cX11_init : ByteArray := prog_14_method_1_code
def yX11_init : MethodName := ⟨RX11, "<init>", "(LSetupJobShop$Shop;I)V"⟩
def dkwX11_init_1 : List UInt8 := [181, 0, 22, 42, 182, 0, 26, 177]
abbrev dktX11_init_1 : List UInt8 := dkwX11_init_1 ++ []
def dkwX11_init_0 : List UInt8 := [42, 183, 0, 3, 42, 187, 0, 9, 89, 183, 0, 11, 181, 0, 12, 42, 43, 181, 0, 18, 42, 28]
abbrev dktX11_init_0 : List UInt8 := dkwX11_init_0 ++ dktX11_init_1
theorem dksX11_init_0 : cX11_init.data.toList.drop 0 = dktX11_init_0 := by decide +kernel
theorem dksX11_init_1 : cX11_init.data.toList.drop 22 = dktX11_init_1 := dk_seg dksX11_init_0 22 rfl rfl
theorem dX11_init_0 : decode cX11_init 0 = .ok (.aload_n 0, 1) := dk_42 (dk_at dksX11_init_0 0 rfl rfl)
theorem dX11_init_1 : decode cX11_init 1 = .ok (.invokespecial 3, 3) := dk_183 0 3 (dk_at dksX11_init_0 1 rfl rfl)
theorem dX11_init_4 : decode cX11_init 4 = .ok (.aload_n 0, 1) := dk_42 (dk_at dksX11_init_0 4 rfl rfl)
theorem dX11_init_5 : decode cX11_init 5 = .ok (.new 9, 3) := dk_187 0 9 (dk_at dksX11_init_0 5 rfl rfl)
theorem dX11_init_8 : decode cX11_init 8 = .ok (.dup, 1) := dk_89 (dk_at dksX11_init_0 8 rfl rfl)
theorem dX11_init_9 : decode cX11_init 9 = .ok (.invokespecial 11, 3) := dk_183 0 11 (dk_at dksX11_init_0 9 rfl rfl)
theorem dX11_init_12 : decode cX11_init 12 = .ok (.putfield 12, 3) := dk_181 0 12 (dk_at dksX11_init_0 12 rfl rfl)
theorem dX11_init_15 : decode cX11_init 15 = .ok (.aload_n 0, 1) := dk_42 (dk_at dksX11_init_0 15 rfl rfl)
theorem dX11_init_16 : decode cX11_init 16 = .ok (.aload_n 1, 1) := dk_43 (dk_at dksX11_init_0 16 rfl rfl)
theorem dX11_init_17 : decode cX11_init 17 = .ok (.putfield 18, 3) := dk_181 0 18 (dk_at dksX11_init_0 17 rfl rfl)
theorem dX11_init_20 : decode cX11_init 20 = .ok (.aload_n 0, 1) := dk_42 (dk_at dksX11_init_0 20 rfl rfl)
theorem dX11_init_21 : decode cX11_init 21 = .ok (.iload_n 2, 1) := dk_28 (dk_at dksX11_init_0 21 rfl rfl)
theorem dX11_init_22 : decode cX11_init 22 = .ok (.putfield 22, 3) := dk_181 0 22 (dk_at dksX11_init_1 0 rfl rfl)
theorem dX11_init_25 : decode cX11_init 25 = .ok (.aload_n 0, 1) := dk_42 (dk_at dksX11_init_1 3 rfl rfl)
theorem dX11_init_26 : decode cX11_init 26 = .ok (.invokevirtual 26, 3) := dk_182 0 26 (dk_at dksX11_init_1 4 rfl rfl)
theorem dX11_init_29 : decode cX11_init 29 = .ok (.return_, 1) := dk_177 (dk_at dksX11_init_1 7 rfl rfl)
abbrev cX11_keep : ByteArray := prog_14_method_2_code
def yX11_keep : MethodName := ⟨RX11, "keep", "()V"⟩
def dkwX11_keep_0 : List UInt8 := [42, 42, 180, 0, 18, 180, 0, 29, 181, 0, 34, 42, 42, 180, 0, 18, 182, 0, 37, 181, 0, 41, 177]
abbrev dktX11_keep_0 : List UInt8 := dkwX11_keep_0 ++ []
theorem dksX11_keep_0 : cX11_keep.data.toList.drop 0 = dktX11_keep_0 := by decide +kernel
theorem dX11_keep_0 : decode cX11_keep 0 = .ok (.aload_n 0, 1) := dk_42 (dk_at dksX11_keep_0 0 rfl rfl)
theorem dX11_keep_1 : decode cX11_keep 1 = .ok (.aload_n 0, 1) := dk_42 (dk_at dksX11_keep_0 1 rfl rfl)
theorem dX11_keep_2 : decode cX11_keep 2 = .ok (.getfield 18, 3) := dk_180 0 18 (dk_at dksX11_keep_0 2 rfl rfl)
theorem dX11_keep_5 : decode cX11_keep 5 = .ok (.getfield 29, 3) := dk_180 0 29 (dk_at dksX11_keep_0 5 rfl rfl)
theorem dX11_keep_8 : decode cX11_keep 8 = .ok (.putfield 34, 3) := dk_181 0 34 (dk_at dksX11_keep_0 8 rfl rfl)
theorem dX11_keep_11 : decode cX11_keep 11 = .ok (.aload_n 0, 1) := dk_42 (dk_at dksX11_keep_0 11 rfl rfl)
theorem dX11_keep_12 : decode cX11_keep 12 = .ok (.aload_n 0, 1) := dk_42 (dk_at dksX11_keep_0 12 rfl rfl)
theorem dX11_keep_13 : decode cX11_keep 13 = .ok (.getfield 18, 3) := dk_180 0 18 (dk_at dksX11_keep_0 13 rfl rfl)
theorem dX11_keep_16 : decode cX11_keep 16 = .ok (.invokevirtual 37, 3) := dk_182 0 37 (dk_at dksX11_keep_0 16 rfl rfl)
theorem dX11_keep_19 : decode cX11_keep 19 = .ok (.putfield 41, 3) := dk_181 0 41 (dk_at dksX11_keep_0 19 rfl rfl)
theorem dX11_keep_22 : decode cX11_keep 22 = .ok (.return_, 1) := dk_177 (dk_at dksX11_keep_0 22 rfl rfl)
abbrev cX11_run : ByteArray := prog_14_method_7_code
def yX11_run : MethodName := ⟨RX11, "run", "(I)V"⟩
def dkwX11_run_1 : List UInt8 := [180, 0, 18, 42, 180, 0, 41, 182, 0, 129, 177]
abbrev dktX11_run_1 : List UInt8 := dkwX11_run_1 ++ []
def dkwX11_run_0 : List UInt8 := [4, 61, 28, 153, 0, 19, 42, 180, 0, 63, 27, 162, 0, 11, 42, 182, 0, 126, 61, 167, 255, 239, 42]
abbrev dktX11_run_0 : List UInt8 := dkwX11_run_0 ++ dktX11_run_1
theorem dksX11_run_0 : cX11_run.data.toList.drop 0 = dktX11_run_0 := by decide +kernel
theorem dksX11_run_1 : cX11_run.data.toList.drop 23 = dktX11_run_1 := dk_seg dksX11_run_0 23 rfl rfl
theorem dX11_run_0 : decode cX11_run 0 = .ok (.iconst 1, 1) := dk_4 (dk_at dksX11_run_0 0 rfl rfl)
theorem dX11_run_1 : decode cX11_run 1 = .ok (.istore_n 2, 1) := dk_61 (dk_at dksX11_run_0 1 rfl rfl)
theorem dX11_run_2 : decode cX11_run 2 = .ok (.iload_n 2, 1) := dk_28 (dk_at dksX11_run_0 2 rfl rfl)
theorem dX11_run_3 : decode cX11_run 3 = .ok (.ifCond .eq 19, 3) := dk_153 0 19 (dk_at dksX11_run_0 3 rfl rfl)
theorem dX11_run_6 : decode cX11_run 6 = .ok (.aload_n 0, 1) := dk_42 (dk_at dksX11_run_0 6 rfl rfl)
theorem dX11_run_7 : decode cX11_run 7 = .ok (.getfield 63, 3) := dk_180 0 63 (dk_at dksX11_run_0 7 rfl rfl)
theorem dX11_run_10 : decode cX11_run 10 = .ok (.iload_n 1, 1) := dk_27 (dk_at dksX11_run_0 10 rfl rfl)
theorem dX11_run_11 : decode cX11_run 11 = .ok (.if_icmp .ge 11, 3) := dk_162 0 11 (dk_at dksX11_run_0 11 rfl rfl)
theorem dX11_run_14 : decode cX11_run 14 = .ok (.aload_n 0, 1) := dk_42 (dk_at dksX11_run_0 14 rfl rfl)
theorem dX11_run_15 : decode cX11_run 15 = .ok (.invokevirtual 126, 3) := dk_182 0 126 (dk_at dksX11_run_0 15 rfl rfl)
theorem dX11_run_18 : decode cX11_run 18 = .ok (.istore_n 2, 1) := dk_61 (dk_at dksX11_run_0 18 rfl rfl)
theorem dX11_run_19 : decode cX11_run 19 = .ok (.goto (-17), 3) := dk_167 255 239 (dk_at dksX11_run_0 19 rfl rfl)
theorem dX11_run_22 : decode cX11_run 22 = .ok (.aload_n 0, 1) := dk_42 (dk_at dksX11_run_0 22 rfl rfl)
theorem dX11_run_23 : decode cX11_run 23 = .ok (.getfield 18, 3) := dk_180 0 18 (dk_at dksX11_run_1 0 rfl rfl)
theorem dX11_run_26 : decode cX11_run 26 = .ok (.aload_n 0, 1) := dk_42 (dk_at dksX11_run_1 3 rfl rfl)
theorem dX11_run_27 : decode cX11_run 27 = .ok (.getfield 41, 3) := dk_180 0 41 (dk_at dksX11_run_1 4 rfl rfl)
theorem dX11_run_30 : decode cX11_run 30 = .ok (.invokevirtual 129, 3) := dk_182 0 129 (dk_at dksX11_run_1 7 rfl rfl)
theorem dX11_run_33 : decode cX11_run 33 = .ok (.return_, 1) := dk_177 (dk_at dksX11_run_1 10 rfl rfl)
abbrev cX11_step : ByteArray := prog_14_method_6_code
def yX11_step : MethodName := ⟨RX11, "step", "()Z"⟩
def dkwX11_step_8 : List UInt8 := [180, 0, 34, 162, 0, 7, 42, 182, 0, 26, 29, 172]
abbrev dktX11_step_8 : List UInt8 := dkwX11_step_8 ++ []
def dkwX11_step_7 : List UInt8 := [42, 89, 180, 0, 63, 4, 96, 181, 0, 63, 29, 153, 0, 21, 42, 180, 0, 18, 180, 0, 29, 42]
abbrev dktX11_step_7 : List UInt8 := dkwX11_step_7 ++ dktX11_step_8
def dkwX11_step_6 : List UInt8 := [183, 0, 119, 182, 0, 122, 87, 44, 42, 180, 0, 102, 182, 0, 83, 42, 180, 0, 18, 3, 182, 0, 87, 62]
abbrev dktX11_step_6 : List UInt8 := dkwX11_step_6 ++ dktX11_step_7
def dkwX11_step_5 : List UInt8 := [180, 0, 115, 42, 180, 0, 102, 4, 96, 46, 44, 180, 0, 115, 42, 180, 0, 102, 46, 42, 180, 0, 63]
abbrev dktX11_step_5 : List UInt8 := dkwX11_step_5 ++ dktX11_step_6
def dkwX11_step_4 : List UInt8 := [180, 0, 66, 42, 180, 0, 95, 182, 0, 48, 192, 0, 74, 77, 42, 180, 0, 12, 187, 0, 52, 89, 44]
abbrev dktX11_step_4 : List UInt8 := dkwX11_step_4 ++ dktX11_step_5
def dkwX11_step_3 : List UInt8 := [182, 0, 111, 132, 2, 1, 167, 255, 196, 42, 180, 0, 95, 2, 160, 0, 5, 3, 172, 42, 180, 0, 18]
abbrev dktX11_step_3 : List UInt8 := dkwX11_step_3 ++ dktX11_step_4
def dkwX11_step_2 : List UInt8 := [160, 0, 25, 42, 43, 28, 4, 100, 182, 0, 48, 192, 0, 70, 43, 28, 182, 0, 48, 192, 0, 70]
abbrev dktX11_step_2 : List UInt8 := dkwX11_step_2 ++ dktX11_step_3
def dkwX11_step_1 : List UInt8 := [28, 4, 100, 182, 0, 48, 192, 0, 70, 180, 0, 69, 43, 28, 182, 0, 48, 192, 0, 70, 180, 0, 69]
abbrev dktX11_step_1 : List UInt8 := dkwX11_step_1 ++ dktX11_step_2
def dkwX11_step_0 : List UInt8 := [42, 180, 0, 18, 182, 0, 108, 76, 42, 2, 181, 0, 95, 4, 61, 28, 43, 182, 0, 44, 162, 0, 58, 43]
abbrev dktX11_step_0 : List UInt8 := dkwX11_step_0 ++ dktX11_step_1
theorem dksX11_step_0 : cX11_step.data.toList.drop 0 = dktX11_step_0 := by decide +kernel
theorem dksX11_step_1 : cX11_step.data.toList.drop 24 = dktX11_step_1 := dk_seg dksX11_step_0 24 rfl rfl
theorem dksX11_step_2 : cX11_step.data.toList.drop 47 = dktX11_step_2 := dk_seg dksX11_step_1 23 rfl rfl
theorem dksX11_step_3 : cX11_step.data.toList.drop 69 = dktX11_step_3 := dk_seg dksX11_step_2 22 rfl rfl
theorem dksX11_step_4 : cX11_step.data.toList.drop 92 = dktX11_step_4 := dk_seg dksX11_step_3 23 rfl rfl
theorem dksX11_step_5 : cX11_step.data.toList.drop 115 = dktX11_step_5 := dk_seg dksX11_step_4 23 rfl rfl
theorem dksX11_step_6 : cX11_step.data.toList.drop 138 = dktX11_step_6 := dk_seg dksX11_step_5 23 rfl rfl
theorem dksX11_step_7 : cX11_step.data.toList.drop 162 = dktX11_step_7 := dk_seg dksX11_step_6 24 rfl rfl
theorem dksX11_step_8 : cX11_step.data.toList.drop 184 = dktX11_step_8 := dk_seg dksX11_step_7 22 rfl rfl
theorem dX11_step_0 : decode cX11_step 0 = .ok (.aload_n 0, 1) := dk_42 (dk_at dksX11_step_0 0 rfl rfl)
theorem dX11_step_1 : decode cX11_step 1 = .ok (.getfield 18, 3) := dk_180 0 18 (dk_at dksX11_step_0 1 rfl rfl)
theorem dX11_step_4 : decode cX11_step 4 = .ok (.invokevirtual 108, 3) := dk_182 0 108 (dk_at dksX11_step_0 4 rfl rfl)
theorem dX11_step_7 : decode cX11_step 7 = .ok (.astore_n 1, 1) := dk_76 (dk_at dksX11_step_0 7 rfl rfl)
theorem dX11_step_8 : decode cX11_step 8 = .ok (.aload_n 0, 1) := dk_42 (dk_at dksX11_step_0 8 rfl rfl)
theorem dX11_step_9 : decode cX11_step 9 = .ok (.iconst (-1), 1) := dk_2 (dk_at dksX11_step_0 9 rfl rfl)
theorem dX11_step_10 : decode cX11_step 10 = .ok (.putfield 95, 3) := dk_181 0 95 (dk_at dksX11_step_0 10 rfl rfl)
theorem dX11_step_13 : decode cX11_step 13 = .ok (.iconst 1, 1) := dk_4 (dk_at dksX11_step_0 13 rfl rfl)
theorem dX11_step_14 : decode cX11_step 14 = .ok (.istore_n 2, 1) := dk_61 (dk_at dksX11_step_0 14 rfl rfl)
theorem dX11_step_15 : decode cX11_step 15 = .ok (.iload_n 2, 1) := dk_28 (dk_at dksX11_step_0 15 rfl rfl)
theorem dX11_step_16 : decode cX11_step 16 = .ok (.aload_n 1, 1) := dk_43 (dk_at dksX11_step_0 16 rfl rfl)
theorem dX11_step_17 : decode cX11_step 17 = .ok (.invokevirtual 44, 3) := dk_182 0 44 (dk_at dksX11_step_0 17 rfl rfl)
theorem dX11_step_20 : decode cX11_step 20 = .ok (.if_icmp .ge 58, 3) := dk_162 0 58 (dk_at dksX11_step_0 20 rfl rfl)
theorem dX11_step_23 : decode cX11_step 23 = .ok (.aload_n 1, 1) := dk_43 (dk_at dksX11_step_0 23 rfl rfl)
theorem dX11_step_24 : decode cX11_step 24 = .ok (.iload_n 2, 1) := dk_28 (dk_at dksX11_step_1 0 rfl rfl)
theorem dX11_step_25 : decode cX11_step 25 = .ok (.iconst 1, 1) := dk_4 (dk_at dksX11_step_1 1 rfl rfl)
theorem dX11_step_26 : decode cX11_step 26 = .ok (.isub, 1) := dk_100 (dk_at dksX11_step_1 2 rfl rfl)
theorem dX11_step_27 : decode cX11_step 27 = .ok (.invokevirtual 48, 3) := dk_182 0 48 (dk_at dksX11_step_1 3 rfl rfl)
theorem dX11_step_30 : decode cX11_step 30 = .ok (.checkcast 70, 3) := dk_192 0 70 (dk_at dksX11_step_1 6 rfl rfl)
theorem dX11_step_33 : decode cX11_step 33 = .ok (.getfield 69, 3) := dk_180 0 69 (dk_at dksX11_step_1 9 rfl rfl)
theorem dX11_step_36 : decode cX11_step 36 = .ok (.aload_n 1, 1) := dk_43 (dk_at dksX11_step_1 12 rfl rfl)
theorem dX11_step_37 : decode cX11_step 37 = .ok (.iload_n 2, 1) := dk_28 (dk_at dksX11_step_1 13 rfl rfl)
theorem dX11_step_38 : decode cX11_step 38 = .ok (.invokevirtual 48, 3) := dk_182 0 48 (dk_at dksX11_step_1 14 rfl rfl)
theorem dX11_step_41 : decode cX11_step 41 = .ok (.checkcast 70, 3) := dk_192 0 70 (dk_at dksX11_step_1 17 rfl rfl)
theorem dX11_step_44 : decode cX11_step 44 = .ok (.getfield 69, 3) := dk_180 0 69 (dk_at dksX11_step_1 20 rfl rfl)
theorem dX11_step_47 : decode cX11_step 47 = .ok (.if_icmp .ne 25, 3) := dk_160 0 25 (dk_at dksX11_step_2 0 rfl rfl)
theorem dX11_step_50 : decode cX11_step 50 = .ok (.aload_n 0, 1) := dk_42 (dk_at dksX11_step_2 3 rfl rfl)
theorem dX11_step_51 : decode cX11_step 51 = .ok (.aload_n 1, 1) := dk_43 (dk_at dksX11_step_2 4 rfl rfl)
theorem dX11_step_52 : decode cX11_step 52 = .ok (.iload_n 2, 1) := dk_28 (dk_at dksX11_step_2 5 rfl rfl)
theorem dX11_step_53 : decode cX11_step 53 = .ok (.iconst 1, 1) := dk_4 (dk_at dksX11_step_2 6 rfl rfl)
theorem dX11_step_54 : decode cX11_step 54 = .ok (.isub, 1) := dk_100 (dk_at dksX11_step_2 7 rfl rfl)
theorem dX11_step_55 : decode cX11_step 55 = .ok (.invokevirtual 48, 3) := dk_182 0 48 (dk_at dksX11_step_2 8 rfl rfl)
theorem dX11_step_58 : decode cX11_step 58 = .ok (.checkcast 70, 3) := dk_192 0 70 (dk_at dksX11_step_2 11 rfl rfl)
theorem dX11_step_61 : decode cX11_step 61 = .ok (.aload_n 1, 1) := dk_43 (dk_at dksX11_step_2 14 rfl rfl)
theorem dX11_step_62 : decode cX11_step 62 = .ok (.iload_n 2, 1) := dk_28 (dk_at dksX11_step_2 15 rfl rfl)
theorem dX11_step_63 : decode cX11_step 63 = .ok (.invokevirtual 48, 3) := dk_182 0 48 (dk_at dksX11_step_2 16 rfl rfl)
theorem dX11_step_66 : decode cX11_step 66 = .ok (.checkcast 70, 3) := dk_192 0 70 (dk_at dksX11_step_2 19 rfl rfl)
theorem dX11_step_69 : decode cX11_step 69 = .ok (.invokevirtual 111, 3) := dk_182 0 111 (dk_at dksX11_step_3 0 rfl rfl)
theorem dX11_step_72 : decode cX11_step 72 = .ok (.iinc 2 1, 3) := dk_132 2 1 (dk_at dksX11_step_3 3 rfl rfl)
theorem dX11_step_75 : decode cX11_step 75 = .ok (.goto (-60), 3) := dk_167 255 196 (dk_at dksX11_step_3 6 rfl rfl)
theorem dX11_step_78 : decode cX11_step 78 = .ok (.aload_n 0, 1) := dk_42 (dk_at dksX11_step_3 9 rfl rfl)
theorem dX11_step_79 : decode cX11_step 79 = .ok (.getfield 95, 3) := dk_180 0 95 (dk_at dksX11_step_3 10 rfl rfl)
theorem dX11_step_82 : decode cX11_step 82 = .ok (.iconst (-1), 1) := dk_2 (dk_at dksX11_step_3 13 rfl rfl)
theorem dX11_step_83 : decode cX11_step 83 = .ok (.if_icmp .ne 5, 3) := dk_160 0 5 (dk_at dksX11_step_3 14 rfl rfl)
theorem dX11_step_86 : decode cX11_step 86 = .ok (.iconst 0, 1) := dk_3 (dk_at dksX11_step_3 17 rfl rfl)
theorem dX11_step_87 : decode cX11_step 87 = .ok (.ireturn, 1) := dk_172 (dk_at dksX11_step_3 18 rfl rfl)
theorem dX11_step_88 : decode cX11_step 88 = .ok (.aload_n 0, 1) := dk_42 (dk_at dksX11_step_3 19 rfl rfl)
theorem dX11_step_89 : decode cX11_step 89 = .ok (.getfield 18, 3) := dk_180 0 18 (dk_at dksX11_step_3 20 rfl rfl)
theorem dX11_step_92 : decode cX11_step 92 = .ok (.getfield 66, 3) := dk_180 0 66 (dk_at dksX11_step_4 0 rfl rfl)
theorem dX11_step_95 : decode cX11_step 95 = .ok (.aload_n 0, 1) := dk_42 (dk_at dksX11_step_4 3 rfl rfl)
theorem dX11_step_96 : decode cX11_step 96 = .ok (.getfield 95, 3) := dk_180 0 95 (dk_at dksX11_step_4 4 rfl rfl)
theorem dX11_step_99 : decode cX11_step 99 = .ok (.invokevirtual 48, 3) := dk_182 0 48 (dk_at dksX11_step_4 7 rfl rfl)
theorem dX11_step_102 : decode cX11_step 102 = .ok (.checkcast 74, 3) := dk_192 0 74 (dk_at dksX11_step_4 10 rfl rfl)
theorem dX11_step_105 : decode cX11_step 105 = .ok (.astore_n 2, 1) := dk_77 (dk_at dksX11_step_4 13 rfl rfl)
theorem dX11_step_106 : decode cX11_step 106 = .ok (.aload_n 0, 1) := dk_42 (dk_at dksX11_step_4 14 rfl rfl)
theorem dX11_step_107 : decode cX11_step 107 = .ok (.getfield 12, 3) := dk_180 0 12 (dk_at dksX11_step_4 15 rfl rfl)
theorem dX11_step_110 : decode cX11_step 110 = .ok (.new 52, 3) := dk_187 0 52 (dk_at dksX11_step_4 18 rfl rfl)
theorem dX11_step_113 : decode cX11_step 113 = .ok (.dup, 1) := dk_89 (dk_at dksX11_step_4 21 rfl rfl)
theorem dX11_step_114 : decode cX11_step 114 = .ok (.aload_n 2, 1) := dk_44 (dk_at dksX11_step_4 22 rfl rfl)
theorem dX11_step_115 : decode cX11_step 115 = .ok (.getfield 115, 3) := dk_180 0 115 (dk_at dksX11_step_5 0 rfl rfl)
theorem dX11_step_118 : decode cX11_step 118 = .ok (.aload_n 0, 1) := dk_42 (dk_at dksX11_step_5 3 rfl rfl)
theorem dX11_step_119 : decode cX11_step 119 = .ok (.getfield 102, 3) := dk_180 0 102 (dk_at dksX11_step_5 4 rfl rfl)
theorem dX11_step_122 : decode cX11_step 122 = .ok (.iconst 1, 1) := dk_4 (dk_at dksX11_step_5 7 rfl rfl)
theorem dX11_step_123 : decode cX11_step 123 = .ok (.iadd, 1) := dk_96 (dk_at dksX11_step_5 8 rfl rfl)
theorem dX11_step_124 : decode cX11_step 124 = .ok (.iaload, 1) := dk_46 (dk_at dksX11_step_5 9 rfl rfl)
theorem dX11_step_125 : decode cX11_step 125 = .ok (.aload_n 2, 1) := dk_44 (dk_at dksX11_step_5 10 rfl rfl)
theorem dX11_step_126 : decode cX11_step 126 = .ok (.getfield 115, 3) := dk_180 0 115 (dk_at dksX11_step_5 11 rfl rfl)
theorem dX11_step_129 : decode cX11_step 129 = .ok (.aload_n 0, 1) := dk_42 (dk_at dksX11_step_5 14 rfl rfl)
theorem dX11_step_130 : decode cX11_step 130 = .ok (.getfield 102, 3) := dk_180 0 102 (dk_at dksX11_step_5 15 rfl rfl)
theorem dX11_step_133 : decode cX11_step 133 = .ok (.iaload, 1) := dk_46 (dk_at dksX11_step_5 18 rfl rfl)
theorem dX11_step_134 : decode cX11_step 134 = .ok (.aload_n 0, 1) := dk_42 (dk_at dksX11_step_5 19 rfl rfl)
theorem dX11_step_135 : decode cX11_step 135 = .ok (.getfield 63, 3) := dk_180 0 63 (dk_at dksX11_step_5 20 rfl rfl)
theorem dX11_step_138 : decode cX11_step 138 = .ok (.invokespecial 119, 3) := dk_183 0 119 (dk_at dksX11_step_6 0 rfl rfl)
theorem dX11_step_141 : decode cX11_step 141 = .ok (.invokevirtual 122, 3) := dk_182 0 122 (dk_at dksX11_step_6 3 rfl rfl)
theorem dX11_step_144 : decode cX11_step 144 = .ok (.pop, 1) := dk_87 (dk_at dksX11_step_6 6 rfl rfl)
theorem dX11_step_145 : decode cX11_step 145 = .ok (.aload_n 2, 1) := dk_44 (dk_at dksX11_step_6 7 rfl rfl)
theorem dX11_step_146 : decode cX11_step 146 = .ok (.aload_n 0, 1) := dk_42 (dk_at dksX11_step_6 8 rfl rfl)
theorem dX11_step_147 : decode cX11_step 147 = .ok (.getfield 102, 3) := dk_180 0 102 (dk_at dksX11_step_6 9 rfl rfl)
theorem dX11_step_150 : decode cX11_step 150 = .ok (.invokevirtual 83, 3) := dk_182 0 83 (dk_at dksX11_step_6 12 rfl rfl)
theorem dX11_step_153 : decode cX11_step 153 = .ok (.aload_n 0, 1) := dk_42 (dk_at dksX11_step_6 15 rfl rfl)
theorem dX11_step_154 : decode cX11_step 154 = .ok (.getfield 18, 3) := dk_180 0 18 (dk_at dksX11_step_6 16 rfl rfl)
theorem dX11_step_157 : decode cX11_step 157 = .ok (.iconst 0, 1) := dk_3 (dk_at dksX11_step_6 19 rfl rfl)
theorem dX11_step_158 : decode cX11_step 158 = .ok (.invokevirtual 87, 3) := dk_182 0 87 (dk_at dksX11_step_6 20 rfl rfl)
theorem dX11_step_161 : decode cX11_step 161 = .ok (.istore_n 3, 1) := dk_62 (dk_at dksX11_step_6 23 rfl rfl)
theorem dX11_step_162 : decode cX11_step 162 = .ok (.aload_n 0, 1) := dk_42 (dk_at dksX11_step_7 0 rfl rfl)
theorem dX11_step_163 : decode cX11_step 163 = .ok (.dup, 1) := dk_89 (dk_at dksX11_step_7 1 rfl rfl)
theorem dX11_step_164 : decode cX11_step 164 = .ok (.getfield 63, 3) := dk_180 0 63 (dk_at dksX11_step_7 2 rfl rfl)
theorem dX11_step_167 : decode cX11_step 167 = .ok (.iconst 1, 1) := dk_4 (dk_at dksX11_step_7 5 rfl rfl)
theorem dX11_step_168 : decode cX11_step 168 = .ok (.iadd, 1) := dk_96 (dk_at dksX11_step_7 6 rfl rfl)
theorem dX11_step_169 : decode cX11_step 169 = .ok (.putfield 63, 3) := dk_181 0 63 (dk_at dksX11_step_7 7 rfl rfl)
theorem dX11_step_172 : decode cX11_step 172 = .ok (.iload_n 3, 1) := dk_29 (dk_at dksX11_step_7 10 rfl rfl)
theorem dX11_step_173 : decode cX11_step 173 = .ok (.ifCond .eq 21, 3) := dk_153 0 21 (dk_at dksX11_step_7 11 rfl rfl)
theorem dX11_step_176 : decode cX11_step 176 = .ok (.aload_n 0, 1) := dk_42 (dk_at dksX11_step_7 14 rfl rfl)
theorem dX11_step_177 : decode cX11_step 177 = .ok (.getfield 18, 3) := dk_180 0 18 (dk_at dksX11_step_7 15 rfl rfl)
theorem dX11_step_180 : decode cX11_step 180 = .ok (.getfield 29, 3) := dk_180 0 29 (dk_at dksX11_step_7 18 rfl rfl)
theorem dX11_step_183 : decode cX11_step 183 = .ok (.aload_n 0, 1) := dk_42 (dk_at dksX11_step_7 21 rfl rfl)
theorem dX11_step_184 : decode cX11_step 184 = .ok (.getfield 34, 3) := dk_180 0 34 (dk_at dksX11_step_8 0 rfl rfl)
theorem dX11_step_187 : decode cX11_step 187 = .ok (.if_icmp .ge 7, 3) := dk_162 0 7 (dk_at dksX11_step_8 3 rfl rfl)
theorem dX11_step_190 : decode cX11_step 190 = .ok (.aload_n 0, 1) := dk_42 (dk_at dksX11_step_8 6 rfl rfl)
theorem dX11_step_191 : decode cX11_step 191 = .ok (.invokevirtual 26, 3) := dk_182 0 26 (dk_at dksX11_step_8 7 rfl rfl)
theorem dX11_step_194 : decode cX11_step 194 = .ok (.iload_n 3, 1) := dk_29 (dk_at dksX11_step_8 10 rfl rfl)
theorem dX11_step_195 : decode cX11_step 195 = .ok (.ireturn, 1) := dk_172 (dk_at dksX11_step_8 11 rfl rfl)
abbrev cX11_tryPair : ByteArray := prog_14_method_4_code
def yX11_tryPair : MethodName := ⟨RX11, "tryPair", "(LSetupJobShop$Operation;LSetupJobShop$Operation;)V"⟩
def dkwX11_tryPair_6 : List UInt8 := [21, 6, 181, 0, 105, 177]
abbrev dktX11_tryPair_6 : List UInt8 := dkwX11_tryPair_6 ++ []
def dkwX11_tryPair_5 : List UInt8 := [21, 4, 182, 0, 98, 154, 0, 4, 177, 42, 43, 180, 0, 69, 181, 0, 95, 42, 21, 4, 181, 0, 102, 42]
abbrev dktX11_tryPair_5 : List UInt8 := dkwX11_tryPair_5 ++ dktX11_tryPair_6
def dkwX11_tryPair_4 : List UInt8 := [182, 0, 83, 21, 5, 153, 0, 26, 42, 180, 0, 95, 2, 159, 0, 19, 42, 21, 6, 43, 180, 0, 69]
abbrev dktX11_tryPair_4 : List UInt8 := dkwX11_tryPair_4 ++ dktX11_tryPair_5
def dkwX11_tryPair_3 : List UInt8 := [162, 0, 7, 4, 167, 0, 4, 3, 54, 5, 42, 180, 0, 18, 180, 0, 29, 54, 6, 45, 21, 4]
abbrev dktX11_tryPair_3 : List UInt8 := dkwX11_tryPair_3 ++ dktX11_tryPair_4
def dkwX11_tryPair_2 : List UInt8 := [180, 0, 76, 43, 180, 0, 76, 182, 0, 91, 153, 0, 17, 42, 180, 0, 18, 180, 0, 29, 42, 180, 0, 34]
abbrev dktX11_tryPair_2 : List UInt8 := dkwX11_tryPair_2 ++ dktX11_tryPair_3
def dkwX11_tryPair_1 : List UInt8 := [182, 0, 79, 54, 4, 45, 21, 4, 182, 0, 83, 42, 180, 0, 18, 3, 182, 0, 87, 153, 0, 36, 42, 44]
abbrev dktX11_tryPair_1 : List UInt8 := dkwX11_tryPair_1 ++ dktX11_tryPair_2
def dkwX11_tryPair_0 : List UInt8 := [42, 180, 0, 18, 180, 0, 66, 43, 180, 0, 69, 182, 0, 48, 192, 0, 74, 78, 45, 43, 180, 0, 76]
abbrev dktX11_tryPair_0 : List UInt8 := dkwX11_tryPair_0 ++ dktX11_tryPair_1
theorem dksX11_tryPair_0 : cX11_tryPair.data.toList.drop 0 = dktX11_tryPair_0 := by decide +kernel
theorem dksX11_tryPair_1 : cX11_tryPair.data.toList.drop 23 = dktX11_tryPair_1 := dk_seg dksX11_tryPair_0 23 rfl rfl
theorem dksX11_tryPair_2 : cX11_tryPair.data.toList.drop 47 = dktX11_tryPair_2 := dk_seg dksX11_tryPair_1 24 rfl rfl
theorem dksX11_tryPair_3 : cX11_tryPair.data.toList.drop 71 = dktX11_tryPair_3 := dk_seg dksX11_tryPair_2 24 rfl rfl
theorem dksX11_tryPair_4 : cX11_tryPair.data.toList.drop 93 = dktX11_tryPair_4 := dk_seg dksX11_tryPair_3 22 rfl rfl
theorem dksX11_tryPair_5 : cX11_tryPair.data.toList.drop 116 = dktX11_tryPair_5 := dk_seg dksX11_tryPair_4 23 rfl rfl
theorem dksX11_tryPair_6 : cX11_tryPair.data.toList.drop 140 = dktX11_tryPair_6 := dk_seg dksX11_tryPair_5 24 rfl rfl
theorem dX11_tryPair_0 : decode cX11_tryPair 0 = .ok (.aload_n 0, 1) := dk_42 (dk_at dksX11_tryPair_0 0 rfl rfl)
theorem dX11_tryPair_1 : decode cX11_tryPair 1 = .ok (.getfield 18, 3) := dk_180 0 18 (dk_at dksX11_tryPair_0 1 rfl rfl)
theorem dX11_tryPair_4 : decode cX11_tryPair 4 = .ok (.getfield 66, 3) := dk_180 0 66 (dk_at dksX11_tryPair_0 4 rfl rfl)
theorem dX11_tryPair_7 : decode cX11_tryPair 7 = .ok (.aload_n 1, 1) := dk_43 (dk_at dksX11_tryPair_0 7 rfl rfl)
theorem dX11_tryPair_8 : decode cX11_tryPair 8 = .ok (.getfield 69, 3) := dk_180 0 69 (dk_at dksX11_tryPair_0 8 rfl rfl)
theorem dX11_tryPair_11 : decode cX11_tryPair 11 = .ok (.invokevirtual 48, 3) := dk_182 0 48 (dk_at dksX11_tryPair_0 11 rfl rfl)
theorem dX11_tryPair_14 : decode cX11_tryPair 14 = .ok (.checkcast 74, 3) := dk_192 0 74 (dk_at dksX11_tryPair_0 14 rfl rfl)
theorem dX11_tryPair_17 : decode cX11_tryPair 17 = .ok (.astore_n 3, 1) := dk_78 (dk_at dksX11_tryPair_0 17 rfl rfl)
theorem dX11_tryPair_18 : decode cX11_tryPair 18 = .ok (.aload_n 3, 1) := dk_45 (dk_at dksX11_tryPair_0 18 rfl rfl)
theorem dX11_tryPair_19 : decode cX11_tryPair 19 = .ok (.aload_n 1, 1) := dk_43 (dk_at dksX11_tryPair_0 19 rfl rfl)
theorem dX11_tryPair_20 : decode cX11_tryPair 20 = .ok (.getfield 76, 3) := dk_180 0 76 (dk_at dksX11_tryPair_0 20 rfl rfl)
theorem dX11_tryPair_23 : decode cX11_tryPair 23 = .ok (.invokevirtual 79, 3) := dk_182 0 79 (dk_at dksX11_tryPair_1 0 rfl rfl)
theorem dX11_tryPair_26 : decode cX11_tryPair 26 = .ok (.istore 4, 2) := dk_54 4 (dk_at dksX11_tryPair_1 3 rfl rfl)
theorem dX11_tryPair_28 : decode cX11_tryPair 28 = .ok (.aload_n 3, 1) := dk_45 (dk_at dksX11_tryPair_1 5 rfl rfl)
theorem dX11_tryPair_29 : decode cX11_tryPair 29 = .ok (.iload 4, 2) := dk_21 4 (dk_at dksX11_tryPair_1 6 rfl rfl)
theorem dX11_tryPair_31 : decode cX11_tryPair 31 = .ok (.invokevirtual 83, 3) := dk_182 0 83 (dk_at dksX11_tryPair_1 8 rfl rfl)
theorem dX11_tryPair_34 : decode cX11_tryPair 34 = .ok (.aload_n 0, 1) := dk_42 (dk_at dksX11_tryPair_1 11 rfl rfl)
theorem dX11_tryPair_35 : decode cX11_tryPair 35 = .ok (.getfield 18, 3) := dk_180 0 18 (dk_at dksX11_tryPair_1 12 rfl rfl)
theorem dX11_tryPair_38 : decode cX11_tryPair 38 = .ok (.iconst 0, 1) := dk_3 (dk_at dksX11_tryPair_1 15 rfl rfl)
theorem dX11_tryPair_39 : decode cX11_tryPair 39 = .ok (.invokevirtual 87, 3) := dk_182 0 87 (dk_at dksX11_tryPair_1 16 rfl rfl)
theorem dX11_tryPair_42 : decode cX11_tryPair 42 = .ok (.ifCond .eq 36, 3) := dk_153 0 36 (dk_at dksX11_tryPair_1 19 rfl rfl)
theorem dX11_tryPair_45 : decode cX11_tryPair 45 = .ok (.aload_n 0, 1) := dk_42 (dk_at dksX11_tryPair_1 22 rfl rfl)
theorem dX11_tryPair_46 : decode cX11_tryPair 46 = .ok (.aload_n 2, 1) := dk_44 (dk_at dksX11_tryPair_1 23 rfl rfl)
theorem dX11_tryPair_47 : decode cX11_tryPair 47 = .ok (.getfield 76, 3) := dk_180 0 76 (dk_at dksX11_tryPair_2 0 rfl rfl)
theorem dX11_tryPair_50 : decode cX11_tryPair 50 = .ok (.aload_n 1, 1) := dk_43 (dk_at dksX11_tryPair_2 3 rfl rfl)
theorem dX11_tryPair_51 : decode cX11_tryPair 51 = .ok (.getfield 76, 3) := dk_180 0 76 (dk_at dksX11_tryPair_2 4 rfl rfl)
theorem dX11_tryPair_54 : decode cX11_tryPair 54 = .ok (.invokevirtual 91, 3) := dk_182 0 91 (dk_at dksX11_tryPair_2 7 rfl rfl)
theorem dX11_tryPair_57 : decode cX11_tryPair 57 = .ok (.ifCond .eq 17, 3) := dk_153 0 17 (dk_at dksX11_tryPair_2 10 rfl rfl)
theorem dX11_tryPair_60 : decode cX11_tryPair 60 = .ok (.aload_n 0, 1) := dk_42 (dk_at dksX11_tryPair_2 13 rfl rfl)
theorem dX11_tryPair_61 : decode cX11_tryPair 61 = .ok (.getfield 18, 3) := dk_180 0 18 (dk_at dksX11_tryPair_2 14 rfl rfl)
theorem dX11_tryPair_64 : decode cX11_tryPair 64 = .ok (.getfield 29, 3) := dk_180 0 29 (dk_at dksX11_tryPair_2 17 rfl rfl)
theorem dX11_tryPair_67 : decode cX11_tryPair 67 = .ok (.aload_n 0, 1) := dk_42 (dk_at dksX11_tryPair_2 20 rfl rfl)
theorem dX11_tryPair_68 : decode cX11_tryPair 68 = .ok (.getfield 34, 3) := dk_180 0 34 (dk_at dksX11_tryPair_2 21 rfl rfl)
theorem dX11_tryPair_71 : decode cX11_tryPair 71 = .ok (.if_icmp .ge 7, 3) := dk_162 0 7 (dk_at dksX11_tryPair_3 0 rfl rfl)
theorem dX11_tryPair_74 : decode cX11_tryPair 74 = .ok (.iconst 1, 1) := dk_4 (dk_at dksX11_tryPair_3 3 rfl rfl)
theorem dX11_tryPair_75 : decode cX11_tryPair 75 = .ok (.goto 4, 3) := dk_167 0 4 (dk_at dksX11_tryPair_3 4 rfl rfl)
theorem dX11_tryPair_78 : decode cX11_tryPair 78 = .ok (.iconst 0, 1) := dk_3 (dk_at dksX11_tryPair_3 7 rfl rfl)
theorem dX11_tryPair_79 : decode cX11_tryPair 79 = .ok (.istore 5, 2) := dk_54 5 (dk_at dksX11_tryPair_3 8 rfl rfl)
theorem dX11_tryPair_81 : decode cX11_tryPair 81 = .ok (.aload_n 0, 1) := dk_42 (dk_at dksX11_tryPair_3 10 rfl rfl)
theorem dX11_tryPair_82 : decode cX11_tryPair 82 = .ok (.getfield 18, 3) := dk_180 0 18 (dk_at dksX11_tryPair_3 11 rfl rfl)
theorem dX11_tryPair_85 : decode cX11_tryPair 85 = .ok (.getfield 29, 3) := dk_180 0 29 (dk_at dksX11_tryPair_3 14 rfl rfl)
theorem dX11_tryPair_88 : decode cX11_tryPair 88 = .ok (.istore 6, 2) := dk_54 6 (dk_at dksX11_tryPair_3 17 rfl rfl)
theorem dX11_tryPair_90 : decode cX11_tryPair 90 = .ok (.aload_n 3, 1) := dk_45 (dk_at dksX11_tryPair_3 19 rfl rfl)
theorem dX11_tryPair_91 : decode cX11_tryPair 91 = .ok (.iload 4, 2) := dk_21 4 (dk_at dksX11_tryPair_3 20 rfl rfl)
theorem dX11_tryPair_93 : decode cX11_tryPair 93 = .ok (.invokevirtual 83, 3) := dk_182 0 83 (dk_at dksX11_tryPair_4 0 rfl rfl)
theorem dX11_tryPair_96 : decode cX11_tryPair 96 = .ok (.iload 5, 2) := dk_21 5 (dk_at dksX11_tryPair_4 3 rfl rfl)
theorem dX11_tryPair_98 : decode cX11_tryPair 98 = .ok (.ifCond .eq 26, 3) := dk_153 0 26 (dk_at dksX11_tryPair_4 5 rfl rfl)
theorem dX11_tryPair_101 : decode cX11_tryPair 101 = .ok (.aload_n 0, 1) := dk_42 (dk_at dksX11_tryPair_4 8 rfl rfl)
theorem dX11_tryPair_102 : decode cX11_tryPair 102 = .ok (.getfield 95, 3) := dk_180 0 95 (dk_at dksX11_tryPair_4 9 rfl rfl)
theorem dX11_tryPair_105 : decode cX11_tryPair 105 = .ok (.iconst (-1), 1) := dk_2 (dk_at dksX11_tryPair_4 12 rfl rfl)
theorem dX11_tryPair_106 : decode cX11_tryPair 106 = .ok (.if_icmp .eq 19, 3) := dk_159 0 19 (dk_at dksX11_tryPair_4 13 rfl rfl)
theorem dX11_tryPair_109 : decode cX11_tryPair 109 = .ok (.aload_n 0, 1) := dk_42 (dk_at dksX11_tryPair_4 16 rfl rfl)
theorem dX11_tryPair_110 : decode cX11_tryPair 110 = .ok (.iload 6, 2) := dk_21 6 (dk_at dksX11_tryPair_4 17 rfl rfl)
theorem dX11_tryPair_112 : decode cX11_tryPair 112 = .ok (.aload_n 1, 1) := dk_43 (dk_at dksX11_tryPair_4 19 rfl rfl)
theorem dX11_tryPair_113 : decode cX11_tryPair 113 = .ok (.getfield 69, 3) := dk_180 0 69 (dk_at dksX11_tryPair_4 20 rfl rfl)
theorem dX11_tryPair_116 : decode cX11_tryPair 116 = .ok (.iload 4, 2) := dk_21 4 (dk_at dksX11_tryPair_5 0 rfl rfl)
theorem dX11_tryPair_118 : decode cX11_tryPair 118 = .ok (.invokevirtual 98, 3) := dk_182 0 98 (dk_at dksX11_tryPair_5 2 rfl rfl)
theorem dX11_tryPair_121 : decode cX11_tryPair 121 = .ok (.ifCond .ne 4, 3) := dk_154 0 4 (dk_at dksX11_tryPair_5 5 rfl rfl)
theorem dX11_tryPair_124 : decode cX11_tryPair 124 = .ok (.return_, 1) := dk_177 (dk_at dksX11_tryPair_5 8 rfl rfl)
theorem dX11_tryPair_125 : decode cX11_tryPair 125 = .ok (.aload_n 0, 1) := dk_42 (dk_at dksX11_tryPair_5 9 rfl rfl)
theorem dX11_tryPair_126 : decode cX11_tryPair 126 = .ok (.aload_n 1, 1) := dk_43 (dk_at dksX11_tryPair_5 10 rfl rfl)
theorem dX11_tryPair_127 : decode cX11_tryPair 127 = .ok (.getfield 69, 3) := dk_180 0 69 (dk_at dksX11_tryPair_5 11 rfl rfl)
theorem dX11_tryPair_130 : decode cX11_tryPair 130 = .ok (.putfield 95, 3) := dk_181 0 95 (dk_at dksX11_tryPair_5 14 rfl rfl)
theorem dX11_tryPair_133 : decode cX11_tryPair 133 = .ok (.aload_n 0, 1) := dk_42 (dk_at dksX11_tryPair_5 17 rfl rfl)
theorem dX11_tryPair_134 : decode cX11_tryPair 134 = .ok (.iload 4, 2) := dk_21 4 (dk_at dksX11_tryPair_5 18 rfl rfl)
theorem dX11_tryPair_136 : decode cX11_tryPair 136 = .ok (.putfield 102, 3) := dk_181 0 102 (dk_at dksX11_tryPair_5 20 rfl rfl)
theorem dX11_tryPair_139 : decode cX11_tryPair 139 = .ok (.aload_n 0, 1) := dk_42 (dk_at dksX11_tryPair_5 23 rfl rfl)
theorem dX11_tryPair_140 : decode cX11_tryPair 140 = .ok (.iload 6, 2) := dk_21 6 (dk_at dksX11_tryPair_6 0 rfl rfl)
theorem dX11_tryPair_142 : decode cX11_tryPair 142 = .ok (.putfield 105, 3) := dk_181 0 105 (dk_at dksX11_tryPair_6 2 rfl rfl)
theorem dX11_tryPair_145 : decode cX11_tryPair 145 = .ok (.return_, 1) := dk_177 (dk_at dksX11_tryPair_6 5 rfl rfl)
abbrev cX11_isForbidden : ByteArray := prog_14_method_3_code
def yX11_isForbidden : MethodName := ⟨RX11, "isForbidden", "(II)Z"⟩
def dkwX11_isForbidden_3 : List UInt8 := [3, 128, 62, 132, 4, 1, 167, 255, 184, 29, 172]
abbrev dktX11_isForbidden_3 : List UInt8 := dkwX11_isForbidden_3 ++ []
def dkwX11_isForbidden_2 : List UInt8 := [160, 0, 24, 25, 5, 180, 0, 60, 42, 180, 0, 63, 42, 180, 0, 22, 100, 161, 0, 7, 4, 167, 0, 4]
abbrev dktX11_isForbidden_2 : List UInt8 := dkwX11_isForbidden_2 ++ dktX11_isForbidden_3
def dkwX11_isForbidden_1 : List UInt8 := [182, 0, 48, 192, 0, 52, 58, 5, 29, 25, 5, 180, 0, 54, 28, 160, 0, 33, 25, 5, 180, 0, 57, 27]
abbrev dktX11_isForbidden_1 : List UInt8 := dkwX11_isForbidden_1 ++ dktX11_isForbidden_2
def dkwX11_isForbidden_0 : List UInt8 := [3, 62, 3, 54, 4, 21, 4, 42, 180, 0, 12, 182, 0, 44, 162, 0, 66, 42, 180, 0, 12, 21, 4]
abbrev dktX11_isForbidden_0 : List UInt8 := dkwX11_isForbidden_0 ++ dktX11_isForbidden_1
theorem dksX11_isForbidden_0 : cX11_isForbidden.data.toList.drop 0 = dktX11_isForbidden_0 := by decide +kernel
theorem dksX11_isForbidden_1 : cX11_isForbidden.data.toList.drop 23 = dktX11_isForbidden_1 := dk_seg dksX11_isForbidden_0 23 rfl rfl
theorem dksX11_isForbidden_2 : cX11_isForbidden.data.toList.drop 47 = dktX11_isForbidden_2 := dk_seg dksX11_isForbidden_1 24 rfl rfl
theorem dksX11_isForbidden_3 : cX11_isForbidden.data.toList.drop 71 = dktX11_isForbidden_3 := dk_seg dksX11_isForbidden_2 24 rfl rfl
theorem dX11_isForbidden_0 : decode cX11_isForbidden 0 = .ok (.iconst 0, 1) := dk_3 (dk_at dksX11_isForbidden_0 0 rfl rfl)
theorem dX11_isForbidden_1 : decode cX11_isForbidden 1 = .ok (.istore_n 3, 1) := dk_62 (dk_at dksX11_isForbidden_0 1 rfl rfl)
theorem dX11_isForbidden_2 : decode cX11_isForbidden 2 = .ok (.iconst 0, 1) := dk_3 (dk_at dksX11_isForbidden_0 2 rfl rfl)
theorem dX11_isForbidden_3 : decode cX11_isForbidden 3 = .ok (.istore 4, 2) := dk_54 4 (dk_at dksX11_isForbidden_0 3 rfl rfl)
theorem dX11_isForbidden_5 : decode cX11_isForbidden 5 = .ok (.iload 4, 2) := dk_21 4 (dk_at dksX11_isForbidden_0 5 rfl rfl)
theorem dX11_isForbidden_7 : decode cX11_isForbidden 7 = .ok (.aload_n 0, 1) := dk_42 (dk_at dksX11_isForbidden_0 7 rfl rfl)
theorem dX11_isForbidden_8 : decode cX11_isForbidden 8 = .ok (.getfield 12, 3) := dk_180 0 12 (dk_at dksX11_isForbidden_0 8 rfl rfl)
theorem dX11_isForbidden_11 : decode cX11_isForbidden 11 = .ok (.invokevirtual 44, 3) := dk_182 0 44 (dk_at dksX11_isForbidden_0 11 rfl rfl)
theorem dX11_isForbidden_14 : decode cX11_isForbidden 14 = .ok (.if_icmp .ge 66, 3) := dk_162 0 66 (dk_at dksX11_isForbidden_0 14 rfl rfl)
theorem dX11_isForbidden_17 : decode cX11_isForbidden 17 = .ok (.aload_n 0, 1) := dk_42 (dk_at dksX11_isForbidden_0 17 rfl rfl)
theorem dX11_isForbidden_18 : decode cX11_isForbidden 18 = .ok (.getfield 12, 3) := dk_180 0 12 (dk_at dksX11_isForbidden_0 18 rfl rfl)
theorem dX11_isForbidden_21 : decode cX11_isForbidden 21 = .ok (.iload 4, 2) := dk_21 4 (dk_at dksX11_isForbidden_0 21 rfl rfl)
theorem dX11_isForbidden_23 : decode cX11_isForbidden 23 = .ok (.invokevirtual 48, 3) := dk_182 0 48 (dk_at dksX11_isForbidden_1 0 rfl rfl)
theorem dX11_isForbidden_26 : decode cX11_isForbidden 26 = .ok (.checkcast 52, 3) := dk_192 0 52 (dk_at dksX11_isForbidden_1 3 rfl rfl)
theorem dX11_isForbidden_29 : decode cX11_isForbidden 29 = .ok (.astore 5, 2) := dk_58 5 (dk_at dksX11_isForbidden_1 6 rfl rfl)
theorem dX11_isForbidden_31 : decode cX11_isForbidden 31 = .ok (.iload_n 3, 1) := dk_29 (dk_at dksX11_isForbidden_1 8 rfl rfl)
theorem dX11_isForbidden_32 : decode cX11_isForbidden 32 = .ok (.aload 5, 2) := dk_25 5 (dk_at dksX11_isForbidden_1 9 rfl rfl)
theorem dX11_isForbidden_34 : decode cX11_isForbidden 34 = .ok (.getfield 54, 3) := dk_180 0 54 (dk_at dksX11_isForbidden_1 11 rfl rfl)
theorem dX11_isForbidden_37 : decode cX11_isForbidden 37 = .ok (.iload_n 2, 1) := dk_28 (dk_at dksX11_isForbidden_1 14 rfl rfl)
theorem dX11_isForbidden_38 : decode cX11_isForbidden 38 = .ok (.if_icmp .ne 33, 3) := dk_160 0 33 (dk_at dksX11_isForbidden_1 15 rfl rfl)
theorem dX11_isForbidden_41 : decode cX11_isForbidden 41 = .ok (.aload 5, 2) := dk_25 5 (dk_at dksX11_isForbidden_1 18 rfl rfl)
theorem dX11_isForbidden_43 : decode cX11_isForbidden 43 = .ok (.getfield 57, 3) := dk_180 0 57 (dk_at dksX11_isForbidden_1 20 rfl rfl)
theorem dX11_isForbidden_46 : decode cX11_isForbidden 46 = .ok (.iload_n 1, 1) := dk_27 (dk_at dksX11_isForbidden_1 23 rfl rfl)
theorem dX11_isForbidden_47 : decode cX11_isForbidden 47 = .ok (.if_icmp .ne 24, 3) := dk_160 0 24 (dk_at dksX11_isForbidden_2 0 rfl rfl)
theorem dX11_isForbidden_50 : decode cX11_isForbidden 50 = .ok (.aload 5, 2) := dk_25 5 (dk_at dksX11_isForbidden_2 3 rfl rfl)
theorem dX11_isForbidden_52 : decode cX11_isForbidden 52 = .ok (.getfield 60, 3) := dk_180 0 60 (dk_at dksX11_isForbidden_2 5 rfl rfl)
theorem dX11_isForbidden_55 : decode cX11_isForbidden 55 = .ok (.aload_n 0, 1) := dk_42 (dk_at dksX11_isForbidden_2 8 rfl rfl)
theorem dX11_isForbidden_56 : decode cX11_isForbidden 56 = .ok (.getfield 63, 3) := dk_180 0 63 (dk_at dksX11_isForbidden_2 9 rfl rfl)
theorem dX11_isForbidden_59 : decode cX11_isForbidden 59 = .ok (.aload_n 0, 1) := dk_42 (dk_at dksX11_isForbidden_2 12 rfl rfl)
theorem dX11_isForbidden_60 : decode cX11_isForbidden 60 = .ok (.getfield 22, 3) := dk_180 0 22 (dk_at dksX11_isForbidden_2 13 rfl rfl)
theorem dX11_isForbidden_63 : decode cX11_isForbidden 63 = .ok (.isub, 1) := dk_100 (dk_at dksX11_isForbidden_2 16 rfl rfl)
theorem dX11_isForbidden_64 : decode cX11_isForbidden 64 = .ok (.if_icmp .lt 7, 3) := dk_161 0 7 (dk_at dksX11_isForbidden_2 17 rfl rfl)
theorem dX11_isForbidden_67 : decode cX11_isForbidden 67 = .ok (.iconst 1, 1) := dk_4 (dk_at dksX11_isForbidden_2 20 rfl rfl)
theorem dX11_isForbidden_68 : decode cX11_isForbidden 68 = .ok (.goto 4, 3) := dk_167 0 4 (dk_at dksX11_isForbidden_2 21 rfl rfl)
theorem dX11_isForbidden_71 : decode cX11_isForbidden 71 = .ok (.iconst 0, 1) := dk_3 (dk_at dksX11_isForbidden_3 0 rfl rfl)
theorem dX11_isForbidden_72 : decode cX11_isForbidden 72 = .ok (.ior, 1) := dk_128 (dk_at dksX11_isForbidden_3 1 rfl rfl)
theorem dX11_isForbidden_73 : decode cX11_isForbidden 73 = .ok (.istore_n 3, 1) := dk_62 (dk_at dksX11_isForbidden_3 2 rfl rfl)
theorem dX11_isForbidden_74 : decode cX11_isForbidden 74 = .ok (.iinc 4 1, 3) := dk_132 4 1 (dk_at dksX11_isForbidden_3 3 rfl rfl)
theorem dX11_isForbidden_77 : decode cX11_isForbidden 77 = .ok (.goto (-72), 3) := dk_167 255 184 (dk_at dksX11_isForbidden_3 6 rfl rfl)
theorem dX11_isForbidden_80 : decode cX11_isForbidden 80 = .ok (.iload_n 3, 1) := dk_29 (dk_at dksX11_isForbidden_3 9 rfl rfl)
theorem dX11_isForbidden_81 : decode cX11_isForbidden 81 = .ok (.ireturn, 1) := dk_172 (dk_at dksX11_isForbidden_3 10 rfl rfl)
abbrev cX11_isBetter : ByteArray := prog_14_method_5_code
def yX11_isBetter : MethodName := ⟨RX11, "isBetter", "(III)Z"⟩
def dkwX11_isBetter_2 : List UInt8 := [180, 0, 102, 162, 0, 7, 4, 167, 0, 4, 3, 172]
abbrev dktX11_isBetter_2 : List UInt8 := dkwX11_isBetter_2 ++ []
def dkwX11_isBetter_1 : List UInt8 := [180, 0, 95, 159, 0, 19, 28, 42, 180, 0, 95, 162, 0, 7, 4, 167, 0, 20, 3, 167, 0, 16, 29, 42]
abbrev dktX11_isBetter_1 : List UInt8 := dkwX11_isBetter_1 ++ dktX11_isBetter_2
def dkwX11_isBetter_0 : List UInt8 := [27, 42, 180, 0, 105, 159, 0, 17, 27, 42, 180, 0, 105, 162, 0, 7, 4, 167, 0, 4, 3, 172, 28, 42]
abbrev dktX11_isBetter_0 : List UInt8 := dkwX11_isBetter_0 ++ dktX11_isBetter_1
theorem dksX11_isBetter_0 : cX11_isBetter.data.toList.drop 0 = dktX11_isBetter_0 := by decide +kernel
theorem dksX11_isBetter_1 : cX11_isBetter.data.toList.drop 24 = dktX11_isBetter_1 := dk_seg dksX11_isBetter_0 24 rfl rfl
theorem dksX11_isBetter_2 : cX11_isBetter.data.toList.drop 48 = dktX11_isBetter_2 := dk_seg dksX11_isBetter_1 24 rfl rfl
theorem dX11_isBetter_0 : decode cX11_isBetter 0 = .ok (.iload_n 1, 1) := dk_27 (dk_at dksX11_isBetter_0 0 rfl rfl)
theorem dX11_isBetter_1 : decode cX11_isBetter 1 = .ok (.aload_n 0, 1) := dk_42 (dk_at dksX11_isBetter_0 1 rfl rfl)
theorem dX11_isBetter_2 : decode cX11_isBetter 2 = .ok (.getfield 105, 3) := dk_180 0 105 (dk_at dksX11_isBetter_0 2 rfl rfl)
theorem dX11_isBetter_5 : decode cX11_isBetter 5 = .ok (.if_icmp .eq 17, 3) := dk_159 0 17 (dk_at dksX11_isBetter_0 5 rfl rfl)
theorem dX11_isBetter_8 : decode cX11_isBetter 8 = .ok (.iload_n 1, 1) := dk_27 (dk_at dksX11_isBetter_0 8 rfl rfl)
theorem dX11_isBetter_9 : decode cX11_isBetter 9 = .ok (.aload_n 0, 1) := dk_42 (dk_at dksX11_isBetter_0 9 rfl rfl)
theorem dX11_isBetter_10 : decode cX11_isBetter 10 = .ok (.getfield 105, 3) := dk_180 0 105 (dk_at dksX11_isBetter_0 10 rfl rfl)
theorem dX11_isBetter_13 : decode cX11_isBetter 13 = .ok (.if_icmp .ge 7, 3) := dk_162 0 7 (dk_at dksX11_isBetter_0 13 rfl rfl)
theorem dX11_isBetter_16 : decode cX11_isBetter 16 = .ok (.iconst 1, 1) := dk_4 (dk_at dksX11_isBetter_0 16 rfl rfl)
theorem dX11_isBetter_17 : decode cX11_isBetter 17 = .ok (.goto 4, 3) := dk_167 0 4 (dk_at dksX11_isBetter_0 17 rfl rfl)
theorem dX11_isBetter_20 : decode cX11_isBetter 20 = .ok (.iconst 0, 1) := dk_3 (dk_at dksX11_isBetter_0 20 rfl rfl)
theorem dX11_isBetter_21 : decode cX11_isBetter 21 = .ok (.ireturn, 1) := dk_172 (dk_at dksX11_isBetter_0 21 rfl rfl)
theorem dX11_isBetter_22 : decode cX11_isBetter 22 = .ok (.iload_n 2, 1) := dk_28 (dk_at dksX11_isBetter_0 22 rfl rfl)
theorem dX11_isBetter_23 : decode cX11_isBetter 23 = .ok (.aload_n 0, 1) := dk_42 (dk_at dksX11_isBetter_0 23 rfl rfl)
theorem dX11_isBetter_24 : decode cX11_isBetter 24 = .ok (.getfield 95, 3) := dk_180 0 95 (dk_at dksX11_isBetter_1 0 rfl rfl)
theorem dX11_isBetter_27 : decode cX11_isBetter 27 = .ok (.if_icmp .eq 19, 3) := dk_159 0 19 (dk_at dksX11_isBetter_1 3 rfl rfl)
theorem dX11_isBetter_30 : decode cX11_isBetter 30 = .ok (.iload_n 2, 1) := dk_28 (dk_at dksX11_isBetter_1 6 rfl rfl)
theorem dX11_isBetter_31 : decode cX11_isBetter 31 = .ok (.aload_n 0, 1) := dk_42 (dk_at dksX11_isBetter_1 7 rfl rfl)
theorem dX11_isBetter_32 : decode cX11_isBetter 32 = .ok (.getfield 95, 3) := dk_180 0 95 (dk_at dksX11_isBetter_1 8 rfl rfl)
theorem dX11_isBetter_35 : decode cX11_isBetter 35 = .ok (.if_icmp .ge 7, 3) := dk_162 0 7 (dk_at dksX11_isBetter_1 11 rfl rfl)
theorem dX11_isBetter_38 : decode cX11_isBetter 38 = .ok (.iconst 1, 1) := dk_4 (dk_at dksX11_isBetter_1 14 rfl rfl)
theorem dX11_isBetter_39 : decode cX11_isBetter 39 = .ok (.goto 20, 3) := dk_167 0 20 (dk_at dksX11_isBetter_1 15 rfl rfl)
theorem dX11_isBetter_42 : decode cX11_isBetter 42 = .ok (.iconst 0, 1) := dk_3 (dk_at dksX11_isBetter_1 18 rfl rfl)
theorem dX11_isBetter_43 : decode cX11_isBetter 43 = .ok (.goto 16, 3) := dk_167 0 16 (dk_at dksX11_isBetter_1 19 rfl rfl)
theorem dX11_isBetter_46 : decode cX11_isBetter 46 = .ok (.iload_n 3, 1) := dk_29 (dk_at dksX11_isBetter_1 22 rfl rfl)
theorem dX11_isBetter_47 : decode cX11_isBetter 47 = .ok (.aload_n 0, 1) := dk_42 (dk_at dksX11_isBetter_1 23 rfl rfl)
theorem dX11_isBetter_48 : decode cX11_isBetter 48 = .ok (.getfield 102, 3) := dk_180 0 102 (dk_at dksX11_isBetter_2 0 rfl rfl)
theorem dX11_isBetter_51 : decode cX11_isBetter 51 = .ok (.if_icmp .ge 7, 3) := dk_162 0 7 (dk_at dksX11_isBetter_2 3 rfl rfl)
theorem dX11_isBetter_54 : decode cX11_isBetter 54 = .ok (.iconst 1, 1) := dk_4 (dk_at dksX11_isBetter_2 6 rfl rfl)
theorem dX11_isBetter_55 : decode cX11_isBetter 55 = .ok (.goto 4, 3) := dk_167 0 4 (dk_at dksX11_isBetter_2 7 rfl rfl)
theorem dX11_isBetter_58 : decode cX11_isBetter 58 = .ok (.iconst 0, 1) := dk_3 (dk_at dksX11_isBetter_2 10 rfl rfl)
theorem dX11_isBetter_59 : decode cX11_isBetter 59 = .ok (.ireturn, 1) := dk_172 (dk_at dksX11_isBetter_2 11 rfl rfl)
theorem q123 : (Jvm.Cond.initialized "SetupJobShop$Search") ∈ lw_all := lw_g (lw_at lw_m1 35 rfl) rfl
theorem q217 : (Jvm.Cond.selects "SetupJobShop$Search" ({ cls := "java/lang/Object", name := "getClass", desc := "()Ljava/lang/Class;" } : Jvm.MethodName) ({ cls := "java/lang/Object", name := "getClass", desc := "()Ljava/lang/Class;" } : Jvm.MethodName)) ∈ lw_all := lw_g (lw_at lw_m1 129 rfl) rfl
theorem q254 : (Jvm.Cond.fieldLinkNest "SetupJobShop$Search" (115 : Nat) "SetupJobShop$Order" "row" "[I" "SetupJobShop") ∈ lw_tbl := lw_at lw_m1 166 rfl
theorem q280 : (Jvm.Cond.fieldLinkNest "SetupJobShop$Search" (66 : Nat) "SetupJobShop$Shop" "orders" "Ljava/util/ArrayList;" "SetupJobShop") ∈ lw_tbl := lw_at lw_m1 192 rfl
theorem q290 : (Jvm.Cond.fieldLinkNest "SetupJobShop$Search" (29 : Nat) "SetupJobShop$Shop" "makespan" "I" "SetupJobShop") ∈ lw_tbl := lw_at lw_m1 202 rfl
theorem q607 : (Jvm.Cond.fieldLinkNest "SetupJobShop$Search" (76 : Nat) "SetupJobShop$Operation" "number" "I" "SetupJobShop") ∈ lw_tbl := lw_at lw_m3 39 rfl
theorem q616 : (Jvm.Cond.fieldLinkNest "SetupJobShop$Search" (69 : Nat) "SetupJobShop$Operation" "machine" "I" "SetupJobShop") ∈ lw_tbl := lw_at lw_m3 48 rfl
theorem q1233 : (Jvm.Cond.instantiable "SetupJobShop$Search" (9 : Nat)) ∈ lw_all := lw_g (lw_at lw_m5 185 rfl) rfl
theorem q1235 : (Jvm.Cond.instanceMethod ({ cls := "SetupJobShop$Search", name := "<init>", desc := "(LSetupJobShop$Shop;I)V" } : Jvm.MethodName)) ∈ lw_all := lw_g (lw_at lw_m5 187 rfl) rfl
theorem q1236 : (Jvm.Cond.code ({ cls := "SetupJobShop$Search", name := "<init>", desc := "(LSetupJobShop$Shop;I)V" } : Jvm.MethodName) prog_14_method_1_code (3 : Nat) (Option.none : Option Jvm.ClassFile.FieldType)) ∈ lw_all := lw_g (lw_at lw_m5 188 rfl) rfl
theorem q1237 : (Jvm.Cond.methodLink "SetupJobShop$Search" (3 : Nat) ({ cls := "java/lang/Object", name := "<init>", desc := "()V" } : Jvm.MethodName)) ∈ lw_all := lw_g (lw_at lw_m5 189 rfl) rfl
theorem q1238 : (Jvm.Cond.classLink "SetupJobShop$Search" (9 : Nat) "java/util/ArrayList") ∈ lw_all := lw_g (lw_at lw_m5 190 rfl) rfl
theorem q1239 : (Jvm.Cond.methodLink "SetupJobShop$Search" (11 : Nat) ({ cls := "java/util/ArrayList", name := "<init>", desc := "()V" } : Jvm.MethodName)) ∈ lw_all := lw_g (lw_at lw_m5 191 rfl) rfl
theorem q1240 : (Jvm.Cond.methodLink "SetupJobShop$Search" (26 : Nat) ({ cls := "SetupJobShop$Search", name := "keep", desc := "()V" } : Jvm.MethodName)) ∈ lw_all := lw_g (lw_at lw_m5 192 rfl) rfl
theorem q1241 : (Jvm.Cond.privateMethod ({ cls := "SetupJobShop$Search", name := "keep", desc := "()V" } : Jvm.MethodName)) ∈ lw_tbl := lw_at lw_m5 193 rfl
theorem q1242 : (Jvm.Cond.instanceMethod ({ cls := "SetupJobShop$Search", name := "keep", desc := "()V" } : Jvm.MethodName)) ∈ lw_all := lw_g (lw_at lw_m5 194 rfl) rfl
theorem q1243 : (Jvm.Cond.code ({ cls := "SetupJobShop$Search", name := "keep", desc := "()V" } : Jvm.MethodName) prog_14_method_2_code (1 : Nat) (Option.none : Option Jvm.ClassFile.FieldType)) ∈ lw_all := lw_g (lw_at lw_m5 195 rfl) rfl
theorem q1244 : (Jvm.Cond.methodLink "SetupJobShop$Search" (37 : Nat) ({ cls := "SetupJobShop$Shop", name := "copyOrders", desc := "()Ljava/util/ArrayList;" } : Jvm.MethodName)) ∈ lw_all := lw_g (lw_at lw_m5 196 rfl) rfl
theorem q1248 : (Jvm.Cond.fieldLink "SetupJobShop$Search" (18 : Nat) "SetupJobShop$Search" "shop" "LSetupJobShop$Shop;") ∈ lw_all := lw_g (lw_at lw_m5 200 rfl) rfl
theorem q1249 : (Jvm.Cond.fieldLink "SetupJobShop$Search" (22 : Nat) "SetupJobShop$Search" "tenure" "I") ∈ lw_all := lw_g (lw_at lw_m5 201 rfl) rfl
theorem q1250 : (Jvm.Cond.fieldLink "SetupJobShop$Search" (12 : Nat) "SetupJobShop$Search" "made" "Ljava/util/ArrayList;") ∈ lw_all := lw_g (lw_at lw_m5 202 rfl) rfl
theorem q1251 : (Jvm.Cond.fieldLink "SetupJobShop$Search" (41 : Nat) "SetupJobShop$Search" "best" "Ljava/util/ArrayList;") ∈ lw_all := lw_g (lw_at lw_m5 203 rfl) rfl
theorem q1252 : (Jvm.Cond.fieldLink "SetupJobShop$Search" (34 : Nat) "SetupJobShop$Search" "least" "I") ∈ lw_all := lw_g (lw_at lw_m5 204 rfl) rfl
theorem q1253 : (Jvm.Cond.fieldLink "SetupJobShop$Search" (63 : Nat) "SetupJobShop$Search" "steps" "I") ∈ lw_all := lw_g (lw_at lw_m5 205 rfl) rfl
theorem q1255 : (Jvm.Cond.fieldLink "SetupJobShop$Search" (95 : Nat) "SetupJobShop$Search" "chosenMachine" "I") ∈ lw_all := lw_g (lw_at lw_m5 207 rfl) rfl
theorem q1256 : (Jvm.Cond.fieldLink "SetupJobShop$Search" (102 : Nat) "SetupJobShop$Search" "chosenPosition" "I") ∈ lw_all := lw_g (lw_at lw_m5 208 rfl) rfl
theorem q1257 : (Jvm.Cond.fieldLink "SetupJobShop$Search" (105 : Nat) "SetupJobShop$Search" "chosenMakespan" "I") ∈ lw_all := lw_g (lw_at lw_m5 209 rfl) rfl
theorem q1258 : (Jvm.Cond.laysFinal "SetupJobShop$Search" "SetupJobShop$Search" "shop" "LSetupJobShop$Shop;") ∈ lw_all := lw_g (lw_at lw_m5 210 rfl) rfl
theorem q1259 : (Jvm.Cond.soleField "SetupJobShop$Search" "shop") ∈ lw_all := lw_g (lw_at lw_m5 211 rfl) rfl
theorem q1260 : (Jvm.Cond.laysFinal "SetupJobShop$Search" "SetupJobShop$Search" "tenure" "I") ∈ lw_all := lw_g (lw_at lw_m5 212 rfl) rfl
theorem q1261 : (Jvm.Cond.soleField "SetupJobShop$Search" "tenure") ∈ lw_all := lw_g (lw_at lw_m5 213 rfl) rfl
theorem q1262 : (Jvm.Cond.laysFinal "SetupJobShop$Search" "SetupJobShop$Search" "made" "Ljava/util/ArrayList;") ∈ lw_all := lw_g (lw_at lw_m5 214 rfl) rfl
theorem q1263 : (Jvm.Cond.soleField "SetupJobShop$Search" "made") ∈ lw_all := lw_g (lw_at lw_m5 215 rfl) rfl
theorem q1264 : (Jvm.Cond.lays "SetupJobShop$Search" "SetupJobShop$Search" "best" "Ljava/util/ArrayList;") ∈ lw_all := lw_g (lw_at lw_m5 216 rfl) rfl
theorem q1265 : (Jvm.Cond.soleField "SetupJobShop$Search" "best") ∈ lw_all := lw_g (lw_at lw_m5 217 rfl) rfl
theorem q1266 : (Jvm.Cond.lays "SetupJobShop$Search" "SetupJobShop$Search" "least" "I") ∈ lw_all := lw_g (lw_at lw_m5 218 rfl) rfl
theorem q1267 : (Jvm.Cond.soleField "SetupJobShop$Search" "least") ∈ lw_all := lw_g (lw_at lw_m5 219 rfl) rfl
theorem q1268 : (Jvm.Cond.lays "SetupJobShop$Search" "SetupJobShop$Search" "steps" "I") ∈ lw_all := lw_g (lw_at lw_m5 220 rfl) rfl
theorem q1269 : (Jvm.Cond.soleField "SetupJobShop$Search" "steps") ∈ lw_all := lw_g (lw_at lw_m5 221 rfl) rfl
theorem q1270 : (Jvm.Cond.lays "SetupJobShop$Search" "SetupJobShop$Search" "chosenMachine" "I") ∈ lw_all := lw_g (lw_at lw_m5 222 rfl) rfl
theorem q1271 : (Jvm.Cond.soleField "SetupJobShop$Search" "chosenMachine") ∈ lw_all := lw_g (lw_at lw_m5 223 rfl) rfl
theorem q1272 : (Jvm.Cond.lays "SetupJobShop$Search" "SetupJobShop$Search" "chosenPosition" "I") ∈ lw_all := lw_g (lw_at lw_m5 224 rfl) rfl
theorem q1273 : (Jvm.Cond.soleField "SetupJobShop$Search" "chosenPosition") ∈ lw_all := lw_g (lw_at lw_m5 225 rfl) rfl
theorem q1274 : (Jvm.Cond.lays "SetupJobShop$Search" "SetupJobShop$Search" "chosenMakespan" "I") ∈ lw_all := lw_g (lw_at lw_m5 226 rfl) rfl
theorem q1275 : (Jvm.Cond.soleField "SetupJobShop$Search" "chosenMakespan") ∈ lw_all := lw_g (lw_at lw_m5 227 rfl) rfl
theorem q1276 : (Jvm.Cond.superclass "SetupJobShop$Search" "java/lang/Object") ∈ lw_all := lw_g (lw_at lw_m5 228 rfl) rfl
theorem q1278 : (Jvm.Cond.instanceMethod ({ cls := "SetupJobShop$Search", name := "run", desc := "(I)V" } : Jvm.MethodName)) ∈ lw_all := lw_g (lw_at lw_m5 230 rfl) rfl
theorem q1279 : (Jvm.Cond.selects "SetupJobShop$Search" ({ cls := "SetupJobShop$Search", name := "run", desc := "(I)V" } : Jvm.MethodName) ({ cls := "SetupJobShop$Search", name := "run", desc := "(I)V" } : Jvm.MethodName)) ∈ lw_all := lw_g (lw_at lw_m5 231 rfl) rfl
theorem q1280 : (Jvm.Cond.code ({ cls := "SetupJobShop$Search", name := "run", desc := "(I)V" } : Jvm.MethodName) prog_14_method_7_code (3 : Nat) (Option.none : Option Jvm.ClassFile.FieldType)) ∈ lw_all := lw_g (lw_at lw_m5 232 rfl) rfl
theorem q1281 : (Jvm.Cond.methodLink "SetupJobShop$Search" (126 : Nat) ({ cls := "SetupJobShop$Search", name := "step", desc := "()Z" } : Jvm.MethodName)) ∈ lw_all := lw_g (lw_at lw_m5 233 rfl) rfl
theorem q1282 : (Jvm.Cond.privateMethod ({ cls := "SetupJobShop$Search", name := "step", desc := "()Z" } : Jvm.MethodName)) ∈ lw_tbl := lw_at lw_m5 234 rfl
theorem q1283 : (Jvm.Cond.instanceMethod ({ cls := "SetupJobShop$Search", name := "step", desc := "()Z" } : Jvm.MethodName)) ∈ lw_all := lw_g (lw_at lw_m5 235 rfl) rfl
theorem q1284 : (Jvm.Cond.code ({ cls := "SetupJobShop$Search", name := "step", desc := "()Z" } : Jvm.MethodName) prog_14_method_6_code (4 : Nat) (Option.some Jvm.ClassFile.FieldType.boolean)) ∈ lw_all := lw_g (lw_at lw_m5 236 rfl) rfl
theorem q1285 : (Jvm.Cond.methodLink "SetupJobShop$Search" (108 : Nat) ({ cls := "SetupJobShop$Shop", name := "path", desc := "()Ljava/util/ArrayList;" } : Jvm.MethodName)) ∈ lw_all := lw_g (lw_at lw_m5 237 rfl) rfl
theorem q1286 : (Jvm.Cond.methodLink "SetupJobShop$Search" (44 : Nat) ({ cls := "java/util/ArrayList", name := "size", desc := "()I" } : Jvm.MethodName)) ∈ lw_all := lw_g (lw_at lw_m5 238 rfl) rfl
theorem q1287 : (Jvm.Cond.methodLink "SetupJobShop$Search" (48 : Nat) ({ cls := "java/util/ArrayList", name := "get", desc := "(I)Ljava/lang/Object;" } : Jvm.MethodName)) ∈ lw_all := lw_g (lw_at lw_m5 239 rfl) rfl
theorem q1288 : (Jvm.Cond.classLink "SetupJobShop$Search" (70 : Nat) "SetupJobShop$Operation") ∈ lw_all := lw_g (lw_at lw_m6 0 rfl) rfl
theorem q1289 : (Jvm.Cond.methodLink "SetupJobShop$Search" (111 : Nat) ({ cls := "SetupJobShop$Search", name := "tryPair", desc := "(LSetupJobShop$Operation;LSetupJobShop$Operation;)V" } : Jvm.MethodName)) ∈ lw_all := lw_g (lw_at lw_m6 1 rfl) rfl
theorem q1290 : (Jvm.Cond.privateMethod ({ cls := "SetupJobShop$Search", name := "tryPair", desc := "(LSetupJobShop$Operation;LSetupJobShop$Operation;)V" } : Jvm.MethodName)) ∈ lw_tbl := lw_at lw_m6 2 rfl
theorem q1291 : (Jvm.Cond.instanceMethod ({ cls := "SetupJobShop$Search", name := "tryPair", desc := "(LSetupJobShop$Operation;LSetupJobShop$Operation;)V" } : Jvm.MethodName)) ∈ lw_all := lw_g (lw_at lw_m6 3 rfl) rfl
theorem q1292 : (Jvm.Cond.code ({ cls := "SetupJobShop$Search", name := "tryPair", desc := "(LSetupJobShop$Operation;LSetupJobShop$Operation;)V" } : Jvm.MethodName) prog_14_method_4_code (7 : Nat) (Option.none : Option Jvm.ClassFile.FieldType)) ∈ lw_all := lw_g (lw_at lw_m6 4 rfl) rfl
theorem q1293 : (Jvm.Cond.classLink "SetupJobShop$Search" (74 : Nat) "SetupJobShop$Order") ∈ lw_all := lw_g (lw_at lw_m6 5 rfl) rfl
theorem q1294 : (Jvm.Cond.methodLink "SetupJobShop$Search" (79 : Nat) ({ cls := "SetupJobShop$Order", name := "positionOf", desc := "(I)I" } : Jvm.MethodName)) ∈ lw_all := lw_g (lw_at lw_m6 6 rfl) rfl
theorem q1295 : (Jvm.Cond.methodLink "SetupJobShop$Search" (83 : Nat) ({ cls := "SetupJobShop$Order", name := "swap", desc := "(I)V" } : Jvm.MethodName)) ∈ lw_all := lw_g (lw_at lw_m6 7 rfl) rfl
theorem q1296 : (Jvm.Cond.methodLink "SetupJobShop$Search" (87 : Nat) ({ cls := "SetupJobShop$Shop", name := "isScheduled", desc := "(I)Z" } : Jvm.MethodName)) ∈ lw_all := lw_g (lw_at lw_m6 8 rfl) rfl
theorem q1297 : (Jvm.Cond.methodLink "SetupJobShop$Search" (91 : Nat) ({ cls := "SetupJobShop$Search", name := "isForbidden", desc := "(II)Z" } : Jvm.MethodName)) ∈ lw_all := lw_g (lw_at lw_m6 9 rfl) rfl
theorem q1298 : (Jvm.Cond.privateMethod ({ cls := "SetupJobShop$Search", name := "isForbidden", desc := "(II)Z" } : Jvm.MethodName)) ∈ lw_tbl := lw_at lw_m6 10 rfl
theorem q1299 : (Jvm.Cond.instanceMethod ({ cls := "SetupJobShop$Search", name := "isForbidden", desc := "(II)Z" } : Jvm.MethodName)) ∈ lw_all := lw_g (lw_at lw_m6 11 rfl) rfl
theorem q1300 : (Jvm.Cond.code ({ cls := "SetupJobShop$Search", name := "isForbidden", desc := "(II)Z" } : Jvm.MethodName) prog_14_method_3_code (6 : Nat) (Option.some Jvm.ClassFile.FieldType.boolean)) ∈ lw_all := lw_g (lw_at lw_m6 12 rfl) rfl
theorem q1301 : (Jvm.Cond.classLink "SetupJobShop$Search" (52 : Nat) "SetupJobShop$Made") ∈ lw_all := lw_g (lw_at lw_m6 13 rfl) rfl
theorem q1302 : (Jvm.Cond.methodLink "SetupJobShop$Search" (98 : Nat) ({ cls := "SetupJobShop$Search", name := "isBetter", desc := "(III)Z" } : Jvm.MethodName)) ∈ lw_all := lw_g (lw_at lw_m6 14 rfl) rfl
theorem q1303 : (Jvm.Cond.privateMethod ({ cls := "SetupJobShop$Search", name := "isBetter", desc := "(III)Z" } : Jvm.MethodName)) ∈ lw_tbl := lw_at lw_m6 15 rfl
theorem q1304 : (Jvm.Cond.instanceMethod ({ cls := "SetupJobShop$Search", name := "isBetter", desc := "(III)Z" } : Jvm.MethodName)) ∈ lw_all := lw_g (lw_at lw_m6 16 rfl) rfl
theorem q1305 : (Jvm.Cond.code ({ cls := "SetupJobShop$Search", name := "isBetter", desc := "(III)Z" } : Jvm.MethodName) prog_14_method_5_code (4 : Nat) (Option.some Jvm.ClassFile.FieldType.boolean)) ∈ lw_all := lw_g (lw_at lw_m6 17 rfl) rfl
theorem q1307 : (Jvm.Cond.methodLink "SetupJobShop$Search" (119 : Nat) ({ cls := "SetupJobShop$Made", name := "<init>", desc := "(III)V" } : Jvm.MethodName)) ∈ lw_all := lw_g (lw_at lw_m6 19 rfl) rfl
theorem q1312 : (Jvm.Cond.fieldLinkNest "SetupJobShop$Search" (54 : Nat) "SetupJobShop$Made" "first" "I" "SetupJobShop") ∈ lw_tbl := lw_at lw_m6 24 rfl
theorem q1314 : (Jvm.Cond.fieldLinkNest "SetupJobShop$Search" (57 : Nat) "SetupJobShop$Made" "second" "I" "SetupJobShop") ∈ lw_tbl := lw_at lw_m6 26 rfl
theorem q1316 : (Jvm.Cond.fieldLinkNest "SetupJobShop$Search" (60 : Nat) "SetupJobShop$Made" "step" "I" "SetupJobShop") ∈ lw_tbl := lw_at lw_m6 28 rfl
theorem q1324 : (Jvm.Cond.methodLink "SetupJobShop$Search" (122 : Nat) ({ cls := "java/util/ArrayList", name := "add", desc := "(Ljava/lang/Object;)Z" } : Jvm.MethodName)) ∈ lw_all := lw_g (lw_at lw_m6 36 rfl) rfl
theorem q1325 : (Jvm.Cond.methodLink "SetupJobShop$Search" (129 : Nat) ({ cls := "SetupJobShop$Shop", name := "takeOrders", desc := "(Ljava/util/ArrayList;)V" } : Jvm.MethodName)) ∈ lw_all := lw_g (lw_at lw_m6 37 rfl) rfl
theorem q2306 : (Jvm.Cond.castable "SetupJobShop$Search" "java/lang/Object") ∈ lw_tbl := lw_at lw_m10 58 rfl
theorem in_X11 : ∀ w ∈ wsX110, w ∈ lw_all := lw_in wsX110 [1258, 1260, 1262, 1264, 1266, 1268, 1270, 1272, 1274] (by decide +kernel) (by decide +kernel)

/-! SetupJobShop$Made -/
set_option maxRecDepth 100000
def RX12 : String := "SetupJobShop$Made"
def TX12 : u_T := fun k => match k with
  | 0 => ("SetupJobShop$Made", "first", "I", true)
  | 1 => ("SetupJobShop$Made", "second", "I", true)
  | _ => ("SetupJobShop$Made", "step", "I", true)
def tyX12 : Nat → FieldType := fun k => match k with
  | 0 => .int
  | 1 => .int
  | _ => .int
abbrev wsX120 : List Cond := u_ws RX12 TX12 3
theorem nmX12 : ∀ a, a < 3 → ∀ b, b < 3 → a ≠ b → (TX12 a).2.1 ≠ (TX12 b).2.1 := by decide +kernel
theorem tyX12_ok : ∀ k, k < 3 → parseFieldDescriptor (TX12 k).2.2.1 = some (tyX12 k) := by decide +kernel
abbrev cX12_init : ByteArray := prog_9_method_1_code
def yX12_init : MethodName := ⟨RX12, "<init>", "(III)V"⟩
def dkwX12_init_0 : List UInt8 := [42, 183, 0, 1, 42, 27, 181, 0, 7, 42, 28, 181, 0, 13, 42, 29, 181, 0, 16, 177]
abbrev dktX12_init_0 : List UInt8 := dkwX12_init_0 ++ []
theorem dksX12_init_0 : cX12_init.data.toList.drop 0 = dktX12_init_0 := by decide +kernel
theorem dX12_init_0 : decode cX12_init 0 = .ok (.aload_n 0, 1) := dk_42 (dk_at dksX12_init_0 0 rfl rfl)
theorem dX12_init_1 : decode cX12_init 1 = .ok (.invokespecial 1, 3) := dk_183 0 1 (dk_at dksX12_init_0 1 rfl rfl)
theorem dX12_init_4 : decode cX12_init 4 = .ok (.aload_n 0, 1) := dk_42 (dk_at dksX12_init_0 4 rfl rfl)
theorem dX12_init_5 : decode cX12_init 5 = .ok (.iload_n 1, 1) := dk_27 (dk_at dksX12_init_0 5 rfl rfl)
theorem dX12_init_6 : decode cX12_init 6 = .ok (.putfield 7, 3) := dk_181 0 7 (dk_at dksX12_init_0 6 rfl rfl)
theorem dX12_init_9 : decode cX12_init 9 = .ok (.aload_n 0, 1) := dk_42 (dk_at dksX12_init_0 9 rfl rfl)
theorem dX12_init_10 : decode cX12_init 10 = .ok (.iload_n 2, 1) := dk_28 (dk_at dksX12_init_0 10 rfl rfl)
theorem dX12_init_11 : decode cX12_init 11 = .ok (.putfield 13, 3) := dk_181 0 13 (dk_at dksX12_init_0 11 rfl rfl)
theorem dX12_init_14 : decode cX12_init 14 = .ok (.aload_n 0, 1) := dk_42 (dk_at dksX12_init_0 14 rfl rfl)
theorem dX12_init_15 : decode cX12_init 15 = .ok (.iload_n 3, 1) := dk_29 (dk_at dksX12_init_0 15 rfl rfl)
theorem dX12_init_16 : decode cX12_init 16 = .ok (.putfield 16, 3) := dk_181 0 16 (dk_at dksX12_init_0 16 rfl rfl)
theorem dX12_init_19 : decode cX12_init 19 = .ok (.return_, 1) := dk_177 (dk_at dksX12_init_0 19 rfl rfl)
theorem q124 : (Jvm.Cond.initialized "SetupJobShop$Made") ∈ lw_all := lw_g (lw_at lw_m1 36 rfl) rfl
theorem q212 : (Jvm.Cond.selects "SetupJobShop$Made" ({ cls := "java/lang/Object", name := "getClass", desc := "()Ljava/lang/Class;" } : Jvm.MethodName) ({ cls := "java/lang/Object", name := "getClass", desc := "()Ljava/lang/Class;" } : Jvm.MethodName)) ∈ lw_all := lw_g (lw_at lw_m1 124 rfl) rfl
theorem q1306 : (Jvm.Cond.instantiable "SetupJobShop$Made" (3 : Nat)) ∈ lw_all := lw_g (lw_at lw_m6 18 rfl) rfl
theorem q1308 : (Jvm.Cond.instanceMethod ({ cls := "SetupJobShop$Made", name := "<init>", desc := "(III)V" } : Jvm.MethodName)) ∈ lw_all := lw_g (lw_at lw_m6 20 rfl) rfl
theorem q1309 : (Jvm.Cond.code ({ cls := "SetupJobShop$Made", name := "<init>", desc := "(III)V" } : Jvm.MethodName) prog_9_method_1_code (4 : Nat) (Option.none : Option Jvm.ClassFile.FieldType)) ∈ lw_all := lw_g (lw_at lw_m6 21 rfl) rfl
theorem q1310 : (Jvm.Cond.methodLink "SetupJobShop$Made" (1 : Nat) ({ cls := "java/lang/Object", name := "<init>", desc := "()V" } : Jvm.MethodName)) ∈ lw_all := lw_g (lw_at lw_m6 22 rfl) rfl
theorem q1311 : (Jvm.Cond.fieldLink "SetupJobShop$Made" (7 : Nat) "SetupJobShop$Made" "first" "I") ∈ lw_all := lw_g (lw_at lw_m6 23 rfl) rfl
theorem q1313 : (Jvm.Cond.fieldLink "SetupJobShop$Made" (13 : Nat) "SetupJobShop$Made" "second" "I") ∈ lw_all := lw_g (lw_at lw_m6 25 rfl) rfl
theorem q1315 : (Jvm.Cond.fieldLink "SetupJobShop$Made" (16 : Nat) "SetupJobShop$Made" "step" "I") ∈ lw_all := lw_g (lw_at lw_m6 27 rfl) rfl
theorem q1317 : (Jvm.Cond.laysFinal "SetupJobShop$Made" "SetupJobShop$Made" "first" "I") ∈ lw_all := lw_g (lw_at lw_m6 29 rfl) rfl
theorem q1318 : (Jvm.Cond.soleField "SetupJobShop$Made" "first") ∈ lw_all := lw_g (lw_at lw_m6 30 rfl) rfl
theorem q1319 : (Jvm.Cond.laysFinal "SetupJobShop$Made" "SetupJobShop$Made" "second" "I") ∈ lw_all := lw_g (lw_at lw_m6 31 rfl) rfl
theorem q1320 : (Jvm.Cond.soleField "SetupJobShop$Made" "second") ∈ lw_all := lw_g (lw_at lw_m6 32 rfl) rfl
theorem q1321 : (Jvm.Cond.laysFinal "SetupJobShop$Made" "SetupJobShop$Made" "step" "I") ∈ lw_all := lw_g (lw_at lw_m6 33 rfl) rfl
theorem q1322 : (Jvm.Cond.soleField "SetupJobShop$Made" "step") ∈ lw_all := lw_g (lw_at lw_m6 34 rfl) rfl
theorem q1323 : (Jvm.Cond.superclass "SetupJobShop$Made" "java/lang/Object") ∈ lw_all := lw_g (lw_at lw_m6 35 rfl) rfl
theorem q2307 : (Jvm.Cond.castable "SetupJobShop$Made" "java/lang/Object") ∈ lw_tbl := lw_at lw_m10 59 rfl
theorem in_X12 : ∀ w ∈ wsX120, w ∈ lw_all := lw_in wsX120 [1317, 1319, 1321] (by decide +kernel) (by decide +kernel)

/-! SetupJobShop$Reader -/
set_option maxRecDepth 100000
def RX13 : String := "SetupJobShop$Reader"
def TX13 : u_T := fun k => match k with
  | 0 => ("SetupJobShop$Reader", "text", "Ljava/lang/String;", true)
  | _ => ("SetupJobShop$Reader", "at", "I", false)
def tyX13 : Nat → FieldType := fun k => match k with
  | 0 => .object "java/lang/String"
  | _ => .int
abbrev wsX130 : List Cond := u_ws RX13 TX13 2
theorem nmX13 : ∀ a, a < 2 → ∀ b, b < 2 → a ≠ b → (TX13 a).2.1 ≠ (TX13 b).2.1 := by decide +kernel
theorem tyX13_ok : ∀ k, k < 2 → parseFieldDescriptor (TX13 k).2.2.1 = some (tyX13 k) := by decide +kernel
abbrev cX13_init : ByteArray := prog_12_method_1_code
def yX13_init : MethodName := ⟨RX13, "<init>", "(Ljava/lang/String;)V"⟩
def dkwX13_init_0 : List UInt8 := [42, 183, 0, 3, 42, 43, 181, 0, 9, 177]
abbrev dktX13_init_0 : List UInt8 := dkwX13_init_0 ++ []
theorem dksX13_init_0 : cX13_init.data.toList.drop 0 = dktX13_init_0 := by decide +kernel
theorem dX13_init_0 : decode cX13_init 0 = .ok (.aload_n 0, 1) := dk_42 (dk_at dksX13_init_0 0 rfl rfl)
theorem dX13_init_1 : decode cX13_init 1 = .ok (.invokespecial 3, 3) := dk_183 0 3 (dk_at dksX13_init_0 1 rfl rfl)
theorem dX13_init_4 : decode cX13_init 4 = .ok (.aload_n 0, 1) := dk_42 (dk_at dksX13_init_0 4 rfl rfl)
theorem dX13_init_5 : decode cX13_init 5 = .ok (.aload_n 1, 1) := dk_43 (dk_at dksX13_init_0 5 rfl rfl)
theorem dX13_init_6 : decode cX13_init 6 = .ok (.putfield 9, 3) := dk_181 0 9 (dk_at dksX13_init_0 6 rfl rfl)
theorem dX13_init_9 : decode cX13_init 9 = .ok (.return_, 1) := dk_177 (dk_at dksX13_init_0 9 rfl rfl)
abbrev cX13_read : ByteArray := prog_12_method_9_code
def yX13_read : MethodName := ⟨RX13, "read", "()Ljava/util/ArrayList;"⟩
def dkwX13_read_2 : List UInt8 := [182, 0, 19, 162, 0, 15, 187, 0, 36, 89, 42, 180, 0, 15, 183, 0, 38, 191, 43, 176]
abbrev dktX13_read_2 : List UInt8 := dkwX13_read_2 ++ []
def dkwX13_read_1 : List UInt8 := [153, 0, 15, 43, 42, 182, 0, 76, 182, 0, 69, 87, 167, 255, 238, 42, 180, 0, 15, 42, 180, 0, 9]
abbrev dktX13_read_1 : List UInt8 := dkwX13_read_1 ++ dktX13_read_2
def dkwX13_read_0 : List UInt8 := [187, 0, 70, 89, 183, 0, 75, 76, 43, 42, 182, 0, 76, 182, 0, 69, 87, 42, 16, 59, 182, 0, 32]
abbrev dktX13_read_0 : List UInt8 := dkwX13_read_0 ++ dktX13_read_1
theorem dksX13_read_0 : cX13_read.data.toList.drop 0 = dktX13_read_0 := by decide +kernel
theorem dksX13_read_1 : cX13_read.data.toList.drop 23 = dktX13_read_1 := dk_seg dksX13_read_0 23 rfl rfl
theorem dksX13_read_2 : cX13_read.data.toList.drop 46 = dktX13_read_2 := dk_seg dksX13_read_1 23 rfl rfl
theorem dX13_read_0 : decode cX13_read 0 = .ok (.new 70, 3) := dk_187 0 70 (dk_at dksX13_read_0 0 rfl rfl)
theorem dX13_read_3 : decode cX13_read 3 = .ok (.dup, 1) := dk_89 (dk_at dksX13_read_0 3 rfl rfl)
theorem dX13_read_4 : decode cX13_read 4 = .ok (.invokespecial 75, 3) := dk_183 0 75 (dk_at dksX13_read_0 4 rfl rfl)
theorem dX13_read_7 : decode cX13_read 7 = .ok (.astore_n 1, 1) := dk_76 (dk_at dksX13_read_0 7 rfl rfl)
theorem dX13_read_8 : decode cX13_read 8 = .ok (.aload_n 1, 1) := dk_43 (dk_at dksX13_read_0 8 rfl rfl)
theorem dX13_read_9 : decode cX13_read 9 = .ok (.aload_n 0, 1) := dk_42 (dk_at dksX13_read_0 9 rfl rfl)
theorem dX13_read_10 : decode cX13_read 10 = .ok (.invokevirtual 76, 3) := dk_182 0 76 (dk_at dksX13_read_0 10 rfl rfl)
theorem dX13_read_13 : decode cX13_read 13 = .ok (.invokevirtual 69, 3) := dk_182 0 69 (dk_at dksX13_read_0 13 rfl rfl)
theorem dX13_read_16 : decode cX13_read 16 = .ok (.pop, 1) := dk_87 (dk_at dksX13_read_0 16 rfl rfl)
theorem dX13_read_17 : decode cX13_read 17 = .ok (.aload_n 0, 1) := dk_42 (dk_at dksX13_read_0 17 rfl rfl)
theorem dX13_read_18 : decode cX13_read 18 = .ok (.bipush 59, 2) := dk_16 59 (dk_at dksX13_read_0 18 rfl rfl)
theorem dX13_read_20 : decode cX13_read 20 = .ok (.invokevirtual 32, 3) := dk_182 0 32 (dk_at dksX13_read_0 20 rfl rfl)
theorem dX13_read_23 : decode cX13_read 23 = .ok (.ifCond .eq 15, 3) := dk_153 0 15 (dk_at dksX13_read_1 0 rfl rfl)
theorem dX13_read_26 : decode cX13_read 26 = .ok (.aload_n 1, 1) := dk_43 (dk_at dksX13_read_1 3 rfl rfl)
theorem dX13_read_27 : decode cX13_read 27 = .ok (.aload_n 0, 1) := dk_42 (dk_at dksX13_read_1 4 rfl rfl)
theorem dX13_read_28 : decode cX13_read 28 = .ok (.invokevirtual 76, 3) := dk_182 0 76 (dk_at dksX13_read_1 5 rfl rfl)
theorem dX13_read_31 : decode cX13_read 31 = .ok (.invokevirtual 69, 3) := dk_182 0 69 (dk_at dksX13_read_1 8 rfl rfl)
theorem dX13_read_34 : decode cX13_read 34 = .ok (.pop, 1) := dk_87 (dk_at dksX13_read_1 11 rfl rfl)
theorem dX13_read_35 : decode cX13_read 35 = .ok (.goto (-18), 3) := dk_167 255 238 (dk_at dksX13_read_1 12 rfl rfl)
theorem dX13_read_38 : decode cX13_read 38 = .ok (.aload_n 0, 1) := dk_42 (dk_at dksX13_read_1 15 rfl rfl)
theorem dX13_read_39 : decode cX13_read 39 = .ok (.getfield 15, 3) := dk_180 0 15 (dk_at dksX13_read_1 16 rfl rfl)
theorem dX13_read_42 : decode cX13_read 42 = .ok (.aload_n 0, 1) := dk_42 (dk_at dksX13_read_1 19 rfl rfl)
theorem dX13_read_43 : decode cX13_read 43 = .ok (.getfield 9, 3) := dk_180 0 9 (dk_at dksX13_read_1 20 rfl rfl)
theorem dX13_read_46 : decode cX13_read 46 = .ok (.invokevirtual 19, 3) := dk_182 0 19 (dk_at dksX13_read_2 0 rfl rfl)
theorem dX13_read_49 : decode cX13_read 49 = .ok (.if_icmp .ge 15, 3) := dk_162 0 15 (dk_at dksX13_read_2 3 rfl rfl)
theorem dX13_read_52 : decode cX13_read 52 = .ok (.new 36, 3) := dk_187 0 36 (dk_at dksX13_read_2 6 rfl rfl)
theorem dX13_read_55 : decode cX13_read 55 = .ok (.dup, 1) := dk_89 (dk_at dksX13_read_2 9 rfl rfl)
theorem dX13_read_56 : decode cX13_read 56 = .ok (.aload_n 0, 1) := dk_42 (dk_at dksX13_read_2 10 rfl rfl)
theorem dX13_read_57 : decode cX13_read 57 = .ok (.getfield 15, 3) := dk_180 0 15 (dk_at dksX13_read_2 11 rfl rfl)
theorem dX13_read_60 : decode cX13_read 60 = .ok (.invokespecial 38, 3) := dk_183 0 38 (dk_at dksX13_read_2 14 rfl rfl)
theorem dX13_read_63 : decode cX13_read 63 = .ok (.athrow, 1) := dk_191 (dk_at dksX13_read_2 17 rfl rfl)
theorem dX13_read_64 : decode cX13_read 64 = .ok (.aload_n 1, 1) := dk_43 (dk_at dksX13_read_2 18 rfl rfl)
theorem dX13_read_65 : decode cX13_read 65 = .ok (.areturn, 1) := dk_176 (dk_at dksX13_read_2 19 rfl rfl)
abbrev cX13_job : ByteArray := prog_12_method_8_code
def yX13_job : MethodName := ⟨RX13, "job", "()LSetupJobShop$ToldJob;"⟩
def dkwX13_job_3 : List UInt8 := [43, 180, 0, 61, 42, 182, 0, 65, 182, 0, 69, 87, 167, 255, 235, 43, 176]
abbrev dktX13_job_3 : List UInt8 := dkwX13_job_3 ++ []
def dkwX13_job_2 : List UInt8 := [182, 0, 48, 43, 180, 0, 61, 42, 182, 0, 65, 182, 0, 69, 87, 42, 16, 47, 182, 0, 32, 153, 0, 18]
abbrev dktX13_job_2 : List UInt8 := dkwX13_job_2 ++ dktX13_job_3
def dkwX13_job_1 : List UInt8 := [182, 0, 48, 43, 180, 0, 57, 28, 42, 182, 0, 51, 79, 132, 2, 1, 167, 255, 228, 42, 16, 58]
abbrev dktX13_job_1 : List UInt8 := dkwX13_job_1 ++ dktX13_job_2
def dkwX13_job_0 : List UInt8 := [187, 0, 54, 89, 183, 0, 56, 76, 3, 61, 28, 6, 162, 0, 29, 28, 158, 0, 9, 42, 16, 44]
abbrev dktX13_job_0 : List UInt8 := dkwX13_job_0 ++ dktX13_job_1
theorem dksX13_job_0 : cX13_job.data.toList.drop 0 = dktX13_job_0 := by decide +kernel
theorem dksX13_job_1 : cX13_job.data.toList.drop 22 = dktX13_job_1 := dk_seg dksX13_job_0 22 rfl rfl
theorem dksX13_job_2 : cX13_job.data.toList.drop 44 = dktX13_job_2 := dk_seg dksX13_job_1 22 rfl rfl
theorem dksX13_job_3 : cX13_job.data.toList.drop 68 = dktX13_job_3 := dk_seg dksX13_job_2 24 rfl rfl
theorem dX13_job_0 : decode cX13_job 0 = .ok (.new 54, 3) := dk_187 0 54 (dk_at dksX13_job_0 0 rfl rfl)
theorem dX13_job_3 : decode cX13_job 3 = .ok (.dup, 1) := dk_89 (dk_at dksX13_job_0 3 rfl rfl)
theorem dX13_job_4 : decode cX13_job 4 = .ok (.invokespecial 56, 3) := dk_183 0 56 (dk_at dksX13_job_0 4 rfl rfl)
theorem dX13_job_7 : decode cX13_job 7 = .ok (.astore_n 1, 1) := dk_76 (dk_at dksX13_job_0 7 rfl rfl)
theorem dX13_job_8 : decode cX13_job 8 = .ok (.iconst 0, 1) := dk_3 (dk_at dksX13_job_0 8 rfl rfl)
theorem dX13_job_9 : decode cX13_job 9 = .ok (.istore_n 2, 1) := dk_61 (dk_at dksX13_job_0 9 rfl rfl)
theorem dX13_job_10 : decode cX13_job 10 = .ok (.iload_n 2, 1) := dk_28 (dk_at dksX13_job_0 10 rfl rfl)
theorem dX13_job_11 : decode cX13_job 11 = .ok (.iconst 3, 1) := dk_6 (dk_at dksX13_job_0 11 rfl rfl)
theorem dX13_job_12 : decode cX13_job 12 = .ok (.if_icmp .ge 29, 3) := dk_162 0 29 (dk_at dksX13_job_0 12 rfl rfl)
theorem dX13_job_15 : decode cX13_job 15 = .ok (.iload_n 2, 1) := dk_28 (dk_at dksX13_job_0 15 rfl rfl)
theorem dX13_job_16 : decode cX13_job 16 = .ok (.ifCond .le 9, 3) := dk_158 0 9 (dk_at dksX13_job_0 16 rfl rfl)
theorem dX13_job_19 : decode cX13_job 19 = .ok (.aload_n 0, 1) := dk_42 (dk_at dksX13_job_0 19 rfl rfl)
theorem dX13_job_20 : decode cX13_job 20 = .ok (.bipush 44, 2) := dk_16 44 (dk_at dksX13_job_0 20 rfl rfl)
theorem dX13_job_22 : decode cX13_job 22 = .ok (.invokevirtual 48, 3) := dk_182 0 48 (dk_at dksX13_job_1 0 rfl rfl)
theorem dX13_job_25 : decode cX13_job 25 = .ok (.aload_n 1, 1) := dk_43 (dk_at dksX13_job_1 3 rfl rfl)
theorem dX13_job_26 : decode cX13_job 26 = .ok (.getfield 57, 3) := dk_180 0 57 (dk_at dksX13_job_1 4 rfl rfl)
theorem dX13_job_29 : decode cX13_job 29 = .ok (.iload_n 2, 1) := dk_28 (dk_at dksX13_job_1 7 rfl rfl)
theorem dX13_job_30 : decode cX13_job 30 = .ok (.aload_n 0, 1) := dk_42 (dk_at dksX13_job_1 8 rfl rfl)
theorem dX13_job_31 : decode cX13_job 31 = .ok (.invokevirtual 51, 3) := dk_182 0 51 (dk_at dksX13_job_1 9 rfl rfl)
theorem dX13_job_34 : decode cX13_job 34 = .ok (.iastore, 1) := dk_79 (dk_at dksX13_job_1 12 rfl rfl)
theorem dX13_job_35 : decode cX13_job 35 = .ok (.iinc 2 1, 3) := dk_132 2 1 (dk_at dksX13_job_1 13 rfl rfl)
theorem dX13_job_38 : decode cX13_job 38 = .ok (.goto (-28), 3) := dk_167 255 228 (dk_at dksX13_job_1 16 rfl rfl)
theorem dX13_job_41 : decode cX13_job 41 = .ok (.aload_n 0, 1) := dk_42 (dk_at dksX13_job_1 19 rfl rfl)
theorem dX13_job_42 : decode cX13_job 42 = .ok (.bipush 58, 2) := dk_16 58 (dk_at dksX13_job_1 20 rfl rfl)
theorem dX13_job_44 : decode cX13_job 44 = .ok (.invokevirtual 48, 3) := dk_182 0 48 (dk_at dksX13_job_2 0 rfl rfl)
theorem dX13_job_47 : decode cX13_job 47 = .ok (.aload_n 1, 1) := dk_43 (dk_at dksX13_job_2 3 rfl rfl)
theorem dX13_job_48 : decode cX13_job 48 = .ok (.getfield 61, 3) := dk_180 0 61 (dk_at dksX13_job_2 4 rfl rfl)
theorem dX13_job_51 : decode cX13_job 51 = .ok (.aload_n 0, 1) := dk_42 (dk_at dksX13_job_2 7 rfl rfl)
theorem dX13_job_52 : decode cX13_job 52 = .ok (.invokevirtual 65, 3) := dk_182 0 65 (dk_at dksX13_job_2 8 rfl rfl)
theorem dX13_job_55 : decode cX13_job 55 = .ok (.invokevirtual 69, 3) := dk_182 0 69 (dk_at dksX13_job_2 11 rfl rfl)
theorem dX13_job_58 : decode cX13_job 58 = .ok (.pop, 1) := dk_87 (dk_at dksX13_job_2 14 rfl rfl)
theorem dX13_job_59 : decode cX13_job 59 = .ok (.aload_n 0, 1) := dk_42 (dk_at dksX13_job_2 15 rfl rfl)
theorem dX13_job_60 : decode cX13_job 60 = .ok (.bipush 47, 2) := dk_16 47 (dk_at dksX13_job_2 16 rfl rfl)
theorem dX13_job_62 : decode cX13_job 62 = .ok (.invokevirtual 32, 3) := dk_182 0 32 (dk_at dksX13_job_2 18 rfl rfl)
theorem dX13_job_65 : decode cX13_job 65 = .ok (.ifCond .eq 18, 3) := dk_153 0 18 (dk_at dksX13_job_2 21 rfl rfl)
theorem dX13_job_68 : decode cX13_job 68 = .ok (.aload_n 1, 1) := dk_43 (dk_at dksX13_job_3 0 rfl rfl)
theorem dX13_job_69 : decode cX13_job 69 = .ok (.getfield 61, 3) := dk_180 0 61 (dk_at dksX13_job_3 1 rfl rfl)
theorem dX13_job_72 : decode cX13_job 72 = .ok (.aload_n 0, 1) := dk_42 (dk_at dksX13_job_3 4 rfl rfl)
theorem dX13_job_73 : decode cX13_job 73 = .ok (.invokevirtual 65, 3) := dk_182 0 65 (dk_at dksX13_job_3 5 rfl rfl)
theorem dX13_job_76 : decode cX13_job 76 = .ok (.invokevirtual 69, 3) := dk_182 0 69 (dk_at dksX13_job_3 8 rfl rfl)
theorem dX13_job_79 : decode cX13_job 79 = .ok (.pop, 1) := dk_87 (dk_at dksX13_job_3 11 rfl rfl)
theorem dX13_job_80 : decode cX13_job 80 = .ok (.goto (-21), 3) := dk_167 255 235 (dk_at dksX13_job_3 12 rfl rfl)
theorem dX13_job_83 : decode cX13_job 83 = .ok (.aload_n 1, 1) := dk_43 (dk_at dksX13_job_3 15 rfl rfl)
theorem dX13_job_84 : decode cX13_job 84 = .ok (.areturn, 1) := dk_176 (dk_at dksX13_job_3 16 rfl rfl)
abbrev cX13_must : ByteArray := prog_12_method_4_code
def yX13_must : MethodName := ⟨RX13, "must", "(I)V"⟩
def dkwX13_must_0 : List UInt8 := [42, 27, 182, 0, 32, 154, 0, 15, 187, 0, 36, 89, 42, 180, 0, 15, 183, 0, 38, 191, 177]
abbrev dktX13_must_0 : List UInt8 := dkwX13_must_0 ++ []
theorem dksX13_must_0 : cX13_must.data.toList.drop 0 = dktX13_must_0 := by decide +kernel
theorem dX13_must_0 : decode cX13_must 0 = .ok (.aload_n 0, 1) := dk_42 (dk_at dksX13_must_0 0 rfl rfl)
theorem dX13_must_1 : decode cX13_must 1 = .ok (.iload_n 1, 1) := dk_27 (dk_at dksX13_must_0 1 rfl rfl)
theorem dX13_must_2 : decode cX13_must 2 = .ok (.invokevirtual 32, 3) := dk_182 0 32 (dk_at dksX13_must_0 2 rfl rfl)
theorem dX13_must_5 : decode cX13_must 5 = .ok (.ifCond .ne 15, 3) := dk_154 0 15 (dk_at dksX13_must_0 5 rfl rfl)
theorem dX13_must_8 : decode cX13_must 8 = .ok (.new 36, 3) := dk_187 0 36 (dk_at dksX13_must_0 8 rfl rfl)
theorem dX13_must_11 : decode cX13_must 11 = .ok (.dup, 1) := dk_89 (dk_at dksX13_must_0 11 rfl rfl)
theorem dX13_must_12 : decode cX13_must 12 = .ok (.aload_n 0, 1) := dk_42 (dk_at dksX13_must_0 12 rfl rfl)
theorem dX13_must_13 : decode cX13_must 13 = .ok (.getfield 15, 3) := dk_180 0 15 (dk_at dksX13_must_0 13 rfl rfl)
theorem dX13_must_16 : decode cX13_must 16 = .ok (.invokespecial 38, 3) := dk_183 0 38 (dk_at dksX13_must_0 16 rfl rfl)
theorem dX13_must_19 : decode cX13_must 19 = .ok (.athrow, 1) := dk_191 (dk_at dksX13_must_0 19 rfl rfl)
theorem dX13_must_20 : decode cX13_must 20 = .ok (.return_, 1) := dk_177 (dk_at dksX13_must_0 20 rfl rfl)
abbrev cX13_skip : ByteArray := prog_12_method_3_code
def yX13_skip : MethodName := ⟨RX13, "skip", "(I)Z"⟩
def dkwX13_skip_0 : List UInt8 := [42, 182, 0, 29, 27, 159, 0, 5, 3, 172, 42, 89, 180, 0, 15, 4, 96, 181, 0, 15, 4, 172]
abbrev dktX13_skip_0 : List UInt8 := dkwX13_skip_0 ++ []
theorem dksX13_skip_0 : cX13_skip.data.toList.drop 0 = dktX13_skip_0 := by decide +kernel
theorem dX13_skip_0 : decode cX13_skip 0 = .ok (.aload_n 0, 1) := dk_42 (dk_at dksX13_skip_0 0 rfl rfl)
theorem dX13_skip_1 : decode cX13_skip 1 = .ok (.invokevirtual 29, 3) := dk_182 0 29 (dk_at dksX13_skip_0 1 rfl rfl)
theorem dX13_skip_4 : decode cX13_skip 4 = .ok (.iload_n 1, 1) := dk_27 (dk_at dksX13_skip_0 4 rfl rfl)
theorem dX13_skip_5 : decode cX13_skip 5 = .ok (.if_icmp .eq 5, 3) := dk_159 0 5 (dk_at dksX13_skip_0 5 rfl rfl)
theorem dX13_skip_8 : decode cX13_skip 8 = .ok (.iconst 0, 1) := dk_3 (dk_at dksX13_skip_0 8 rfl rfl)
theorem dX13_skip_9 : decode cX13_skip 9 = .ok (.ireturn, 1) := dk_172 (dk_at dksX13_skip_0 9 rfl rfl)
theorem dX13_skip_10 : decode cX13_skip 10 = .ok (.aload_n 0, 1) := dk_42 (dk_at dksX13_skip_0 10 rfl rfl)
theorem dX13_skip_11 : decode cX13_skip 11 = .ok (.dup, 1) := dk_89 (dk_at dksX13_skip_0 11 rfl rfl)
theorem dX13_skip_12 : decode cX13_skip 12 = .ok (.getfield 15, 3) := dk_180 0 15 (dk_at dksX13_skip_0 12 rfl rfl)
theorem dX13_skip_15 : decode cX13_skip 15 = .ok (.iconst 1, 1) := dk_4 (dk_at dksX13_skip_0 15 rfl rfl)
theorem dX13_skip_16 : decode cX13_skip 16 = .ok (.iadd, 1) := dk_96 (dk_at dksX13_skip_0 16 rfl rfl)
theorem dX13_skip_17 : decode cX13_skip 17 = .ok (.putfield 15, 3) := dk_181 0 15 (dk_at dksX13_skip_0 17 rfl rfl)
theorem dX13_skip_20 : decode cX13_skip 20 = .ok (.iconst 1, 1) := dk_4 (dk_at dksX13_skip_0 20 rfl rfl)
theorem dX13_skip_21 : decode cX13_skip 21 = .ok (.ireturn, 1) := dk_172 (dk_at dksX13_skip_0 21 rfl rfl)
abbrev cX13_here : ByteArray := prog_12_method_2_code
def yX13_here : MethodName := ⟨RX13, "here", "()I"⟩
def dkwX13_here_1 : List UInt8 := [182, 0, 25, 167, 0, 4, 2, 172]
abbrev dktX13_here_1 : List UInt8 := dkwX13_here_1 ++ []
def dkwX13_here_0 : List UInt8 := [42, 180, 0, 15, 42, 180, 0, 9, 182, 0, 19, 162, 0, 17, 42, 180, 0, 9, 42, 180, 0, 15]
abbrev dktX13_here_0 : List UInt8 := dkwX13_here_0 ++ dktX13_here_1
theorem dksX13_here_0 : cX13_here.data.toList.drop 0 = dktX13_here_0 := by decide +kernel
theorem dksX13_here_1 : cX13_here.data.toList.drop 22 = dktX13_here_1 := dk_seg dksX13_here_0 22 rfl rfl
theorem dX13_here_0 : decode cX13_here 0 = .ok (.aload_n 0, 1) := dk_42 (dk_at dksX13_here_0 0 rfl rfl)
theorem dX13_here_1 : decode cX13_here 1 = .ok (.getfield 15, 3) := dk_180 0 15 (dk_at dksX13_here_0 1 rfl rfl)
theorem dX13_here_4 : decode cX13_here 4 = .ok (.aload_n 0, 1) := dk_42 (dk_at dksX13_here_0 4 rfl rfl)
theorem dX13_here_5 : decode cX13_here 5 = .ok (.getfield 9, 3) := dk_180 0 9 (dk_at dksX13_here_0 5 rfl rfl)
theorem dX13_here_8 : decode cX13_here 8 = .ok (.invokevirtual 19, 3) := dk_182 0 19 (dk_at dksX13_here_0 8 rfl rfl)
theorem dX13_here_11 : decode cX13_here 11 = .ok (.if_icmp .ge 17, 3) := dk_162 0 17 (dk_at dksX13_here_0 11 rfl rfl)
theorem dX13_here_14 : decode cX13_here 14 = .ok (.aload_n 0, 1) := dk_42 (dk_at dksX13_here_0 14 rfl rfl)
theorem dX13_here_15 : decode cX13_here 15 = .ok (.getfield 9, 3) := dk_180 0 9 (dk_at dksX13_here_0 15 rfl rfl)
theorem dX13_here_18 : decode cX13_here 18 = .ok (.aload_n 0, 1) := dk_42 (dk_at dksX13_here_0 18 rfl rfl)
theorem dX13_here_19 : decode cX13_here 19 = .ok (.getfield 15, 3) := dk_180 0 15 (dk_at dksX13_here_0 19 rfl rfl)
theorem dX13_here_22 : decode cX13_here 22 = .ok (.invokevirtual 25, 3) := dk_182 0 25 (dk_at dksX13_here_1 0 rfl rfl)
theorem dX13_here_25 : decode cX13_here 25 = .ok (.goto 4, 3) := dk_167 0 4 (dk_at dksX13_here_1 3 rfl rfl)
theorem dX13_here_28 : decode cX13_here 28 = .ok (.iconst (-1), 1) := dk_2 (dk_at dksX13_here_1 6 rfl rfl)
theorem dX13_here_29 : decode cX13_here 29 = .ok (.ireturn, 1) := dk_172 (dk_at dksX13_here_1 7 rfl rfl)
abbrev cX13_number : ByteArray := prog_12_method_6_code
def yX13_number : MethodName := ⟨RX13, "number", "()I"⟩
def dkwX13_number_1 : List UInt8 := [184, 0, 41, 153, 0, 19, 16, 10, 27, 104, 42, 182, 0, 45, 96, 60, 132, 2, 1, 167, 255, 220, 27, 172]
abbrev dktX13_number_1 : List UInt8 := dkwX13_number_1 ++ []
def dkwX13_number_0 : List UInt8 := [42, 182, 0, 45, 60, 4, 61, 28, 6, 162, 0, 37, 27, 158, 0, 33, 42, 182, 0, 29, 16, 48, 16, 57]
abbrev dktX13_number_0 : List UInt8 := dkwX13_number_0 ++ dktX13_number_1
theorem dksX13_number_0 : cX13_number.data.toList.drop 0 = dktX13_number_0 := by decide +kernel
theorem dksX13_number_1 : cX13_number.data.toList.drop 24 = dktX13_number_1 := dk_seg dksX13_number_0 24 rfl rfl
theorem dX13_number_0 : decode cX13_number 0 = .ok (.aload_n 0, 1) := dk_42 (dk_at dksX13_number_0 0 rfl rfl)
theorem dX13_number_1 : decode cX13_number 1 = .ok (.invokevirtual 45, 3) := dk_182 0 45 (dk_at dksX13_number_0 1 rfl rfl)
theorem dX13_number_4 : decode cX13_number 4 = .ok (.istore_n 1, 1) := dk_60 (dk_at dksX13_number_0 4 rfl rfl)
theorem dX13_number_5 : decode cX13_number 5 = .ok (.iconst 1, 1) := dk_4 (dk_at dksX13_number_0 5 rfl rfl)
theorem dX13_number_6 : decode cX13_number 6 = .ok (.istore_n 2, 1) := dk_61 (dk_at dksX13_number_0 6 rfl rfl)
theorem dX13_number_7 : decode cX13_number 7 = .ok (.iload_n 2, 1) := dk_28 (dk_at dksX13_number_0 7 rfl rfl)
theorem dX13_number_8 : decode cX13_number 8 = .ok (.iconst 3, 1) := dk_6 (dk_at dksX13_number_0 8 rfl rfl)
theorem dX13_number_9 : decode cX13_number 9 = .ok (.if_icmp .ge 37, 3) := dk_162 0 37 (dk_at dksX13_number_0 9 rfl rfl)
theorem dX13_number_12 : decode cX13_number 12 = .ok (.iload_n 1, 1) := dk_27 (dk_at dksX13_number_0 12 rfl rfl)
theorem dX13_number_13 : decode cX13_number 13 = .ok (.ifCond .le 33, 3) := dk_158 0 33 (dk_at dksX13_number_0 13 rfl rfl)
theorem dX13_number_16 : decode cX13_number 16 = .ok (.aload_n 0, 1) := dk_42 (dk_at dksX13_number_0 16 rfl rfl)
theorem dX13_number_17 : decode cX13_number 17 = .ok (.invokevirtual 29, 3) := dk_182 0 29 (dk_at dksX13_number_0 17 rfl rfl)
theorem dX13_number_20 : decode cX13_number 20 = .ok (.bipush 48, 2) := dk_16 48 (dk_at dksX13_number_0 20 rfl rfl)
theorem dX13_number_22 : decode cX13_number 22 = .ok (.bipush 57, 2) := dk_16 57 (dk_at dksX13_number_0 22 rfl rfl)
theorem dX13_number_24 : decode cX13_number 24 = .ok (.invokestatic 41, 3) := dk_184 0 41 (dk_at dksX13_number_1 0 rfl rfl)
theorem dX13_number_27 : decode cX13_number 27 = .ok (.ifCond .eq 19, 3) := dk_153 0 19 (dk_at dksX13_number_1 3 rfl rfl)
theorem dX13_number_30 : decode cX13_number 30 = .ok (.bipush 10, 2) := dk_16 10 (dk_at dksX13_number_1 6 rfl rfl)
theorem dX13_number_32 : decode cX13_number 32 = .ok (.iload_n 1, 1) := dk_27 (dk_at dksX13_number_1 8 rfl rfl)
theorem dX13_number_33 : decode cX13_number 33 = .ok (.imul, 1) := dk_104 (dk_at dksX13_number_1 9 rfl rfl)
theorem dX13_number_34 : decode cX13_number 34 = .ok (.aload_n 0, 1) := dk_42 (dk_at dksX13_number_1 10 rfl rfl)
theorem dX13_number_35 : decode cX13_number 35 = .ok (.invokevirtual 45, 3) := dk_182 0 45 (dk_at dksX13_number_1 11 rfl rfl)
theorem dX13_number_38 : decode cX13_number 38 = .ok (.iadd, 1) := dk_96 (dk_at dksX13_number_1 14 rfl rfl)
theorem dX13_number_39 : decode cX13_number 39 = .ok (.istore_n 1, 1) := dk_60 (dk_at dksX13_number_1 15 rfl rfl)
theorem dX13_number_40 : decode cX13_number 40 = .ok (.iinc 2 1, 3) := dk_132 2 1 (dk_at dksX13_number_1 16 rfl rfl)
theorem dX13_number_43 : decode cX13_number 43 = .ok (.goto (-36), 3) := dk_167 255 220 (dk_at dksX13_number_1 19 rfl rfl)
theorem dX13_number_46 : decode cX13_number 46 = .ok (.iload_n 1, 1) := dk_27 (dk_at dksX13_number_1 22 rfl rfl)
theorem dX13_number_47 : decode cX13_number 47 = .ok (.ireturn, 1) := dk_172 (dk_at dksX13_number_1 23 rfl rfl)
abbrev cX13_digit : ByteArray := prog_12_method_5_code
def yX13_digit : MethodName := ⟨RX13, "digit", "()I"⟩
def dkwX13_digit_2 : List UInt8 := [100, 172]
abbrev dktX13_digit_2 : List UInt8 := dkwX13_digit_2 ++ []
def dkwX13_digit_1 : List UInt8 := [183, 0, 38, 191, 42, 180, 0, 9, 42, 89, 180, 0, 15, 90, 4, 96, 181, 0, 15, 182, 0, 25, 16, 48]
abbrev dktX13_digit_1 : List UInt8 := dkwX13_digit_1 ++ dktX13_digit_2
def dkwX13_digit_0 : List UInt8 := [42, 182, 0, 29, 16, 48, 16, 57, 184, 0, 41, 154, 0, 15, 187, 0, 36, 89, 42, 180, 0, 15]
abbrev dktX13_digit_0 : List UInt8 := dkwX13_digit_0 ++ dktX13_digit_1
theorem dksX13_digit_0 : cX13_digit.data.toList.drop 0 = dktX13_digit_0 := by decide +kernel
theorem dksX13_digit_1 : cX13_digit.data.toList.drop 22 = dktX13_digit_1 := dk_seg dksX13_digit_0 22 rfl rfl
theorem dksX13_digit_2 : cX13_digit.data.toList.drop 46 = dktX13_digit_2 := dk_seg dksX13_digit_1 24 rfl rfl
theorem dX13_digit_0 : decode cX13_digit 0 = .ok (.aload_n 0, 1) := dk_42 (dk_at dksX13_digit_0 0 rfl rfl)
theorem dX13_digit_1 : decode cX13_digit 1 = .ok (.invokevirtual 29, 3) := dk_182 0 29 (dk_at dksX13_digit_0 1 rfl rfl)
theorem dX13_digit_4 : decode cX13_digit 4 = .ok (.bipush 48, 2) := dk_16 48 (dk_at dksX13_digit_0 4 rfl rfl)
theorem dX13_digit_6 : decode cX13_digit 6 = .ok (.bipush 57, 2) := dk_16 57 (dk_at dksX13_digit_0 6 rfl rfl)
theorem dX13_digit_8 : decode cX13_digit 8 = .ok (.invokestatic 41, 3) := dk_184 0 41 (dk_at dksX13_digit_0 8 rfl rfl)
theorem dX13_digit_11 : decode cX13_digit 11 = .ok (.ifCond .ne 15, 3) := dk_154 0 15 (dk_at dksX13_digit_0 11 rfl rfl)
theorem dX13_digit_14 : decode cX13_digit 14 = .ok (.new 36, 3) := dk_187 0 36 (dk_at dksX13_digit_0 14 rfl rfl)
theorem dX13_digit_17 : decode cX13_digit 17 = .ok (.dup, 1) := dk_89 (dk_at dksX13_digit_0 17 rfl rfl)
theorem dX13_digit_18 : decode cX13_digit 18 = .ok (.aload_n 0, 1) := dk_42 (dk_at dksX13_digit_0 18 rfl rfl)
theorem dX13_digit_19 : decode cX13_digit 19 = .ok (.getfield 15, 3) := dk_180 0 15 (dk_at dksX13_digit_0 19 rfl rfl)
theorem dX13_digit_22 : decode cX13_digit 22 = .ok (.invokespecial 38, 3) := dk_183 0 38 (dk_at dksX13_digit_1 0 rfl rfl)
theorem dX13_digit_25 : decode cX13_digit 25 = .ok (.athrow, 1) := dk_191 (dk_at dksX13_digit_1 3 rfl rfl)
theorem dX13_digit_26 : decode cX13_digit 26 = .ok (.aload_n 0, 1) := dk_42 (dk_at dksX13_digit_1 4 rfl rfl)
theorem dX13_digit_27 : decode cX13_digit 27 = .ok (.getfield 9, 3) := dk_180 0 9 (dk_at dksX13_digit_1 5 rfl rfl)
theorem dX13_digit_30 : decode cX13_digit 30 = .ok (.aload_n 0, 1) := dk_42 (dk_at dksX13_digit_1 8 rfl rfl)
theorem dX13_digit_31 : decode cX13_digit 31 = .ok (.dup, 1) := dk_89 (dk_at dksX13_digit_1 9 rfl rfl)
theorem dX13_digit_32 : decode cX13_digit 32 = .ok (.getfield 15, 3) := dk_180 0 15 (dk_at dksX13_digit_1 10 rfl rfl)
theorem dX13_digit_35 : decode cX13_digit 35 = .ok (.dup_x1, 1) := dk_90 (dk_at dksX13_digit_1 13 rfl rfl)
theorem dX13_digit_36 : decode cX13_digit 36 = .ok (.iconst 1, 1) := dk_4 (dk_at dksX13_digit_1 14 rfl rfl)
theorem dX13_digit_37 : decode cX13_digit 37 = .ok (.iadd, 1) := dk_96 (dk_at dksX13_digit_1 15 rfl rfl)
theorem dX13_digit_38 : decode cX13_digit 38 = .ok (.putfield 15, 3) := dk_181 0 15 (dk_at dksX13_digit_1 16 rfl rfl)
theorem dX13_digit_41 : decode cX13_digit 41 = .ok (.invokevirtual 25, 3) := dk_182 0 25 (dk_at dksX13_digit_1 19 rfl rfl)
theorem dX13_digit_44 : decode cX13_digit 44 = .ok (.bipush 48, 2) := dk_16 48 (dk_at dksX13_digit_1 22 rfl rfl)
theorem dX13_digit_46 : decode cX13_digit 46 = .ok (.isub, 1) := dk_100 (dk_at dksX13_digit_2 0 rfl rfl)
theorem dX13_digit_47 : decode cX13_digit 47 = .ok (.ireturn, 1) := dk_172 (dk_at dksX13_digit_2 1 rfl rfl)
abbrev cX13_operation : ByteArray := prog_12_method_7_code
def yX13_operation : MethodName := ⟨RX13, "operation", "()[I"⟩
def dkwX13_operation_1 : List UInt8 := [42, 16, 46, 182, 0, 48, 43, 5, 42, 182, 0, 45, 79, 43, 176]
abbrev dktX13_operation_1 : List UInt8 := dkwX13_operation_1 ++ []
def dkwX13_operation_0 : List UInt8 := [6, 188, 10, 76, 43, 3, 42, 182, 0, 45, 79, 42, 16, 46, 182, 0, 48, 43, 4, 42, 182, 0, 51, 79]
abbrev dktX13_operation_0 : List UInt8 := dkwX13_operation_0 ++ dktX13_operation_1
theorem dksX13_operation_0 : cX13_operation.data.toList.drop 0 = dktX13_operation_0 := by decide +kernel
theorem dksX13_operation_1 : cX13_operation.data.toList.drop 24 = dktX13_operation_1 := dk_seg dksX13_operation_0 24 rfl rfl
theorem dX13_operation_0 : decode cX13_operation 0 = .ok (.iconst 3, 1) := dk_6 (dk_at dksX13_operation_0 0 rfl rfl)
theorem dX13_operation_1 : decode cX13_operation 1 = .ok (.newarray .int, 2) := dk_188_10 (dk_at dksX13_operation_0 1 rfl rfl)
theorem dX13_operation_3 : decode cX13_operation 3 = .ok (.astore_n 1, 1) := dk_76 (dk_at dksX13_operation_0 3 rfl rfl)
theorem dX13_operation_4 : decode cX13_operation 4 = .ok (.aload_n 1, 1) := dk_43 (dk_at dksX13_operation_0 4 rfl rfl)
theorem dX13_operation_5 : decode cX13_operation 5 = .ok (.iconst 0, 1) := dk_3 (dk_at dksX13_operation_0 5 rfl rfl)
theorem dX13_operation_6 : decode cX13_operation 6 = .ok (.aload_n 0, 1) := dk_42 (dk_at dksX13_operation_0 6 rfl rfl)
theorem dX13_operation_7 : decode cX13_operation 7 = .ok (.invokevirtual 45, 3) := dk_182 0 45 (dk_at dksX13_operation_0 7 rfl rfl)
theorem dX13_operation_10 : decode cX13_operation 10 = .ok (.iastore, 1) := dk_79 (dk_at dksX13_operation_0 10 rfl rfl)
theorem dX13_operation_11 : decode cX13_operation 11 = .ok (.aload_n 0, 1) := dk_42 (dk_at dksX13_operation_0 11 rfl rfl)
theorem dX13_operation_12 : decode cX13_operation 12 = .ok (.bipush 46, 2) := dk_16 46 (dk_at dksX13_operation_0 12 rfl rfl)
theorem dX13_operation_14 : decode cX13_operation 14 = .ok (.invokevirtual 48, 3) := dk_182 0 48 (dk_at dksX13_operation_0 14 rfl rfl)
theorem dX13_operation_17 : decode cX13_operation 17 = .ok (.aload_n 1, 1) := dk_43 (dk_at dksX13_operation_0 17 rfl rfl)
theorem dX13_operation_18 : decode cX13_operation 18 = .ok (.iconst 1, 1) := dk_4 (dk_at dksX13_operation_0 18 rfl rfl)
theorem dX13_operation_19 : decode cX13_operation 19 = .ok (.aload_n 0, 1) := dk_42 (dk_at dksX13_operation_0 19 rfl rfl)
theorem dX13_operation_20 : decode cX13_operation 20 = .ok (.invokevirtual 51, 3) := dk_182 0 51 (dk_at dksX13_operation_0 20 rfl rfl)
theorem dX13_operation_23 : decode cX13_operation 23 = .ok (.iastore, 1) := dk_79 (dk_at dksX13_operation_0 23 rfl rfl)
theorem dX13_operation_24 : decode cX13_operation 24 = .ok (.aload_n 0, 1) := dk_42 (dk_at dksX13_operation_1 0 rfl rfl)
theorem dX13_operation_25 : decode cX13_operation 25 = .ok (.bipush 46, 2) := dk_16 46 (dk_at dksX13_operation_1 1 rfl rfl)
theorem dX13_operation_27 : decode cX13_operation 27 = .ok (.invokevirtual 48, 3) := dk_182 0 48 (dk_at dksX13_operation_1 3 rfl rfl)
theorem dX13_operation_30 : decode cX13_operation 30 = .ok (.aload_n 1, 1) := dk_43 (dk_at dksX13_operation_1 6 rfl rfl)
theorem dX13_operation_31 : decode cX13_operation 31 = .ok (.iconst 2, 1) := dk_5 (dk_at dksX13_operation_1 7 rfl rfl)
theorem dX13_operation_32 : decode cX13_operation 32 = .ok (.aload_n 0, 1) := dk_42 (dk_at dksX13_operation_1 8 rfl rfl)
theorem dX13_operation_33 : decode cX13_operation 33 = .ok (.invokevirtual 45, 3) := dk_182 0 45 (dk_at dksX13_operation_1 9 rfl rfl)
theorem dX13_operation_36 : decode cX13_operation 36 = .ok (.iastore, 1) := dk_79 (dk_at dksX13_operation_1 12 rfl rfl)
theorem dX13_operation_37 : decode cX13_operation 37 = .ok (.aload_n 1, 1) := dk_43 (dk_at dksX13_operation_1 13 rfl rfl)
theorem dX13_operation_38 : decode cX13_operation 38 = .ok (.areturn, 1) := dk_176 (dk_at dksX13_operation_1 14 rfl rfl)
theorem q126 : (Jvm.Cond.initialized "SetupJobShop$Reader") ∈ lw_all := lw_g (lw_at lw_m1 38 rfl) rfl
theorem q215 : (Jvm.Cond.selects "SetupJobShop$Reader" ({ cls := "java/lang/Object", name := "getClass", desc := "()Ljava/lang/Class;" } : Jvm.MethodName) ({ cls := "java/lang/Object", name := "getClass", desc := "()Ljava/lang/Class;" } : Jvm.MethodName)) ∈ lw_all := lw_g (lw_at lw_m1 127 rfl) rfl
theorem q1572 : (Jvm.Cond.instantiable "SetupJobShop$Reader" (2 : Nat)) ∈ lw_all := lw_g (lw_at lw_m7 44 rfl) rfl
theorem q1574 : (Jvm.Cond.instanceMethod ({ cls := "SetupJobShop$Reader", name := "<init>", desc := "(Ljava/lang/String;)V" } : Jvm.MethodName)) ∈ lw_all := lw_g (lw_at lw_m7 46 rfl) rfl
theorem q1575 : (Jvm.Cond.code ({ cls := "SetupJobShop$Reader", name := "<init>", desc := "(Ljava/lang/String;)V" } : Jvm.MethodName) prog_12_method_1_code (2 : Nat) (Option.none : Option Jvm.ClassFile.FieldType)) ∈ lw_all := lw_g (lw_at lw_m7 47 rfl) rfl
theorem q1576 : (Jvm.Cond.methodLink "SetupJobShop$Reader" (3 : Nat) ({ cls := "java/lang/Object", name := "<init>", desc := "()V" } : Jvm.MethodName)) ∈ lw_all := lw_g (lw_at lw_m7 48 rfl) rfl
theorem q1577 : (Jvm.Cond.fieldLink "SetupJobShop$Reader" (9 : Nat) "SetupJobShop$Reader" "text" "Ljava/lang/String;") ∈ lw_all := lw_g (lw_at lw_m7 49 rfl) rfl
theorem q1578 : (Jvm.Cond.fieldLink "SetupJobShop$Reader" (15 : Nat) "SetupJobShop$Reader" "at" "I") ∈ lw_all := lw_g (lw_at lw_m7 50 rfl) rfl
theorem q1579 : (Jvm.Cond.laysFinal "SetupJobShop$Reader" "SetupJobShop$Reader" "text" "Ljava/lang/String;") ∈ lw_all := lw_g (lw_at lw_m7 51 rfl) rfl
theorem q1580 : (Jvm.Cond.soleField "SetupJobShop$Reader" "text") ∈ lw_all := lw_g (lw_at lw_m7 52 rfl) rfl
theorem q1581 : (Jvm.Cond.lays "SetupJobShop$Reader" "SetupJobShop$Reader" "at" "I") ∈ lw_all := lw_g (lw_at lw_m7 53 rfl) rfl
theorem q1582 : (Jvm.Cond.soleField "SetupJobShop$Reader" "at") ∈ lw_all := lw_g (lw_at lw_m7 54 rfl) rfl
theorem q1583 : (Jvm.Cond.superclass "SetupJobShop$Reader" "java/lang/Object") ∈ lw_all := lw_g (lw_at lw_m7 55 rfl) rfl
theorem q1585 : (Jvm.Cond.instanceMethod ({ cls := "SetupJobShop$Reader", name := "read", desc := "()Ljava/util/ArrayList;" } : Jvm.MethodName)) ∈ lw_all := lw_g (lw_at lw_m7 57 rfl) rfl
theorem q1586 : (Jvm.Cond.selects "SetupJobShop$Reader" ({ cls := "SetupJobShop$Reader", name := "read", desc := "()Ljava/util/ArrayList;" } : Jvm.MethodName) ({ cls := "SetupJobShop$Reader", name := "read", desc := "()Ljava/util/ArrayList;" } : Jvm.MethodName)) ∈ lw_all := lw_g (lw_at lw_m7 58 rfl) rfl
theorem q1587 : (Jvm.Cond.code ({ cls := "SetupJobShop$Reader", name := "read", desc := "()Ljava/util/ArrayList;" } : Jvm.MethodName) prog_12_method_9_code (2 : Nat) (Option.some (Jvm.ClassFile.FieldType.object "java/util/ArrayList"))) ∈ lw_all := lw_g (lw_at lw_m7 59 rfl) rfl
theorem q1588 : (Jvm.Cond.classLink "SetupJobShop$Reader" (70 : Nat) "java/util/ArrayList") ∈ lw_all := lw_g (lw_at lw_m7 60 rfl) rfl
theorem q1589 : (Jvm.Cond.methodLink "SetupJobShop$Reader" (75 : Nat) ({ cls := "java/util/ArrayList", name := "<init>", desc := "()V" } : Jvm.MethodName)) ∈ lw_all := lw_g (lw_at lw_m7 61 rfl) rfl
theorem q1590 : (Jvm.Cond.methodLink "SetupJobShop$Reader" (76 : Nat) ({ cls := "SetupJobShop$Reader", name := "job", desc := "()LSetupJobShop$ToldJob;" } : Jvm.MethodName)) ∈ lw_all := lw_g (lw_at lw_m7 62 rfl) rfl
theorem q1591 : (Jvm.Cond.privateMethod ({ cls := "SetupJobShop$Reader", name := "job", desc := "()LSetupJobShop$ToldJob;" } : Jvm.MethodName)) ∈ lw_tbl := lw_at lw_m7 63 rfl
theorem q1592 : (Jvm.Cond.instanceMethod ({ cls := "SetupJobShop$Reader", name := "job", desc := "()LSetupJobShop$ToldJob;" } : Jvm.MethodName)) ∈ lw_all := lw_g (lw_at lw_m7 64 rfl) rfl
theorem q1593 : (Jvm.Cond.code ({ cls := "SetupJobShop$Reader", name := "job", desc := "()LSetupJobShop$ToldJob;" } : Jvm.MethodName) prog_12_method_8_code (3 : Nat) (Option.some (Jvm.ClassFile.FieldType.object "SetupJobShop$ToldJob"))) ∈ lw_all := lw_g (lw_at lw_m7 65 rfl) rfl
theorem q1594 : (Jvm.Cond.classLink "SetupJobShop$Reader" (54 : Nat) "SetupJobShop$ToldJob") ∈ lw_all := lw_g (lw_at lw_m7 66 rfl) rfl
theorem q1596 : (Jvm.Cond.methodLinkNest "SetupJobShop$Reader" (56 : Nat) ({ cls := "SetupJobShop$ToldJob", name := "<init>", desc := "()V" } : Jvm.MethodName) "SetupJobShop") ∈ lw_tbl := lw_at lw_m7 68 rfl
theorem q1604 : (Jvm.Cond.fieldLinkNest "SetupJobShop$Reader" (57 : Nat) "SetupJobShop$ToldJob" "values" "[I" "SetupJobShop") ∈ lw_tbl := lw_at lw_m7 76 rfl
theorem q1607 : (Jvm.Cond.fieldLinkNest "SetupJobShop$Reader" (61 : Nat) "SetupJobShop$ToldJob" "operations" "Ljava/util/ArrayList;" "SetupJobShop") ∈ lw_tbl := lw_at lw_m7 79 rfl
theorem q1613 : (Jvm.Cond.methodLink "SetupJobShop$Reader" (48 : Nat) ({ cls := "SetupJobShop$Reader", name := "must", desc := "(I)V" } : Jvm.MethodName)) ∈ lw_all := lw_g (lw_at lw_m7 85 rfl) rfl
theorem q1614 : (Jvm.Cond.privateMethod ({ cls := "SetupJobShop$Reader", name := "must", desc := "(I)V" } : Jvm.MethodName)) ∈ lw_tbl := lw_at lw_m7 86 rfl
theorem q1615 : (Jvm.Cond.instanceMethod ({ cls := "SetupJobShop$Reader", name := "must", desc := "(I)V" } : Jvm.MethodName)) ∈ lw_all := lw_g (lw_at lw_m7 87 rfl) rfl
theorem q1616 : (Jvm.Cond.code ({ cls := "SetupJobShop$Reader", name := "must", desc := "(I)V" } : Jvm.MethodName) prog_12_method_4_code (2 : Nat) (Option.none : Option Jvm.ClassFile.FieldType)) ∈ lw_all := lw_g (lw_at lw_m7 88 rfl) rfl
theorem q1617 : (Jvm.Cond.methodLink "SetupJobShop$Reader" (32 : Nat) ({ cls := "SetupJobShop$Reader", name := "skip", desc := "(I)Z" } : Jvm.MethodName)) ∈ lw_all := lw_g (lw_at lw_m7 89 rfl) rfl
theorem q1618 : (Jvm.Cond.privateMethod ({ cls := "SetupJobShop$Reader", name := "skip", desc := "(I)Z" } : Jvm.MethodName)) ∈ lw_tbl := lw_at lw_m7 90 rfl
theorem q1619 : (Jvm.Cond.instanceMethod ({ cls := "SetupJobShop$Reader", name := "skip", desc := "(I)Z" } : Jvm.MethodName)) ∈ lw_all := lw_g (lw_at lw_m7 91 rfl) rfl
theorem q1620 : (Jvm.Cond.code ({ cls := "SetupJobShop$Reader", name := "skip", desc := "(I)Z" } : Jvm.MethodName) prog_12_method_3_code (2 : Nat) (Option.some Jvm.ClassFile.FieldType.boolean)) ∈ lw_all := lw_g (lw_at lw_m7 92 rfl) rfl
theorem q1621 : (Jvm.Cond.methodLink "SetupJobShop$Reader" (29 : Nat) ({ cls := "SetupJobShop$Reader", name := "here", desc := "()I" } : Jvm.MethodName)) ∈ lw_all := lw_g (lw_at lw_m7 93 rfl) rfl
theorem q1622 : (Jvm.Cond.privateMethod ({ cls := "SetupJobShop$Reader", name := "here", desc := "()I" } : Jvm.MethodName)) ∈ lw_tbl := lw_at lw_m7 94 rfl
theorem q1623 : (Jvm.Cond.instanceMethod ({ cls := "SetupJobShop$Reader", name := "here", desc := "()I" } : Jvm.MethodName)) ∈ lw_all := lw_g (lw_at lw_m7 95 rfl) rfl
theorem q1624 : (Jvm.Cond.code ({ cls := "SetupJobShop$Reader", name := "here", desc := "()I" } : Jvm.MethodName) prog_12_method_2_code (1 : Nat) (Option.some Jvm.ClassFile.FieldType.int)) ∈ lw_all := lw_g (lw_at lw_m7 96 rfl) rfl
theorem q1625 : (Jvm.Cond.methodLink "SetupJobShop$Reader" (19 : Nat) ({ cls := "java/lang/String", name := "length", desc := "()I" } : Jvm.MethodName)) ∈ lw_all := lw_g (lw_at lw_m7 97 rfl) rfl
theorem q1626 : (Jvm.Cond.methodLink "SetupJobShop$Reader" (25 : Nat) ({ cls := "java/lang/String", name := "charAt", desc := "(I)C" } : Jvm.MethodName)) ∈ lw_all := lw_g (lw_at lw_m7 98 rfl) rfl
theorem q1641 : (Jvm.Cond.classLink "SetupJobShop$Reader" (36 : Nat) "SetupJobShop$TextFault") ∈ lw_all := lw_g (lw_at lw_m7 113 rfl) rfl
theorem q1650 : (Jvm.Cond.methodLink "SetupJobShop$Reader" (38 : Nat) ({ cls := "SetupJobShop$TextFault", name := "<init>", desc := "(I)V" } : Jvm.MethodName)) ∈ lw_all := lw_g (lw_at lw_m7 122 rfl) rfl
theorem q1662 : (Jvm.Cond.methodLink "SetupJobShop$Reader" (51 : Nat) ({ cls := "SetupJobShop$Reader", name := "number", desc := "()I" } : Jvm.MethodName)) ∈ lw_all := lw_g (lw_at lw_m7 134 rfl) rfl
theorem q1663 : (Jvm.Cond.privateMethod ({ cls := "SetupJobShop$Reader", name := "number", desc := "()I" } : Jvm.MethodName)) ∈ lw_tbl := lw_at lw_m7 135 rfl
theorem q1664 : (Jvm.Cond.instanceMethod ({ cls := "SetupJobShop$Reader", name := "number", desc := "()I" } : Jvm.MethodName)) ∈ lw_all := lw_g (lw_at lw_m7 136 rfl) rfl
theorem q1665 : (Jvm.Cond.code ({ cls := "SetupJobShop$Reader", name := "number", desc := "()I" } : Jvm.MethodName) prog_12_method_6_code (3 : Nat) (Option.some Jvm.ClassFile.FieldType.int)) ∈ lw_all := lw_g (lw_at lw_m7 137 rfl) rfl
theorem q1666 : (Jvm.Cond.methodLink "SetupJobShop$Reader" (45 : Nat) ({ cls := "SetupJobShop$Reader", name := "digit", desc := "()I" } : Jvm.MethodName)) ∈ lw_all := lw_g (lw_at lw_m7 138 rfl) rfl
theorem q1667 : (Jvm.Cond.privateMethod ({ cls := "SetupJobShop$Reader", name := "digit", desc := "()I" } : Jvm.MethodName)) ∈ lw_tbl := lw_at lw_m7 139 rfl
theorem q1668 : (Jvm.Cond.instanceMethod ({ cls := "SetupJobShop$Reader", name := "digit", desc := "()I" } : Jvm.MethodName)) ∈ lw_all := lw_g (lw_at lw_m7 140 rfl) rfl
theorem q1669 : (Jvm.Cond.code ({ cls := "SetupJobShop$Reader", name := "digit", desc := "()I" } : Jvm.MethodName) prog_12_method_5_code (1 : Nat) (Option.some Jvm.ClassFile.FieldType.int)) ∈ lw_all := lw_g (lw_at lw_m7 141 rfl) rfl
theorem q1670 : (Jvm.Cond.methodLinkNest "SetupJobShop$Reader" (41 : Nat) ({ cls := "SetupJobShop", name := "in", desc := "(III)Z" } : Jvm.MethodName) "SetupJobShop") ∈ lw_tbl := lw_at lw_m7 142 rfl
theorem q1671 : (Jvm.Cond.methodLink "SetupJobShop$Reader" (65 : Nat) ({ cls := "SetupJobShop$Reader", name := "operation", desc := "()[I" } : Jvm.MethodName)) ∈ lw_all := lw_g (lw_at lw_m7 143 rfl) rfl
theorem q1672 : (Jvm.Cond.privateMethod ({ cls := "SetupJobShop$Reader", name := "operation", desc := "()[I" } : Jvm.MethodName)) ∈ lw_tbl := lw_at lw_m7 144 rfl
theorem q1673 : (Jvm.Cond.instanceMethod ({ cls := "SetupJobShop$Reader", name := "operation", desc := "()[I" } : Jvm.MethodName)) ∈ lw_all := lw_g (lw_at lw_m7 145 rfl) rfl
theorem q1674 : (Jvm.Cond.code ({ cls := "SetupJobShop$Reader", name := "operation", desc := "()[I" } : Jvm.MethodName) prog_12_method_7_code (2 : Nat) (Option.some (Jvm.ClassFile.FieldType.array Jvm.ClassFile.FieldType.int))) ∈ lw_all := lw_g (lw_at lw_m7 146 rfl) rfl
theorem q1675 : (Jvm.Cond.methodLink "SetupJobShop$Reader" (69 : Nat) ({ cls := "java/util/ArrayList", name := "add", desc := "(Ljava/lang/Object;)Z" } : Jvm.MethodName)) ∈ lw_all := lw_g (lw_at lw_m7 147 rfl) rfl
theorem q2309 : (Jvm.Cond.castable "SetupJobShop$Reader" "java/lang/Object") ∈ lw_tbl := lw_at lw_m10 61 rfl
theorem in_X13 : ∀ w ∈ wsX130, w ∈ lw_all := lw_in wsX130 [1579, 1581] (by decide +kernel) (by decide +kernel)

/-! SetupJobShop$ToldJob -/
set_option maxRecDepth 100000
def RX14 : String := "SetupJobShop$ToldJob"
def TX14 : u_T := fun k => match k with
  | 0 => ("SetupJobShop$ToldJob", "values", "[I", true)
  | _ => ("SetupJobShop$ToldJob", "operations", "Ljava/util/ArrayList;", true)
def tyX14 : Nat → FieldType := fun k => match k with
  | 0 => .array .int
  | _ => .object "java/util/ArrayList"
abbrev wsX140 : List Cond := u_ws RX14 TX14 2
theorem nmX14 : ∀ a, a < 2 → ∀ b, b < 2 → a ≠ b → (TX14 a).2.1 ≠ (TX14 b).2.1 := by decide +kernel
theorem tyX14_ok : ∀ k, k < 2 → parseFieldDescriptor (TX14 k).2.2.1 = some (tyX14 k) := by decide +kernel
abbrev cX14_init : ByteArray := prog_17_method_1_code
def yX14_init : MethodName := ⟨RX14, "<init>", "()V"⟩
def dkwX14_init_0 : List UInt8 := [42, 183, 0, 1, 42, 6, 188, 10, 181, 0, 7, 42, 187, 0, 13, 89, 183, 0, 15, 181, 0, 16, 177]
abbrev dktX14_init_0 : List UInt8 := dkwX14_init_0 ++ []
theorem dksX14_init_0 : cX14_init.data.toList.drop 0 = dktX14_init_0 := by decide +kernel
theorem dX14_init_0 : decode cX14_init 0 = .ok (.aload_n 0, 1) := dk_42 (dk_at dksX14_init_0 0 rfl rfl)
theorem dX14_init_1 : decode cX14_init 1 = .ok (.invokespecial 1, 3) := dk_183 0 1 (dk_at dksX14_init_0 1 rfl rfl)
theorem dX14_init_4 : decode cX14_init 4 = .ok (.aload_n 0, 1) := dk_42 (dk_at dksX14_init_0 4 rfl rfl)
theorem dX14_init_5 : decode cX14_init 5 = .ok (.iconst 3, 1) := dk_6 (dk_at dksX14_init_0 5 rfl rfl)
theorem dX14_init_6 : decode cX14_init 6 = .ok (.newarray .int, 2) := dk_188_10 (dk_at dksX14_init_0 6 rfl rfl)
theorem dX14_init_8 : decode cX14_init 8 = .ok (.putfield 7, 3) := dk_181 0 7 (dk_at dksX14_init_0 8 rfl rfl)
theorem dX14_init_11 : decode cX14_init 11 = .ok (.aload_n 0, 1) := dk_42 (dk_at dksX14_init_0 11 rfl rfl)
theorem dX14_init_12 : decode cX14_init 12 = .ok (.new 13, 3) := dk_187 0 13 (dk_at dksX14_init_0 12 rfl rfl)
theorem dX14_init_15 : decode cX14_init 15 = .ok (.dup, 1) := dk_89 (dk_at dksX14_init_0 15 rfl rfl)
theorem dX14_init_16 : decode cX14_init 16 = .ok (.invokespecial 15, 3) := dk_183 0 15 (dk_at dksX14_init_0 16 rfl rfl)
theorem dX14_init_19 : decode cX14_init 19 = .ok (.putfield 16, 3) := dk_181 0 16 (dk_at dksX14_init_0 19 rfl rfl)
theorem dX14_init_22 : decode cX14_init 22 = .ok (.return_, 1) := dk_177 (dk_at dksX14_init_0 22 rfl rfl)
theorem q127 : (Jvm.Cond.initialized "SetupJobShop$ToldJob") ∈ lw_all := lw_g (lw_at lw_m1 39 rfl) rfl
theorem q220 : (Jvm.Cond.selects "SetupJobShop$ToldJob" ({ cls := "java/lang/Object", name := "getClass", desc := "()Ljava/lang/Class;" } : Jvm.MethodName) ({ cls := "java/lang/Object", name := "getClass", desc := "()Ljava/lang/Class;" } : Jvm.MethodName)) ∈ lw_all := lw_g (lw_at lw_m1 132 rfl) rfl
theorem q1595 : (Jvm.Cond.instantiable "SetupJobShop$ToldJob" (2 : Nat)) ∈ lw_all := lw_g (lw_at lw_m7 67 rfl) rfl
theorem q1597 : (Jvm.Cond.instanceMethod ({ cls := "SetupJobShop$ToldJob", name := "<init>", desc := "()V" } : Jvm.MethodName)) ∈ lw_all := lw_g (lw_at lw_m7 69 rfl) rfl
theorem q1598 : (Jvm.Cond.code ({ cls := "SetupJobShop$ToldJob", name := "<init>", desc := "()V" } : Jvm.MethodName) prog_17_method_1_code (1 : Nat) (Option.none : Option Jvm.ClassFile.FieldType)) ∈ lw_all := lw_g (lw_at lw_m7 70 rfl) rfl
theorem q1599 : (Jvm.Cond.methodLink "SetupJobShop$ToldJob" (1 : Nat) ({ cls := "java/lang/Object", name := "<init>", desc := "()V" } : Jvm.MethodName)) ∈ lw_all := lw_g (lw_at lw_m7 71 rfl) rfl
theorem q1600 : (Jvm.Cond.classLink "SetupJobShop$ToldJob" (13 : Nat) "java/util/ArrayList") ∈ lw_all := lw_g (lw_at lw_m7 72 rfl) rfl
theorem q1601 : (Jvm.Cond.methodLink "SetupJobShop$ToldJob" (15 : Nat) ({ cls := "java/util/ArrayList", name := "<init>", desc := "()V" } : Jvm.MethodName)) ∈ lw_all := lw_g (lw_at lw_m7 73 rfl) rfl
theorem q1602 : (Jvm.Cond.fieldLink "SetupJobShop$ToldJob" (7 : Nat) "SetupJobShop$ToldJob" "values" "[I") ∈ lw_all := lw_g (lw_at lw_m7 74 rfl) rfl
theorem q1605 : (Jvm.Cond.fieldLink "SetupJobShop$ToldJob" (16 : Nat) "SetupJobShop$ToldJob" "operations" "Ljava/util/ArrayList;") ∈ lw_all := lw_g (lw_at lw_m7 77 rfl) rfl
theorem q1608 : (Jvm.Cond.laysFinal "SetupJobShop$ToldJob" "SetupJobShop$ToldJob" "values" "[I") ∈ lw_all := lw_g (lw_at lw_m7 80 rfl) rfl
theorem q1609 : (Jvm.Cond.soleField "SetupJobShop$ToldJob" "values") ∈ lw_all := lw_g (lw_at lw_m7 81 rfl) rfl
theorem q1610 : (Jvm.Cond.laysFinal "SetupJobShop$ToldJob" "SetupJobShop$ToldJob" "operations" "Ljava/util/ArrayList;") ∈ lw_all := lw_g (lw_at lw_m7 82 rfl) rfl
theorem q1611 : (Jvm.Cond.soleField "SetupJobShop$ToldJob" "operations") ∈ lw_all := lw_g (lw_at lw_m7 83 rfl) rfl
theorem q1612 : (Jvm.Cond.superclass "SetupJobShop$ToldJob" "java/lang/Object") ∈ lw_all := lw_g (lw_at lw_m7 84 rfl) rfl
theorem q2310 : (Jvm.Cond.castable "SetupJobShop$ToldJob" "java/lang/Object") ∈ lw_tbl := lw_at lw_m10 62 rfl
theorem in_X14 : ∀ w ∈ wsX140, w ∈ lw_all := lw_in wsX140 [1608, 1610] (by decide +kernel) (by decide +kernel)

/-! SetupJobShop$TextFault -/
set_option maxRecDepth 100000
def RX15 : String := "SetupJobShop$TextFault"
def TX15 : u_T := fun k => match k with
  | 0 => ("java/lang/Throwable", "cause", "Ljava/lang/Throwable;", false)
  | 1 => ("java/lang/Throwable", "stackTrace", "[Ljava/lang/StackTraceElement;", false)
  | 2 => ("java/lang/Throwable", "suppressedExceptions", "Ljava/util/List;", false)
  | 3 => ("java/lang/Throwable", "detailMessage", "Ljava/lang/String;", false)
  | 4 => ("java/lang/Throwable", "backtrace", "Ljava/lang/Object;", false)
  | 5 => ("SetupJobShop$Failure", "code", "I", true)
  | 6 => ("java/lang/Throwable", "depth", "I", false)
  | _ => ("SetupJobShop$TextFault", "position", "I", true)
def tyX15 : Nat → FieldType := fun k => match k with
  | 0 => .object "java/lang/Throwable"
  | 1 => .array (.object "java/lang/StackTraceElement")
  | 2 => .object "java/util/List"
  | 3 => .object "java/lang/String"
  | 4 => .object "java/lang/Object"
  | 5 => .int
  | 6 => .int
  | _ => .int
abbrev wsX150 : List Cond := u_ws RX15 TX15 8
theorem nmX15 : ∀ a, a < 8 → ∀ b, b < 8 → a ≠ b → (TX15 a).2.1 ≠ (TX15 b).2.1 := by decide +kernel
theorem tyX15_ok : ∀ k, k < 8 → parseFieldDescriptor (TX15 k).2.2.1 = some (tyX15 k) := by decide +kernel
abbrev cX15_init : ByteArray := prog_16_method_1_code
def yX15_init : MethodName := ⟨RX15, "<init>", "(I)V"⟩
def dkwX15_init_0 : List UInt8 := [42, 5, 187, 0, 3, 89, 16, 100, 27, 96, 183, 0, 5, 183, 0, 9, 42, 27, 181, 0, 12, 177]
abbrev dktX15_init_0 : List UInt8 := dkwX15_init_0 ++ []
theorem dksX15_init_0 : cX15_init.data.toList.drop 0 = dktX15_init_0 := by decide +kernel
theorem dX15_init_0 : decode cX15_init 0 = .ok (.aload_n 0, 1) := dk_42 (dk_at dksX15_init_0 0 rfl rfl)
theorem dX15_init_1 : decode cX15_init 1 = .ok (.iconst 2, 1) := dk_5 (dk_at dksX15_init_0 1 rfl rfl)
theorem dX15_init_2 : decode cX15_init 2 = .ok (.new 3, 3) := dk_187 0 3 (dk_at dksX15_init_0 2 rfl rfl)
theorem dX15_init_5 : decode cX15_init 5 = .ok (.dup, 1) := dk_89 (dk_at dksX15_init_0 5 rfl rfl)
theorem dX15_init_6 : decode cX15_init 6 = .ok (.bipush 100, 2) := dk_16 100 (dk_at dksX15_init_0 6 rfl rfl)
theorem dX15_init_8 : decode cX15_init 8 = .ok (.iload_n 1, 1) := dk_27 (dk_at dksX15_init_0 8 rfl rfl)
theorem dX15_init_9 : decode cX15_init 9 = .ok (.iadd, 1) := dk_96 (dk_at dksX15_init_0 9 rfl rfl)
theorem dX15_init_10 : decode cX15_init 10 = .ok (.invokespecial 5, 3) := dk_183 0 5 (dk_at dksX15_init_0 10 rfl rfl)
theorem dX15_init_13 : decode cX15_init 13 = .ok (.invokespecial 9, 3) := dk_183 0 9 (dk_at dksX15_init_0 13 rfl rfl)
theorem dX15_init_16 : decode cX15_init 16 = .ok (.aload_n 0, 1) := dk_42 (dk_at dksX15_init_0 16 rfl rfl)
theorem dX15_init_17 : decode cX15_init 17 = .ok (.iload_n 1, 1) := dk_27 (dk_at dksX15_init_0 17 rfl rfl)
theorem dX15_init_18 : decode cX15_init 18 = .ok (.putfield 12, 3) := dk_181 0 12 (dk_at dksX15_init_0 18 rfl rfl)
theorem dX15_init_21 : decode cX15_init 21 = .ok (.return_, 1) := dk_177 (dk_at dksX15_init_0 21 rfl rfl)
theorem q128 : (Jvm.Cond.initialized "SetupJobShop$TextFault") ∈ lw_all := lw_g (lw_at lw_m1 40 rfl) rfl
theorem q219 : (Jvm.Cond.selects "SetupJobShop$TextFault" ({ cls := "java/lang/Object", name := "getClass", desc := "()Ljava/lang/Class;" } : Jvm.MethodName) ({ cls := "java/lang/Object", name := "getClass", desc := "()Ljava/lang/Class;" } : Jvm.MethodName)) ∈ lw_all := lw_g (lw_at lw_m1 131 rfl) rfl
theorem q721 : (Jvm.Cond.selects "SetupJobShop$TextFault" ({ cls := "java/lang/Throwable", name := "fillInStackTrace", desc := "()Ljava/lang/Throwable;" } : Jvm.MethodName) ({ cls := "java/lang/Throwable", name := "fillInStackTrace", desc := "()Ljava/lang/Throwable;" } : Jvm.MethodName)) ∈ lw_all := lw_g (lw_at lw_m3 153 rfl) rfl
theorem q1642 : (Jvm.Cond.instantiable "SetupJobShop$TextFault" (8 : Nat)) ∈ lw_all := lw_g (lw_at lw_m7 114 rfl) rfl
theorem q1643 : (Jvm.Cond.castable "SetupJobShop$TextFault" "SetupJobShop$TextFault") ∈ lw_tbl := lw_at lw_m7 115 rfl
theorem q1644 : (Jvm.Cond.selects "SetupJobShop$TextFault" ({ cls := "java/lang/Throwable", name := "fillInStackTrace", desc := "(I)Ljava/lang/Throwable;" } : Jvm.MethodName) ({ cls := "java/lang/Throwable", name := "fillInStackTrace", desc := "(I)Ljava/lang/Throwable;" } : Jvm.MethodName)) ∈ lw_all := lw_g (lw_at lw_m7 116 rfl) rfl
theorem q1645 : (Jvm.Cond.lays "SetupJobShop$TextFault" "java/lang/Throwable" "cause" "Ljava/lang/Throwable;") ∈ lw_all := lw_g (lw_at lw_m7 117 rfl) rfl
theorem q1646 : (Jvm.Cond.lays "SetupJobShop$TextFault" "java/lang/Throwable" "stackTrace" "[Ljava/lang/StackTraceElement;") ∈ lw_all := lw_g (lw_at lw_m7 118 rfl) rfl
theorem q1647 : (Jvm.Cond.lays "SetupJobShop$TextFault" "java/lang/Throwable" "suppressedExceptions" "Ljava/util/List;") ∈ lw_all := lw_g (lw_at lw_m7 119 rfl) rfl
theorem q1648 : (Jvm.Cond.lays "SetupJobShop$TextFault" "java/lang/Throwable" "detailMessage" "Ljava/lang/String;") ∈ lw_all := lw_g (lw_at lw_m7 120 rfl) rfl
theorem q1649 : (Jvm.Cond.lays "SetupJobShop$TextFault" "java/lang/Throwable" "backtrace" "Ljava/lang/Object;") ∈ lw_all := lw_g (lw_at lw_m7 121 rfl) rfl
theorem q1651 : (Jvm.Cond.instanceMethod ({ cls := "SetupJobShop$TextFault", name := "<init>", desc := "(I)V" } : Jvm.MethodName)) ∈ lw_all := lw_g (lw_at lw_m7 123 rfl) rfl
theorem q1652 : (Jvm.Cond.code ({ cls := "SetupJobShop$TextFault", name := "<init>", desc := "(I)V" } : Jvm.MethodName) prog_16_method_1_code (2 : Nat) (Option.none : Option Jvm.ClassFile.FieldType)) ∈ lw_all := lw_g (lw_at lw_m7 124 rfl) rfl
theorem q1653 : (Jvm.Cond.classLink "SetupJobShop$TextFault" (3 : Nat) "SetupJobShop$Failure") ∈ lw_all := lw_g (lw_at lw_m7 125 rfl) rfl
theorem q1654 : (Jvm.Cond.methodLink "SetupJobShop$TextFault" (5 : Nat) ({ cls := "SetupJobShop$Failure", name := "<init>", desc := "(I)V" } : Jvm.MethodName)) ∈ lw_all := lw_g (lw_at lw_m7 126 rfl) rfl
theorem q1655 : (Jvm.Cond.methodLink "SetupJobShop$TextFault" (9 : Nat) ({ cls := "SetupJobShop$Failure", name := "<init>", desc := "(ILjava/lang/Throwable;)V" } : Jvm.MethodName)) ∈ lw_all := lw_g (lw_at lw_m7 127 rfl) rfl
theorem q1656 : (Jvm.Cond.fieldLink "SetupJobShop$TextFault" (12 : Nat) "SetupJobShop$TextFault" "position" "I") ∈ lw_all := lw_g (lw_at lw_m7 128 rfl) rfl
theorem q1657 : (Jvm.Cond.laysFinal "SetupJobShop$TextFault" "SetupJobShop$TextFault" "position" "I") ∈ lw_all := lw_g (lw_at lw_m7 129 rfl) rfl
theorem q1658 : (Jvm.Cond.soleField "SetupJobShop$TextFault" "position") ∈ lw_all := lw_g (lw_at lw_m7 130 rfl) rfl
theorem q1659 : (Jvm.Cond.laysFinal "SetupJobShop$TextFault" "SetupJobShop$Failure" "code" "I") ∈ lw_all := lw_g (lw_at lw_m7 131 rfl) rfl
theorem q1660 : (Jvm.Cond.lays "SetupJobShop$TextFault" "java/lang/Throwable" "depth" "I") ∈ lw_all := lw_g (lw_at lw_m7 132 rfl) rfl
theorem q1661 : (Jvm.Cond.superclass "SetupJobShop$TextFault" "SetupJobShop$Failure") ∈ lw_all := lw_g (lw_at lw_m7 133 rfl) rfl
theorem q1762 : (Jvm.Cond.selects "SetupJobShop$TextFault" ({ cls := "java/lang/Throwable", name := "getCause", desc := "()Ljava/lang/Throwable;" } : Jvm.MethodName) ({ cls := "java/lang/Throwable", name := "getCause", desc := "()Ljava/lang/Throwable;" } : Jvm.MethodName)) ∈ lw_all := lw_g (lw_at lw_m7 234 rfl) rfl
theorem q1777 : (Jvm.Cond.selects "SetupJobShop$TextFault" ({ cls := "SetupJobShop$Failure", name := "code", desc := "()I" } : Jvm.MethodName) ({ cls := "SetupJobShop$Failure", name := "code", desc := "()I" } : Jvm.MethodName)) ∈ lw_all := lw_g (lw_at lw_m8 9 rfl) rfl
theorem q2287 : (Jvm.Cond.castable "SetupJobShop$TextFault" "SetupJobShop$Failure") ∈ lw_tbl := lw_at lw_m10 39 rfl
theorem q2311 : (Jvm.Cond.castable "SetupJobShop$TextFault" "java/lang/Object") ∈ lw_tbl := lw_at lw_m10 63 rfl
theorem in_X15 : ∀ w ∈ wsX150, w ∈ lw_all := lw_in wsX150 [1645, 1646, 1647, 1648, 1649, 1659, 1660, 1657] (by decide +kernel) (by decide +kernel)

/-! SetupJobShop$Creator -/
set_option maxRecDepth 100000
def RX16 : String := "SetupJobShop$Creator"
def TX16 : u_T := fun k => match k with
  | _ => ("SetupJobShop$Creator", "shop", "LSetupJobShop$Shop;", true)
def tyX16 : Nat → FieldType := fun k => match k with
  | _ => .object "SetupJobShop$Shop"
abbrev wsX160 : List Cond := u_ws RX16 TX16 1
theorem nmX16 : ∀ a, a < 1 → ∀ b, b < 1 → a ≠ b → (TX16 a).2.1 ≠ (TX16 b).2.1 := by decide +kernel
theorem tyX16_ok : ∀ k, k < 1 → parseFieldDescriptor (TX16 k).2.2.1 = some (tyX16 k) := by decide +kernel
abbrev cX16_init : ByteArray := prog_4_method_1_code
def yX16_init : MethodName := ⟨RX16, "<init>", "(LSetupJobShop$Shop;)V"⟩
def dkwX16_init_0 : List UInt8 := [42, 183, 0, 3, 42, 43, 181, 0, 9, 177]
abbrev dktX16_init_0 : List UInt8 := dkwX16_init_0 ++ []
theorem dksX16_init_0 : cX16_init.data.toList.drop 0 = dktX16_init_0 := by decide +kernel
theorem dX16_init_0 : decode cX16_init 0 = .ok (.aload_n 0, 1) := dk_42 (dk_at dksX16_init_0 0 rfl rfl)
theorem dX16_init_1 : decode cX16_init 1 = .ok (.invokespecial 3, 3) := dk_183 0 3 (dk_at dksX16_init_0 1 rfl rfl)
theorem dX16_init_4 : decode cX16_init 4 = .ok (.aload_n 0, 1) := dk_42 (dk_at dksX16_init_0 4 rfl rfl)
theorem dX16_init_5 : decode cX16_init 5 = .ok (.aload_n 1, 1) := dk_43 (dk_at dksX16_init_0 5 rfl rfl)
theorem dX16_init_6 : decode cX16_init 6 = .ok (.putfield 9, 3) := dk_181 0 9 (dk_at dksX16_init_0 6 rfl rfl)
theorem dX16_init_9 : decode cX16_init 9 = .ok (.return_, 1) := dk_177 (dk_at dksX16_init_0 9 rfl rfl)
abbrev cX16_create : ByteArray := prog_4_method_4_code
def yX16_create : MethodName := ⟨RX16, "create", "(Ljava/util/ArrayList;)V"⟩
def dkwX16_create_1 : List UInt8 := [167, 0, 14, 78, 187, 0, 83, 89, 28, 45, 183, 0, 85, 191, 132, 2, 1, 167, 255, 219, 177]
abbrev dktX16_create_1 : List UInt8 := dkwX16_create_1 ++ []
def dkwX16_create_0 : List UInt8 := [3, 61, 28, 43, 182, 0, 38, 162, 0, 35, 42, 43, 28, 182, 0, 68, 192, 0, 48, 182, 0, 80]
abbrev dktX16_create_0 : List UInt8 := dkwX16_create_0 ++ dktX16_create_1
theorem dksX16_create_0 : cX16_create.data.toList.drop 0 = dktX16_create_0 := by decide +kernel
theorem dksX16_create_1 : cX16_create.data.toList.drop 22 = dktX16_create_1 := dk_seg dksX16_create_0 22 rfl rfl
theorem dX16_create_0 : decode cX16_create 0 = .ok (.iconst 0, 1) := dk_3 (dk_at dksX16_create_0 0 rfl rfl)
theorem dX16_create_1 : decode cX16_create 1 = .ok (.istore_n 2, 1) := dk_61 (dk_at dksX16_create_0 1 rfl rfl)
theorem dX16_create_2 : decode cX16_create 2 = .ok (.iload_n 2, 1) := dk_28 (dk_at dksX16_create_0 2 rfl rfl)
theorem dX16_create_3 : decode cX16_create 3 = .ok (.aload_n 1, 1) := dk_43 (dk_at dksX16_create_0 3 rfl rfl)
theorem dX16_create_4 : decode cX16_create 4 = .ok (.invokevirtual 38, 3) := dk_182 0 38 (dk_at dksX16_create_0 4 rfl rfl)
theorem dX16_create_7 : decode cX16_create 7 = .ok (.if_icmp .ge 35, 3) := dk_162 0 35 (dk_at dksX16_create_0 7 rfl rfl)
theorem dX16_create_10 : decode cX16_create 10 = .ok (.aload_n 0, 1) := dk_42 (dk_at dksX16_create_0 10 rfl rfl)
theorem dX16_create_11 : decode cX16_create 11 = .ok (.aload_n 1, 1) := dk_43 (dk_at dksX16_create_0 11 rfl rfl)
theorem dX16_create_12 : decode cX16_create 12 = .ok (.iload_n 2, 1) := dk_28 (dk_at dksX16_create_0 12 rfl rfl)
theorem dX16_create_13 : decode cX16_create 13 = .ok (.invokevirtual 68, 3) := dk_182 0 68 (dk_at dksX16_create_0 13 rfl rfl)
theorem dX16_create_16 : decode cX16_create 16 = .ok (.checkcast 48, 3) := dk_192 0 48 (dk_at dksX16_create_0 16 rfl rfl)
theorem dX16_create_19 : decode cX16_create 19 = .ok (.invokevirtual 80, 3) := dk_182 0 80 (dk_at dksX16_create_0 19 rfl rfl)
theorem dX16_create_22 : decode cX16_create 22 = .ok (.goto 14, 3) := dk_167 0 14 (dk_at dksX16_create_1 0 rfl rfl)
theorem dX16_create_25 : decode cX16_create 25 = .ok (.astore_n 3, 1) := dk_78 (dk_at dksX16_create_1 3 rfl rfl)
theorem dX16_create_26 : decode cX16_create 26 = .ok (.new 83, 3) := dk_187 0 83 (dk_at dksX16_create_1 4 rfl rfl)
theorem dX16_create_29 : decode cX16_create 29 = .ok (.dup, 1) := dk_89 (dk_at dksX16_create_1 7 rfl rfl)
theorem dX16_create_30 : decode cX16_create 30 = .ok (.iload_n 2, 1) := dk_28 (dk_at dksX16_create_1 8 rfl rfl)
theorem dX16_create_31 : decode cX16_create 31 = .ok (.aload_n 3, 1) := dk_45 (dk_at dksX16_create_1 9 rfl rfl)
theorem dX16_create_32 : decode cX16_create 32 = .ok (.invokespecial 85, 3) := dk_183 0 85 (dk_at dksX16_create_1 10 rfl rfl)
theorem dX16_create_35 : decode cX16_create 35 = .ok (.athrow, 1) := dk_191 (dk_at dksX16_create_1 13 rfl rfl)
theorem dX16_create_36 : decode cX16_create 36 = .ok (.iinc 2 1, 3) := dk_132 2 1 (dk_at dksX16_create_1 14 rfl rfl)
theorem dX16_create_39 : decode cX16_create 39 = .ok (.goto (-37), 3) := dk_167 255 219 (dk_at dksX16_create_1 17 rfl rfl)
theorem dX16_create_42 : decode cX16_create 42 = .ok (.return_, 1) := dk_177 (dk_at dksX16_create_1 20 rfl rfl)
abbrev cX16_create_2 : ByteArray := prog_4_method_3_code
def yX16_create_2 : MethodName := ⟨RX16, "create", "(LSetupJobShop$ToldJob;)V"⟩
def dkwX16_create_2_6 : List UInt8 := [25, 4, 183, 0, 77, 191, 177]
abbrev dktX16_create_2_6 : List UInt8 := dkwX16_create_2_6 ++ []
def dkwX16_create_2_5 : List UInt8 := [182, 0, 68, 192, 0, 72, 182, 0, 73, 132, 4, 1, 167, 255, 222, 167, 0, 15, 58, 4, 187, 0, 44, 89]
abbrev dktX16_create_2_5 : List UInt8 := dkwX16_create_2_5 ++ dktX16_create_2_6
def dkwX16_create_2_4 : List UInt8 := [21, 4, 43, 180, 0, 65, 182, 0, 38, 162, 0, 28, 42, 29, 21, 4, 43, 180, 0, 65, 21, 4]
abbrev dktX16_create_2_4 : List UInt8 := dkwX16_create_2_4 ++ dktX16_create_2_5
def dkwX16_create_2_3 : List UInt8 := [187, 0, 56, 89, 44, 3, 46, 44, 4, 46, 44, 5, 46, 183, 0, 58, 182, 0, 61, 87, 3, 54, 4]
abbrev dktX16_create_2_3 : List UInt8 := dkwX16_create_2_3 ++ dktX16_create_2_4
def dkwX16_create_2_2 : List UInt8 := [183, 0, 46, 191, 42, 180, 0, 9, 180, 0, 34, 182, 0, 38, 62, 42, 180, 0, 9, 180, 0, 34]
abbrev dktX16_create_2_2 : List UInt8 := dkwX16_create_2_2 ++ dktX16_create_2_3
def dkwX16_create_2_1 : List UInt8 := [180, 0, 47, 77, 44, 3, 46, 44, 4, 46, 44, 5, 46, 184, 0, 53, 154, 0, 12, 187, 0, 44, 89, 5]
abbrev dktX16_create_2_1 : List UInt8 := dkwX16_create_2_1 ++ dktX16_create_2_2
def dkwX16_create_2_0 : List UInt8 := [42, 180, 0, 9, 180, 0, 34, 182, 0, 38, 8, 160, 0, 12, 187, 0, 44, 89, 4, 183, 0, 46, 191, 43]
abbrev dktX16_create_2_0 : List UInt8 := dkwX16_create_2_0 ++ dktX16_create_2_1
theorem dksX16_create_2_0 : cX16_create_2.data.toList.drop 0 = dktX16_create_2_0 := by decide +kernel
theorem dksX16_create_2_1 : cX16_create_2.data.toList.drop 24 = dktX16_create_2_1 := dk_seg dksX16_create_2_0 24 rfl rfl
theorem dksX16_create_2_2 : cX16_create_2.data.toList.drop 48 = dktX16_create_2_2 := dk_seg dksX16_create_2_1 24 rfl rfl
theorem dksX16_create_2_3 : cX16_create_2.data.toList.drop 70 = dktX16_create_2_3 := dk_seg dksX16_create_2_2 22 rfl rfl
theorem dksX16_create_2_4 : cX16_create_2.data.toList.drop 93 = dktX16_create_2_4 := dk_seg dksX16_create_2_3 23 rfl rfl
theorem dksX16_create_2_5 : cX16_create_2.data.toList.drop 115 = dktX16_create_2_5 := dk_seg dksX16_create_2_4 22 rfl rfl
theorem dksX16_create_2_6 : cX16_create_2.data.toList.drop 139 = dktX16_create_2_6 := dk_seg dksX16_create_2_5 24 rfl rfl
theorem dX16_create_2_0 : decode cX16_create_2 0 = .ok (.aload_n 0, 1) := dk_42 (dk_at dksX16_create_2_0 0 rfl rfl)
theorem dX16_create_2_1 : decode cX16_create_2 1 = .ok (.getfield 9, 3) := dk_180 0 9 (dk_at dksX16_create_2_0 1 rfl rfl)
theorem dX16_create_2_4 : decode cX16_create_2 4 = .ok (.getfield 34, 3) := dk_180 0 34 (dk_at dksX16_create_2_0 4 rfl rfl)
theorem dX16_create_2_7 : decode cX16_create_2 7 = .ok (.invokevirtual 38, 3) := dk_182 0 38 (dk_at dksX16_create_2_0 7 rfl rfl)
theorem dX16_create_2_10 : decode cX16_create_2 10 = .ok (.iconst 5, 1) := dk_8 (dk_at dksX16_create_2_0 10 rfl rfl)
theorem dX16_create_2_11 : decode cX16_create_2 11 = .ok (.if_icmp .ne 12, 3) := dk_160 0 12 (dk_at dksX16_create_2_0 11 rfl rfl)
theorem dX16_create_2_14 : decode cX16_create_2 14 = .ok (.new 44, 3) := dk_187 0 44 (dk_at dksX16_create_2_0 14 rfl rfl)
theorem dX16_create_2_17 : decode cX16_create_2 17 = .ok (.dup, 1) := dk_89 (dk_at dksX16_create_2_0 17 rfl rfl)
theorem dX16_create_2_18 : decode cX16_create_2 18 = .ok (.iconst 1, 1) := dk_4 (dk_at dksX16_create_2_0 18 rfl rfl)
theorem dX16_create_2_19 : decode cX16_create_2 19 = .ok (.invokespecial 46, 3) := dk_183 0 46 (dk_at dksX16_create_2_0 19 rfl rfl)
theorem dX16_create_2_22 : decode cX16_create_2 22 = .ok (.athrow, 1) := dk_191 (dk_at dksX16_create_2_0 22 rfl rfl)
theorem dX16_create_2_23 : decode cX16_create_2 23 = .ok (.aload_n 1, 1) := dk_43 (dk_at dksX16_create_2_0 23 rfl rfl)
theorem dX16_create_2_24 : decode cX16_create_2 24 = .ok (.getfield 47, 3) := dk_180 0 47 (dk_at dksX16_create_2_1 0 rfl rfl)
theorem dX16_create_2_27 : decode cX16_create_2 27 = .ok (.astore_n 2, 1) := dk_77 (dk_at dksX16_create_2_1 3 rfl rfl)
theorem dX16_create_2_28 : decode cX16_create_2 28 = .ok (.aload_n 2, 1) := dk_44 (dk_at dksX16_create_2_1 4 rfl rfl)
theorem dX16_create_2_29 : decode cX16_create_2 29 = .ok (.iconst 0, 1) := dk_3 (dk_at dksX16_create_2_1 5 rfl rfl)
theorem dX16_create_2_30 : decode cX16_create_2 30 = .ok (.iaload, 1) := dk_46 (dk_at dksX16_create_2_1 6 rfl rfl)
theorem dX16_create_2_31 : decode cX16_create_2 31 = .ok (.aload_n 2, 1) := dk_44 (dk_at dksX16_create_2_1 7 rfl rfl)
theorem dX16_create_2_32 : decode cX16_create_2 32 = .ok (.iconst 1, 1) := dk_4 (dk_at dksX16_create_2_1 8 rfl rfl)
theorem dX16_create_2_33 : decode cX16_create_2 33 = .ok (.iaload, 1) := dk_46 (dk_at dksX16_create_2_1 9 rfl rfl)
theorem dX16_create_2_34 : decode cX16_create_2 34 = .ok (.aload_n 2, 1) := dk_44 (dk_at dksX16_create_2_1 10 rfl rfl)
theorem dX16_create_2_35 : decode cX16_create_2 35 = .ok (.iconst 2, 1) := dk_5 (dk_at dksX16_create_2_1 11 rfl rfl)
theorem dX16_create_2_36 : decode cX16_create_2 36 = .ok (.iaload, 1) := dk_46 (dk_at dksX16_create_2_1 12 rfl rfl)
theorem dX16_create_2_37 : decode cX16_create_2 37 = .ok (.invokestatic 53, 3) := dk_184 0 53 (dk_at dksX16_create_2_1 13 rfl rfl)
theorem dX16_create_2_40 : decode cX16_create_2 40 = .ok (.ifCond .ne 12, 3) := dk_154 0 12 (dk_at dksX16_create_2_1 16 rfl rfl)
theorem dX16_create_2_43 : decode cX16_create_2 43 = .ok (.new 44, 3) := dk_187 0 44 (dk_at dksX16_create_2_1 19 rfl rfl)
theorem dX16_create_2_46 : decode cX16_create_2 46 = .ok (.dup, 1) := dk_89 (dk_at dksX16_create_2_1 22 rfl rfl)
theorem dX16_create_2_47 : decode cX16_create_2 47 = .ok (.iconst 2, 1) := dk_5 (dk_at dksX16_create_2_1 23 rfl rfl)
theorem dX16_create_2_48 : decode cX16_create_2 48 = .ok (.invokespecial 46, 3) := dk_183 0 46 (dk_at dksX16_create_2_2 0 rfl rfl)
theorem dX16_create_2_51 : decode cX16_create_2 51 = .ok (.athrow, 1) := dk_191 (dk_at dksX16_create_2_2 3 rfl rfl)
theorem dX16_create_2_52 : decode cX16_create_2 52 = .ok (.aload_n 0, 1) := dk_42 (dk_at dksX16_create_2_2 4 rfl rfl)
theorem dX16_create_2_53 : decode cX16_create_2 53 = .ok (.getfield 9, 3) := dk_180 0 9 (dk_at dksX16_create_2_2 5 rfl rfl)
theorem dX16_create_2_56 : decode cX16_create_2 56 = .ok (.getfield 34, 3) := dk_180 0 34 (dk_at dksX16_create_2_2 8 rfl rfl)
theorem dX16_create_2_59 : decode cX16_create_2 59 = .ok (.invokevirtual 38, 3) := dk_182 0 38 (dk_at dksX16_create_2_2 11 rfl rfl)
theorem dX16_create_2_62 : decode cX16_create_2 62 = .ok (.istore_n 3, 1) := dk_62 (dk_at dksX16_create_2_2 14 rfl rfl)
theorem dX16_create_2_63 : decode cX16_create_2 63 = .ok (.aload_n 0, 1) := dk_42 (dk_at dksX16_create_2_2 15 rfl rfl)
theorem dX16_create_2_64 : decode cX16_create_2 64 = .ok (.getfield 9, 3) := dk_180 0 9 (dk_at dksX16_create_2_2 16 rfl rfl)
theorem dX16_create_2_67 : decode cX16_create_2 67 = .ok (.getfield 34, 3) := dk_180 0 34 (dk_at dksX16_create_2_2 19 rfl rfl)
theorem dX16_create_2_70 : decode cX16_create_2 70 = .ok (.new 56, 3) := dk_187 0 56 (dk_at dksX16_create_2_3 0 rfl rfl)
theorem dX16_create_2_73 : decode cX16_create_2 73 = .ok (.dup, 1) := dk_89 (dk_at dksX16_create_2_3 3 rfl rfl)
theorem dX16_create_2_74 : decode cX16_create_2 74 = .ok (.aload_n 2, 1) := dk_44 (dk_at dksX16_create_2_3 4 rfl rfl)
theorem dX16_create_2_75 : decode cX16_create_2 75 = .ok (.iconst 0, 1) := dk_3 (dk_at dksX16_create_2_3 5 rfl rfl)
theorem dX16_create_2_76 : decode cX16_create_2 76 = .ok (.iaload, 1) := dk_46 (dk_at dksX16_create_2_3 6 rfl rfl)
theorem dX16_create_2_77 : decode cX16_create_2 77 = .ok (.aload_n 2, 1) := dk_44 (dk_at dksX16_create_2_3 7 rfl rfl)
theorem dX16_create_2_78 : decode cX16_create_2 78 = .ok (.iconst 1, 1) := dk_4 (dk_at dksX16_create_2_3 8 rfl rfl)
theorem dX16_create_2_79 : decode cX16_create_2 79 = .ok (.iaload, 1) := dk_46 (dk_at dksX16_create_2_3 9 rfl rfl)
theorem dX16_create_2_80 : decode cX16_create_2 80 = .ok (.aload_n 2, 1) := dk_44 (dk_at dksX16_create_2_3 10 rfl rfl)
theorem dX16_create_2_81 : decode cX16_create_2 81 = .ok (.iconst 2, 1) := dk_5 (dk_at dksX16_create_2_3 11 rfl rfl)
theorem dX16_create_2_82 : decode cX16_create_2 82 = .ok (.iaload, 1) := dk_46 (dk_at dksX16_create_2_3 12 rfl rfl)
theorem dX16_create_2_83 : decode cX16_create_2 83 = .ok (.invokespecial 58, 3) := dk_183 0 58 (dk_at dksX16_create_2_3 13 rfl rfl)
theorem dX16_create_2_86 : decode cX16_create_2 86 = .ok (.invokevirtual 61, 3) := dk_182 0 61 (dk_at dksX16_create_2_3 16 rfl rfl)
theorem dX16_create_2_89 : decode cX16_create_2 89 = .ok (.pop, 1) := dk_87 (dk_at dksX16_create_2_3 19 rfl rfl)
theorem dX16_create_2_90 : decode cX16_create_2 90 = .ok (.iconst 0, 1) := dk_3 (dk_at dksX16_create_2_3 20 rfl rfl)
theorem dX16_create_2_91 : decode cX16_create_2 91 = .ok (.istore 4, 2) := dk_54 4 (dk_at dksX16_create_2_3 21 rfl rfl)
theorem dX16_create_2_93 : decode cX16_create_2 93 = .ok (.iload 4, 2) := dk_21 4 (dk_at dksX16_create_2_4 0 rfl rfl)
theorem dX16_create_2_95 : decode cX16_create_2 95 = .ok (.aload_n 1, 1) := dk_43 (dk_at dksX16_create_2_4 2 rfl rfl)
theorem dX16_create_2_96 : decode cX16_create_2 96 = .ok (.getfield 65, 3) := dk_180 0 65 (dk_at dksX16_create_2_4 3 rfl rfl)
theorem dX16_create_2_99 : decode cX16_create_2 99 = .ok (.invokevirtual 38, 3) := dk_182 0 38 (dk_at dksX16_create_2_4 6 rfl rfl)
theorem dX16_create_2_102 : decode cX16_create_2 102 = .ok (.if_icmp .ge 28, 3) := dk_162 0 28 (dk_at dksX16_create_2_4 9 rfl rfl)
theorem dX16_create_2_105 : decode cX16_create_2 105 = .ok (.aload_n 0, 1) := dk_42 (dk_at dksX16_create_2_4 12 rfl rfl)
theorem dX16_create_2_106 : decode cX16_create_2 106 = .ok (.iload_n 3, 1) := dk_29 (dk_at dksX16_create_2_4 13 rfl rfl)
theorem dX16_create_2_107 : decode cX16_create_2 107 = .ok (.iload 4, 2) := dk_21 4 (dk_at dksX16_create_2_4 14 rfl rfl)
theorem dX16_create_2_109 : decode cX16_create_2 109 = .ok (.aload_n 1, 1) := dk_43 (dk_at dksX16_create_2_4 16 rfl rfl)
theorem dX16_create_2_110 : decode cX16_create_2 110 = .ok (.getfield 65, 3) := dk_180 0 65 (dk_at dksX16_create_2_4 17 rfl rfl)
theorem dX16_create_2_113 : decode cX16_create_2 113 = .ok (.iload 4, 2) := dk_21 4 (dk_at dksX16_create_2_4 20 rfl rfl)
theorem dX16_create_2_115 : decode cX16_create_2 115 = .ok (.invokevirtual 68, 3) := dk_182 0 68 (dk_at dksX16_create_2_5 0 rfl rfl)
theorem dX16_create_2_118 : decode cX16_create_2 118 = .ok (.checkcast 72, 3) := dk_192 0 72 (dk_at dksX16_create_2_5 3 rfl rfl)
theorem dX16_create_2_121 : decode cX16_create_2 121 = .ok (.invokevirtual 73, 3) := dk_182 0 73 (dk_at dksX16_create_2_5 6 rfl rfl)
theorem dX16_create_2_124 : decode cX16_create_2 124 = .ok (.iinc 4 1, 3) := dk_132 4 1 (dk_at dksX16_create_2_5 9 rfl rfl)
theorem dX16_create_2_127 : decode cX16_create_2 127 = .ok (.goto (-34), 3) := dk_167 255 222 (dk_at dksX16_create_2_5 12 rfl rfl)
theorem dX16_create_2_130 : decode cX16_create_2 130 = .ok (.goto 15, 3) := dk_167 0 15 (dk_at dksX16_create_2_5 15 rfl rfl)
theorem dX16_create_2_133 : decode cX16_create_2 133 = .ok (.astore 4, 2) := dk_58 4 (dk_at dksX16_create_2_5 18 rfl rfl)
theorem dX16_create_2_135 : decode cX16_create_2 135 = .ok (.new 44, 3) := dk_187 0 44 (dk_at dksX16_create_2_5 20 rfl rfl)
theorem dX16_create_2_138 : decode cX16_create_2 138 = .ok (.dup, 1) := dk_89 (dk_at dksX16_create_2_5 23 rfl rfl)
theorem dX16_create_2_139 : decode cX16_create_2 139 = .ok (.aload 4, 2) := dk_25 4 (dk_at dksX16_create_2_6 0 rfl rfl)
theorem dX16_create_2_141 : decode cX16_create_2 141 = .ok (.invokespecial 77, 3) := dk_183 0 77 (dk_at dksX16_create_2_6 2 rfl rfl)
theorem dX16_create_2_144 : decode cX16_create_2 144 = .ok (.athrow, 1) := dk_191 (dk_at dksX16_create_2_6 5 rfl rfl)
theorem dX16_create_2_145 : decode cX16_create_2 145 = .ok (.return_, 1) := dk_177 (dk_at dksX16_create_2_6 6 rfl rfl)
abbrev cX16_create_3 : ByteArray := prog_4_method_2_code
def yX16_create_3 : MethodName := ⟨RX16, "create", "(II[I)V"⟩
def dkwX16_create_3_3 : List UInt8 := [191, 42, 180, 0, 9, 27, 45, 3, 46, 45, 4, 46, 45, 5, 46, 182, 0, 30, 87, 177]
abbrev dktX16_create_3_3 : List UInt8 := dkwX16_create_3_3 ++ []
def dkwX16_create_3_2 : List UInt8 := [180, 0, 9, 27, 45, 3, 46, 182, 0, 19, 154, 0, 15, 187, 0, 25, 89, 16, 100, 28, 96, 183, 0, 27]
abbrev dktX16_create_3_2 : List UInt8 := dkwX16_create_3_2 ++ dktX16_create_3_3
def dkwX16_create_3_1 : List UInt8 := [5, 46, 3, 5, 184, 0, 15, 153, 0, 7, 4, 167, 0, 4, 3, 54, 4, 21, 4, 153, 0, 17, 42]
abbrev dktX16_create_3_1 : List UInt8 := dkwX16_create_3_1 ++ dktX16_create_3_2
def dkwX16_create_3_0 : List UInt8 := [45, 3, 46, 3, 6, 184, 0, 15, 153, 0, 30, 45, 4, 46, 4, 16, 30, 184, 0, 15, 153, 0, 18, 45]
abbrev dktX16_create_3_0 : List UInt8 := dkwX16_create_3_0 ++ dktX16_create_3_1
theorem dksX16_create_3_0 : cX16_create_3.data.toList.drop 0 = dktX16_create_3_0 := by decide +kernel
theorem dksX16_create_3_1 : cX16_create_3.data.toList.drop 24 = dktX16_create_3_1 := dk_seg dksX16_create_3_0 24 rfl rfl
theorem dksX16_create_3_2 : cX16_create_3.data.toList.drop 47 = dktX16_create_3_2 := dk_seg dksX16_create_3_1 23 rfl rfl
theorem dksX16_create_3_3 : cX16_create_3.data.toList.drop 71 = dktX16_create_3_3 := dk_seg dksX16_create_3_2 24 rfl rfl
theorem dX16_create_3_0 : decode cX16_create_3 0 = .ok (.aload_n 3, 1) := dk_45 (dk_at dksX16_create_3_0 0 rfl rfl)
theorem dX16_create_3_1 : decode cX16_create_3 1 = .ok (.iconst 0, 1) := dk_3 (dk_at dksX16_create_3_0 1 rfl rfl)
theorem dX16_create_3_2 : decode cX16_create_3 2 = .ok (.iaload, 1) := dk_46 (dk_at dksX16_create_3_0 2 rfl rfl)
theorem dX16_create_3_3 : decode cX16_create_3 3 = .ok (.iconst 0, 1) := dk_3 (dk_at dksX16_create_3_0 3 rfl rfl)
theorem dX16_create_3_4 : decode cX16_create_3 4 = .ok (.iconst 3, 1) := dk_6 (dk_at dksX16_create_3_0 4 rfl rfl)
theorem dX16_create_3_5 : decode cX16_create_3 5 = .ok (.invokestatic 15, 3) := dk_184 0 15 (dk_at dksX16_create_3_0 5 rfl rfl)
theorem dX16_create_3_8 : decode cX16_create_3 8 = .ok (.ifCond .eq 30, 3) := dk_153 0 30 (dk_at dksX16_create_3_0 8 rfl rfl)
theorem dX16_create_3_11 : decode cX16_create_3 11 = .ok (.aload_n 3, 1) := dk_45 (dk_at dksX16_create_3_0 11 rfl rfl)
theorem dX16_create_3_12 : decode cX16_create_3 12 = .ok (.iconst 1, 1) := dk_4 (dk_at dksX16_create_3_0 12 rfl rfl)
theorem dX16_create_3_13 : decode cX16_create_3 13 = .ok (.iaload, 1) := dk_46 (dk_at dksX16_create_3_0 13 rfl rfl)
theorem dX16_create_3_14 : decode cX16_create_3 14 = .ok (.iconst 1, 1) := dk_4 (dk_at dksX16_create_3_0 14 rfl rfl)
theorem dX16_create_3_15 : decode cX16_create_3 15 = .ok (.bipush 30, 2) := dk_16 30 (dk_at dksX16_create_3_0 15 rfl rfl)
theorem dX16_create_3_17 : decode cX16_create_3 17 = .ok (.invokestatic 15, 3) := dk_184 0 15 (dk_at dksX16_create_3_0 17 rfl rfl)
theorem dX16_create_3_20 : decode cX16_create_3 20 = .ok (.ifCond .eq 18, 3) := dk_153 0 18 (dk_at dksX16_create_3_0 20 rfl rfl)
theorem dX16_create_3_23 : decode cX16_create_3 23 = .ok (.aload_n 3, 1) := dk_45 (dk_at dksX16_create_3_0 23 rfl rfl)
theorem dX16_create_3_24 : decode cX16_create_3 24 = .ok (.iconst 2, 1) := dk_5 (dk_at dksX16_create_3_1 0 rfl rfl)
theorem dX16_create_3_25 : decode cX16_create_3 25 = .ok (.iaload, 1) := dk_46 (dk_at dksX16_create_3_1 1 rfl rfl)
theorem dX16_create_3_26 : decode cX16_create_3 26 = .ok (.iconst 0, 1) := dk_3 (dk_at dksX16_create_3_1 2 rfl rfl)
theorem dX16_create_3_27 : decode cX16_create_3 27 = .ok (.iconst 2, 1) := dk_5 (dk_at dksX16_create_3_1 3 rfl rfl)
theorem dX16_create_3_28 : decode cX16_create_3 28 = .ok (.invokestatic 15, 3) := dk_184 0 15 (dk_at dksX16_create_3_1 4 rfl rfl)
theorem dX16_create_3_31 : decode cX16_create_3 31 = .ok (.ifCond .eq 7, 3) := dk_153 0 7 (dk_at dksX16_create_3_1 7 rfl rfl)
theorem dX16_create_3_34 : decode cX16_create_3 34 = .ok (.iconst 1, 1) := dk_4 (dk_at dksX16_create_3_1 10 rfl rfl)
theorem dX16_create_3_35 : decode cX16_create_3 35 = .ok (.goto 4, 3) := dk_167 0 4 (dk_at dksX16_create_3_1 11 rfl rfl)
theorem dX16_create_3_38 : decode cX16_create_3 38 = .ok (.iconst 0, 1) := dk_3 (dk_at dksX16_create_3_1 14 rfl rfl)
theorem dX16_create_3_39 : decode cX16_create_3 39 = .ok (.istore 4, 2) := dk_54 4 (dk_at dksX16_create_3_1 15 rfl rfl)
theorem dX16_create_3_41 : decode cX16_create_3 41 = .ok (.iload 4, 2) := dk_21 4 (dk_at dksX16_create_3_1 17 rfl rfl)
theorem dX16_create_3_43 : decode cX16_create_3 43 = .ok (.ifCond .eq 17, 3) := dk_153 0 17 (dk_at dksX16_create_3_1 19 rfl rfl)
theorem dX16_create_3_46 : decode cX16_create_3 46 = .ok (.aload_n 0, 1) := dk_42 (dk_at dksX16_create_3_1 22 rfl rfl)
theorem dX16_create_3_47 : decode cX16_create_3 47 = .ok (.getfield 9, 3) := dk_180 0 9 (dk_at dksX16_create_3_2 0 rfl rfl)
theorem dX16_create_3_50 : decode cX16_create_3 50 = .ok (.iload_n 1, 1) := dk_27 (dk_at dksX16_create_3_2 3 rfl rfl)
theorem dX16_create_3_51 : decode cX16_create_3 51 = .ok (.aload_n 3, 1) := dk_45 (dk_at dksX16_create_3_2 4 rfl rfl)
theorem dX16_create_3_52 : decode cX16_create_3 52 = .ok (.iconst 0, 1) := dk_3 (dk_at dksX16_create_3_2 5 rfl rfl)
theorem dX16_create_3_53 : decode cX16_create_3 53 = .ok (.iaload, 1) := dk_46 (dk_at dksX16_create_3_2 6 rfl rfl)
theorem dX16_create_3_54 : decode cX16_create_3 54 = .ok (.invokevirtual 19, 3) := dk_182 0 19 (dk_at dksX16_create_3_2 7 rfl rfl)
theorem dX16_create_3_57 : decode cX16_create_3 57 = .ok (.ifCond .ne 15, 3) := dk_154 0 15 (dk_at dksX16_create_3_2 10 rfl rfl)
theorem dX16_create_3_60 : decode cX16_create_3 60 = .ok (.new 25, 3) := dk_187 0 25 (dk_at dksX16_create_3_2 13 rfl rfl)
theorem dX16_create_3_63 : decode cX16_create_3 63 = .ok (.dup, 1) := dk_89 (dk_at dksX16_create_3_2 16 rfl rfl)
theorem dX16_create_3_64 : decode cX16_create_3 64 = .ok (.bipush 100, 2) := dk_16 100 (dk_at dksX16_create_3_2 17 rfl rfl)
theorem dX16_create_3_66 : decode cX16_create_3 66 = .ok (.iload_n 2, 1) := dk_28 (dk_at dksX16_create_3_2 19 rfl rfl)
theorem dX16_create_3_67 : decode cX16_create_3 67 = .ok (.iadd, 1) := dk_96 (dk_at dksX16_create_3_2 20 rfl rfl)
theorem dX16_create_3_68 : decode cX16_create_3 68 = .ok (.invokespecial 27, 3) := dk_183 0 27 (dk_at dksX16_create_3_2 21 rfl rfl)
theorem dX16_create_3_71 : decode cX16_create_3 71 = .ok (.athrow, 1) := dk_191 (dk_at dksX16_create_3_3 0 rfl rfl)
theorem dX16_create_3_72 : decode cX16_create_3 72 = .ok (.aload_n 0, 1) := dk_42 (dk_at dksX16_create_3_3 1 rfl rfl)
theorem dX16_create_3_73 : decode cX16_create_3 73 = .ok (.getfield 9, 3) := dk_180 0 9 (dk_at dksX16_create_3_3 2 rfl rfl)
theorem dX16_create_3_76 : decode cX16_create_3 76 = .ok (.iload_n 1, 1) := dk_27 (dk_at dksX16_create_3_3 5 rfl rfl)
theorem dX16_create_3_77 : decode cX16_create_3 77 = .ok (.aload_n 3, 1) := dk_45 (dk_at dksX16_create_3_3 6 rfl rfl)
theorem dX16_create_3_78 : decode cX16_create_3 78 = .ok (.iconst 0, 1) := dk_3 (dk_at dksX16_create_3_3 7 rfl rfl)
theorem dX16_create_3_79 : decode cX16_create_3 79 = .ok (.iaload, 1) := dk_46 (dk_at dksX16_create_3_3 8 rfl rfl)
theorem dX16_create_3_80 : decode cX16_create_3 80 = .ok (.aload_n 3, 1) := dk_45 (dk_at dksX16_create_3_3 9 rfl rfl)
theorem dX16_create_3_81 : decode cX16_create_3 81 = .ok (.iconst 1, 1) := dk_4 (dk_at dksX16_create_3_3 10 rfl rfl)
theorem dX16_create_3_82 : decode cX16_create_3 82 = .ok (.iaload, 1) := dk_46 (dk_at dksX16_create_3_3 11 rfl rfl)
theorem dX16_create_3_83 : decode cX16_create_3 83 = .ok (.aload_n 3, 1) := dk_45 (dk_at dksX16_create_3_3 12 rfl rfl)
theorem dX16_create_3_84 : decode cX16_create_3 84 = .ok (.iconst 2, 1) := dk_5 (dk_at dksX16_create_3_3 13 rfl rfl)
theorem dX16_create_3_85 : decode cX16_create_3 85 = .ok (.iaload, 1) := dk_46 (dk_at dksX16_create_3_3 14 rfl rfl)
theorem dX16_create_3_86 : decode cX16_create_3 86 = .ok (.invokevirtual 30, 3) := dk_182 0 30 (dk_at dksX16_create_3_3 15 rfl rfl)
theorem dX16_create_3_89 : decode cX16_create_3 89 = .ok (.pop, 1) := dk_87 (dk_at dksX16_create_3_3 18 rfl rfl)
theorem dX16_create_3_90 : decode cX16_create_3 90 = .ok (.return_, 1) := dk_177 (dk_at dksX16_create_3_3 19 rfl rfl)
theorem q129 : (Jvm.Cond.initialized "SetupJobShop$Creator") ∈ lw_all := lw_g (lw_at lw_m1 41 rfl) rfl
theorem q207 : (Jvm.Cond.selects "SetupJobShop$Creator" ({ cls := "java/lang/Object", name := "getClass", desc := "()Ljava/lang/Class;" } : Jvm.MethodName) ({ cls := "java/lang/Object", name := "getClass", desc := "()Ljava/lang/Class;" } : Jvm.MethodName)) ∈ lw_all := lw_g (lw_at lw_m1 119 rfl) rfl
theorem q268 : (Jvm.Cond.fieldLinkNest "SetupJobShop$Creator" (34 : Nat) "SetupJobShop$Shop" "jobs" "Ljava/util/ArrayList;" "SetupJobShop") ∈ lw_tbl := lw_at lw_m1 180 rfl
theorem q1603 : (Jvm.Cond.fieldLinkNest "SetupJobShop$Creator" (47 : Nat) "SetupJobShop$ToldJob" "values" "[I" "SetupJobShop") ∈ lw_tbl := lw_at lw_m7 75 rfl
theorem q1606 : (Jvm.Cond.fieldLinkNest "SetupJobShop$Creator" (65 : Nat) "SetupJobShop$ToldJob" "operations" "Ljava/util/ArrayList;" "SetupJobShop") ∈ lw_tbl := lw_at lw_m7 78 rfl
theorem q1677 : (Jvm.Cond.instantiable "SetupJobShop$Creator" (1 : Nat)) ∈ lw_all := lw_g (lw_at lw_m7 149 rfl) rfl
theorem q1679 : (Jvm.Cond.instanceMethod ({ cls := "SetupJobShop$Creator", name := "<init>", desc := "(LSetupJobShop$Shop;)V" } : Jvm.MethodName)) ∈ lw_all := lw_g (lw_at lw_m7 151 rfl) rfl
theorem q1680 : (Jvm.Cond.code ({ cls := "SetupJobShop$Creator", name := "<init>", desc := "(LSetupJobShop$Shop;)V" } : Jvm.MethodName) prog_4_method_1_code (2 : Nat) (Option.none : Option Jvm.ClassFile.FieldType)) ∈ lw_all := lw_g (lw_at lw_m7 152 rfl) rfl
theorem q1681 : (Jvm.Cond.methodLink "SetupJobShop$Creator" (3 : Nat) ({ cls := "java/lang/Object", name := "<init>", desc := "()V" } : Jvm.MethodName)) ∈ lw_all := lw_g (lw_at lw_m7 153 rfl) rfl
theorem q1682 : (Jvm.Cond.fieldLink "SetupJobShop$Creator" (9 : Nat) "SetupJobShop$Creator" "shop" "LSetupJobShop$Shop;") ∈ lw_all := lw_g (lw_at lw_m7 154 rfl) rfl
theorem q1683 : (Jvm.Cond.laysFinal "SetupJobShop$Creator" "SetupJobShop$Creator" "shop" "LSetupJobShop$Shop;") ∈ lw_all := lw_g (lw_at lw_m7 155 rfl) rfl
theorem q1684 : (Jvm.Cond.soleField "SetupJobShop$Creator" "shop") ∈ lw_all := lw_g (lw_at lw_m7 156 rfl) rfl
theorem q1685 : (Jvm.Cond.superclass "SetupJobShop$Creator" "java/lang/Object") ∈ lw_all := lw_g (lw_at lw_m7 157 rfl) rfl
theorem q1687 : (Jvm.Cond.instanceMethod ({ cls := "SetupJobShop$Creator", name := "create", desc := "(Ljava/util/ArrayList;)V" } : Jvm.MethodName)) ∈ lw_all := lw_g (lw_at lw_m7 159 rfl) rfl
theorem q1688 : (Jvm.Cond.selects "SetupJobShop$Creator" ({ cls := "SetupJobShop$Creator", name := "create", desc := "(Ljava/util/ArrayList;)V" } : Jvm.MethodName) ({ cls := "SetupJobShop$Creator", name := "create", desc := "(Ljava/util/ArrayList;)V" } : Jvm.MethodName)) ∈ lw_all := lw_g (lw_at lw_m7 160 rfl) rfl
theorem q1689 : (Jvm.Cond.codeWith ({ cls := "SetupJobShop$Creator", name := "create", desc := "(Ljava/util/ArrayList;)V" } : Jvm.MethodName) prog_4_method_4_code (4 : Nat) (Option.none : Option Jvm.ClassFile.FieldType) [((10 : Nat), (22 : Nat), (25 : Nat), (44 : Nat))]) ∈ lw_all := lw_g (lw_at lw_m7 161 rfl) rfl
theorem q1690 : (Jvm.Cond.classLink "SetupJobShop$Creator" (44 : Nat) "SetupJobShop$BadJob") ∈ lw_all := lw_g (lw_at lw_m7 162 rfl) rfl
theorem q1691 : (Jvm.Cond.methodLink "SetupJobShop$Creator" (38 : Nat) ({ cls := "java/util/ArrayList", name := "size", desc := "()I" } : Jvm.MethodName)) ∈ lw_all := lw_g (lw_at lw_m7 163 rfl) rfl
theorem q1692 : (Jvm.Cond.methodLink "SetupJobShop$Creator" (68 : Nat) ({ cls := "java/util/ArrayList", name := "get", desc := "(I)Ljava/lang/Object;" } : Jvm.MethodName)) ∈ lw_all := lw_g (lw_at lw_m7 164 rfl) rfl
theorem q1693 : (Jvm.Cond.classLink "SetupJobShop$Creator" (48 : Nat) "SetupJobShop$ToldJob") ∈ lw_all := lw_g (lw_at lw_m7 165 rfl) rfl
theorem q1694 : (Jvm.Cond.methodLink "SetupJobShop$Creator" (80 : Nat) ({ cls := "SetupJobShop$Creator", name := "create", desc := "(LSetupJobShop$ToldJob;)V" } : Jvm.MethodName)) ∈ lw_all := lw_g (lw_at lw_m7 166 rfl) rfl
theorem q1695 : (Jvm.Cond.privateMethod ({ cls := "SetupJobShop$Creator", name := "create", desc := "(LSetupJobShop$ToldJob;)V" } : Jvm.MethodName)) ∈ lw_tbl := lw_at lw_m7 167 rfl
theorem q1696 : (Jvm.Cond.instanceMethod ({ cls := "SetupJobShop$Creator", name := "create", desc := "(LSetupJobShop$ToldJob;)V" } : Jvm.MethodName)) ∈ lw_all := lw_g (lw_at lw_m7 168 rfl) rfl
theorem q1697 : (Jvm.Cond.codeWith ({ cls := "SetupJobShop$Creator", name := "create", desc := "(LSetupJobShop$ToldJob;)V" } : Jvm.MethodName) prog_4_method_3_code (5 : Nat) (Option.none : Option Jvm.ClassFile.FieldType) [((90 : Nat), (130 : Nat), (133 : Nat), (25 : Nat))]) ∈ lw_all := lw_g (lw_at lw_m7 169 rfl) rfl
theorem q1698 : (Jvm.Cond.classLink "SetupJobShop$Creator" (25 : Nat) "SetupJobShop$Failure") ∈ lw_all := lw_g (lw_at lw_m7 170 rfl) rfl
theorem q1707 : (Jvm.Cond.methodLink "SetupJobShop$Creator" (46 : Nat) ({ cls := "SetupJobShop$BadJob", name := "<init>", desc := "(I)V" } : Jvm.MethodName)) ∈ lw_all := lw_g (lw_at lw_m7 179 rfl) rfl
theorem q1714 : (Jvm.Cond.methodLinkNest "SetupJobShop$Creator" (53 : Nat) ({ cls := "SetupJobShop", name := "areJobValues", desc := "(III)Z" } : Jvm.MethodName) "SetupJobShop") ∈ lw_tbl := lw_at lw_m7 186 rfl
theorem q1715 : (Jvm.Cond.classLink "SetupJobShop$Creator" (56 : Nat) "SetupJobShop$Job") ∈ lw_all := lw_g (lw_at lw_m7 187 rfl) rfl
theorem q1716 : (Jvm.Cond.methodLink "SetupJobShop$Creator" (58 : Nat) ({ cls := "SetupJobShop$Job", name := "<init>", desc := "(III)V" } : Jvm.MethodName)) ∈ lw_all := lw_g (lw_at lw_m7 188 rfl) rfl
theorem q1717 : (Jvm.Cond.methodLink "SetupJobShop$Creator" (61 : Nat) ({ cls := "java/util/ArrayList", name := "add", desc := "(Ljava/lang/Object;)Z" } : Jvm.MethodName)) ∈ lw_all := lw_g (lw_at lw_m7 189 rfl) rfl
theorem q1718 : (Jvm.Cond.classLink "SetupJobShop$Creator" (72 : Nat) "[I") ∈ lw_all := lw_g (lw_at lw_m7 190 rfl) rfl
theorem q1719 : (Jvm.Cond.methodLink "SetupJobShop$Creator" (73 : Nat) ({ cls := "SetupJobShop$Creator", name := "create", desc := "(II[I)V" } : Jvm.MethodName)) ∈ lw_all := lw_g (lw_at lw_m7 191 rfl) rfl
theorem q1720 : (Jvm.Cond.privateMethod ({ cls := "SetupJobShop$Creator", name := "create", desc := "(II[I)V" } : Jvm.MethodName)) ∈ lw_tbl := lw_at lw_m7 192 rfl
theorem q1721 : (Jvm.Cond.instanceMethod ({ cls := "SetupJobShop$Creator", name := "create", desc := "(II[I)V" } : Jvm.MethodName)) ∈ lw_all := lw_g (lw_at lw_m7 193 rfl) rfl
theorem q1722 : (Jvm.Cond.code ({ cls := "SetupJobShop$Creator", name := "create", desc := "(II[I)V" } : Jvm.MethodName) prog_4_method_2_code (5 : Nat) (Option.none : Option Jvm.ClassFile.FieldType)) ∈ lw_all := lw_g (lw_at lw_m7 194 rfl) rfl
theorem q1723 : (Jvm.Cond.methodLinkNest "SetupJobShop$Creator" (15 : Nat) ({ cls := "SetupJobShop", name := "in", desc := "(III)Z" } : Jvm.MethodName) "SetupJobShop") ∈ lw_tbl := lw_at lw_m7 195 rfl
theorem q1724 : (Jvm.Cond.methodLink "SetupJobShop$Creator" (19 : Nat) ({ cls := "SetupJobShop$Shop", name := "canAdd", desc := "(II)Z" } : Jvm.MethodName)) ∈ lw_all := lw_g (lw_at lw_m7 196 rfl) rfl
theorem q1725 : (Jvm.Cond.methodLink "SetupJobShop$Creator" (27 : Nat) ({ cls := "SetupJobShop$Failure", name := "<init>", desc := "(I)V" } : Jvm.MethodName)) ∈ lw_all := lw_g (lw_at lw_m7 197 rfl) rfl
theorem q1726 : (Jvm.Cond.methodLink "SetupJobShop$Creator" (30 : Nat) ({ cls := "SetupJobShop$Shop", name := "addOperation", desc := "(IIII)I" } : Jvm.MethodName)) ∈ lw_all := lw_g (lw_at lw_m7 198 rfl) rfl
theorem q1727 : (Jvm.Cond.methodLink "SetupJobShop$Creator" (77 : Nat) ({ cls := "SetupJobShop$BadJob", name := "<init>", desc := "(LSetupJobShop$Failure;)V" } : Jvm.MethodName)) ∈ lw_all := lw_g (lw_at lw_m7 199 rfl) rfl
theorem q1731 : (Jvm.Cond.classLink "SetupJobShop$Creator" (83 : Nat) "SetupJobShop$Refused") ∈ lw_all := lw_g (lw_at lw_m7 203 rfl) rfl
theorem q1740 : (Jvm.Cond.methodLink "SetupJobShop$Creator" (85 : Nat) ({ cls := "SetupJobShop$Refused", name := "<init>", desc := "(ILSetupJobShop$BadJob;)V" } : Jvm.MethodName)) ∈ lw_all := lw_g (lw_at lw_m7 212 rfl) rfl
theorem q2312 : (Jvm.Cond.castable "SetupJobShop$Creator" "java/lang/Object") ∈ lw_tbl := lw_at lw_m10 64 rfl
theorem in_X16 : ∀ w ∈ wsX160, w ∈ lw_all := lw_in wsX160 [1683] (by decide +kernel) (by decide +kernel)

/-! SetupJobShop$BadJob -/
set_option maxRecDepth 100000
def RX17 : String := "SetupJobShop$BadJob"
def TX17 : u_T := fun k => match k with
  | 0 => ("java/lang/Throwable", "cause", "Ljava/lang/Throwable;", false)
  | 1 => ("java/lang/Throwable", "stackTrace", "[Ljava/lang/StackTraceElement;", false)
  | 2 => ("java/lang/Throwable", "suppressedExceptions", "Ljava/util/List;", false)
  | 3 => ("java/lang/Throwable", "detailMessage", "Ljava/lang/String;", false)
  | 4 => ("java/lang/Throwable", "backtrace", "Ljava/lang/Object;", false)
  | 5 => ("SetupJobShop$Failure", "code", "I", true)
  | _ => ("java/lang/Throwable", "depth", "I", false)
def tyX17 : Nat → FieldType := fun k => match k with
  | 0 => .object "java/lang/Throwable"
  | 1 => .array (.object "java/lang/StackTraceElement")
  | 2 => .object "java/util/List"
  | 3 => .object "java/lang/String"
  | 4 => .object "java/lang/Object"
  | 5 => .int
  | _ => .int
abbrev wsX170 : List Cond := u_ws RX17 TX17 7
theorem nmX17 : ∀ a, a < 7 → ∀ b, b < 7 → a ≠ b → (TX17 a).2.1 ≠ (TX17 b).2.1 := by decide +kernel
theorem tyX17_ok : ∀ k, k < 7 → parseFieldDescriptor (TX17 k).2.2.1 = some (tyX17 k) := by decide +kernel
abbrev cX17_init : ByteArray := prog_2_method_1_code
def yX17_init : MethodName := ⟨RX17, "<init>", "(I)V"⟩
def dkwX17_init_0 : List UInt8 := [42, 27, 183, 0, 3, 177]
abbrev dktX17_init_0 : List UInt8 := dkwX17_init_0 ++ []
theorem dksX17_init_0 : cX17_init.data.toList.drop 0 = dktX17_init_0 := by decide +kernel
theorem dX17_init_0 : decode cX17_init 0 = .ok (.aload_n 0, 1) := dk_42 (dk_at dksX17_init_0 0 rfl rfl)
theorem dX17_init_1 : decode cX17_init 1 = .ok (.iload_n 1, 1) := dk_27 (dk_at dksX17_init_0 1 rfl rfl)
theorem dX17_init_2 : decode cX17_init 2 = .ok (.invokespecial 3, 3) := dk_183 0 3 (dk_at dksX17_init_0 2 rfl rfl)
theorem dX17_init_5 : decode cX17_init 5 = .ok (.return_, 1) := dk_177 (dk_at dksX17_init_0 5 rfl rfl)
abbrev cX17_init_2 : ByteArray := prog_2_method_2_code
def yX17_init_2 : MethodName := ⟨RX17, "<init>", "(LSetupJobShop$Failure;)V"⟩
def dkwX17_init_2_0 : List UInt8 := [42, 6, 43, 183, 0, 9, 177]
abbrev dktX17_init_2_0 : List UInt8 := dkwX17_init_2_0 ++ []
theorem dksX17_init_2_0 : cX17_init_2.data.toList.drop 0 = dktX17_init_2_0 := by decide +kernel
theorem dX17_init_2_0 : decode cX17_init_2 0 = .ok (.aload_n 0, 1) := dk_42 (dk_at dksX17_init_2_0 0 rfl rfl)
theorem dX17_init_2_1 : decode cX17_init_2 1 = .ok (.iconst 3, 1) := dk_6 (dk_at dksX17_init_2_0 1 rfl rfl)
theorem dX17_init_2_2 : decode cX17_init_2 2 = .ok (.aload_n 1, 1) := dk_43 (dk_at dksX17_init_2_0 2 rfl rfl)
theorem dX17_init_2_3 : decode cX17_init_2 3 = .ok (.invokespecial 9, 3) := dk_183 0 9 (dk_at dksX17_init_2_0 3 rfl rfl)
theorem dX17_init_2_6 : decode cX17_init_2 6 = .ok (.return_, 1) := dk_177 (dk_at dksX17_init_2_0 6 rfl rfl)
theorem q130 : (Jvm.Cond.initialized "SetupJobShop$BadJob") ∈ lw_all := lw_g (lw_at lw_m1 42 rfl) rfl
theorem q205 : (Jvm.Cond.selects "SetupJobShop$BadJob" ({ cls := "java/lang/Object", name := "getClass", desc := "()Ljava/lang/Class;" } : Jvm.MethodName) ({ cls := "java/lang/Object", name := "getClass", desc := "()Ljava/lang/Class;" } : Jvm.MethodName)) ∈ lw_all := lw_g (lw_at lw_m1 117 rfl) rfl
theorem q717 : (Jvm.Cond.selects "SetupJobShop$BadJob" ({ cls := "java/lang/Throwable", name := "fillInStackTrace", desc := "()Ljava/lang/Throwable;" } : Jvm.MethodName) ({ cls := "java/lang/Throwable", name := "fillInStackTrace", desc := "()Ljava/lang/Throwable;" } : Jvm.MethodName)) ∈ lw_all := lw_g (lw_at lw_m3 149 rfl) rfl
theorem q1699 : (Jvm.Cond.instantiable "SetupJobShop$BadJob" (7 : Nat)) ∈ lw_all := lw_g (lw_at lw_m7 171 rfl) rfl
theorem q1700 : (Jvm.Cond.castable "SetupJobShop$BadJob" "SetupJobShop$BadJob") ∈ lw_tbl := lw_at lw_m7 172 rfl
theorem q1701 : (Jvm.Cond.selects "SetupJobShop$BadJob" ({ cls := "java/lang/Throwable", name := "fillInStackTrace", desc := "(I)Ljava/lang/Throwable;" } : Jvm.MethodName) ({ cls := "java/lang/Throwable", name := "fillInStackTrace", desc := "(I)Ljava/lang/Throwable;" } : Jvm.MethodName)) ∈ lw_all := lw_g (lw_at lw_m7 173 rfl) rfl
theorem q1702 : (Jvm.Cond.lays "SetupJobShop$BadJob" "java/lang/Throwable" "cause" "Ljava/lang/Throwable;") ∈ lw_all := lw_g (lw_at lw_m7 174 rfl) rfl
theorem q1703 : (Jvm.Cond.lays "SetupJobShop$BadJob" "java/lang/Throwable" "stackTrace" "[Ljava/lang/StackTraceElement;") ∈ lw_all := lw_g (lw_at lw_m7 175 rfl) rfl
theorem q1704 : (Jvm.Cond.lays "SetupJobShop$BadJob" "java/lang/Throwable" "suppressedExceptions" "Ljava/util/List;") ∈ lw_all := lw_g (lw_at lw_m7 176 rfl) rfl
theorem q1705 : (Jvm.Cond.lays "SetupJobShop$BadJob" "java/lang/Throwable" "detailMessage" "Ljava/lang/String;") ∈ lw_all := lw_g (lw_at lw_m7 177 rfl) rfl
theorem q1706 : (Jvm.Cond.lays "SetupJobShop$BadJob" "java/lang/Throwable" "backtrace" "Ljava/lang/Object;") ∈ lw_all := lw_g (lw_at lw_m7 178 rfl) rfl
theorem q1708 : (Jvm.Cond.instanceMethod ({ cls := "SetupJobShop$BadJob", name := "<init>", desc := "(I)V" } : Jvm.MethodName)) ∈ lw_all := lw_g (lw_at lw_m7 180 rfl) rfl
theorem q1709 : (Jvm.Cond.code ({ cls := "SetupJobShop$BadJob", name := "<init>", desc := "(I)V" } : Jvm.MethodName) prog_2_method_1_code (2 : Nat) (Option.none : Option Jvm.ClassFile.FieldType)) ∈ lw_all := lw_g (lw_at lw_m7 181 rfl) rfl
theorem q1710 : (Jvm.Cond.methodLink "SetupJobShop$BadJob" (3 : Nat) ({ cls := "SetupJobShop$Failure", name := "<init>", desc := "(I)V" } : Jvm.MethodName)) ∈ lw_all := lw_g (lw_at lw_m7 182 rfl) rfl
theorem q1711 : (Jvm.Cond.laysFinal "SetupJobShop$BadJob" "SetupJobShop$Failure" "code" "I") ∈ lw_all := lw_g (lw_at lw_m7 183 rfl) rfl
theorem q1712 : (Jvm.Cond.lays "SetupJobShop$BadJob" "java/lang/Throwable" "depth" "I") ∈ lw_all := lw_g (lw_at lw_m7 184 rfl) rfl
theorem q1713 : (Jvm.Cond.superclass "SetupJobShop$BadJob" "SetupJobShop$Failure") ∈ lw_all := lw_g (lw_at lw_m7 185 rfl) rfl
theorem q1728 : (Jvm.Cond.instanceMethod ({ cls := "SetupJobShop$BadJob", name := "<init>", desc := "(LSetupJobShop$Failure;)V" } : Jvm.MethodName)) ∈ lw_all := lw_g (lw_at lw_m7 200 rfl) rfl
theorem q1729 : (Jvm.Cond.code ({ cls := "SetupJobShop$BadJob", name := "<init>", desc := "(LSetupJobShop$Failure;)V" } : Jvm.MethodName) prog_2_method_2_code (2 : Nat) (Option.none : Option Jvm.ClassFile.FieldType)) ∈ lw_all := lw_g (lw_at lw_m7 201 rfl) rfl
theorem q1730 : (Jvm.Cond.methodLink "SetupJobShop$BadJob" (9 : Nat) ({ cls := "SetupJobShop$Failure", name := "<init>", desc := "(ILjava/lang/Throwable;)V" } : Jvm.MethodName)) ∈ lw_all := lw_g (lw_at lw_m7 202 rfl) rfl
theorem q1758 : (Jvm.Cond.selects "SetupJobShop$BadJob" ({ cls := "java/lang/Throwable", name := "getCause", desc := "()Ljava/lang/Throwable;" } : Jvm.MethodName) ({ cls := "java/lang/Throwable", name := "getCause", desc := "()Ljava/lang/Throwable;" } : Jvm.MethodName)) ∈ lw_all := lw_g (lw_at lw_m7 230 rfl) rfl
theorem q1774 : (Jvm.Cond.selects "SetupJobShop$BadJob" ({ cls := "SetupJobShop$Failure", name := "code", desc := "()I" } : Jvm.MethodName) ({ cls := "SetupJobShop$Failure", name := "code", desc := "()I" } : Jvm.MethodName)) ∈ lw_all := lw_g (lw_at lw_m8 6 rfl) rfl
theorem q2284 : (Jvm.Cond.castable "SetupJobShop$BadJob" "SetupJobShop$Failure") ∈ lw_tbl := lw_at lw_m10 36 rfl
theorem q2313 : (Jvm.Cond.castable "SetupJobShop$BadJob" "java/lang/Object") ∈ lw_tbl := lw_at lw_m10 65 rfl
theorem in_X17 : ∀ w ∈ wsX170, w ∈ lw_all := lw_in wsX170 [1702, 1703, 1704, 1705, 1706, 1711, 1712] (by decide +kernel) (by decide +kernel)

/-! SetupJobShop$Refused -/
set_option maxRecDepth 100000
def RX18 : String := "SetupJobShop$Refused"
def TX18 : u_T := fun k => match k with
  | 0 => ("java/lang/Throwable", "cause", "Ljava/lang/Throwable;", false)
  | 1 => ("java/lang/Throwable", "stackTrace", "[Ljava/lang/StackTraceElement;", false)
  | 2 => ("java/lang/Throwable", "suppressedExceptions", "Ljava/util/List;", false)
  | 3 => ("java/lang/Throwable", "detailMessage", "Ljava/lang/String;", false)
  | 4 => ("java/lang/Throwable", "backtrace", "Ljava/lang/Object;", false)
  | 5 => ("SetupJobShop$Failure", "code", "I", true)
  | _ => ("java/lang/Throwable", "depth", "I", false)
def tyX18 : Nat → FieldType := fun k => match k with
  | 0 => .object "java/lang/Throwable"
  | 1 => .array (.object "java/lang/StackTraceElement")
  | 2 => .object "java/util/List"
  | 3 => .object "java/lang/String"
  | 4 => .object "java/lang/Object"
  | 5 => .int
  | _ => .int
abbrev wsX180 : List Cond := u_ws RX18 TX18 7
theorem nmX18 : ∀ a, a < 7 → ∀ b, b < 7 → a ≠ b → (TX18 a).2.1 ≠ (TX18 b).2.1 := by decide +kernel
theorem tyX18_ok : ∀ k, k < 7 → parseFieldDescriptor (TX18 k).2.2.1 = some (tyX18 k) := by decide +kernel
abbrev cX18_init : ByteArray := prog_13_method_1_code
def yX18_init : MethodName := ⟨RX18, "<init>", "(ILSetupJobShop$BadJob;)V"⟩
def dkwX18_init_0 : List UInt8 := [42, 6, 187, 0, 3, 89, 16, 100, 27, 96, 44, 183, 0, 5, 183, 0, 5, 177]
abbrev dktX18_init_0 : List UInt8 := dkwX18_init_0 ++ []
theorem dksX18_init_0 : cX18_init.data.toList.drop 0 = dktX18_init_0 := by decide +kernel
theorem dX18_init_0 : decode cX18_init 0 = .ok (.aload_n 0, 1) := dk_42 (dk_at dksX18_init_0 0 rfl rfl)
theorem dX18_init_1 : decode cX18_init 1 = .ok (.iconst 3, 1) := dk_6 (dk_at dksX18_init_0 1 rfl rfl)
theorem dX18_init_2 : decode cX18_init 2 = .ok (.new 3, 3) := dk_187 0 3 (dk_at dksX18_init_0 2 rfl rfl)
theorem dX18_init_5 : decode cX18_init 5 = .ok (.dup, 1) := dk_89 (dk_at dksX18_init_0 5 rfl rfl)
theorem dX18_init_6 : decode cX18_init 6 = .ok (.bipush 100, 2) := dk_16 100 (dk_at dksX18_init_0 6 rfl rfl)
theorem dX18_init_8 : decode cX18_init 8 = .ok (.iload_n 1, 1) := dk_27 (dk_at dksX18_init_0 8 rfl rfl)
theorem dX18_init_9 : decode cX18_init 9 = .ok (.iadd, 1) := dk_96 (dk_at dksX18_init_0 9 rfl rfl)
theorem dX18_init_10 : decode cX18_init 10 = .ok (.aload_n 2, 1) := dk_44 (dk_at dksX18_init_0 10 rfl rfl)
theorem dX18_init_11 : decode cX18_init 11 = .ok (.invokespecial 5, 3) := dk_183 0 5 (dk_at dksX18_init_0 11 rfl rfl)
theorem dX18_init_14 : decode cX18_init 14 = .ok (.invokespecial 5, 3) := dk_183 0 5 (dk_at dksX18_init_0 14 rfl rfl)
theorem dX18_init_17 : decode cX18_init 17 = .ok (.return_, 1) := dk_177 (dk_at dksX18_init_0 17 rfl rfl)
theorem q131 : (Jvm.Cond.initialized "SetupJobShop$Refused") ∈ lw_all := lw_g (lw_at lw_m1 43 rfl) rfl
theorem q216 : (Jvm.Cond.selects "SetupJobShop$Refused" ({ cls := "java/lang/Object", name := "getClass", desc := "()Ljava/lang/Class;" } : Jvm.MethodName) ({ cls := "java/lang/Object", name := "getClass", desc := "()Ljava/lang/Class;" } : Jvm.MethodName)) ∈ lw_all := lw_g (lw_at lw_m1 128 rfl) rfl
theorem q720 : (Jvm.Cond.selects "SetupJobShop$Refused" ({ cls := "java/lang/Throwable", name := "fillInStackTrace", desc := "()Ljava/lang/Throwable;" } : Jvm.MethodName) ({ cls := "java/lang/Throwable", name := "fillInStackTrace", desc := "()Ljava/lang/Throwable;" } : Jvm.MethodName)) ∈ lw_all := lw_g (lw_at lw_m3 152 rfl) rfl
theorem q1732 : (Jvm.Cond.instantiable "SetupJobShop$Refused" (7 : Nat)) ∈ lw_all := lw_g (lw_at lw_m7 204 rfl) rfl
theorem q1733 : (Jvm.Cond.castable "SetupJobShop$Refused" "SetupJobShop$Refused") ∈ lw_tbl := lw_at lw_m7 205 rfl
theorem q1734 : (Jvm.Cond.selects "SetupJobShop$Refused" ({ cls := "java/lang/Throwable", name := "fillInStackTrace", desc := "(I)Ljava/lang/Throwable;" } : Jvm.MethodName) ({ cls := "java/lang/Throwable", name := "fillInStackTrace", desc := "(I)Ljava/lang/Throwable;" } : Jvm.MethodName)) ∈ lw_all := lw_g (lw_at lw_m7 206 rfl) rfl
theorem q1735 : (Jvm.Cond.lays "SetupJobShop$Refused" "java/lang/Throwable" "cause" "Ljava/lang/Throwable;") ∈ lw_all := lw_g (lw_at lw_m7 207 rfl) rfl
theorem q1736 : (Jvm.Cond.lays "SetupJobShop$Refused" "java/lang/Throwable" "stackTrace" "[Ljava/lang/StackTraceElement;") ∈ lw_all := lw_g (lw_at lw_m7 208 rfl) rfl
theorem q1737 : (Jvm.Cond.lays "SetupJobShop$Refused" "java/lang/Throwable" "suppressedExceptions" "Ljava/util/List;") ∈ lw_all := lw_g (lw_at lw_m7 209 rfl) rfl
theorem q1738 : (Jvm.Cond.lays "SetupJobShop$Refused" "java/lang/Throwable" "detailMessage" "Ljava/lang/String;") ∈ lw_all := lw_g (lw_at lw_m7 210 rfl) rfl
theorem q1739 : (Jvm.Cond.lays "SetupJobShop$Refused" "java/lang/Throwable" "backtrace" "Ljava/lang/Object;") ∈ lw_all := lw_g (lw_at lw_m7 211 rfl) rfl
theorem q1741 : (Jvm.Cond.instanceMethod ({ cls := "SetupJobShop$Refused", name := "<init>", desc := "(ILSetupJobShop$BadJob;)V" } : Jvm.MethodName)) ∈ lw_all := lw_g (lw_at lw_m7 213 rfl) rfl
theorem q1742 : (Jvm.Cond.code ({ cls := "SetupJobShop$Refused", name := "<init>", desc := "(ILSetupJobShop$BadJob;)V" } : Jvm.MethodName) prog_13_method_1_code (3 : Nat) (Option.none : Option Jvm.ClassFile.FieldType)) ∈ lw_all := lw_g (lw_at lw_m7 214 rfl) rfl
theorem q1743 : (Jvm.Cond.classLink "SetupJobShop$Refused" (3 : Nat) "SetupJobShop$Failure") ∈ lw_all := lw_g (lw_at lw_m7 215 rfl) rfl
theorem q1744 : (Jvm.Cond.methodLink "SetupJobShop$Refused" (5 : Nat) ({ cls := "SetupJobShop$Failure", name := "<init>", desc := "(ILjava/lang/Throwable;)V" } : Jvm.MethodName)) ∈ lw_all := lw_g (lw_at lw_m7 216 rfl) rfl
theorem q1745 : (Jvm.Cond.laysFinal "SetupJobShop$Refused" "SetupJobShop$Failure" "code" "I") ∈ lw_all := lw_g (lw_at lw_m7 217 rfl) rfl
theorem q1746 : (Jvm.Cond.lays "SetupJobShop$Refused" "java/lang/Throwable" "depth" "I") ∈ lw_all := lw_g (lw_at lw_m7 218 rfl) rfl
theorem q1747 : (Jvm.Cond.superclass "SetupJobShop$Refused" "SetupJobShop$Failure") ∈ lw_all := lw_g (lw_at lw_m7 219 rfl) rfl
theorem q1761 : (Jvm.Cond.selects "SetupJobShop$Refused" ({ cls := "java/lang/Throwable", name := "getCause", desc := "()Ljava/lang/Throwable;" } : Jvm.MethodName) ({ cls := "java/lang/Throwable", name := "getCause", desc := "()Ljava/lang/Throwable;" } : Jvm.MethodName)) ∈ lw_all := lw_g (lw_at lw_m7 233 rfl) rfl
theorem q1776 : (Jvm.Cond.selects "SetupJobShop$Refused" ({ cls := "SetupJobShop$Failure", name := "code", desc := "()I" } : Jvm.MethodName) ({ cls := "SetupJobShop$Failure", name := "code", desc := "()I" } : Jvm.MethodName)) ∈ lw_all := lw_g (lw_at lw_m8 8 rfl) rfl
theorem q2286 : (Jvm.Cond.castable "SetupJobShop$Refused" "SetupJobShop$Failure") ∈ lw_tbl := lw_at lw_m10 38 rfl
theorem q2314 : (Jvm.Cond.castable "SetupJobShop$Refused" "java/lang/Object") ∈ lw_tbl := lw_at lw_m10 66 rfl
theorem in_X18 : ∀ w ∈ wsX180, w ∈ lw_all := lw_in wsX180 [1735, 1736, 1737, 1738, 1739, 1745, 1746] (by decide +kernel) (by decide +kernel)

