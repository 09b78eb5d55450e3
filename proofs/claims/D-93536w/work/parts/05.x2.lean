/-! SetupJobShop$Shop -/
set_option maxRecDepth 100000
def RX2 : String := "SetupJobShop$Shop"
def TX2 : u_T := fun k => match k with
  | 0 => ("SetupJobShop$Shop", "jobs", "Ljava/util/ArrayList;", true)
  | 1 => ("SetupJobShop$Shop", "operations", "Ljava/util/ArrayList;", true)
  | 2 => ("SetupJobShop$Shop", "setups", "[I", true)
  | 3 => ("SetupJobShop$Shop", "breakdowns", "Ljava/util/ArrayList;", true)
  | 4 => ("SetupJobShop$Shop", "orders", "Ljava/util/ArrayList;", true)
  | 5 => ("SetupJobShop$Shop", "before", "[I", true)
  | 6 => ("SetupJobShop$Shop", "ready", "[I", true)
  | 7 => ("SetupJobShop$Shop", "start", "[I", true)
  | 8 => ("SetupJobShop$Shop", "end", "[I", true)
  | 9 => ("SetupJobShop$Shop", "makespan", "I", false)
  | 10 => ("SetupJobShop$Shop", "done", "I", false)
  | 11 => ("SetupJobShop$Shop", "held", "I", false)
  | _ => ("SetupJobShop$Shop", "heldUntil", "I", false)
def tyX2 : Nat → FieldType := fun k => match k with
  | 0 => .object "java/util/ArrayList"
  | 1 => .object "java/util/ArrayList"
  | 2 => .array .int
  | 3 => .object "java/util/ArrayList"
  | 4 => .object "java/util/ArrayList"
  | 5 => .array .int
  | 6 => .array .int
  | 7 => .array .int
  | 8 => .array .int
  | 9 => .int
  | 10 => .int
  | 11 => .int
  | _ => .int
abbrev wsX20 : List Cond := u_ws RX2 TX2 13
set_option maxRecDepth 100000 in
theorem nmX2 : ∀ a, a < 13 → ∀ b, b < 13 → a ≠ b → (TX2 a).2.1 ≠ (TX2 b).2.1 := by decide +kernel
set_option maxRecDepth 100000 in
theorem tyX2_ok : ∀ k, k < 13 → parseFieldDescriptor (TX2 k).2.2.1 = some (tyX2 k) := by decide +kernel
abbrev cX2_init : ByteArray := prog_15_method_1_code
def yX2_init : MethodName := ⟨RX2, "<init>", "()V"⟩
def dkwX2_init_5 : List UInt8 := [180, 0, 28, 187, 0, 51, 89, 183, 0, 53, 182, 0, 47, 87, 132, 1, 1, 167, 255, 218, 177]
abbrev dktX2_init_5 : List UInt8 := dkwX2_init_5 ++ []
def dkwX2_init_4 : List UInt8 := [3, 60, 27, 7, 162, 0, 39, 42, 180, 0, 25, 187, 0, 9, 89, 183, 0, 11, 182, 0, 47, 87, 42]
abbrev dktX2_init_4 : List UInt8 := dkwX2_init_4 ++ dktX2_init_5
def dkwX2_init_3 : List UInt8 := [181, 0, 34, 42, 16, 20, 188, 10, 181, 0, 37, 42, 16, 20, 188, 10, 181, 0, 40, 42, 2, 181, 0, 43]
abbrev dktX2_init_3 : List UInt8 := dkwX2_init_3 ++ dktX2_init_4
def dkwX2_init_2 : List UInt8 := [187, 0, 9, 89, 183, 0, 11, 181, 0, 28, 42, 16, 20, 188, 10, 181, 0, 31, 42, 16, 20, 188, 10]
abbrev dktX2_init_2 : List UInt8 := dkwX2_init_2 ++ dktX2_init_3
def dkwX2_init_1 : List UInt8 := [181, 0, 18, 42, 16, 9, 188, 10, 181, 0, 21, 42, 187, 0, 9, 89, 183, 0, 11, 181, 0, 25, 42]
abbrev dktX2_init_1 : List UInt8 := dkwX2_init_1 ++ dktX2_init_2
def dkwX2_init_0 : List UInt8 := [42, 183, 0, 3, 42, 187, 0, 9, 89, 183, 0, 11, 181, 0, 12, 42, 187, 0, 9, 89, 183, 0, 11]
abbrev dktX2_init_0 : List UInt8 := dkwX2_init_0 ++ dktX2_init_1
theorem dksX2_init_0 : cX2_init.data.toList.drop 0 = dktX2_init_0 := by decide +kernel
theorem dksX2_init_1 : cX2_init.data.toList.drop 23 = dktX2_init_1 := dk_seg dksX2_init_0 23 rfl rfl
theorem dksX2_init_2 : cX2_init.data.toList.drop 46 = dktX2_init_2 := dk_seg dksX2_init_1 23 rfl rfl
theorem dksX2_init_3 : cX2_init.data.toList.drop 69 = dktX2_init_3 := dk_seg dksX2_init_2 23 rfl rfl
theorem dksX2_init_4 : cX2_init.data.toList.drop 93 = dktX2_init_4 := dk_seg dksX2_init_3 24 rfl rfl
theorem dksX2_init_5 : cX2_init.data.toList.drop 116 = dktX2_init_5 := dk_seg dksX2_init_4 23 rfl rfl
theorem dX2_init_0 : decode cX2_init 0 = .ok (.aload_n 0, 1) := dk_42 (dk_at dksX2_init_0 0 rfl rfl)
theorem dX2_init_1 : decode cX2_init 1 = .ok (.invokespecial 3, 3) := dk_183 0 3 (dk_at dksX2_init_0 1 rfl rfl)
theorem dX2_init_4 : decode cX2_init 4 = .ok (.aload_n 0, 1) := dk_42 (dk_at dksX2_init_0 4 rfl rfl)
theorem dX2_init_5 : decode cX2_init 5 = .ok (.new 9, 3) := dk_187 0 9 (dk_at dksX2_init_0 5 rfl rfl)
theorem dX2_init_8 : decode cX2_init 8 = .ok (.dup, 1) := dk_89 (dk_at dksX2_init_0 8 rfl rfl)
theorem dX2_init_9 : decode cX2_init 9 = .ok (.invokespecial 11, 3) := dk_183 0 11 (dk_at dksX2_init_0 9 rfl rfl)
theorem dX2_init_12 : decode cX2_init 12 = .ok (.putfield 12, 3) := dk_181 0 12 (dk_at dksX2_init_0 12 rfl rfl)
theorem dX2_init_15 : decode cX2_init 15 = .ok (.aload_n 0, 1) := dk_42 (dk_at dksX2_init_0 15 rfl rfl)
theorem dX2_init_16 : decode cX2_init 16 = .ok (.new 9, 3) := dk_187 0 9 (dk_at dksX2_init_0 16 rfl rfl)
theorem dX2_init_19 : decode cX2_init 19 = .ok (.dup, 1) := dk_89 (dk_at dksX2_init_0 19 rfl rfl)
theorem dX2_init_20 : decode cX2_init 20 = .ok (.invokespecial 11, 3) := dk_183 0 11 (dk_at dksX2_init_0 20 rfl rfl)
theorem dX2_init_23 : decode cX2_init 23 = .ok (.putfield 18, 3) := dk_181 0 18 (dk_at dksX2_init_1 0 rfl rfl)
theorem dX2_init_26 : decode cX2_init 26 = .ok (.aload_n 0, 1) := dk_42 (dk_at dksX2_init_1 3 rfl rfl)
theorem dX2_init_27 : decode cX2_init 27 = .ok (.bipush 9, 2) := dk_16 9 (dk_at dksX2_init_1 4 rfl rfl)
theorem dX2_init_29 : decode cX2_init 29 = .ok (.newarray .int, 2) := dk_188_10 (dk_at dksX2_init_1 6 rfl rfl)
theorem dX2_init_31 : decode cX2_init 31 = .ok (.putfield 21, 3) := dk_181 0 21 (dk_at dksX2_init_1 8 rfl rfl)
theorem dX2_init_34 : decode cX2_init 34 = .ok (.aload_n 0, 1) := dk_42 (dk_at dksX2_init_1 11 rfl rfl)
theorem dX2_init_35 : decode cX2_init 35 = .ok (.new 9, 3) := dk_187 0 9 (dk_at dksX2_init_1 12 rfl rfl)
theorem dX2_init_38 : decode cX2_init 38 = .ok (.dup, 1) := dk_89 (dk_at dksX2_init_1 15 rfl rfl)
theorem dX2_init_39 : decode cX2_init 39 = .ok (.invokespecial 11, 3) := dk_183 0 11 (dk_at dksX2_init_1 16 rfl rfl)
theorem dX2_init_42 : decode cX2_init 42 = .ok (.putfield 25, 3) := dk_181 0 25 (dk_at dksX2_init_1 19 rfl rfl)
theorem dX2_init_45 : decode cX2_init 45 = .ok (.aload_n 0, 1) := dk_42 (dk_at dksX2_init_1 22 rfl rfl)
theorem dX2_init_46 : decode cX2_init 46 = .ok (.new 9, 3) := dk_187 0 9 (dk_at dksX2_init_2 0 rfl rfl)
theorem dX2_init_49 : decode cX2_init 49 = .ok (.dup, 1) := dk_89 (dk_at dksX2_init_2 3 rfl rfl)
theorem dX2_init_50 : decode cX2_init 50 = .ok (.invokespecial 11, 3) := dk_183 0 11 (dk_at dksX2_init_2 4 rfl rfl)
theorem dX2_init_53 : decode cX2_init 53 = .ok (.putfield 28, 3) := dk_181 0 28 (dk_at dksX2_init_2 7 rfl rfl)
theorem dX2_init_56 : decode cX2_init 56 = .ok (.aload_n 0, 1) := dk_42 (dk_at dksX2_init_2 10 rfl rfl)
theorem dX2_init_57 : decode cX2_init 57 = .ok (.bipush 20, 2) := dk_16 20 (dk_at dksX2_init_2 11 rfl rfl)
theorem dX2_init_59 : decode cX2_init 59 = .ok (.newarray .int, 2) := dk_188_10 (dk_at dksX2_init_2 13 rfl rfl)
theorem dX2_init_61 : decode cX2_init 61 = .ok (.putfield 31, 3) := dk_181 0 31 (dk_at dksX2_init_2 15 rfl rfl)
theorem dX2_init_64 : decode cX2_init 64 = .ok (.aload_n 0, 1) := dk_42 (dk_at dksX2_init_2 18 rfl rfl)
theorem dX2_init_65 : decode cX2_init 65 = .ok (.bipush 20, 2) := dk_16 20 (dk_at dksX2_init_2 19 rfl rfl)
theorem dX2_init_67 : decode cX2_init 67 = .ok (.newarray .int, 2) := dk_188_10 (dk_at dksX2_init_2 21 rfl rfl)
theorem dX2_init_69 : decode cX2_init 69 = .ok (.putfield 34, 3) := dk_181 0 34 (dk_at dksX2_init_3 0 rfl rfl)
theorem dX2_init_72 : decode cX2_init 72 = .ok (.aload_n 0, 1) := dk_42 (dk_at dksX2_init_3 3 rfl rfl)
theorem dX2_init_73 : decode cX2_init 73 = .ok (.bipush 20, 2) := dk_16 20 (dk_at dksX2_init_3 4 rfl rfl)
theorem dX2_init_75 : decode cX2_init 75 = .ok (.newarray .int, 2) := dk_188_10 (dk_at dksX2_init_3 6 rfl rfl)
theorem dX2_init_77 : decode cX2_init 77 = .ok (.putfield 37, 3) := dk_181 0 37 (dk_at dksX2_init_3 8 rfl rfl)
theorem dX2_init_80 : decode cX2_init 80 = .ok (.aload_n 0, 1) := dk_42 (dk_at dksX2_init_3 11 rfl rfl)
theorem dX2_init_81 : decode cX2_init 81 = .ok (.bipush 20, 2) := dk_16 20 (dk_at dksX2_init_3 12 rfl rfl)
theorem dX2_init_83 : decode cX2_init 83 = .ok (.newarray .int, 2) := dk_188_10 (dk_at dksX2_init_3 14 rfl rfl)
theorem dX2_init_85 : decode cX2_init 85 = .ok (.putfield 40, 3) := dk_181 0 40 (dk_at dksX2_init_3 16 rfl rfl)
theorem dX2_init_88 : decode cX2_init 88 = .ok (.aload_n 0, 1) := dk_42 (dk_at dksX2_init_3 19 rfl rfl)
theorem dX2_init_89 : decode cX2_init 89 = .ok (.iconst (-1), 1) := dk_2 (dk_at dksX2_init_3 20 rfl rfl)
theorem dX2_init_90 : decode cX2_init 90 = .ok (.putfield 43, 3) := dk_181 0 43 (dk_at dksX2_init_3 21 rfl rfl)
theorem dX2_init_93 : decode cX2_init 93 = .ok (.iconst 0, 1) := dk_3 (dk_at dksX2_init_4 0 rfl rfl)
theorem dX2_init_94 : decode cX2_init 94 = .ok (.istore_n 1, 1) := dk_60 (dk_at dksX2_init_4 1 rfl rfl)
theorem dX2_init_95 : decode cX2_init 95 = .ok (.iload_n 1, 1) := dk_27 (dk_at dksX2_init_4 2 rfl rfl)
theorem dX2_init_96 : decode cX2_init 96 = .ok (.iconst 4, 1) := dk_7 (dk_at dksX2_init_4 3 rfl rfl)
theorem dX2_init_97 : decode cX2_init 97 = .ok (.if_icmp .ge 39, 3) := dk_162 0 39 (dk_at dksX2_init_4 4 rfl rfl)
theorem dX2_init_100 : decode cX2_init 100 = .ok (.aload_n 0, 1) := dk_42 (dk_at dksX2_init_4 7 rfl rfl)
theorem dX2_init_101 : decode cX2_init 101 = .ok (.getfield 25, 3) := dk_180 0 25 (dk_at dksX2_init_4 8 rfl rfl)
theorem dX2_init_104 : decode cX2_init 104 = .ok (.new 9, 3) := dk_187 0 9 (dk_at dksX2_init_4 11 rfl rfl)
theorem dX2_init_107 : decode cX2_init 107 = .ok (.dup, 1) := dk_89 (dk_at dksX2_init_4 14 rfl rfl)
theorem dX2_init_108 : decode cX2_init 108 = .ok (.invokespecial 11, 3) := dk_183 0 11 (dk_at dksX2_init_4 15 rfl rfl)
theorem dX2_init_111 : decode cX2_init 111 = .ok (.invokevirtual 47, 3) := dk_182 0 47 (dk_at dksX2_init_4 18 rfl rfl)
theorem dX2_init_114 : decode cX2_init 114 = .ok (.pop, 1) := dk_87 (dk_at dksX2_init_4 21 rfl rfl)
theorem dX2_init_115 : decode cX2_init 115 = .ok (.aload_n 0, 1) := dk_42 (dk_at dksX2_init_4 22 rfl rfl)
theorem dX2_init_116 : decode cX2_init 116 = .ok (.getfield 28, 3) := dk_180 0 28 (dk_at dksX2_init_5 0 rfl rfl)
theorem dX2_init_119 : decode cX2_init 119 = .ok (.new 51, 3) := dk_187 0 51 (dk_at dksX2_init_5 3 rfl rfl)
theorem dX2_init_122 : decode cX2_init 122 = .ok (.dup, 1) := dk_89 (dk_at dksX2_init_5 6 rfl rfl)
theorem dX2_init_123 : decode cX2_init 123 = .ok (.invokespecial 53, 3) := dk_183 0 53 (dk_at dksX2_init_5 7 rfl rfl)
theorem dX2_init_126 : decode cX2_init 126 = .ok (.invokevirtual 47, 3) := dk_182 0 47 (dk_at dksX2_init_5 10 rfl rfl)
theorem dX2_init_129 : decode cX2_init 129 = .ok (.pop, 1) := dk_87 (dk_at dksX2_init_5 13 rfl rfl)
theorem dX2_init_130 : decode cX2_init 130 = .ok (.iinc 1 1, 3) := dk_132 1 1 (dk_at dksX2_init_5 14 rfl rfl)
theorem dX2_init_133 : decode cX2_init 133 = .ok (.goto (-38), 3) := dk_167 255 218 (dk_at dksX2_init_5 17 rfl rfl)
theorem dX2_init_136 : decode cX2_init 136 = .ok (.return_, 1) := dk_177 (dk_at dksX2_init_5 20 rfl rfl)
abbrev cX2_isScheduled : ByteArray := prog_15_method_11_code
def yX2_isScheduled : MethodName := ⟨RX2, "isScheduled", "(I)Z"⟩
def dkwX2_isScheduled_5 : List UInt8 := [160, 0, 7, 4, 167, 0, 4, 3, 172]
abbrev dktX2_isScheduled_5 : List UInt8 := dkwX2_isScheduled_5 ++ []
def dkwX2_isScheduled_4 : List UInt8 := [132, 3, 1, 167, 255, 184, 167, 255, 173, 42, 180, 0, 137, 4, 42, 180, 0, 18, 182, 0, 55, 120, 4, 100]
abbrev dktX2_isScheduled_4 : List UInt8 := dkwX2_isScheduled_4 ++ dktX2_isScheduled_5
def dkwX2_isScheduled_3 : List UInt8 := [42, 25, 4, 182, 0, 143, 182, 0, 175, 154, 0, 6, 167, 0, 11, 42, 25, 4, 182, 0, 178, 4, 61]
abbrev dktX2_isScheduled_3 : List UInt8 := dkwX2_isScheduled_3 ++ dktX2_isScheduled_4
def dkwX2_isScheduled_2 : List UInt8 := [58, 4, 42, 29, 182, 0, 175, 154, 0, 40, 42, 42, 180, 0, 31, 29, 46, 182, 0, 175, 153, 0, 27, 42]
abbrev dktX2_isScheduled_2 : List UInt8 := dkwX2_isScheduled_2 ++ dktX2_isScheduled_3
def dkwX2_isScheduled_1 : List UInt8 := [62, 29, 42, 180, 0, 18, 182, 0, 55, 162, 0, 67, 42, 180, 0, 18, 29, 182, 0, 59, 192, 0, 77]
abbrev dktX2_isScheduled_1 : List UInt8 := dkwX2_isScheduled_1 ++ dktX2_isScheduled_2
def dkwX2_isScheduled_0 : List UInt8 := [42, 27, 182, 0, 172, 42, 3, 181, 0, 164, 42, 3, 181, 0, 137, 4, 61, 28, 153, 0, 85, 3, 61, 3]
abbrev dktX2_isScheduled_0 : List UInt8 := dkwX2_isScheduled_0 ++ dktX2_isScheduled_1
theorem dksX2_isScheduled_0 : cX2_isScheduled.data.toList.drop 0 = dktX2_isScheduled_0 := by decide +kernel
theorem dksX2_isScheduled_1 : cX2_isScheduled.data.toList.drop 24 = dktX2_isScheduled_1 := dk_seg dksX2_isScheduled_0 24 rfl rfl
theorem dksX2_isScheduled_2 : cX2_isScheduled.data.toList.drop 47 = dktX2_isScheduled_2 := dk_seg dksX2_isScheduled_1 23 rfl rfl
theorem dksX2_isScheduled_3 : cX2_isScheduled.data.toList.drop 71 = dktX2_isScheduled_3 := dk_seg dksX2_isScheduled_2 24 rfl rfl
theorem dksX2_isScheduled_4 : cX2_isScheduled.data.toList.drop 94 = dktX2_isScheduled_4 := dk_seg dksX2_isScheduled_3 23 rfl rfl
theorem dksX2_isScheduled_5 : cX2_isScheduled.data.toList.drop 118 = dktX2_isScheduled_5 := dk_seg dksX2_isScheduled_4 24 rfl rfl
theorem dX2_isScheduled_0 : decode cX2_isScheduled 0 = .ok (.aload_n 0, 1) := dk_42 (dk_at dksX2_isScheduled_0 0 rfl rfl)
theorem dX2_isScheduled_1 : decode cX2_isScheduled 1 = .ok (.iload_n 1, 1) := dk_27 (dk_at dksX2_isScheduled_0 1 rfl rfl)
theorem dX2_isScheduled_2 : decode cX2_isScheduled 2 = .ok (.invokevirtual 172, 3) := dk_182 0 172 (dk_at dksX2_isScheduled_0 2 rfl rfl)
theorem dX2_isScheduled_5 : decode cX2_isScheduled 5 = .ok (.aload_n 0, 1) := dk_42 (dk_at dksX2_isScheduled_0 5 rfl rfl)
theorem dX2_isScheduled_6 : decode cX2_isScheduled 6 = .ok (.iconst 0, 1) := dk_3 (dk_at dksX2_isScheduled_0 6 rfl rfl)
theorem dX2_isScheduled_7 : decode cX2_isScheduled 7 = .ok (.putfield 164, 3) := dk_181 0 164 (dk_at dksX2_isScheduled_0 7 rfl rfl)
theorem dX2_isScheduled_10 : decode cX2_isScheduled 10 = .ok (.aload_n 0, 1) := dk_42 (dk_at dksX2_isScheduled_0 10 rfl rfl)
theorem dX2_isScheduled_11 : decode cX2_isScheduled 11 = .ok (.iconst 0, 1) := dk_3 (dk_at dksX2_isScheduled_0 11 rfl rfl)
theorem dX2_isScheduled_12 : decode cX2_isScheduled 12 = .ok (.putfield 137, 3) := dk_181 0 137 (dk_at dksX2_isScheduled_0 12 rfl rfl)
theorem dX2_isScheduled_15 : decode cX2_isScheduled 15 = .ok (.iconst 1, 1) := dk_4 (dk_at dksX2_isScheduled_0 15 rfl rfl)
theorem dX2_isScheduled_16 : decode cX2_isScheduled 16 = .ok (.istore_n 2, 1) := dk_61 (dk_at dksX2_isScheduled_0 16 rfl rfl)
theorem dX2_isScheduled_17 : decode cX2_isScheduled 17 = .ok (.iload_n 2, 1) := dk_28 (dk_at dksX2_isScheduled_0 17 rfl rfl)
theorem dX2_isScheduled_18 : decode cX2_isScheduled 18 = .ok (.ifCond .eq 85, 3) := dk_153 0 85 (dk_at dksX2_isScheduled_0 18 rfl rfl)
theorem dX2_isScheduled_21 : decode cX2_isScheduled 21 = .ok (.iconst 0, 1) := dk_3 (dk_at dksX2_isScheduled_0 21 rfl rfl)
theorem dX2_isScheduled_22 : decode cX2_isScheduled 22 = .ok (.istore_n 2, 1) := dk_61 (dk_at dksX2_isScheduled_0 22 rfl rfl)
theorem dX2_isScheduled_23 : decode cX2_isScheduled 23 = .ok (.iconst 0, 1) := dk_3 (dk_at dksX2_isScheduled_0 23 rfl rfl)
theorem dX2_isScheduled_24 : decode cX2_isScheduled 24 = .ok (.istore_n 3, 1) := dk_62 (dk_at dksX2_isScheduled_1 0 rfl rfl)
theorem dX2_isScheduled_25 : decode cX2_isScheduled 25 = .ok (.iload_n 3, 1) := dk_29 (dk_at dksX2_isScheduled_1 1 rfl rfl)
theorem dX2_isScheduled_26 : decode cX2_isScheduled 26 = .ok (.aload_n 0, 1) := dk_42 (dk_at dksX2_isScheduled_1 2 rfl rfl)
theorem dX2_isScheduled_27 : decode cX2_isScheduled 27 = .ok (.getfield 18, 3) := dk_180 0 18 (dk_at dksX2_isScheduled_1 3 rfl rfl)
theorem dX2_isScheduled_30 : decode cX2_isScheduled 30 = .ok (.invokevirtual 55, 3) := dk_182 0 55 (dk_at dksX2_isScheduled_1 6 rfl rfl)
theorem dX2_isScheduled_33 : decode cX2_isScheduled 33 = .ok (.if_icmp .ge 67, 3) := dk_162 0 67 (dk_at dksX2_isScheduled_1 9 rfl rfl)
theorem dX2_isScheduled_36 : decode cX2_isScheduled 36 = .ok (.aload_n 0, 1) := dk_42 (dk_at dksX2_isScheduled_1 12 rfl rfl)
theorem dX2_isScheduled_37 : decode cX2_isScheduled 37 = .ok (.getfield 18, 3) := dk_180 0 18 (dk_at dksX2_isScheduled_1 13 rfl rfl)
theorem dX2_isScheduled_40 : decode cX2_isScheduled 40 = .ok (.iload_n 3, 1) := dk_29 (dk_at dksX2_isScheduled_1 16 rfl rfl)
theorem dX2_isScheduled_41 : decode cX2_isScheduled 41 = .ok (.invokevirtual 59, 3) := dk_182 0 59 (dk_at dksX2_isScheduled_1 17 rfl rfl)
theorem dX2_isScheduled_44 : decode cX2_isScheduled 44 = .ok (.checkcast 77, 3) := dk_192 0 77 (dk_at dksX2_isScheduled_1 20 rfl rfl)
theorem dX2_isScheduled_47 : decode cX2_isScheduled 47 = .ok (.astore 4, 2) := dk_58 4 (dk_at dksX2_isScheduled_2 0 rfl rfl)
theorem dX2_isScheduled_49 : decode cX2_isScheduled 49 = .ok (.aload_n 0, 1) := dk_42 (dk_at dksX2_isScheduled_2 2 rfl rfl)
theorem dX2_isScheduled_50 : decode cX2_isScheduled 50 = .ok (.iload_n 3, 1) := dk_29 (dk_at dksX2_isScheduled_2 3 rfl rfl)
theorem dX2_isScheduled_51 : decode cX2_isScheduled 51 = .ok (.invokevirtual 175, 3) := dk_182 0 175 (dk_at dksX2_isScheduled_2 4 rfl rfl)
theorem dX2_isScheduled_54 : decode cX2_isScheduled 54 = .ok (.ifCond .ne 40, 3) := dk_154 0 40 (dk_at dksX2_isScheduled_2 7 rfl rfl)
theorem dX2_isScheduled_57 : decode cX2_isScheduled 57 = .ok (.aload_n 0, 1) := dk_42 (dk_at dksX2_isScheduled_2 10 rfl rfl)
theorem dX2_isScheduled_58 : decode cX2_isScheduled 58 = .ok (.aload_n 0, 1) := dk_42 (dk_at dksX2_isScheduled_2 11 rfl rfl)
theorem dX2_isScheduled_59 : decode cX2_isScheduled 59 = .ok (.getfield 31, 3) := dk_180 0 31 (dk_at dksX2_isScheduled_2 12 rfl rfl)
theorem dX2_isScheduled_62 : decode cX2_isScheduled 62 = .ok (.iload_n 3, 1) := dk_29 (dk_at dksX2_isScheduled_2 15 rfl rfl)
theorem dX2_isScheduled_63 : decode cX2_isScheduled 63 = .ok (.iaload, 1) := dk_46 (dk_at dksX2_isScheduled_2 16 rfl rfl)
theorem dX2_isScheduled_64 : decode cX2_isScheduled 64 = .ok (.invokevirtual 175, 3) := dk_182 0 175 (dk_at dksX2_isScheduled_2 17 rfl rfl)
theorem dX2_isScheduled_67 : decode cX2_isScheduled 67 = .ok (.ifCond .eq 27, 3) := dk_153 0 27 (dk_at dksX2_isScheduled_2 20 rfl rfl)
theorem dX2_isScheduled_70 : decode cX2_isScheduled 70 = .ok (.aload_n 0, 1) := dk_42 (dk_at dksX2_isScheduled_2 23 rfl rfl)
theorem dX2_isScheduled_71 : decode cX2_isScheduled 71 = .ok (.aload_n 0, 1) := dk_42 (dk_at dksX2_isScheduled_3 0 rfl rfl)
theorem dX2_isScheduled_72 : decode cX2_isScheduled 72 = .ok (.aload 4, 2) := dk_25 4 (dk_at dksX2_isScheduled_3 1 rfl rfl)
theorem dX2_isScheduled_74 : decode cX2_isScheduled 74 = .ok (.invokevirtual 143, 3) := dk_182 0 143 (dk_at dksX2_isScheduled_3 3 rfl rfl)
theorem dX2_isScheduled_77 : decode cX2_isScheduled 77 = .ok (.invokevirtual 175, 3) := dk_182 0 175 (dk_at dksX2_isScheduled_3 6 rfl rfl)
theorem dX2_isScheduled_80 : decode cX2_isScheduled 80 = .ok (.ifCond .ne 6, 3) := dk_154 0 6 (dk_at dksX2_isScheduled_3 9 rfl rfl)
theorem dX2_isScheduled_83 : decode cX2_isScheduled 83 = .ok (.goto 11, 3) := dk_167 0 11 (dk_at dksX2_isScheduled_3 12 rfl rfl)
theorem dX2_isScheduled_86 : decode cX2_isScheduled 86 = .ok (.aload_n 0, 1) := dk_42 (dk_at dksX2_isScheduled_3 15 rfl rfl)
theorem dX2_isScheduled_87 : decode cX2_isScheduled 87 = .ok (.aload 4, 2) := dk_25 4 (dk_at dksX2_isScheduled_3 16 rfl rfl)
theorem dX2_isScheduled_89 : decode cX2_isScheduled 89 = .ok (.invokevirtual 178, 3) := dk_182 0 178 (dk_at dksX2_isScheduled_3 18 rfl rfl)
theorem dX2_isScheduled_92 : decode cX2_isScheduled 92 = .ok (.iconst 1, 1) := dk_4 (dk_at dksX2_isScheduled_3 21 rfl rfl)
theorem dX2_isScheduled_93 : decode cX2_isScheduled 93 = .ok (.istore_n 2, 1) := dk_61 (dk_at dksX2_isScheduled_3 22 rfl rfl)
theorem dX2_isScheduled_94 : decode cX2_isScheduled 94 = .ok (.iinc 3 1, 3) := dk_132 3 1 (dk_at dksX2_isScheduled_4 0 rfl rfl)
theorem dX2_isScheduled_97 : decode cX2_isScheduled 97 = .ok (.goto (-72), 3) := dk_167 255 184 (dk_at dksX2_isScheduled_4 3 rfl rfl)
theorem dX2_isScheduled_100 : decode cX2_isScheduled 100 = .ok (.goto (-83), 3) := dk_167 255 173 (dk_at dksX2_isScheduled_4 6 rfl rfl)
theorem dX2_isScheduled_103 : decode cX2_isScheduled 103 = .ok (.aload_n 0, 1) := dk_42 (dk_at dksX2_isScheduled_4 9 rfl rfl)
theorem dX2_isScheduled_104 : decode cX2_isScheduled 104 = .ok (.getfield 137, 3) := dk_180 0 137 (dk_at dksX2_isScheduled_4 10 rfl rfl)
theorem dX2_isScheduled_107 : decode cX2_isScheduled 107 = .ok (.iconst 1, 1) := dk_4 (dk_at dksX2_isScheduled_4 13 rfl rfl)
theorem dX2_isScheduled_108 : decode cX2_isScheduled 108 = .ok (.aload_n 0, 1) := dk_42 (dk_at dksX2_isScheduled_4 14 rfl rfl)
theorem dX2_isScheduled_109 : decode cX2_isScheduled 109 = .ok (.getfield 18, 3) := dk_180 0 18 (dk_at dksX2_isScheduled_4 15 rfl rfl)
theorem dX2_isScheduled_112 : decode cX2_isScheduled 112 = .ok (.invokevirtual 55, 3) := dk_182 0 55 (dk_at dksX2_isScheduled_4 18 rfl rfl)
theorem dX2_isScheduled_115 : decode cX2_isScheduled 115 = .ok (.ishl, 1) := dk_120 (dk_at dksX2_isScheduled_4 21 rfl rfl)
theorem dX2_isScheduled_116 : decode cX2_isScheduled 116 = .ok (.iconst 1, 1) := dk_4 (dk_at dksX2_isScheduled_4 22 rfl rfl)
theorem dX2_isScheduled_117 : decode cX2_isScheduled 117 = .ok (.isub, 1) := dk_100 (dk_at dksX2_isScheduled_4 23 rfl rfl)
theorem dX2_isScheduled_118 : decode cX2_isScheduled 118 = .ok (.if_icmp .ne 7, 3) := dk_160 0 7 (dk_at dksX2_isScheduled_5 0 rfl rfl)
theorem dX2_isScheduled_121 : decode cX2_isScheduled 121 = .ok (.iconst 1, 1) := dk_4 (dk_at dksX2_isScheduled_5 3 rfl rfl)
theorem dX2_isScheduled_122 : decode cX2_isScheduled 122 = .ok (.goto 4, 3) := dk_167 0 4 (dk_at dksX2_isScheduled_5 4 rfl rfl)
theorem dX2_isScheduled_125 : decode cX2_isScheduled 125 = .ok (.iconst 0, 1) := dk_3 (dk_at dksX2_isScheduled_5 7 rfl rfl)
theorem dX2_isScheduled_126 : decode cX2_isScheduled 126 = .ok (.ireturn, 1) := dk_172 (dk_at dksX2_isScheduled_5 8 rfl rfl)
abbrev cX2_link : ByteArray := prog_15_method_10_code
def yX2_link : MethodName := ⟨RX2, "link", "(I)V"⟩
def dkwX2_link_4 : List UInt8 := [132, 2, 1, 167, 255, 189, 177]
abbrev dktX2_link_4 : List UInt8 := dkwX2_link_4 ++ []
def dkwX2_link_3 : List UInt8 := [180, 0, 169, 21, 4, 46, 45, 180, 0, 169, 21, 4, 4, 100, 46, 79, 132, 4, 1, 167, 255, 215]
abbrev dktX2_link_3 : List UInt8 := dkwX2_link_3 ++ dktX2_link_4
def dkwX2_link_2 : List UInt8 := [54, 4, 21, 4, 45, 180, 0, 167, 162, 0, 38, 27, 28, 122, 4, 126, 154, 0, 30, 42, 180, 0, 31, 45]
abbrev dktX2_link_2 : List UInt8 := dkwX2_link_2 ++ dktX2_link_3
def dkwX2_link_1 : List UInt8 := [167, 255, 235, 3, 61, 28, 7, 162, 0, 68, 42, 180, 0, 28, 28, 182, 0, 59, 192, 0, 51, 78, 4]
abbrev dktX2_link_1 : List UInt8 := dkwX2_link_1 ++ dktX2_link_2
def dkwX2_link_0 : List UInt8 := [3, 61, 28, 42, 180, 0, 18, 182, 0, 55, 162, 0, 16, 42, 180, 0, 31, 28, 2, 79, 132, 2, 1]
abbrev dktX2_link_0 : List UInt8 := dkwX2_link_0 ++ dktX2_link_1
theorem dksX2_link_0 : cX2_link.data.toList.drop 0 = dktX2_link_0 := by decide +kernel
theorem dksX2_link_1 : cX2_link.data.toList.drop 23 = dktX2_link_1 := dk_seg dksX2_link_0 23 rfl rfl
theorem dksX2_link_2 : cX2_link.data.toList.drop 46 = dktX2_link_2 := dk_seg dksX2_link_1 23 rfl rfl
theorem dksX2_link_3 : cX2_link.data.toList.drop 70 = dktX2_link_3 := dk_seg dksX2_link_2 24 rfl rfl
theorem dksX2_link_4 : cX2_link.data.toList.drop 92 = dktX2_link_4 := dk_seg dksX2_link_3 22 rfl rfl
theorem dX2_link_0 : decode cX2_link 0 = .ok (.iconst 0, 1) := dk_3 (dk_at dksX2_link_0 0 rfl rfl)
theorem dX2_link_1 : decode cX2_link 1 = .ok (.istore_n 2, 1) := dk_61 (dk_at dksX2_link_0 1 rfl rfl)
theorem dX2_link_2 : decode cX2_link 2 = .ok (.iload_n 2, 1) := dk_28 (dk_at dksX2_link_0 2 rfl rfl)
theorem dX2_link_3 : decode cX2_link 3 = .ok (.aload_n 0, 1) := dk_42 (dk_at dksX2_link_0 3 rfl rfl)
theorem dX2_link_4 : decode cX2_link 4 = .ok (.getfield 18, 3) := dk_180 0 18 (dk_at dksX2_link_0 4 rfl rfl)
theorem dX2_link_7 : decode cX2_link 7 = .ok (.invokevirtual 55, 3) := dk_182 0 55 (dk_at dksX2_link_0 7 rfl rfl)
theorem dX2_link_10 : decode cX2_link 10 = .ok (.if_icmp .ge 16, 3) := dk_162 0 16 (dk_at dksX2_link_0 10 rfl rfl)
theorem dX2_link_13 : decode cX2_link 13 = .ok (.aload_n 0, 1) := dk_42 (dk_at dksX2_link_0 13 rfl rfl)
theorem dX2_link_14 : decode cX2_link 14 = .ok (.getfield 31, 3) := dk_180 0 31 (dk_at dksX2_link_0 14 rfl rfl)
theorem dX2_link_17 : decode cX2_link 17 = .ok (.iload_n 2, 1) := dk_28 (dk_at dksX2_link_0 17 rfl rfl)
theorem dX2_link_18 : decode cX2_link 18 = .ok (.iconst (-1), 1) := dk_2 (dk_at dksX2_link_0 18 rfl rfl)
theorem dX2_link_19 : decode cX2_link 19 = .ok (.iastore, 1) := dk_79 (dk_at dksX2_link_0 19 rfl rfl)
theorem dX2_link_20 : decode cX2_link 20 = .ok (.iinc 2 1, 3) := dk_132 2 1 (dk_at dksX2_link_0 20 rfl rfl)
theorem dX2_link_23 : decode cX2_link 23 = .ok (.goto (-21), 3) := dk_167 255 235 (dk_at dksX2_link_1 0 rfl rfl)
theorem dX2_link_26 : decode cX2_link 26 = .ok (.iconst 0, 1) := dk_3 (dk_at dksX2_link_1 3 rfl rfl)
theorem dX2_link_27 : decode cX2_link 27 = .ok (.istore_n 2, 1) := dk_61 (dk_at dksX2_link_1 4 rfl rfl)
theorem dX2_link_28 : decode cX2_link 28 = .ok (.iload_n 2, 1) := dk_28 (dk_at dksX2_link_1 5 rfl rfl)
theorem dX2_link_29 : decode cX2_link 29 = .ok (.iconst 4, 1) := dk_7 (dk_at dksX2_link_1 6 rfl rfl)
theorem dX2_link_30 : decode cX2_link 30 = .ok (.if_icmp .ge 68, 3) := dk_162 0 68 (dk_at dksX2_link_1 7 rfl rfl)
theorem dX2_link_33 : decode cX2_link 33 = .ok (.aload_n 0, 1) := dk_42 (dk_at dksX2_link_1 10 rfl rfl)
theorem dX2_link_34 : decode cX2_link 34 = .ok (.getfield 28, 3) := dk_180 0 28 (dk_at dksX2_link_1 11 rfl rfl)
theorem dX2_link_37 : decode cX2_link 37 = .ok (.iload_n 2, 1) := dk_28 (dk_at dksX2_link_1 14 rfl rfl)
theorem dX2_link_38 : decode cX2_link 38 = .ok (.invokevirtual 59, 3) := dk_182 0 59 (dk_at dksX2_link_1 15 rfl rfl)
theorem dX2_link_41 : decode cX2_link 41 = .ok (.checkcast 51, 3) := dk_192 0 51 (dk_at dksX2_link_1 18 rfl rfl)
theorem dX2_link_44 : decode cX2_link 44 = .ok (.astore_n 3, 1) := dk_78 (dk_at dksX2_link_1 21 rfl rfl)
theorem dX2_link_45 : decode cX2_link 45 = .ok (.iconst 1, 1) := dk_4 (dk_at dksX2_link_1 22 rfl rfl)
theorem dX2_link_46 : decode cX2_link 46 = .ok (.istore 4, 2) := dk_54 4 (dk_at dksX2_link_2 0 rfl rfl)
theorem dX2_link_48 : decode cX2_link 48 = .ok (.iload 4, 2) := dk_21 4 (dk_at dksX2_link_2 2 rfl rfl)
theorem dX2_link_50 : decode cX2_link 50 = .ok (.aload_n 3, 1) := dk_45 (dk_at dksX2_link_2 4 rfl rfl)
theorem dX2_link_51 : decode cX2_link 51 = .ok (.getfield 167, 3) := dk_180 0 167 (dk_at dksX2_link_2 5 rfl rfl)
theorem dX2_link_54 : decode cX2_link 54 = .ok (.if_icmp .ge 38, 3) := dk_162 0 38 (dk_at dksX2_link_2 8 rfl rfl)
theorem dX2_link_57 : decode cX2_link 57 = .ok (.iload_n 1, 1) := dk_27 (dk_at dksX2_link_2 11 rfl rfl)
theorem dX2_link_58 : decode cX2_link 58 = .ok (.iload_n 2, 1) := dk_28 (dk_at dksX2_link_2 12 rfl rfl)
theorem dX2_link_59 : decode cX2_link 59 = .ok (.ishr, 1) := dk_122 (dk_at dksX2_link_2 13 rfl rfl)
theorem dX2_link_60 : decode cX2_link 60 = .ok (.iconst 1, 1) := dk_4 (dk_at dksX2_link_2 14 rfl rfl)
theorem dX2_link_61 : decode cX2_link 61 = .ok (.iand, 1) := dk_126 (dk_at dksX2_link_2 15 rfl rfl)
theorem dX2_link_62 : decode cX2_link 62 = .ok (.ifCond .ne 30, 3) := dk_154 0 30 (dk_at dksX2_link_2 16 rfl rfl)
theorem dX2_link_65 : decode cX2_link 65 = .ok (.aload_n 0, 1) := dk_42 (dk_at dksX2_link_2 19 rfl rfl)
theorem dX2_link_66 : decode cX2_link 66 = .ok (.getfield 31, 3) := dk_180 0 31 (dk_at dksX2_link_2 20 rfl rfl)
theorem dX2_link_69 : decode cX2_link 69 = .ok (.aload_n 3, 1) := dk_45 (dk_at dksX2_link_2 23 rfl rfl)
theorem dX2_link_70 : decode cX2_link 70 = .ok (.getfield 169, 3) := dk_180 0 169 (dk_at dksX2_link_3 0 rfl rfl)
theorem dX2_link_73 : decode cX2_link 73 = .ok (.iload 4, 2) := dk_21 4 (dk_at dksX2_link_3 3 rfl rfl)
theorem dX2_link_75 : decode cX2_link 75 = .ok (.iaload, 1) := dk_46 (dk_at dksX2_link_3 5 rfl rfl)
theorem dX2_link_76 : decode cX2_link 76 = .ok (.aload_n 3, 1) := dk_45 (dk_at dksX2_link_3 6 rfl rfl)
theorem dX2_link_77 : decode cX2_link 77 = .ok (.getfield 169, 3) := dk_180 0 169 (dk_at dksX2_link_3 7 rfl rfl)
theorem dX2_link_80 : decode cX2_link 80 = .ok (.iload 4, 2) := dk_21 4 (dk_at dksX2_link_3 10 rfl rfl)
theorem dX2_link_82 : decode cX2_link 82 = .ok (.iconst 1, 1) := dk_4 (dk_at dksX2_link_3 12 rfl rfl)
theorem dX2_link_83 : decode cX2_link 83 = .ok (.isub, 1) := dk_100 (dk_at dksX2_link_3 13 rfl rfl)
theorem dX2_link_84 : decode cX2_link 84 = .ok (.iaload, 1) := dk_46 (dk_at dksX2_link_3 14 rfl rfl)
theorem dX2_link_85 : decode cX2_link 85 = .ok (.iastore, 1) := dk_79 (dk_at dksX2_link_3 15 rfl rfl)
theorem dX2_link_86 : decode cX2_link 86 = .ok (.iinc 4 1, 3) := dk_132 4 1 (dk_at dksX2_link_3 16 rfl rfl)
theorem dX2_link_89 : decode cX2_link 89 = .ok (.goto (-41), 3) := dk_167 255 215 (dk_at dksX2_link_3 19 rfl rfl)
theorem dX2_link_92 : decode cX2_link 92 = .ok (.iinc 2 1, 3) := dk_132 2 1 (dk_at dksX2_link_4 0 rfl rfl)
theorem dX2_link_95 : decode cX2_link 95 = .ok (.goto (-67), 3) := dk_167 255 189 (dk_at dksX2_link_4 3 rfl rfl)
theorem dX2_link_98 : decode cX2_link 98 = .ok (.return_, 1) := dk_177 (dk_at dksX2_link_4 6 rfl rfl)
abbrev cX2_isDone : ByteArray := prog_15_method_7_code
def yX2_isDone : MethodName := ⟨RX2, "isDone", "(I)Z"⟩
def dkwX2_isDone_0 : List UInt8 := [27, 2, 159, 0, 15, 42, 180, 0, 137, 27, 122, 4, 126, 4, 160, 0, 7, 4, 167, 0, 4, 3, 172]
abbrev dktX2_isDone_0 : List UInt8 := dkwX2_isDone_0 ++ []
theorem dksX2_isDone_0 : cX2_isDone.data.toList.drop 0 = dktX2_isDone_0 := by decide +kernel
theorem dX2_isDone_0 : decode cX2_isDone 0 = .ok (.iload_n 1, 1) := dk_27 (dk_at dksX2_isDone_0 0 rfl rfl)
theorem dX2_isDone_1 : decode cX2_isDone 1 = .ok (.iconst (-1), 1) := dk_2 (dk_at dksX2_isDone_0 1 rfl rfl)
theorem dX2_isDone_2 : decode cX2_isDone 2 = .ok (.if_icmp .eq 15, 3) := dk_159 0 15 (dk_at dksX2_isDone_0 2 rfl rfl)
theorem dX2_isDone_5 : decode cX2_isDone 5 = .ok (.aload_n 0, 1) := dk_42 (dk_at dksX2_isDone_0 5 rfl rfl)
theorem dX2_isDone_6 : decode cX2_isDone 6 = .ok (.getfield 137, 3) := dk_180 0 137 (dk_at dksX2_isDone_0 6 rfl rfl)
theorem dX2_isDone_9 : decode cX2_isDone 9 = .ok (.iload_n 1, 1) := dk_27 (dk_at dksX2_isDone_0 9 rfl rfl)
theorem dX2_isDone_10 : decode cX2_isDone 10 = .ok (.ishr, 1) := dk_122 (dk_at dksX2_isDone_0 10 rfl rfl)
theorem dX2_isDone_11 : decode cX2_isDone 11 = .ok (.iconst 1, 1) := dk_4 (dk_at dksX2_isDone_0 11 rfl rfl)
theorem dX2_isDone_12 : decode cX2_isDone 12 = .ok (.iand, 1) := dk_126 (dk_at dksX2_isDone_0 12 rfl rfl)
theorem dX2_isDone_13 : decode cX2_isDone 13 = .ok (.iconst 1, 1) := dk_4 (dk_at dksX2_isDone_0 13 rfl rfl)
theorem dX2_isDone_14 : decode cX2_isDone 14 = .ok (.if_icmp .ne 7, 3) := dk_160 0 7 (dk_at dksX2_isDone_0 14 rfl rfl)
theorem dX2_isDone_17 : decode cX2_isDone 17 = .ok (.iconst 1, 1) := dk_4 (dk_at dksX2_isDone_0 17 rfl rfl)
theorem dX2_isDone_18 : decode cX2_isDone 18 = .ok (.goto 4, 3) := dk_167 0 4 (dk_at dksX2_isDone_0 18 rfl rfl)
theorem dX2_isDone_21 : decode cX2_isDone 21 = .ok (.iconst 0, 1) := dk_3 (dk_at dksX2_isDone_0 21 rfl rfl)
theorem dX2_isDone_22 : decode cX2_isDone 22 = .ok (.ireturn, 1) := dk_172 (dk_at dksX2_isDone_0 22 rfl rfl)
abbrev cX2_earlier : ByteArray := prog_15_method_8_code
def yX2_earlier : MethodName := ⟨RX2, "earlier", "(LSetupJobShop$Operation;)I"⟩
def dkwX2_earlier_1 : List UInt8 := [192, 0, 63, 180, 0, 111, 43, 180, 0, 140, 4, 100, 182, 0, 59, 192, 0, 77, 180, 0, 115, 172]
abbrev dktX2_earlier_1 : List UInt8 := dkwX2_earlier_1 ++ []
def dkwX2_earlier_0 : List UInt8 := [43, 180, 0, 140, 154, 0, 7, 2, 167, 0, 35, 42, 180, 0, 12, 43, 180, 0, 79, 182, 0, 59]
abbrev dktX2_earlier_0 : List UInt8 := dkwX2_earlier_0 ++ dktX2_earlier_1
theorem dksX2_earlier_0 : cX2_earlier.data.toList.drop 0 = dktX2_earlier_0 := by decide +kernel
theorem dksX2_earlier_1 : cX2_earlier.data.toList.drop 22 = dktX2_earlier_1 := dk_seg dksX2_earlier_0 22 rfl rfl
theorem dX2_earlier_0 : decode cX2_earlier 0 = .ok (.aload_n 1, 1) := dk_43 (dk_at dksX2_earlier_0 0 rfl rfl)
theorem dX2_earlier_1 : decode cX2_earlier 1 = .ok (.getfield 140, 3) := dk_180 0 140 (dk_at dksX2_earlier_0 1 rfl rfl)
theorem dX2_earlier_4 : decode cX2_earlier 4 = .ok (.ifCond .ne 7, 3) := dk_154 0 7 (dk_at dksX2_earlier_0 4 rfl rfl)
theorem dX2_earlier_7 : decode cX2_earlier 7 = .ok (.iconst (-1), 1) := dk_2 (dk_at dksX2_earlier_0 7 rfl rfl)
theorem dX2_earlier_8 : decode cX2_earlier 8 = .ok (.goto 35, 3) := dk_167 0 35 (dk_at dksX2_earlier_0 8 rfl rfl)
theorem dX2_earlier_11 : decode cX2_earlier 11 = .ok (.aload_n 0, 1) := dk_42 (dk_at dksX2_earlier_0 11 rfl rfl)
theorem dX2_earlier_12 : decode cX2_earlier 12 = .ok (.getfield 12, 3) := dk_180 0 12 (dk_at dksX2_earlier_0 12 rfl rfl)
theorem dX2_earlier_15 : decode cX2_earlier 15 = .ok (.aload_n 1, 1) := dk_43 (dk_at dksX2_earlier_0 15 rfl rfl)
theorem dX2_earlier_16 : decode cX2_earlier 16 = .ok (.getfield 79, 3) := dk_180 0 79 (dk_at dksX2_earlier_0 16 rfl rfl)
theorem dX2_earlier_19 : decode cX2_earlier 19 = .ok (.invokevirtual 59, 3) := dk_182 0 59 (dk_at dksX2_earlier_0 19 rfl rfl)
theorem dX2_earlier_22 : decode cX2_earlier 22 = .ok (.checkcast 63, 3) := dk_192 0 63 (dk_at dksX2_earlier_1 0 rfl rfl)
theorem dX2_earlier_25 : decode cX2_earlier 25 = .ok (.getfield 111, 3) := dk_180 0 111 (dk_at dksX2_earlier_1 3 rfl rfl)
theorem dX2_earlier_28 : decode cX2_earlier 28 = .ok (.aload_n 1, 1) := dk_43 (dk_at dksX2_earlier_1 6 rfl rfl)
theorem dX2_earlier_29 : decode cX2_earlier 29 = .ok (.getfield 140, 3) := dk_180 0 140 (dk_at dksX2_earlier_1 7 rfl rfl)
theorem dX2_earlier_32 : decode cX2_earlier 32 = .ok (.iconst 1, 1) := dk_4 (dk_at dksX2_earlier_1 10 rfl rfl)
theorem dX2_earlier_33 : decode cX2_earlier 33 = .ok (.isub, 1) := dk_100 (dk_at dksX2_earlier_1 11 rfl rfl)
theorem dX2_earlier_34 : decode cX2_earlier 34 = .ok (.invokevirtual 59, 3) := dk_182 0 59 (dk_at dksX2_earlier_1 12 rfl rfl)
theorem dX2_earlier_37 : decode cX2_earlier 37 = .ok (.checkcast 77, 3) := dk_192 0 77 (dk_at dksX2_earlier_1 15 rfl rfl)
theorem dX2_earlier_40 : decode cX2_earlier 40 = .ok (.getfield 115, 3) := dk_180 0 115 (dk_at dksX2_earlier_1 18 rfl rfl)
theorem dX2_earlier_43 : decode cX2_earlier 43 = .ok (.ireturn, 1) := dk_172 (dk_at dksX2_earlier_1 21 rfl rfl)
abbrev cX2_place : ByteArray := prog_15_method_9_code
def yX2_place : MethodName := ⟨RX2, "place", "(LSetupJobShop$Operation;)V"⟩
def dkwX2_place_8 : List UInt8 := [181, 0, 137, 177]
abbrev dktX2_place_8 : List UInt8 := dkwX2_place_8 ++ []
def dkwX2_place_7 : List UInt8 := [180, 0, 115, 46, 184, 0, 147, 181, 0, 164, 42, 89, 180, 0, 137, 4, 43, 180, 0, 115, 120, 128]
abbrev dktX2_place_7 : List UInt8 := dkwX2_place_7 ++ dktX2_place_8
def dkwX2_place_6 : List UInt8 := [180, 0, 37, 43, 180, 0, 115, 46, 43, 180, 0, 85, 96, 79, 42, 42, 180, 0, 164, 42, 180, 0, 40, 43]
abbrev dktX2_place_6 : List UInt8 := dkwX2_place_6 ++ dktX2_place_7
def dkwX2_place_5 : List UInt8 := [180, 0, 157, 184, 0, 147, 167, 0, 4, 28, 182, 0, 160, 79, 42, 180, 0, 40, 43, 180, 0, 115, 42]
abbrev dktX2_place_5 : List UInt8 := dkwX2_place_5 ++ dktX2_place_6
def dkwX2_place_4 : List UInt8 := [79, 42, 180, 0, 37, 43, 180, 0, 115, 42, 43, 43, 180, 0, 115, 42, 180, 0, 43, 160, 0, 14, 28, 42]
abbrev dktX2_place_4 : List UInt8 := dkwX2_place_4 ++ dktX2_place_5
def dkwX2_place_3 : List UInt8 := [182, 0, 59, 192, 0, 77, 43, 182, 0, 153, 96, 184, 0, 147, 61, 42, 180, 0, 34, 43, 180, 0, 115, 28]
abbrev dktX2_place_3 : List UInt8 := dkwX2_place_3 ++ dktX2_place_4
def dkwX2_place_2 : List UInt8 := [46, 54, 4, 21, 4, 2, 159, 0, 33, 28, 42, 180, 0, 40, 21, 4, 46, 42, 42, 180, 0, 18, 21, 4]
abbrev dktX2_place_2 : List UInt8 := dkwX2_place_2 ++ dktX2_place_3
def dkwX2_place_1 : List UInt8 := [29, 2, 159, 0, 14, 28, 42, 180, 0, 40, 29, 46, 184, 0, 147, 61, 42, 180, 0, 31, 43, 180, 0, 115]
abbrev dktX2_place_1 : List UInt8 := dkwX2_place_1 ++ dktX2_place_2
def dkwX2_place_0 : List UInt8 := [42, 180, 0, 12, 43, 180, 0, 79, 182, 0, 59, 192, 0, 63, 182, 0, 65, 61, 42, 43, 182, 0, 143, 62]
abbrev dktX2_place_0 : List UInt8 := dkwX2_place_0 ++ dktX2_place_1
theorem dksX2_place_0 : cX2_place.data.toList.drop 0 = dktX2_place_0 := by decide +kernel
theorem dksX2_place_1 : cX2_place.data.toList.drop 24 = dktX2_place_1 := dk_seg dksX2_place_0 24 rfl rfl
theorem dksX2_place_2 : cX2_place.data.toList.drop 48 = dktX2_place_2 := dk_seg dksX2_place_1 24 rfl rfl
theorem dksX2_place_3 : cX2_place.data.toList.drop 72 = dktX2_place_3 := dk_seg dksX2_place_2 24 rfl rfl
theorem dksX2_place_4 : cX2_place.data.toList.drop 96 = dktX2_place_4 := dk_seg dksX2_place_3 24 rfl rfl
theorem dksX2_place_5 : cX2_place.data.toList.drop 120 = dktX2_place_5 := dk_seg dksX2_place_4 24 rfl rfl
theorem dksX2_place_6 : cX2_place.data.toList.drop 143 = dktX2_place_6 := dk_seg dksX2_place_5 23 rfl rfl
theorem dksX2_place_7 : cX2_place.data.toList.drop 167 = dktX2_place_7 := dk_seg dksX2_place_6 24 rfl rfl
theorem dksX2_place_8 : cX2_place.data.toList.drop 189 = dktX2_place_8 := dk_seg dksX2_place_7 22 rfl rfl
theorem dX2_place_0 : decode cX2_place 0 = .ok (.aload_n 0, 1) := dk_42 (dk_at dksX2_place_0 0 rfl rfl)
theorem dX2_place_1 : decode cX2_place 1 = .ok (.getfield 12, 3) := dk_180 0 12 (dk_at dksX2_place_0 1 rfl rfl)
theorem dX2_place_4 : decode cX2_place 4 = .ok (.aload_n 1, 1) := dk_43 (dk_at dksX2_place_0 4 rfl rfl)
theorem dX2_place_5 : decode cX2_place 5 = .ok (.getfield 79, 3) := dk_180 0 79 (dk_at dksX2_place_0 5 rfl rfl)
theorem dX2_place_8 : decode cX2_place 8 = .ok (.invokevirtual 59, 3) := dk_182 0 59 (dk_at dksX2_place_0 8 rfl rfl)
theorem dX2_place_11 : decode cX2_place 11 = .ok (.checkcast 63, 3) := dk_192 0 63 (dk_at dksX2_place_0 11 rfl rfl)
theorem dX2_place_14 : decode cX2_place 14 = .ok (.invokevirtual 65, 3) := dk_182 0 65 (dk_at dksX2_place_0 14 rfl rfl)
theorem dX2_place_17 : decode cX2_place 17 = .ok (.istore_n 2, 1) := dk_61 (dk_at dksX2_place_0 17 rfl rfl)
theorem dX2_place_18 : decode cX2_place 18 = .ok (.aload_n 0, 1) := dk_42 (dk_at dksX2_place_0 18 rfl rfl)
theorem dX2_place_19 : decode cX2_place 19 = .ok (.aload_n 1, 1) := dk_43 (dk_at dksX2_place_0 19 rfl rfl)
theorem dX2_place_20 : decode cX2_place 20 = .ok (.invokevirtual 143, 3) := dk_182 0 143 (dk_at dksX2_place_0 20 rfl rfl)
theorem dX2_place_23 : decode cX2_place 23 = .ok (.istore_n 3, 1) := dk_62 (dk_at dksX2_place_0 23 rfl rfl)
theorem dX2_place_24 : decode cX2_place 24 = .ok (.iload_n 3, 1) := dk_29 (dk_at dksX2_place_1 0 rfl rfl)
theorem dX2_place_25 : decode cX2_place 25 = .ok (.iconst (-1), 1) := dk_2 (dk_at dksX2_place_1 1 rfl rfl)
theorem dX2_place_26 : decode cX2_place 26 = .ok (.if_icmp .eq 14, 3) := dk_159 0 14 (dk_at dksX2_place_1 2 rfl rfl)
theorem dX2_place_29 : decode cX2_place 29 = .ok (.iload_n 2, 1) := dk_28 (dk_at dksX2_place_1 5 rfl rfl)
theorem dX2_place_30 : decode cX2_place 30 = .ok (.aload_n 0, 1) := dk_42 (dk_at dksX2_place_1 6 rfl rfl)
theorem dX2_place_31 : decode cX2_place 31 = .ok (.getfield 40, 3) := dk_180 0 40 (dk_at dksX2_place_1 7 rfl rfl)
theorem dX2_place_34 : decode cX2_place 34 = .ok (.iload_n 3, 1) := dk_29 (dk_at dksX2_place_1 10 rfl rfl)
theorem dX2_place_35 : decode cX2_place 35 = .ok (.iaload, 1) := dk_46 (dk_at dksX2_place_1 11 rfl rfl)
theorem dX2_place_36 : decode cX2_place 36 = .ok (.invokestatic 147, 3) := dk_184 0 147 (dk_at dksX2_place_1 12 rfl rfl)
theorem dX2_place_39 : decode cX2_place 39 = .ok (.istore_n 2, 1) := dk_61 (dk_at dksX2_place_1 15 rfl rfl)
theorem dX2_place_40 : decode cX2_place 40 = .ok (.aload_n 0, 1) := dk_42 (dk_at dksX2_place_1 16 rfl rfl)
theorem dX2_place_41 : decode cX2_place 41 = .ok (.getfield 31, 3) := dk_180 0 31 (dk_at dksX2_place_1 17 rfl rfl)
theorem dX2_place_44 : decode cX2_place 44 = .ok (.aload_n 1, 1) := dk_43 (dk_at dksX2_place_1 20 rfl rfl)
theorem dX2_place_45 : decode cX2_place 45 = .ok (.getfield 115, 3) := dk_180 0 115 (dk_at dksX2_place_1 21 rfl rfl)
theorem dX2_place_48 : decode cX2_place 48 = .ok (.iaload, 1) := dk_46 (dk_at dksX2_place_2 0 rfl rfl)
theorem dX2_place_49 : decode cX2_place 49 = .ok (.istore 4, 2) := dk_54 4 (dk_at dksX2_place_2 1 rfl rfl)
theorem dX2_place_51 : decode cX2_place 51 = .ok (.iload 4, 2) := dk_21 4 (dk_at dksX2_place_2 3 rfl rfl)
theorem dX2_place_53 : decode cX2_place 53 = .ok (.iconst (-1), 1) := dk_2 (dk_at dksX2_place_2 5 rfl rfl)
theorem dX2_place_54 : decode cX2_place 54 = .ok (.if_icmp .eq 33, 3) := dk_159 0 33 (dk_at dksX2_place_2 6 rfl rfl)
theorem dX2_place_57 : decode cX2_place 57 = .ok (.iload_n 2, 1) := dk_28 (dk_at dksX2_place_2 9 rfl rfl)
theorem dX2_place_58 : decode cX2_place 58 = .ok (.aload_n 0, 1) := dk_42 (dk_at dksX2_place_2 10 rfl rfl)
theorem dX2_place_59 : decode cX2_place 59 = .ok (.getfield 40, 3) := dk_180 0 40 (dk_at dksX2_place_2 11 rfl rfl)
theorem dX2_place_62 : decode cX2_place 62 = .ok (.iload 4, 2) := dk_21 4 (dk_at dksX2_place_2 14 rfl rfl)
theorem dX2_place_64 : decode cX2_place 64 = .ok (.iaload, 1) := dk_46 (dk_at dksX2_place_2 16 rfl rfl)
theorem dX2_place_65 : decode cX2_place 65 = .ok (.aload_n 0, 1) := dk_42 (dk_at dksX2_place_2 17 rfl rfl)
theorem dX2_place_66 : decode cX2_place 66 = .ok (.aload_n 0, 1) := dk_42 (dk_at dksX2_place_2 18 rfl rfl)
theorem dX2_place_67 : decode cX2_place 67 = .ok (.getfield 18, 3) := dk_180 0 18 (dk_at dksX2_place_2 19 rfl rfl)
theorem dX2_place_70 : decode cX2_place 70 = .ok (.iload 4, 2) := dk_21 4 (dk_at dksX2_place_2 22 rfl rfl)
theorem dX2_place_72 : decode cX2_place 72 = .ok (.invokevirtual 59, 3) := dk_182 0 59 (dk_at dksX2_place_3 0 rfl rfl)
theorem dX2_place_75 : decode cX2_place 75 = .ok (.checkcast 77, 3) := dk_192 0 77 (dk_at dksX2_place_3 3 rfl rfl)
theorem dX2_place_78 : decode cX2_place 78 = .ok (.aload_n 1, 1) := dk_43 (dk_at dksX2_place_3 6 rfl rfl)
theorem dX2_place_79 : decode cX2_place 79 = .ok (.invokevirtual 153, 3) := dk_182 0 153 (dk_at dksX2_place_3 7 rfl rfl)
theorem dX2_place_82 : decode cX2_place 82 = .ok (.iadd, 1) := dk_96 (dk_at dksX2_place_3 10 rfl rfl)
theorem dX2_place_83 : decode cX2_place 83 = .ok (.invokestatic 147, 3) := dk_184 0 147 (dk_at dksX2_place_3 11 rfl rfl)
theorem dX2_place_86 : decode cX2_place 86 = .ok (.istore_n 2, 1) := dk_61 (dk_at dksX2_place_3 14 rfl rfl)
theorem dX2_place_87 : decode cX2_place 87 = .ok (.aload_n 0, 1) := dk_42 (dk_at dksX2_place_3 15 rfl rfl)
theorem dX2_place_88 : decode cX2_place 88 = .ok (.getfield 34, 3) := dk_180 0 34 (dk_at dksX2_place_3 16 rfl rfl)
theorem dX2_place_91 : decode cX2_place 91 = .ok (.aload_n 1, 1) := dk_43 (dk_at dksX2_place_3 19 rfl rfl)
theorem dX2_place_92 : decode cX2_place 92 = .ok (.getfield 115, 3) := dk_180 0 115 (dk_at dksX2_place_3 20 rfl rfl)
theorem dX2_place_95 : decode cX2_place 95 = .ok (.iload_n 2, 1) := dk_28 (dk_at dksX2_place_3 23 rfl rfl)
theorem dX2_place_96 : decode cX2_place 96 = .ok (.iastore, 1) := dk_79 (dk_at dksX2_place_4 0 rfl rfl)
theorem dX2_place_97 : decode cX2_place 97 = .ok (.aload_n 0, 1) := dk_42 (dk_at dksX2_place_4 1 rfl rfl)
theorem dX2_place_98 : decode cX2_place 98 = .ok (.getfield 37, 3) := dk_180 0 37 (dk_at dksX2_place_4 2 rfl rfl)
theorem dX2_place_101 : decode cX2_place 101 = .ok (.aload_n 1, 1) := dk_43 (dk_at dksX2_place_4 5 rfl rfl)
theorem dX2_place_102 : decode cX2_place 102 = .ok (.getfield 115, 3) := dk_180 0 115 (dk_at dksX2_place_4 6 rfl rfl)
theorem dX2_place_105 : decode cX2_place 105 = .ok (.aload_n 0, 1) := dk_42 (dk_at dksX2_place_4 9 rfl rfl)
theorem dX2_place_106 : decode cX2_place 106 = .ok (.aload_n 1, 1) := dk_43 (dk_at dksX2_place_4 10 rfl rfl)
theorem dX2_place_107 : decode cX2_place 107 = .ok (.aload_n 1, 1) := dk_43 (dk_at dksX2_place_4 11 rfl rfl)
theorem dX2_place_108 : decode cX2_place 108 = .ok (.getfield 115, 3) := dk_180 0 115 (dk_at dksX2_place_4 12 rfl rfl)
theorem dX2_place_111 : decode cX2_place 111 = .ok (.aload_n 0, 1) := dk_42 (dk_at dksX2_place_4 15 rfl rfl)
theorem dX2_place_112 : decode cX2_place 112 = .ok (.getfield 43, 3) := dk_180 0 43 (dk_at dksX2_place_4 16 rfl rfl)
theorem dX2_place_115 : decode cX2_place 115 = .ok (.if_icmp .ne 14, 3) := dk_160 0 14 (dk_at dksX2_place_4 19 rfl rfl)
theorem dX2_place_118 : decode cX2_place 118 = .ok (.iload_n 2, 1) := dk_28 (dk_at dksX2_place_4 22 rfl rfl)
theorem dX2_place_119 : decode cX2_place 119 = .ok (.aload_n 0, 1) := dk_42 (dk_at dksX2_place_4 23 rfl rfl)
theorem dX2_place_120 : decode cX2_place 120 = .ok (.getfield 157, 3) := dk_180 0 157 (dk_at dksX2_place_5 0 rfl rfl)
theorem dX2_place_123 : decode cX2_place 123 = .ok (.invokestatic 147, 3) := dk_184 0 147 (dk_at dksX2_place_5 3 rfl rfl)
theorem dX2_place_126 : decode cX2_place 126 = .ok (.goto 4, 3) := dk_167 0 4 (dk_at dksX2_place_5 6 rfl rfl)
theorem dX2_place_129 : decode cX2_place 129 = .ok (.iload_n 2, 1) := dk_28 (dk_at dksX2_place_5 9 rfl rfl)
theorem dX2_place_130 : decode cX2_place 130 = .ok (.invokevirtual 160, 3) := dk_182 0 160 (dk_at dksX2_place_5 10 rfl rfl)
theorem dX2_place_133 : decode cX2_place 133 = .ok (.iastore, 1) := dk_79 (dk_at dksX2_place_5 13 rfl rfl)
theorem dX2_place_134 : decode cX2_place 134 = .ok (.aload_n 0, 1) := dk_42 (dk_at dksX2_place_5 14 rfl rfl)
theorem dX2_place_135 : decode cX2_place 135 = .ok (.getfield 40, 3) := dk_180 0 40 (dk_at dksX2_place_5 15 rfl rfl)
theorem dX2_place_138 : decode cX2_place 138 = .ok (.aload_n 1, 1) := dk_43 (dk_at dksX2_place_5 18 rfl rfl)
theorem dX2_place_139 : decode cX2_place 139 = .ok (.getfield 115, 3) := dk_180 0 115 (dk_at dksX2_place_5 19 rfl rfl)
theorem dX2_place_142 : decode cX2_place 142 = .ok (.aload_n 0, 1) := dk_42 (dk_at dksX2_place_5 22 rfl rfl)
theorem dX2_place_143 : decode cX2_place 143 = .ok (.getfield 37, 3) := dk_180 0 37 (dk_at dksX2_place_6 0 rfl rfl)
theorem dX2_place_146 : decode cX2_place 146 = .ok (.aload_n 1, 1) := dk_43 (dk_at dksX2_place_6 3 rfl rfl)
theorem dX2_place_147 : decode cX2_place 147 = .ok (.getfield 115, 3) := dk_180 0 115 (dk_at dksX2_place_6 4 rfl rfl)
theorem dX2_place_150 : decode cX2_place 150 = .ok (.iaload, 1) := dk_46 (dk_at dksX2_place_6 7 rfl rfl)
theorem dX2_place_151 : decode cX2_place 151 = .ok (.aload_n 1, 1) := dk_43 (dk_at dksX2_place_6 8 rfl rfl)
theorem dX2_place_152 : decode cX2_place 152 = .ok (.getfield 85, 3) := dk_180 0 85 (dk_at dksX2_place_6 9 rfl rfl)
theorem dX2_place_155 : decode cX2_place 155 = .ok (.iadd, 1) := dk_96 (dk_at dksX2_place_6 12 rfl rfl)
theorem dX2_place_156 : decode cX2_place 156 = .ok (.iastore, 1) := dk_79 (dk_at dksX2_place_6 13 rfl rfl)
theorem dX2_place_157 : decode cX2_place 157 = .ok (.aload_n 0, 1) := dk_42 (dk_at dksX2_place_6 14 rfl rfl)
theorem dX2_place_158 : decode cX2_place 158 = .ok (.aload_n 0, 1) := dk_42 (dk_at dksX2_place_6 15 rfl rfl)
theorem dX2_place_159 : decode cX2_place 159 = .ok (.getfield 164, 3) := dk_180 0 164 (dk_at dksX2_place_6 16 rfl rfl)
theorem dX2_place_162 : decode cX2_place 162 = .ok (.aload_n 0, 1) := dk_42 (dk_at dksX2_place_6 19 rfl rfl)
theorem dX2_place_163 : decode cX2_place 163 = .ok (.getfield 40, 3) := dk_180 0 40 (dk_at dksX2_place_6 20 rfl rfl)
theorem dX2_place_166 : decode cX2_place 166 = .ok (.aload_n 1, 1) := dk_43 (dk_at dksX2_place_6 23 rfl rfl)
theorem dX2_place_167 : decode cX2_place 167 = .ok (.getfield 115, 3) := dk_180 0 115 (dk_at dksX2_place_7 0 rfl rfl)
theorem dX2_place_170 : decode cX2_place 170 = .ok (.iaload, 1) := dk_46 (dk_at dksX2_place_7 3 rfl rfl)
theorem dX2_place_171 : decode cX2_place 171 = .ok (.invokestatic 147, 3) := dk_184 0 147 (dk_at dksX2_place_7 4 rfl rfl)
theorem dX2_place_174 : decode cX2_place 174 = .ok (.putfield 164, 3) := dk_181 0 164 (dk_at dksX2_place_7 7 rfl rfl)
theorem dX2_place_177 : decode cX2_place 177 = .ok (.aload_n 0, 1) := dk_42 (dk_at dksX2_place_7 10 rfl rfl)
theorem dX2_place_178 : decode cX2_place 178 = .ok (.dup, 1) := dk_89 (dk_at dksX2_place_7 11 rfl rfl)
theorem dX2_place_179 : decode cX2_place 179 = .ok (.getfield 137, 3) := dk_180 0 137 (dk_at dksX2_place_7 12 rfl rfl)
theorem dX2_place_182 : decode cX2_place 182 = .ok (.iconst 1, 1) := dk_4 (dk_at dksX2_place_7 15 rfl rfl)
theorem dX2_place_183 : decode cX2_place 183 = .ok (.aload_n 1, 1) := dk_43 (dk_at dksX2_place_7 16 rfl rfl)
theorem dX2_place_184 : decode cX2_place 184 = .ok (.getfield 115, 3) := dk_180 0 115 (dk_at dksX2_place_7 17 rfl rfl)
theorem dX2_place_187 : decode cX2_place 187 = .ok (.ishl, 1) := dk_120 (dk_at dksX2_place_7 20 rfl rfl)
theorem dX2_place_188 : decode cX2_place 188 = .ok (.ior, 1) := dk_128 (dk_at dksX2_place_7 21 rfl rfl)
theorem dX2_place_189 : decode cX2_place 189 = .ok (.putfield 137, 3) := dk_181 0 137 (dk_at dksX2_place_8 0 rfl rfl)
theorem dX2_place_192 : decode cX2_place 192 = .ok (.return_, 1) := dk_177 (dk_at dksX2_place_8 3 rfl rfl)
abbrev cX2_setup : ByteArray := prog_15_method_5_code
def yX2_setup : MethodName := ⟨RX2, "setup", "(LSetupJobShop$Operation;LSetupJobShop$Operation;)I"⟩
def dkwX2_setup_0 : List UInt8 := [42, 180, 0, 21, 6, 43, 180, 0, 88, 104, 44, 180, 0, 88, 96, 46, 172]
abbrev dktX2_setup_0 : List UInt8 := dkwX2_setup_0 ++ []
theorem dksX2_setup_0 : cX2_setup.data.toList.drop 0 = dktX2_setup_0 := by decide +kernel
theorem dX2_setup_0 : decode cX2_setup 0 = .ok (.aload_n 0, 1) := dk_42 (dk_at dksX2_setup_0 0 rfl rfl)
theorem dX2_setup_1 : decode cX2_setup 1 = .ok (.getfield 21, 3) := dk_180 0 21 (dk_at dksX2_setup_0 1 rfl rfl)
theorem dX2_setup_4 : decode cX2_setup 4 = .ok (.iconst 3, 1) := dk_6 (dk_at dksX2_setup_0 4 rfl rfl)
theorem dX2_setup_5 : decode cX2_setup 5 = .ok (.aload_n 1, 1) := dk_43 (dk_at dksX2_setup_0 5 rfl rfl)
theorem dX2_setup_6 : decode cX2_setup 6 = .ok (.getfield 88, 3) := dk_180 0 88 (dk_at dksX2_setup_0 6 rfl rfl)
theorem dX2_setup_9 : decode cX2_setup 9 = .ok (.imul, 1) := dk_104 (dk_at dksX2_setup_0 9 rfl rfl)
theorem dX2_setup_10 : decode cX2_setup 10 = .ok (.aload_n 2, 1) := dk_44 (dk_at dksX2_setup_0 10 rfl rfl)
theorem dX2_setup_11 : decode cX2_setup 11 = .ok (.getfield 88, 3) := dk_180 0 88 (dk_at dksX2_setup_0 11 rfl rfl)
theorem dX2_setup_14 : decode cX2_setup 14 = .ok (.iadd, 1) := dk_96 (dk_at dksX2_setup_0 14 rfl rfl)
theorem dX2_setup_15 : decode cX2_setup 15 = .ok (.iaload, 1) := dk_46 (dk_at dksX2_setup_0 15 rfl rfl)
theorem dX2_setup_16 : decode cX2_setup 16 = .ok (.ireturn, 1) := dk_172 (dk_at dksX2_setup_0 16 rfl rfl)
abbrev cX2_unhindered : ByteArray := prog_15_method_6_code
def yX2_unhindered : MethodName := ⟨RX2, "unhindered", "(LSetupJobShop$Operation;I)I"⟩
def dkwX2_unhindered_3 : List UInt8 := [192, 0, 125, 180, 0, 134, 96, 54, 4, 2, 54, 5, 132, 5, 1, 167, 255, 190, 21, 4, 172]
abbrev dktX2_unhindered_3 : List UInt8 := dkwX2_unhindered_3 ++ []
def dkwX2_unhindered_2 : List UInt8 := [154, 0, 6, 167, 0, 33, 45, 21, 5, 182, 0, 59, 192, 0, 125, 180, 0, 131, 45, 21, 5, 182, 0, 59]
abbrev dktX2_unhindered_2 : List UInt8 := dkwX2_unhindered_2 ++ dktX2_unhindered_3
def dkwX2_unhindered_1 : List UInt8 := [182, 0, 55, 162, 0, 63, 45, 21, 5, 182, 0, 59, 192, 0, 125, 21, 4, 43, 180, 0, 85, 182, 0, 127]
abbrev dktX2_unhindered_1 : List UInt8 := dkwX2_unhindered_1 ++ dktX2_unhindered_2
def dkwX2_unhindered_0 : List UInt8 := [42, 180, 0, 25, 43, 180, 0, 82, 182, 0, 59, 192, 0, 9, 78, 28, 54, 4, 3, 54, 5, 21, 5, 45]
abbrev dktX2_unhindered_0 : List UInt8 := dkwX2_unhindered_0 ++ dktX2_unhindered_1
theorem dksX2_unhindered_0 : cX2_unhindered.data.toList.drop 0 = dktX2_unhindered_0 := by decide +kernel
theorem dksX2_unhindered_1 : cX2_unhindered.data.toList.drop 24 = dktX2_unhindered_1 := dk_seg dksX2_unhindered_0 24 rfl rfl
theorem dksX2_unhindered_2 : cX2_unhindered.data.toList.drop 48 = dktX2_unhindered_2 := dk_seg dksX2_unhindered_1 24 rfl rfl
theorem dksX2_unhindered_3 : cX2_unhindered.data.toList.drop 72 = dktX2_unhindered_3 := dk_seg dksX2_unhindered_2 24 rfl rfl
theorem dX2_unhindered_0 : decode cX2_unhindered 0 = .ok (.aload_n 0, 1) := dk_42 (dk_at dksX2_unhindered_0 0 rfl rfl)
theorem dX2_unhindered_1 : decode cX2_unhindered 1 = .ok (.getfield 25, 3) := dk_180 0 25 (dk_at dksX2_unhindered_0 1 rfl rfl)
theorem dX2_unhindered_4 : decode cX2_unhindered 4 = .ok (.aload_n 1, 1) := dk_43 (dk_at dksX2_unhindered_0 4 rfl rfl)
theorem dX2_unhindered_5 : decode cX2_unhindered 5 = .ok (.getfield 82, 3) := dk_180 0 82 (dk_at dksX2_unhindered_0 5 rfl rfl)
theorem dX2_unhindered_8 : decode cX2_unhindered 8 = .ok (.invokevirtual 59, 3) := dk_182 0 59 (dk_at dksX2_unhindered_0 8 rfl rfl)
theorem dX2_unhindered_11 : decode cX2_unhindered 11 = .ok (.checkcast 9, 3) := dk_192 0 9 (dk_at dksX2_unhindered_0 11 rfl rfl)
theorem dX2_unhindered_14 : decode cX2_unhindered 14 = .ok (.astore_n 3, 1) := dk_78 (dk_at dksX2_unhindered_0 14 rfl rfl)
theorem dX2_unhindered_15 : decode cX2_unhindered 15 = .ok (.iload_n 2, 1) := dk_28 (dk_at dksX2_unhindered_0 15 rfl rfl)
theorem dX2_unhindered_16 : decode cX2_unhindered 16 = .ok (.istore 4, 2) := dk_54 4 (dk_at dksX2_unhindered_0 16 rfl rfl)
theorem dX2_unhindered_18 : decode cX2_unhindered 18 = .ok (.iconst 0, 1) := dk_3 (dk_at dksX2_unhindered_0 18 rfl rfl)
theorem dX2_unhindered_19 : decode cX2_unhindered 19 = .ok (.istore 5, 2) := dk_54 5 (dk_at dksX2_unhindered_0 19 rfl rfl)
theorem dX2_unhindered_21 : decode cX2_unhindered 21 = .ok (.iload 5, 2) := dk_21 5 (dk_at dksX2_unhindered_0 21 rfl rfl)
theorem dX2_unhindered_23 : decode cX2_unhindered 23 = .ok (.aload_n 3, 1) := dk_45 (dk_at dksX2_unhindered_0 23 rfl rfl)
theorem dX2_unhindered_24 : decode cX2_unhindered 24 = .ok (.invokevirtual 55, 3) := dk_182 0 55 (dk_at dksX2_unhindered_1 0 rfl rfl)
theorem dX2_unhindered_27 : decode cX2_unhindered 27 = .ok (.if_icmp .ge 63, 3) := dk_162 0 63 (dk_at dksX2_unhindered_1 3 rfl rfl)
theorem dX2_unhindered_30 : decode cX2_unhindered 30 = .ok (.aload_n 3, 1) := dk_45 (dk_at dksX2_unhindered_1 6 rfl rfl)
theorem dX2_unhindered_31 : decode cX2_unhindered 31 = .ok (.iload 5, 2) := dk_21 5 (dk_at dksX2_unhindered_1 7 rfl rfl)
theorem dX2_unhindered_33 : decode cX2_unhindered 33 = .ok (.invokevirtual 59, 3) := dk_182 0 59 (dk_at dksX2_unhindered_1 9 rfl rfl)
theorem dX2_unhindered_36 : decode cX2_unhindered 36 = .ok (.checkcast 125, 3) := dk_192 0 125 (dk_at dksX2_unhindered_1 12 rfl rfl)
theorem dX2_unhindered_39 : decode cX2_unhindered 39 = .ok (.iload 4, 2) := dk_21 4 (dk_at dksX2_unhindered_1 15 rfl rfl)
theorem dX2_unhindered_41 : decode cX2_unhindered 41 = .ok (.aload_n 1, 1) := dk_43 (dk_at dksX2_unhindered_1 17 rfl rfl)
theorem dX2_unhindered_42 : decode cX2_unhindered 42 = .ok (.getfield 85, 3) := dk_180 0 85 (dk_at dksX2_unhindered_1 18 rfl rfl)
theorem dX2_unhindered_45 : decode cX2_unhindered 45 = .ok (.invokevirtual 127, 3) := dk_182 0 127 (dk_at dksX2_unhindered_1 21 rfl rfl)
theorem dX2_unhindered_48 : decode cX2_unhindered 48 = .ok (.ifCond .ne 6, 3) := dk_154 0 6 (dk_at dksX2_unhindered_2 0 rfl rfl)
theorem dX2_unhindered_51 : decode cX2_unhindered 51 = .ok (.goto 33, 3) := dk_167 0 33 (dk_at dksX2_unhindered_2 3 rfl rfl)
theorem dX2_unhindered_54 : decode cX2_unhindered 54 = .ok (.aload_n 3, 1) := dk_45 (dk_at dksX2_unhindered_2 6 rfl rfl)
theorem dX2_unhindered_55 : decode cX2_unhindered 55 = .ok (.iload 5, 2) := dk_21 5 (dk_at dksX2_unhindered_2 7 rfl rfl)
theorem dX2_unhindered_57 : decode cX2_unhindered 57 = .ok (.invokevirtual 59, 3) := dk_182 0 59 (dk_at dksX2_unhindered_2 9 rfl rfl)
theorem dX2_unhindered_60 : decode cX2_unhindered 60 = .ok (.checkcast 125, 3) := dk_192 0 125 (dk_at dksX2_unhindered_2 12 rfl rfl)
theorem dX2_unhindered_63 : decode cX2_unhindered 63 = .ok (.getfield 131, 3) := dk_180 0 131 (dk_at dksX2_unhindered_2 15 rfl rfl)
theorem dX2_unhindered_66 : decode cX2_unhindered 66 = .ok (.aload_n 3, 1) := dk_45 (dk_at dksX2_unhindered_2 18 rfl rfl)
theorem dX2_unhindered_67 : decode cX2_unhindered 67 = .ok (.iload 5, 2) := dk_21 5 (dk_at dksX2_unhindered_2 19 rfl rfl)
theorem dX2_unhindered_69 : decode cX2_unhindered 69 = .ok (.invokevirtual 59, 3) := dk_182 0 59 (dk_at dksX2_unhindered_2 21 rfl rfl)
theorem dX2_unhindered_72 : decode cX2_unhindered 72 = .ok (.checkcast 125, 3) := dk_192 0 125 (dk_at dksX2_unhindered_3 0 rfl rfl)
theorem dX2_unhindered_75 : decode cX2_unhindered 75 = .ok (.getfield 134, 3) := dk_180 0 134 (dk_at dksX2_unhindered_3 3 rfl rfl)
theorem dX2_unhindered_78 : decode cX2_unhindered 78 = .ok (.iadd, 1) := dk_96 (dk_at dksX2_unhindered_3 6 rfl rfl)
theorem dX2_unhindered_79 : decode cX2_unhindered 79 = .ok (.istore 4, 2) := dk_54 4 (dk_at dksX2_unhindered_3 7 rfl rfl)
theorem dX2_unhindered_81 : decode cX2_unhindered 81 = .ok (.iconst (-1), 1) := dk_2 (dk_at dksX2_unhindered_3 9 rfl rfl)
theorem dX2_unhindered_82 : decode cX2_unhindered 82 = .ok (.istore 5, 2) := dk_54 5 (dk_at dksX2_unhindered_3 10 rfl rfl)
theorem dX2_unhindered_84 : decode cX2_unhindered 84 = .ok (.iinc 5 1, 3) := dk_132 5 1 (dk_at dksX2_unhindered_3 12 rfl rfl)
theorem dX2_unhindered_87 : decode cX2_unhindered 87 = .ok (.goto (-66), 3) := dk_167 255 190 (dk_at dksX2_unhindered_3 15 rfl rfl)
theorem dX2_unhindered_90 : decode cX2_unhindered 90 = .ok (.iload 4, 2) := dk_21 4 (dk_at dksX2_unhindered_3 18 rfl rfl)
theorem dX2_unhindered_92 : decode cX2_unhindered 92 = .ok (.ireturn, 1) := dk_172 (dk_at dksX2_unhindered_3 20 rfl rfl)
abbrev cX2_path : ByteArray := prog_15_method_20_code
def yX2_path : MethodName := ⟨RX2, "path", "()Ljava/util/ArrayList;"⟩
def dkwX2_path_1 : List UInt8 := [44, 43, 29, 182, 0, 59, 192, 0, 77, 182, 0, 47, 87, 132, 3, 255, 167, 255, 236, 44, 176]
abbrev dktX2_path_1 : List UInt8 := dkwX2_path_1 ++ []
def dkwX2_path_0 : List UInt8 := [42, 182, 0, 206, 76, 187, 0, 9, 89, 183, 0, 11, 77, 43, 182, 0, 55, 4, 100, 62, 29, 155, 0, 22]
abbrev dktX2_path_0 : List UInt8 := dkwX2_path_0 ++ dktX2_path_1
theorem dksX2_path_0 : cX2_path.data.toList.drop 0 = dktX2_path_0 := by decide +kernel
theorem dksX2_path_1 : cX2_path.data.toList.drop 24 = dktX2_path_1 := dk_seg dksX2_path_0 24 rfl rfl
theorem dX2_path_0 : decode cX2_path 0 = .ok (.aload_n 0, 1) := dk_42 (dk_at dksX2_path_0 0 rfl rfl)
theorem dX2_path_1 : decode cX2_path 1 = .ok (.invokevirtual 206, 3) := dk_182 0 206 (dk_at dksX2_path_0 1 rfl rfl)
theorem dX2_path_4 : decode cX2_path 4 = .ok (.astore_n 1, 1) := dk_76 (dk_at dksX2_path_0 4 rfl rfl)
theorem dX2_path_5 : decode cX2_path 5 = .ok (.new 9, 3) := dk_187 0 9 (dk_at dksX2_path_0 5 rfl rfl)
theorem dX2_path_8 : decode cX2_path 8 = .ok (.dup, 1) := dk_89 (dk_at dksX2_path_0 8 rfl rfl)
theorem dX2_path_9 : decode cX2_path 9 = .ok (.invokespecial 11, 3) := dk_183 0 11 (dk_at dksX2_path_0 9 rfl rfl)
theorem dX2_path_12 : decode cX2_path 12 = .ok (.astore_n 2, 1) := dk_77 (dk_at dksX2_path_0 12 rfl rfl)
theorem dX2_path_13 : decode cX2_path 13 = .ok (.aload_n 1, 1) := dk_43 (dk_at dksX2_path_0 13 rfl rfl)
theorem dX2_path_14 : decode cX2_path 14 = .ok (.invokevirtual 55, 3) := dk_182 0 55 (dk_at dksX2_path_0 14 rfl rfl)
theorem dX2_path_17 : decode cX2_path 17 = .ok (.iconst 1, 1) := dk_4 (dk_at dksX2_path_0 17 rfl rfl)
theorem dX2_path_18 : decode cX2_path 18 = .ok (.isub, 1) := dk_100 (dk_at dksX2_path_0 18 rfl rfl)
theorem dX2_path_19 : decode cX2_path 19 = .ok (.istore_n 3, 1) := dk_62 (dk_at dksX2_path_0 19 rfl rfl)
theorem dX2_path_20 : decode cX2_path 20 = .ok (.iload_n 3, 1) := dk_29 (dk_at dksX2_path_0 20 rfl rfl)
theorem dX2_path_21 : decode cX2_path 21 = .ok (.ifCond .lt 22, 3) := dk_155 0 22 (dk_at dksX2_path_0 21 rfl rfl)
theorem dX2_path_24 : decode cX2_path 24 = .ok (.aload_n 2, 1) := dk_44 (dk_at dksX2_path_1 0 rfl rfl)
theorem dX2_path_25 : decode cX2_path 25 = .ok (.aload_n 1, 1) := dk_43 (dk_at dksX2_path_1 1 rfl rfl)
theorem dX2_path_26 : decode cX2_path 26 = .ok (.iload_n 3, 1) := dk_29 (dk_at dksX2_path_1 2 rfl rfl)
theorem dX2_path_27 : decode cX2_path 27 = .ok (.invokevirtual 59, 3) := dk_182 0 59 (dk_at dksX2_path_1 3 rfl rfl)
theorem dX2_path_30 : decode cX2_path 30 = .ok (.checkcast 77, 3) := dk_192 0 77 (dk_at dksX2_path_1 6 rfl rfl)
theorem dX2_path_33 : decode cX2_path 33 = .ok (.invokevirtual 47, 3) := dk_182 0 47 (dk_at dksX2_path_1 9 rfl rfl)
theorem dX2_path_36 : decode cX2_path 36 = .ok (.pop, 1) := dk_87 (dk_at dksX2_path_1 12 rfl rfl)
theorem dX2_path_37 : decode cX2_path 37 = .ok (.iinc 3 (-1), 3) := dk_132 3 255 (dk_at dksX2_path_1 13 rfl rfl)
theorem dX2_path_40 : decode cX2_path 40 = .ok (.goto (-20), 3) := dk_167 255 236 (dk_at dksX2_path_1 16 rfl rfl)
theorem dX2_path_43 : decode cX2_path 43 = .ok (.aload_n 2, 1) := dk_44 (dk_at dksX2_path_1 19 rfl rfl)
theorem dX2_path_44 : decode cX2_path 44 = .ok (.areturn, 1) := dk_176 (dk_at dksX2_path_1 20 rfl rfl)
abbrev cX2_pathBackwards : ByteArray := prog_15_method_19_code
def yX2_pathBackwards : MethodName := ⟨RX2, "pathBackwards", "()Ljava/util/ArrayList;"⟩
def dkwX2_pathBackwards_7 : List UInt8 := [167, 0, 5, 2, 61, 167, 255, 142, 43, 176]
abbrev dktX2_pathBackwards_7 : List UInt8 := dkwX2_pathBackwards_7 ++ []
def dkwX2_pathBackwards_6 : List UInt8 := [182, 0, 59, 192, 0, 77, 45, 182, 0, 153, 96, 42, 180, 0, 34, 28, 46, 160, 0, 9, 21, 5, 61]
abbrev dktX2_pathBackwards_6 : List UInt8 := dkwX2_pathBackwards_6 ++ dktX2_pathBackwards_7
def dkwX2_pathBackwards_5 : List UInt8 := [167, 0, 51, 21, 5, 2, 159, 0, 43, 42, 180, 0, 40, 21, 5, 46, 42, 42, 180, 0, 18, 21, 5]
abbrev dktX2_pathBackwards_5 : List UInt8 := dkwX2_pathBackwards_5 ++ dktX2_pathBackwards_6
def dkwX2_pathBackwards_4 : List UInt8 := [159, 0, 25, 42, 180, 0, 40, 21, 4, 46, 42, 180, 0, 34, 28, 46, 160, 0, 9, 21, 4, 61]
abbrev dktX2_pathBackwards_4 : List UInt8 := dkwX2_pathBackwards_4 ++ dktX2_pathBackwards_5
def dkwX2_pathBackwards_3 : List UInt8 := [182, 0, 47, 87, 42, 45, 182, 0, 143, 54, 4, 42, 180, 0, 31, 28, 46, 54, 5, 21, 4, 2]
abbrev dktX2_pathBackwards_3 : List UInt8 := dkwX2_pathBackwards_3 ++ dktX2_pathBackwards_4
def dkwX2_pathBackwards_2 : List UInt8 := [167, 255, 220, 28, 2, 159, 0, 115, 42, 180, 0, 18, 28, 182, 0, 59, 192, 0, 77, 78, 43, 45]
abbrev dktX2_pathBackwards_2 : List UInt8 := dkwX2_pathBackwards_2 ++ dktX2_pathBackwards_3
def dkwX2_pathBackwards_1 : List UInt8 := [2, 159, 0, 18, 42, 180, 0, 40, 29, 46, 42, 180, 0, 40, 28, 46, 164, 0, 5, 29, 61, 132, 3, 1]
abbrev dktX2_pathBackwards_1 : List UInt8 := dkwX2_pathBackwards_1 ++ dktX2_pathBackwards_2
def dkwX2_pathBackwards_0 : List UInt8 := [187, 0, 9, 89, 183, 0, 11, 76, 2, 61, 3, 62, 29, 42, 180, 0, 18, 182, 0, 55, 162, 0, 31, 28]
abbrev dktX2_pathBackwards_0 : List UInt8 := dkwX2_pathBackwards_0 ++ dktX2_pathBackwards_1
theorem dksX2_pathBackwards_0 : cX2_pathBackwards.data.toList.drop 0 = dktX2_pathBackwards_0 := by decide +kernel
theorem dksX2_pathBackwards_1 : cX2_pathBackwards.data.toList.drop 24 = dktX2_pathBackwards_1 := dk_seg dksX2_pathBackwards_0 24 rfl rfl
theorem dksX2_pathBackwards_2 : cX2_pathBackwards.data.toList.drop 48 = dktX2_pathBackwards_2 := dk_seg dksX2_pathBackwards_1 24 rfl rfl
theorem dksX2_pathBackwards_3 : cX2_pathBackwards.data.toList.drop 70 = dktX2_pathBackwards_3 := dk_seg dksX2_pathBackwards_2 22 rfl rfl
theorem dksX2_pathBackwards_4 : cX2_pathBackwards.data.toList.drop 92 = dktX2_pathBackwards_4 := dk_seg dksX2_pathBackwards_3 22 rfl rfl
theorem dksX2_pathBackwards_5 : cX2_pathBackwards.data.toList.drop 114 = dktX2_pathBackwards_5 := dk_seg dksX2_pathBackwards_4 22 rfl rfl
theorem dksX2_pathBackwards_6 : cX2_pathBackwards.data.toList.drop 137 = dktX2_pathBackwards_6 := dk_seg dksX2_pathBackwards_5 23 rfl rfl
theorem dksX2_pathBackwards_7 : cX2_pathBackwards.data.toList.drop 160 = dktX2_pathBackwards_7 := dk_seg dksX2_pathBackwards_6 23 rfl rfl
theorem dX2_pathBackwards_0 : decode cX2_pathBackwards 0 = .ok (.new 9, 3) := dk_187 0 9 (dk_at dksX2_pathBackwards_0 0 rfl rfl)
theorem dX2_pathBackwards_3 : decode cX2_pathBackwards 3 = .ok (.dup, 1) := dk_89 (dk_at dksX2_pathBackwards_0 3 rfl rfl)
theorem dX2_pathBackwards_4 : decode cX2_pathBackwards 4 = .ok (.invokespecial 11, 3) := dk_183 0 11 (dk_at dksX2_pathBackwards_0 4 rfl rfl)
theorem dX2_pathBackwards_7 : decode cX2_pathBackwards 7 = .ok (.astore_n 1, 1) := dk_76 (dk_at dksX2_pathBackwards_0 7 rfl rfl)
theorem dX2_pathBackwards_8 : decode cX2_pathBackwards 8 = .ok (.iconst (-1), 1) := dk_2 (dk_at dksX2_pathBackwards_0 8 rfl rfl)
theorem dX2_pathBackwards_9 : decode cX2_pathBackwards 9 = .ok (.istore_n 2, 1) := dk_61 (dk_at dksX2_pathBackwards_0 9 rfl rfl)
theorem dX2_pathBackwards_10 : decode cX2_pathBackwards 10 = .ok (.iconst 0, 1) := dk_3 (dk_at dksX2_pathBackwards_0 10 rfl rfl)
theorem dX2_pathBackwards_11 : decode cX2_pathBackwards 11 = .ok (.istore_n 3, 1) := dk_62 (dk_at dksX2_pathBackwards_0 11 rfl rfl)
theorem dX2_pathBackwards_12 : decode cX2_pathBackwards 12 = .ok (.iload_n 3, 1) := dk_29 (dk_at dksX2_pathBackwards_0 12 rfl rfl)
theorem dX2_pathBackwards_13 : decode cX2_pathBackwards 13 = .ok (.aload_n 0, 1) := dk_42 (dk_at dksX2_pathBackwards_0 13 rfl rfl)
theorem dX2_pathBackwards_14 : decode cX2_pathBackwards 14 = .ok (.getfield 18, 3) := dk_180 0 18 (dk_at dksX2_pathBackwards_0 14 rfl rfl)
theorem dX2_pathBackwards_17 : decode cX2_pathBackwards 17 = .ok (.invokevirtual 55, 3) := dk_182 0 55 (dk_at dksX2_pathBackwards_0 17 rfl rfl)
theorem dX2_pathBackwards_20 : decode cX2_pathBackwards 20 = .ok (.if_icmp .ge 31, 3) := dk_162 0 31 (dk_at dksX2_pathBackwards_0 20 rfl rfl)
theorem dX2_pathBackwards_23 : decode cX2_pathBackwards 23 = .ok (.iload_n 2, 1) := dk_28 (dk_at dksX2_pathBackwards_0 23 rfl rfl)
theorem dX2_pathBackwards_24 : decode cX2_pathBackwards 24 = .ok (.iconst (-1), 1) := dk_2 (dk_at dksX2_pathBackwards_1 0 rfl rfl)
theorem dX2_pathBackwards_25 : decode cX2_pathBackwards 25 = .ok (.if_icmp .eq 18, 3) := dk_159 0 18 (dk_at dksX2_pathBackwards_1 1 rfl rfl)
theorem dX2_pathBackwards_28 : decode cX2_pathBackwards 28 = .ok (.aload_n 0, 1) := dk_42 (dk_at dksX2_pathBackwards_1 4 rfl rfl)
theorem dX2_pathBackwards_29 : decode cX2_pathBackwards 29 = .ok (.getfield 40, 3) := dk_180 0 40 (dk_at dksX2_pathBackwards_1 5 rfl rfl)
theorem dX2_pathBackwards_32 : decode cX2_pathBackwards 32 = .ok (.iload_n 3, 1) := dk_29 (dk_at dksX2_pathBackwards_1 8 rfl rfl)
theorem dX2_pathBackwards_33 : decode cX2_pathBackwards 33 = .ok (.iaload, 1) := dk_46 (dk_at dksX2_pathBackwards_1 9 rfl rfl)
theorem dX2_pathBackwards_34 : decode cX2_pathBackwards 34 = .ok (.aload_n 0, 1) := dk_42 (dk_at dksX2_pathBackwards_1 10 rfl rfl)
theorem dX2_pathBackwards_35 : decode cX2_pathBackwards 35 = .ok (.getfield 40, 3) := dk_180 0 40 (dk_at dksX2_pathBackwards_1 11 rfl rfl)
theorem dX2_pathBackwards_38 : decode cX2_pathBackwards 38 = .ok (.iload_n 2, 1) := dk_28 (dk_at dksX2_pathBackwards_1 14 rfl rfl)
theorem dX2_pathBackwards_39 : decode cX2_pathBackwards 39 = .ok (.iaload, 1) := dk_46 (dk_at dksX2_pathBackwards_1 15 rfl rfl)
theorem dX2_pathBackwards_40 : decode cX2_pathBackwards 40 = .ok (.if_icmp .le 5, 3) := dk_164 0 5 (dk_at dksX2_pathBackwards_1 16 rfl rfl)
theorem dX2_pathBackwards_43 : decode cX2_pathBackwards 43 = .ok (.iload_n 3, 1) := dk_29 (dk_at dksX2_pathBackwards_1 19 rfl rfl)
theorem dX2_pathBackwards_44 : decode cX2_pathBackwards 44 = .ok (.istore_n 2, 1) := dk_61 (dk_at dksX2_pathBackwards_1 20 rfl rfl)
theorem dX2_pathBackwards_45 : decode cX2_pathBackwards 45 = .ok (.iinc 3 1, 3) := dk_132 3 1 (dk_at dksX2_pathBackwards_1 21 rfl rfl)
theorem dX2_pathBackwards_48 : decode cX2_pathBackwards 48 = .ok (.goto (-36), 3) := dk_167 255 220 (dk_at dksX2_pathBackwards_2 0 rfl rfl)
theorem dX2_pathBackwards_51 : decode cX2_pathBackwards 51 = .ok (.iload_n 2, 1) := dk_28 (dk_at dksX2_pathBackwards_2 3 rfl rfl)
theorem dX2_pathBackwards_52 : decode cX2_pathBackwards 52 = .ok (.iconst (-1), 1) := dk_2 (dk_at dksX2_pathBackwards_2 4 rfl rfl)
theorem dX2_pathBackwards_53 : decode cX2_pathBackwards 53 = .ok (.if_icmp .eq 115, 3) := dk_159 0 115 (dk_at dksX2_pathBackwards_2 5 rfl rfl)
theorem dX2_pathBackwards_56 : decode cX2_pathBackwards 56 = .ok (.aload_n 0, 1) := dk_42 (dk_at dksX2_pathBackwards_2 8 rfl rfl)
theorem dX2_pathBackwards_57 : decode cX2_pathBackwards 57 = .ok (.getfield 18, 3) := dk_180 0 18 (dk_at dksX2_pathBackwards_2 9 rfl rfl)
theorem dX2_pathBackwards_60 : decode cX2_pathBackwards 60 = .ok (.iload_n 2, 1) := dk_28 (dk_at dksX2_pathBackwards_2 12 rfl rfl)
theorem dX2_pathBackwards_61 : decode cX2_pathBackwards 61 = .ok (.invokevirtual 59, 3) := dk_182 0 59 (dk_at dksX2_pathBackwards_2 13 rfl rfl)
theorem dX2_pathBackwards_64 : decode cX2_pathBackwards 64 = .ok (.checkcast 77, 3) := dk_192 0 77 (dk_at dksX2_pathBackwards_2 16 rfl rfl)
theorem dX2_pathBackwards_67 : decode cX2_pathBackwards 67 = .ok (.astore_n 3, 1) := dk_78 (dk_at dksX2_pathBackwards_2 19 rfl rfl)
theorem dX2_pathBackwards_68 : decode cX2_pathBackwards 68 = .ok (.aload_n 1, 1) := dk_43 (dk_at dksX2_pathBackwards_2 20 rfl rfl)
theorem dX2_pathBackwards_69 : decode cX2_pathBackwards 69 = .ok (.aload_n 3, 1) := dk_45 (dk_at dksX2_pathBackwards_2 21 rfl rfl)
theorem dX2_pathBackwards_70 : decode cX2_pathBackwards 70 = .ok (.invokevirtual 47, 3) := dk_182 0 47 (dk_at dksX2_pathBackwards_3 0 rfl rfl)
theorem dX2_pathBackwards_73 : decode cX2_pathBackwards 73 = .ok (.pop, 1) := dk_87 (dk_at dksX2_pathBackwards_3 3 rfl rfl)
theorem dX2_pathBackwards_74 : decode cX2_pathBackwards 74 = .ok (.aload_n 0, 1) := dk_42 (dk_at dksX2_pathBackwards_3 4 rfl rfl)
theorem dX2_pathBackwards_75 : decode cX2_pathBackwards 75 = .ok (.aload_n 3, 1) := dk_45 (dk_at dksX2_pathBackwards_3 5 rfl rfl)
theorem dX2_pathBackwards_76 : decode cX2_pathBackwards 76 = .ok (.invokevirtual 143, 3) := dk_182 0 143 (dk_at dksX2_pathBackwards_3 6 rfl rfl)
theorem dX2_pathBackwards_79 : decode cX2_pathBackwards 79 = .ok (.istore 4, 2) := dk_54 4 (dk_at dksX2_pathBackwards_3 9 rfl rfl)
theorem dX2_pathBackwards_81 : decode cX2_pathBackwards 81 = .ok (.aload_n 0, 1) := dk_42 (dk_at dksX2_pathBackwards_3 11 rfl rfl)
theorem dX2_pathBackwards_82 : decode cX2_pathBackwards 82 = .ok (.getfield 31, 3) := dk_180 0 31 (dk_at dksX2_pathBackwards_3 12 rfl rfl)
theorem dX2_pathBackwards_85 : decode cX2_pathBackwards 85 = .ok (.iload_n 2, 1) := dk_28 (dk_at dksX2_pathBackwards_3 15 rfl rfl)
theorem dX2_pathBackwards_86 : decode cX2_pathBackwards 86 = .ok (.iaload, 1) := dk_46 (dk_at dksX2_pathBackwards_3 16 rfl rfl)
theorem dX2_pathBackwards_87 : decode cX2_pathBackwards 87 = .ok (.istore 5, 2) := dk_54 5 (dk_at dksX2_pathBackwards_3 17 rfl rfl)
theorem dX2_pathBackwards_89 : decode cX2_pathBackwards 89 = .ok (.iload 4, 2) := dk_21 4 (dk_at dksX2_pathBackwards_3 19 rfl rfl)
theorem dX2_pathBackwards_91 : decode cX2_pathBackwards 91 = .ok (.iconst (-1), 1) := dk_2 (dk_at dksX2_pathBackwards_3 21 rfl rfl)
theorem dX2_pathBackwards_92 : decode cX2_pathBackwards 92 = .ok (.if_icmp .eq 25, 3) := dk_159 0 25 (dk_at dksX2_pathBackwards_4 0 rfl rfl)
theorem dX2_pathBackwards_95 : decode cX2_pathBackwards 95 = .ok (.aload_n 0, 1) := dk_42 (dk_at dksX2_pathBackwards_4 3 rfl rfl)
theorem dX2_pathBackwards_96 : decode cX2_pathBackwards 96 = .ok (.getfield 40, 3) := dk_180 0 40 (dk_at dksX2_pathBackwards_4 4 rfl rfl)
theorem dX2_pathBackwards_99 : decode cX2_pathBackwards 99 = .ok (.iload 4, 2) := dk_21 4 (dk_at dksX2_pathBackwards_4 7 rfl rfl)
theorem dX2_pathBackwards_101 : decode cX2_pathBackwards 101 = .ok (.iaload, 1) := dk_46 (dk_at dksX2_pathBackwards_4 9 rfl rfl)
theorem dX2_pathBackwards_102 : decode cX2_pathBackwards 102 = .ok (.aload_n 0, 1) := dk_42 (dk_at dksX2_pathBackwards_4 10 rfl rfl)
theorem dX2_pathBackwards_103 : decode cX2_pathBackwards 103 = .ok (.getfield 34, 3) := dk_180 0 34 (dk_at dksX2_pathBackwards_4 11 rfl rfl)
theorem dX2_pathBackwards_106 : decode cX2_pathBackwards 106 = .ok (.iload_n 2, 1) := dk_28 (dk_at dksX2_pathBackwards_4 14 rfl rfl)
theorem dX2_pathBackwards_107 : decode cX2_pathBackwards 107 = .ok (.iaload, 1) := dk_46 (dk_at dksX2_pathBackwards_4 15 rfl rfl)
theorem dX2_pathBackwards_108 : decode cX2_pathBackwards 108 = .ok (.if_icmp .ne 9, 3) := dk_160 0 9 (dk_at dksX2_pathBackwards_4 16 rfl rfl)
theorem dX2_pathBackwards_111 : decode cX2_pathBackwards 111 = .ok (.iload 4, 2) := dk_21 4 (dk_at dksX2_pathBackwards_4 19 rfl rfl)
theorem dX2_pathBackwards_113 : decode cX2_pathBackwards 113 = .ok (.istore_n 2, 1) := dk_61 (dk_at dksX2_pathBackwards_4 21 rfl rfl)
theorem dX2_pathBackwards_114 : decode cX2_pathBackwards 114 = .ok (.goto 51, 3) := dk_167 0 51 (dk_at dksX2_pathBackwards_5 0 rfl rfl)
theorem dX2_pathBackwards_117 : decode cX2_pathBackwards 117 = .ok (.iload 5, 2) := dk_21 5 (dk_at dksX2_pathBackwards_5 3 rfl rfl)
theorem dX2_pathBackwards_119 : decode cX2_pathBackwards 119 = .ok (.iconst (-1), 1) := dk_2 (dk_at dksX2_pathBackwards_5 5 rfl rfl)
theorem dX2_pathBackwards_120 : decode cX2_pathBackwards 120 = .ok (.if_icmp .eq 43, 3) := dk_159 0 43 (dk_at dksX2_pathBackwards_5 6 rfl rfl)
theorem dX2_pathBackwards_123 : decode cX2_pathBackwards 123 = .ok (.aload_n 0, 1) := dk_42 (dk_at dksX2_pathBackwards_5 9 rfl rfl)
theorem dX2_pathBackwards_124 : decode cX2_pathBackwards 124 = .ok (.getfield 40, 3) := dk_180 0 40 (dk_at dksX2_pathBackwards_5 10 rfl rfl)
theorem dX2_pathBackwards_127 : decode cX2_pathBackwards 127 = .ok (.iload 5, 2) := dk_21 5 (dk_at dksX2_pathBackwards_5 13 rfl rfl)
theorem dX2_pathBackwards_129 : decode cX2_pathBackwards 129 = .ok (.iaload, 1) := dk_46 (dk_at dksX2_pathBackwards_5 15 rfl rfl)
theorem dX2_pathBackwards_130 : decode cX2_pathBackwards 130 = .ok (.aload_n 0, 1) := dk_42 (dk_at dksX2_pathBackwards_5 16 rfl rfl)
theorem dX2_pathBackwards_131 : decode cX2_pathBackwards 131 = .ok (.aload_n 0, 1) := dk_42 (dk_at dksX2_pathBackwards_5 17 rfl rfl)
theorem dX2_pathBackwards_132 : decode cX2_pathBackwards 132 = .ok (.getfield 18, 3) := dk_180 0 18 (dk_at dksX2_pathBackwards_5 18 rfl rfl)
theorem dX2_pathBackwards_135 : decode cX2_pathBackwards 135 = .ok (.iload 5, 2) := dk_21 5 (dk_at dksX2_pathBackwards_5 21 rfl rfl)
theorem dX2_pathBackwards_137 : decode cX2_pathBackwards 137 = .ok (.invokevirtual 59, 3) := dk_182 0 59 (dk_at dksX2_pathBackwards_6 0 rfl rfl)
theorem dX2_pathBackwards_140 : decode cX2_pathBackwards 140 = .ok (.checkcast 77, 3) := dk_192 0 77 (dk_at dksX2_pathBackwards_6 3 rfl rfl)
theorem dX2_pathBackwards_143 : decode cX2_pathBackwards 143 = .ok (.aload_n 3, 1) := dk_45 (dk_at dksX2_pathBackwards_6 6 rfl rfl)
theorem dX2_pathBackwards_144 : decode cX2_pathBackwards 144 = .ok (.invokevirtual 153, 3) := dk_182 0 153 (dk_at dksX2_pathBackwards_6 7 rfl rfl)
theorem dX2_pathBackwards_147 : decode cX2_pathBackwards 147 = .ok (.iadd, 1) := dk_96 (dk_at dksX2_pathBackwards_6 10 rfl rfl)
theorem dX2_pathBackwards_148 : decode cX2_pathBackwards 148 = .ok (.aload_n 0, 1) := dk_42 (dk_at dksX2_pathBackwards_6 11 rfl rfl)
theorem dX2_pathBackwards_149 : decode cX2_pathBackwards 149 = .ok (.getfield 34, 3) := dk_180 0 34 (dk_at dksX2_pathBackwards_6 12 rfl rfl)
theorem dX2_pathBackwards_152 : decode cX2_pathBackwards 152 = .ok (.iload_n 2, 1) := dk_28 (dk_at dksX2_pathBackwards_6 15 rfl rfl)
theorem dX2_pathBackwards_153 : decode cX2_pathBackwards 153 = .ok (.iaload, 1) := dk_46 (dk_at dksX2_pathBackwards_6 16 rfl rfl)
theorem dX2_pathBackwards_154 : decode cX2_pathBackwards 154 = .ok (.if_icmp .ne 9, 3) := dk_160 0 9 (dk_at dksX2_pathBackwards_6 17 rfl rfl)
theorem dX2_pathBackwards_157 : decode cX2_pathBackwards 157 = .ok (.iload 5, 2) := dk_21 5 (dk_at dksX2_pathBackwards_6 20 rfl rfl)
theorem dX2_pathBackwards_159 : decode cX2_pathBackwards 159 = .ok (.istore_n 2, 1) := dk_61 (dk_at dksX2_pathBackwards_6 22 rfl rfl)
theorem dX2_pathBackwards_160 : decode cX2_pathBackwards 160 = .ok (.goto 5, 3) := dk_167 0 5 (dk_at dksX2_pathBackwards_7 0 rfl rfl)
theorem dX2_pathBackwards_163 : decode cX2_pathBackwards 163 = .ok (.iconst (-1), 1) := dk_2 (dk_at dksX2_pathBackwards_7 3 rfl rfl)
theorem dX2_pathBackwards_164 : decode cX2_pathBackwards 164 = .ok (.istore_n 2, 1) := dk_61 (dk_at dksX2_pathBackwards_7 4 rfl rfl)
theorem dX2_pathBackwards_165 : decode cX2_pathBackwards 165 = .ok (.goto (-114), 3) := dk_167 255 142 (dk_at dksX2_pathBackwards_7 5 rfl rfl)
theorem dX2_pathBackwards_168 : decode cX2_pathBackwards 168 = .ok (.aload_n 1, 1) := dk_43 (dk_at dksX2_pathBackwards_7 8 rfl rfl)
theorem dX2_pathBackwards_169 : decode cX2_pathBackwards 169 = .ok (.areturn, 1) := dk_176 (dk_at dksX2_pathBackwards_7 9 rfl rfl)
abbrev cX2_shift : ByteArray := prog_15_method_23_code
def yX2_shift : MethodName := ⟨RX2, "shift", "()[I"⟩
def dkwX2_shift_5 : List UInt8 := [87, 132, 6, 1, 167, 255, 237, 132, 3, 1, 167, 255, 137, 43, 176]
abbrev dktX2_shift_5 : List UInt8 := dkwX2_shift_5 ++ []
def dkwX2_shift_4 : List UInt8 := [87, 43, 29, 21, 4, 79, 3, 54, 6, 21, 6, 29, 162, 0, 19, 42, 43, 21, 6, 46, 28, 182, 0, 216]
abbrev dktX2_shift_4 : List UInt8 := dkwX2_shift_4 ++ dktX2_shift_5
def dkwX2_shift_3 : List UInt8 := [54, 4, 132, 6, 1, 167, 255, 204, 28, 4, 21, 4, 120, 2, 130, 126, 61, 42, 21, 4, 28, 182, 0, 216]
abbrev dktX2_shift_3 : List UInt8 := dkwX2_shift_3 ++ dktX2_shift_4
def dkwX2_shift_2 : List UInt8 := [21, 6, 120, 2, 130, 126, 182, 0, 219, 54, 7, 21, 7, 21, 5, 164, 0, 11, 21, 7, 54, 5, 21, 6]
abbrev dktX2_shift_2 : List UInt8 := dkwX2_shift_2 ++ dktX2_shift_3
def dkwX2_shift_1 : List UInt8 := [21, 6, 7, 162, 0, 52, 28, 21, 6, 122, 4, 126, 154, 0, 6, 167, 0, 34, 42, 21, 6, 28, 4]
abbrev dktX2_shift_1 : List UInt8 := dkwX2_shift_1 ++ dktX2_shift_2
def dkwX2_shift_0 : List UInt8 := [7, 188, 10, 76, 16, 15, 61, 3, 62, 29, 7, 162, 0, 120, 2, 54, 4, 2, 54, 5, 3, 54, 6]
abbrev dktX2_shift_0 : List UInt8 := dkwX2_shift_0 ++ dktX2_shift_1
theorem dksX2_shift_0 : cX2_shift.data.toList.drop 0 = dktX2_shift_0 := by decide +kernel
theorem dksX2_shift_1 : cX2_shift.data.toList.drop 23 = dktX2_shift_1 := dk_seg dksX2_shift_0 23 rfl rfl
theorem dksX2_shift_2 : cX2_shift.data.toList.drop 46 = dktX2_shift_2 := dk_seg dksX2_shift_1 23 rfl rfl
theorem dksX2_shift_3 : cX2_shift.data.toList.drop 70 = dktX2_shift_3 := dk_seg dksX2_shift_2 24 rfl rfl
theorem dksX2_shift_4 : cX2_shift.data.toList.drop 94 = dktX2_shift_4 := dk_seg dksX2_shift_3 24 rfl rfl
theorem dksX2_shift_5 : cX2_shift.data.toList.drop 118 = dktX2_shift_5 := dk_seg dksX2_shift_4 24 rfl rfl
theorem dX2_shift_0 : decode cX2_shift 0 = .ok (.iconst 4, 1) := dk_7 (dk_at dksX2_shift_0 0 rfl rfl)
theorem dX2_shift_1 : decode cX2_shift 1 = .ok (.newarray .int, 2) := dk_188_10 (dk_at dksX2_shift_0 1 rfl rfl)
theorem dX2_shift_3 : decode cX2_shift 3 = .ok (.astore_n 1, 1) := dk_76 (dk_at dksX2_shift_0 3 rfl rfl)
theorem dX2_shift_4 : decode cX2_shift 4 = .ok (.bipush 15, 2) := dk_16 15 (dk_at dksX2_shift_0 4 rfl rfl)
theorem dX2_shift_6 : decode cX2_shift 6 = .ok (.istore_n 2, 1) := dk_61 (dk_at dksX2_shift_0 6 rfl rfl)
theorem dX2_shift_7 : decode cX2_shift 7 = .ok (.iconst 0, 1) := dk_3 (dk_at dksX2_shift_0 7 rfl rfl)
theorem dX2_shift_8 : decode cX2_shift 8 = .ok (.istore_n 3, 1) := dk_62 (dk_at dksX2_shift_0 8 rfl rfl)
theorem dX2_shift_9 : decode cX2_shift 9 = .ok (.iload_n 3, 1) := dk_29 (dk_at dksX2_shift_0 9 rfl rfl)
theorem dX2_shift_10 : decode cX2_shift 10 = .ok (.iconst 4, 1) := dk_7 (dk_at dksX2_shift_0 10 rfl rfl)
theorem dX2_shift_11 : decode cX2_shift 11 = .ok (.if_icmp .ge 120, 3) := dk_162 0 120 (dk_at dksX2_shift_0 11 rfl rfl)
theorem dX2_shift_14 : decode cX2_shift 14 = .ok (.iconst (-1), 1) := dk_2 (dk_at dksX2_shift_0 14 rfl rfl)
theorem dX2_shift_15 : decode cX2_shift 15 = .ok (.istore 4, 2) := dk_54 4 (dk_at dksX2_shift_0 15 rfl rfl)
theorem dX2_shift_17 : decode cX2_shift 17 = .ok (.iconst (-1), 1) := dk_2 (dk_at dksX2_shift_0 17 rfl rfl)
theorem dX2_shift_18 : decode cX2_shift 18 = .ok (.istore 5, 2) := dk_54 5 (dk_at dksX2_shift_0 18 rfl rfl)
theorem dX2_shift_20 : decode cX2_shift 20 = .ok (.iconst 0, 1) := dk_3 (dk_at dksX2_shift_0 20 rfl rfl)
theorem dX2_shift_21 : decode cX2_shift 21 = .ok (.istore 6, 2) := dk_54 6 (dk_at dksX2_shift_0 21 rfl rfl)
theorem dX2_shift_23 : decode cX2_shift 23 = .ok (.iload 6, 2) := dk_21 6 (dk_at dksX2_shift_1 0 rfl rfl)
theorem dX2_shift_25 : decode cX2_shift 25 = .ok (.iconst 4, 1) := dk_7 (dk_at dksX2_shift_1 2 rfl rfl)
theorem dX2_shift_26 : decode cX2_shift 26 = .ok (.if_icmp .ge 52, 3) := dk_162 0 52 (dk_at dksX2_shift_1 3 rfl rfl)
theorem dX2_shift_29 : decode cX2_shift 29 = .ok (.iload_n 2, 1) := dk_28 (dk_at dksX2_shift_1 6 rfl rfl)
theorem dX2_shift_30 : decode cX2_shift 30 = .ok (.iload 6, 2) := dk_21 6 (dk_at dksX2_shift_1 7 rfl rfl)
theorem dX2_shift_32 : decode cX2_shift 32 = .ok (.ishr, 1) := dk_122 (dk_at dksX2_shift_1 9 rfl rfl)
theorem dX2_shift_33 : decode cX2_shift 33 = .ok (.iconst 1, 1) := dk_4 (dk_at dksX2_shift_1 10 rfl rfl)
theorem dX2_shift_34 : decode cX2_shift 34 = .ok (.iand, 1) := dk_126 (dk_at dksX2_shift_1 11 rfl rfl)
theorem dX2_shift_35 : decode cX2_shift 35 = .ok (.ifCond .ne 6, 3) := dk_154 0 6 (dk_at dksX2_shift_1 12 rfl rfl)
theorem dX2_shift_38 : decode cX2_shift 38 = .ok (.goto 34, 3) := dk_167 0 34 (dk_at dksX2_shift_1 15 rfl rfl)
theorem dX2_shift_41 : decode cX2_shift 41 = .ok (.aload_n 0, 1) := dk_42 (dk_at dksX2_shift_1 18 rfl rfl)
theorem dX2_shift_42 : decode cX2_shift 42 = .ok (.iload 6, 2) := dk_21 6 (dk_at dksX2_shift_1 19 rfl rfl)
theorem dX2_shift_44 : decode cX2_shift 44 = .ok (.iload_n 2, 1) := dk_28 (dk_at dksX2_shift_1 21 rfl rfl)
theorem dX2_shift_45 : decode cX2_shift 45 = .ok (.iconst 1, 1) := dk_4 (dk_at dksX2_shift_1 22 rfl rfl)
theorem dX2_shift_46 : decode cX2_shift 46 = .ok (.iload 6, 2) := dk_21 6 (dk_at dksX2_shift_2 0 rfl rfl)
theorem dX2_shift_48 : decode cX2_shift 48 = .ok (.ishl, 1) := dk_120 (dk_at dksX2_shift_2 2 rfl rfl)
theorem dX2_shift_49 : decode cX2_shift 49 = .ok (.iconst (-1), 1) := dk_2 (dk_at dksX2_shift_2 3 rfl rfl)
theorem dX2_shift_50 : decode cX2_shift 50 = .ok (.ixor, 1) := dk_130 (dk_at dksX2_shift_2 4 rfl rfl)
theorem dX2_shift_51 : decode cX2_shift 51 = .ok (.iand, 1) := dk_126 (dk_at dksX2_shift_2 5 rfl rfl)
theorem dX2_shift_52 : decode cX2_shift 52 = .ok (.invokevirtual 219, 3) := dk_182 0 219 (dk_at dksX2_shift_2 6 rfl rfl)
theorem dX2_shift_55 : decode cX2_shift 55 = .ok (.istore 7, 2) := dk_54 7 (dk_at dksX2_shift_2 9 rfl rfl)
theorem dX2_shift_57 : decode cX2_shift 57 = .ok (.iload 7, 2) := dk_21 7 (dk_at dksX2_shift_2 11 rfl rfl)
theorem dX2_shift_59 : decode cX2_shift 59 = .ok (.iload 5, 2) := dk_21 5 (dk_at dksX2_shift_2 13 rfl rfl)
theorem dX2_shift_61 : decode cX2_shift 61 = .ok (.if_icmp .le 11, 3) := dk_164 0 11 (dk_at dksX2_shift_2 15 rfl rfl)
theorem dX2_shift_64 : decode cX2_shift 64 = .ok (.iload 7, 2) := dk_21 7 (dk_at dksX2_shift_2 18 rfl rfl)
theorem dX2_shift_66 : decode cX2_shift 66 = .ok (.istore 5, 2) := dk_54 5 (dk_at dksX2_shift_2 20 rfl rfl)
theorem dX2_shift_68 : decode cX2_shift 68 = .ok (.iload 6, 2) := dk_21 6 (dk_at dksX2_shift_2 22 rfl rfl)
theorem dX2_shift_70 : decode cX2_shift 70 = .ok (.istore 4, 2) := dk_54 4 (dk_at dksX2_shift_3 0 rfl rfl)
theorem dX2_shift_72 : decode cX2_shift 72 = .ok (.iinc 6 1, 3) := dk_132 6 1 (dk_at dksX2_shift_3 2 rfl rfl)
theorem dX2_shift_75 : decode cX2_shift 75 = .ok (.goto (-52), 3) := dk_167 255 204 (dk_at dksX2_shift_3 5 rfl rfl)
theorem dX2_shift_78 : decode cX2_shift 78 = .ok (.iload_n 2, 1) := dk_28 (dk_at dksX2_shift_3 8 rfl rfl)
theorem dX2_shift_79 : decode cX2_shift 79 = .ok (.iconst 1, 1) := dk_4 (dk_at dksX2_shift_3 9 rfl rfl)
theorem dX2_shift_80 : decode cX2_shift 80 = .ok (.iload 4, 2) := dk_21 4 (dk_at dksX2_shift_3 10 rfl rfl)
theorem dX2_shift_82 : decode cX2_shift 82 = .ok (.ishl, 1) := dk_120 (dk_at dksX2_shift_3 12 rfl rfl)
theorem dX2_shift_83 : decode cX2_shift 83 = .ok (.iconst (-1), 1) := dk_2 (dk_at dksX2_shift_3 13 rfl rfl)
theorem dX2_shift_84 : decode cX2_shift 84 = .ok (.ixor, 1) := dk_130 (dk_at dksX2_shift_3 14 rfl rfl)
theorem dX2_shift_85 : decode cX2_shift 85 = .ok (.iand, 1) := dk_126 (dk_at dksX2_shift_3 15 rfl rfl)
theorem dX2_shift_86 : decode cX2_shift 86 = .ok (.istore_n 2, 1) := dk_61 (dk_at dksX2_shift_3 16 rfl rfl)
theorem dX2_shift_87 : decode cX2_shift 87 = .ok (.aload_n 0, 1) := dk_42 (dk_at dksX2_shift_3 17 rfl rfl)
theorem dX2_shift_88 : decode cX2_shift 88 = .ok (.iload 4, 2) := dk_21 4 (dk_at dksX2_shift_3 18 rfl rfl)
theorem dX2_shift_90 : decode cX2_shift 90 = .ok (.iload_n 2, 1) := dk_28 (dk_at dksX2_shift_3 20 rfl rfl)
theorem dX2_shift_91 : decode cX2_shift 91 = .ok (.invokevirtual 216, 3) := dk_182 0 216 (dk_at dksX2_shift_3 21 rfl rfl)
theorem dX2_shift_94 : decode cX2_shift 94 = .ok (.pop, 1) := dk_87 (dk_at dksX2_shift_4 0 rfl rfl)
theorem dX2_shift_95 : decode cX2_shift 95 = .ok (.aload_n 1, 1) := dk_43 (dk_at dksX2_shift_4 1 rfl rfl)
theorem dX2_shift_96 : decode cX2_shift 96 = .ok (.iload_n 3, 1) := dk_29 (dk_at dksX2_shift_4 2 rfl rfl)
theorem dX2_shift_97 : decode cX2_shift 97 = .ok (.iload 4, 2) := dk_21 4 (dk_at dksX2_shift_4 3 rfl rfl)
theorem dX2_shift_99 : decode cX2_shift 99 = .ok (.iastore, 1) := dk_79 (dk_at dksX2_shift_4 5 rfl rfl)
theorem dX2_shift_100 : decode cX2_shift 100 = .ok (.iconst 0, 1) := dk_3 (dk_at dksX2_shift_4 6 rfl rfl)
theorem dX2_shift_101 : decode cX2_shift 101 = .ok (.istore 6, 2) := dk_54 6 (dk_at dksX2_shift_4 7 rfl rfl)
theorem dX2_shift_103 : decode cX2_shift 103 = .ok (.iload 6, 2) := dk_21 6 (dk_at dksX2_shift_4 9 rfl rfl)
theorem dX2_shift_105 : decode cX2_shift 105 = .ok (.iload_n 3, 1) := dk_29 (dk_at dksX2_shift_4 11 rfl rfl)
theorem dX2_shift_106 : decode cX2_shift 106 = .ok (.if_icmp .ge 19, 3) := dk_162 0 19 (dk_at dksX2_shift_4 12 rfl rfl)
theorem dX2_shift_109 : decode cX2_shift 109 = .ok (.aload_n 0, 1) := dk_42 (dk_at dksX2_shift_4 15 rfl rfl)
theorem dX2_shift_110 : decode cX2_shift 110 = .ok (.aload_n 1, 1) := dk_43 (dk_at dksX2_shift_4 16 rfl rfl)
theorem dX2_shift_111 : decode cX2_shift 111 = .ok (.iload 6, 2) := dk_21 6 (dk_at dksX2_shift_4 17 rfl rfl)
theorem dX2_shift_113 : decode cX2_shift 113 = .ok (.iaload, 1) := dk_46 (dk_at dksX2_shift_4 19 rfl rfl)
theorem dX2_shift_114 : decode cX2_shift 114 = .ok (.iload_n 2, 1) := dk_28 (dk_at dksX2_shift_4 20 rfl rfl)
theorem dX2_shift_115 : decode cX2_shift 115 = .ok (.invokevirtual 216, 3) := dk_182 0 216 (dk_at dksX2_shift_4 21 rfl rfl)
theorem dX2_shift_118 : decode cX2_shift 118 = .ok (.pop, 1) := dk_87 (dk_at dksX2_shift_5 0 rfl rfl)
theorem dX2_shift_119 : decode cX2_shift 119 = .ok (.iinc 6 1, 3) := dk_132 6 1 (dk_at dksX2_shift_5 1 rfl rfl)
theorem dX2_shift_122 : decode cX2_shift 122 = .ok (.goto (-19), 3) := dk_167 255 237 (dk_at dksX2_shift_5 4 rfl rfl)
theorem dX2_shift_125 : decode cX2_shift 125 = .ok (.iinc 3 1, 3) := dk_132 3 1 (dk_at dksX2_shift_5 7 rfl rfl)
theorem dX2_shift_128 : decode cX2_shift 128 = .ok (.goto (-119), 3) := dk_167 255 137 (dk_at dksX2_shift_5 10 rfl rfl)
theorem dX2_shift_131 : decode cX2_shift 131 = .ok (.aload_n 1, 1) := dk_43 (dk_at dksX2_shift_5 13 rfl rfl)
theorem dX2_shift_132 : decode cX2_shift 132 = .ok (.areturn, 1) := dk_176 (dk_at dksX2_shift_5 14 rfl rfl)
abbrev cX2_optimum : ByteArray := prog_15_method_22_code
def yX2_optimum : MethodName := ⟨RX2, "optimum", "(II)I"⟩
def dkwX2_optimum_2 : List UInt8 := [172]
abbrev dktX2_optimum_2 : List UInt8 := dkwX2_optimum_2 ++ []
def dkwX2_optimum_1 : List UInt8 := [27, 28, 182, 0, 216, 54, 4, 42, 180, 0, 28, 27, 182, 0, 59, 192, 0, 51, 45, 182, 0, 107, 21, 4]
abbrev dktX2_optimum_1 : List UInt8 := dkwX2_optimum_1 ++ dktX2_optimum_2
def dkwX2_optimum_0 : List UInt8 := [187, 0, 51, 89, 183, 0, 53, 78, 45, 42, 180, 0, 28, 27, 182, 0, 59, 192, 0, 51, 182, 0, 107, 42]
abbrev dktX2_optimum_0 : List UInt8 := dkwX2_optimum_0 ++ dktX2_optimum_1
theorem dksX2_optimum_0 : cX2_optimum.data.toList.drop 0 = dktX2_optimum_0 := by decide +kernel
theorem dksX2_optimum_1 : cX2_optimum.data.toList.drop 24 = dktX2_optimum_1 := dk_seg dksX2_optimum_0 24 rfl rfl
theorem dksX2_optimum_2 : cX2_optimum.data.toList.drop 48 = dktX2_optimum_2 := dk_seg dksX2_optimum_1 24 rfl rfl
theorem dX2_optimum_0 : decode cX2_optimum 0 = .ok (.new 51, 3) := dk_187 0 51 (dk_at dksX2_optimum_0 0 rfl rfl)
theorem dX2_optimum_3 : decode cX2_optimum 3 = .ok (.dup, 1) := dk_89 (dk_at dksX2_optimum_0 3 rfl rfl)
theorem dX2_optimum_4 : decode cX2_optimum 4 = .ok (.invokespecial 53, 3) := dk_183 0 53 (dk_at dksX2_optimum_0 4 rfl rfl)
theorem dX2_optimum_7 : decode cX2_optimum 7 = .ok (.astore_n 3, 1) := dk_78 (dk_at dksX2_optimum_0 7 rfl rfl)
theorem dX2_optimum_8 : decode cX2_optimum 8 = .ok (.aload_n 3, 1) := dk_45 (dk_at dksX2_optimum_0 8 rfl rfl)
theorem dX2_optimum_9 : decode cX2_optimum 9 = .ok (.aload_n 0, 1) := dk_42 (dk_at dksX2_optimum_0 9 rfl rfl)
theorem dX2_optimum_10 : decode cX2_optimum 10 = .ok (.getfield 28, 3) := dk_180 0 28 (dk_at dksX2_optimum_0 10 rfl rfl)
theorem dX2_optimum_13 : decode cX2_optimum 13 = .ok (.iload_n 1, 1) := dk_27 (dk_at dksX2_optimum_0 13 rfl rfl)
theorem dX2_optimum_14 : decode cX2_optimum 14 = .ok (.invokevirtual 59, 3) := dk_182 0 59 (dk_at dksX2_optimum_0 14 rfl rfl)
theorem dX2_optimum_17 : decode cX2_optimum 17 = .ok (.checkcast 51, 3) := dk_192 0 51 (dk_at dksX2_optimum_0 17 rfl rfl)
theorem dX2_optimum_20 : decode cX2_optimum 20 = .ok (.invokevirtual 107, 3) := dk_182 0 107 (dk_at dksX2_optimum_0 20 rfl rfl)
theorem dX2_optimum_23 : decode cX2_optimum 23 = .ok (.aload_n 0, 1) := dk_42 (dk_at dksX2_optimum_0 23 rfl rfl)
theorem dX2_optimum_24 : decode cX2_optimum 24 = .ok (.iload_n 1, 1) := dk_27 (dk_at dksX2_optimum_1 0 rfl rfl)
theorem dX2_optimum_25 : decode cX2_optimum 25 = .ok (.iload_n 2, 1) := dk_28 (dk_at dksX2_optimum_1 1 rfl rfl)
theorem dX2_optimum_26 : decode cX2_optimum 26 = .ok (.invokevirtual 216, 3) := dk_182 0 216 (dk_at dksX2_optimum_1 2 rfl rfl)
theorem dX2_optimum_29 : decode cX2_optimum 29 = .ok (.istore 4, 2) := dk_54 4 (dk_at dksX2_optimum_1 5 rfl rfl)
theorem dX2_optimum_31 : decode cX2_optimum 31 = .ok (.aload_n 0, 1) := dk_42 (dk_at dksX2_optimum_1 7 rfl rfl)
theorem dX2_optimum_32 : decode cX2_optimum 32 = .ok (.getfield 28, 3) := dk_180 0 28 (dk_at dksX2_optimum_1 8 rfl rfl)
theorem dX2_optimum_35 : decode cX2_optimum 35 = .ok (.iload_n 1, 1) := dk_27 (dk_at dksX2_optimum_1 11 rfl rfl)
theorem dX2_optimum_36 : decode cX2_optimum 36 = .ok (.invokevirtual 59, 3) := dk_182 0 59 (dk_at dksX2_optimum_1 12 rfl rfl)
theorem dX2_optimum_39 : decode cX2_optimum 39 = .ok (.checkcast 51, 3) := dk_192 0 51 (dk_at dksX2_optimum_1 15 rfl rfl)
theorem dX2_optimum_42 : decode cX2_optimum 42 = .ok (.aload_n 3, 1) := dk_45 (dk_at dksX2_optimum_1 18 rfl rfl)
theorem dX2_optimum_43 : decode cX2_optimum 43 = .ok (.invokevirtual 107, 3) := dk_182 0 107 (dk_at dksX2_optimum_1 19 rfl rfl)
theorem dX2_optimum_46 : decode cX2_optimum 46 = .ok (.iload 4, 2) := dk_21 4 (dk_at dksX2_optimum_1 22 rfl rfl)
theorem dX2_optimum_48 : decode cX2_optimum 48 = .ok (.ireturn, 1) := dk_172 (dk_at dksX2_optimum_2 0 rfl rfl)
abbrev cX2_optimize : ByteArray := prog_15_method_21_code
def yX2_optimize : MethodName := ⟨RX2, "optimize", "(II)I"⟩
def dkwX2_optimize_3 : List UInt8 := [154, 255, 214, 45, 25, 4, 182, 0, 107, 21, 5, 172]
abbrev dktX2_optimize_3 : List UInt8 := dkwX2_optimize_3 ++ []
def dkwX2_optimize_2 : List UInt8 := [161, 0, 6, 167, 0, 15, 42, 180, 0, 164, 54, 5, 25, 4, 45, 182, 0, 107, 45, 182, 0, 213]
abbrev dktX2_optimize_2 : List UInt8 := dkwX2_optimize_2 ++ dktX2_optimize_3
def dkwX2_optimize_1 : List UInt8 := [45, 182, 0, 210, 42, 28, 182, 0, 182, 153, 0, 33, 21, 5, 2, 159, 0, 15, 42, 180, 0, 164, 21, 5]
abbrev dktX2_optimize_1 : List UInt8 := dkwX2_optimize_1 ++ dktX2_optimize_2
def dkwX2_optimize_0 : List UInt8 := [42, 180, 0, 28, 27, 182, 0, 59, 192, 0, 51, 78, 187, 0, 51, 89, 183, 0, 53, 58, 4, 2, 54, 5]
abbrev dktX2_optimize_0 : List UInt8 := dkwX2_optimize_0 ++ dktX2_optimize_1
theorem dksX2_optimize_0 : cX2_optimize.data.toList.drop 0 = dktX2_optimize_0 := by decide +kernel
theorem dksX2_optimize_1 : cX2_optimize.data.toList.drop 24 = dktX2_optimize_1 := dk_seg dksX2_optimize_0 24 rfl rfl
theorem dksX2_optimize_2 : cX2_optimize.data.toList.drop 48 = dktX2_optimize_2 := dk_seg dksX2_optimize_1 24 rfl rfl
theorem dksX2_optimize_3 : cX2_optimize.data.toList.drop 70 = dktX2_optimize_3 := dk_seg dksX2_optimize_2 22 rfl rfl
theorem dX2_optimize_0 : decode cX2_optimize 0 = .ok (.aload_n 0, 1) := dk_42 (dk_at dksX2_optimize_0 0 rfl rfl)
theorem dX2_optimize_1 : decode cX2_optimize 1 = .ok (.getfield 28, 3) := dk_180 0 28 (dk_at dksX2_optimize_0 1 rfl rfl)
theorem dX2_optimize_4 : decode cX2_optimize 4 = .ok (.iload_n 1, 1) := dk_27 (dk_at dksX2_optimize_0 4 rfl rfl)
theorem dX2_optimize_5 : decode cX2_optimize 5 = .ok (.invokevirtual 59, 3) := dk_182 0 59 (dk_at dksX2_optimize_0 5 rfl rfl)
theorem dX2_optimize_8 : decode cX2_optimize 8 = .ok (.checkcast 51, 3) := dk_192 0 51 (dk_at dksX2_optimize_0 8 rfl rfl)
theorem dX2_optimize_11 : decode cX2_optimize 11 = .ok (.astore_n 3, 1) := dk_78 (dk_at dksX2_optimize_0 11 rfl rfl)
theorem dX2_optimize_12 : decode cX2_optimize 12 = .ok (.new 51, 3) := dk_187 0 51 (dk_at dksX2_optimize_0 12 rfl rfl)
theorem dX2_optimize_15 : decode cX2_optimize 15 = .ok (.dup, 1) := dk_89 (dk_at dksX2_optimize_0 15 rfl rfl)
theorem dX2_optimize_16 : decode cX2_optimize 16 = .ok (.invokespecial 53, 3) := dk_183 0 53 (dk_at dksX2_optimize_0 16 rfl rfl)
theorem dX2_optimize_19 : decode cX2_optimize 19 = .ok (.astore 4, 2) := dk_58 4 (dk_at dksX2_optimize_0 19 rfl rfl)
theorem dX2_optimize_21 : decode cX2_optimize 21 = .ok (.iconst (-1), 1) := dk_2 (dk_at dksX2_optimize_0 21 rfl rfl)
theorem dX2_optimize_22 : decode cX2_optimize 22 = .ok (.istore 5, 2) := dk_54 5 (dk_at dksX2_optimize_0 22 rfl rfl)
theorem dX2_optimize_24 : decode cX2_optimize 24 = .ok (.aload_n 3, 1) := dk_45 (dk_at dksX2_optimize_1 0 rfl rfl)
theorem dX2_optimize_25 : decode cX2_optimize 25 = .ok (.invokevirtual 210, 3) := dk_182 0 210 (dk_at dksX2_optimize_1 1 rfl rfl)
theorem dX2_optimize_28 : decode cX2_optimize 28 = .ok (.aload_n 0, 1) := dk_42 (dk_at dksX2_optimize_1 4 rfl rfl)
theorem dX2_optimize_29 : decode cX2_optimize 29 = .ok (.iload_n 2, 1) := dk_28 (dk_at dksX2_optimize_1 5 rfl rfl)
theorem dX2_optimize_30 : decode cX2_optimize 30 = .ok (.invokevirtual 182, 3) := dk_182 0 182 (dk_at dksX2_optimize_1 6 rfl rfl)
theorem dX2_optimize_33 : decode cX2_optimize 33 = .ok (.ifCond .eq 33, 3) := dk_153 0 33 (dk_at dksX2_optimize_1 9 rfl rfl)
theorem dX2_optimize_36 : decode cX2_optimize 36 = .ok (.iload 5, 2) := dk_21 5 (dk_at dksX2_optimize_1 12 rfl rfl)
theorem dX2_optimize_38 : decode cX2_optimize 38 = .ok (.iconst (-1), 1) := dk_2 (dk_at dksX2_optimize_1 14 rfl rfl)
theorem dX2_optimize_39 : decode cX2_optimize 39 = .ok (.if_icmp .eq 15, 3) := dk_159 0 15 (dk_at dksX2_optimize_1 15 rfl rfl)
theorem dX2_optimize_42 : decode cX2_optimize 42 = .ok (.aload_n 0, 1) := dk_42 (dk_at dksX2_optimize_1 18 rfl rfl)
theorem dX2_optimize_43 : decode cX2_optimize 43 = .ok (.getfield 164, 3) := dk_180 0 164 (dk_at dksX2_optimize_1 19 rfl rfl)
theorem dX2_optimize_46 : decode cX2_optimize 46 = .ok (.iload 5, 2) := dk_21 5 (dk_at dksX2_optimize_1 22 rfl rfl)
theorem dX2_optimize_48 : decode cX2_optimize 48 = .ok (.if_icmp .lt 6, 3) := dk_161 0 6 (dk_at dksX2_optimize_2 0 rfl rfl)
theorem dX2_optimize_51 : decode cX2_optimize 51 = .ok (.goto 15, 3) := dk_167 0 15 (dk_at dksX2_optimize_2 3 rfl rfl)
theorem dX2_optimize_54 : decode cX2_optimize 54 = .ok (.aload_n 0, 1) := dk_42 (dk_at dksX2_optimize_2 6 rfl rfl)
theorem dX2_optimize_55 : decode cX2_optimize 55 = .ok (.getfield 164, 3) := dk_180 0 164 (dk_at dksX2_optimize_2 7 rfl rfl)
theorem dX2_optimize_58 : decode cX2_optimize 58 = .ok (.istore 5, 2) := dk_54 5 (dk_at dksX2_optimize_2 10 rfl rfl)
theorem dX2_optimize_60 : decode cX2_optimize 60 = .ok (.aload 4, 2) := dk_25 4 (dk_at dksX2_optimize_2 12 rfl rfl)
theorem dX2_optimize_62 : decode cX2_optimize 62 = .ok (.aload_n 3, 1) := dk_45 (dk_at dksX2_optimize_2 14 rfl rfl)
theorem dX2_optimize_63 : decode cX2_optimize 63 = .ok (.invokevirtual 107, 3) := dk_182 0 107 (dk_at dksX2_optimize_2 15 rfl rfl)
theorem dX2_optimize_66 : decode cX2_optimize 66 = .ok (.aload_n 3, 1) := dk_45 (dk_at dksX2_optimize_2 18 rfl rfl)
theorem dX2_optimize_67 : decode cX2_optimize 67 = .ok (.invokevirtual 213, 3) := dk_182 0 213 (dk_at dksX2_optimize_2 19 rfl rfl)
theorem dX2_optimize_70 : decode cX2_optimize 70 = .ok (.ifCond .ne (-42), 3) := dk_154 255 214 (dk_at dksX2_optimize_3 0 rfl rfl)
theorem dX2_optimize_73 : decode cX2_optimize 73 = .ok (.aload_n 3, 1) := dk_45 (dk_at dksX2_optimize_3 3 rfl rfl)
theorem dX2_optimize_74 : decode cX2_optimize 74 = .ok (.aload 4, 2) := dk_25 4 (dk_at dksX2_optimize_3 4 rfl rfl)
theorem dX2_optimize_76 : decode cX2_optimize 76 = .ok (.invokevirtual 107, 3) := dk_182 0 107 (dk_at dksX2_optimize_3 6 rfl rfl)
theorem dX2_optimize_79 : decode cX2_optimize 79 = .ok (.iload 5, 2) := dk_21 5 (dk_at dksX2_optimize_3 9 rfl rfl)
theorem dX2_optimize_81 : decode cX2_optimize 81 = .ok (.ireturn, 1) := dk_172 (dk_at dksX2_optimize_3 11 rfl rfl)
abbrev cX2_lowerBound : ByteArray := prog_15_method_28_code
def yX2_lowerBound : MethodName := ⟨RX2, "lowerBound", "()I"⟩
def dkwX2_lowerBound_4 : List UInt8 := [132, 2, 1, 167, 255, 187, 27, 172]
abbrev dktX2_lowerBound_4 : List UInt8 := dkwX2_lowerBound_4 ++ []
def dkwX2_lowerBound_3 : List UInt8 := [182, 0, 65, 42, 180, 0, 12, 28, 182, 0, 59, 192, 0, 63, 3, 182, 0, 222, 96, 184, 0, 147, 60]
abbrev dktX2_lowerBound_3 : List UInt8 := dkwX2_lowerBound_3 ++ dktX2_lowerBound_4
def dkwX2_lowerBound_2 : List UInt8 := [192, 0, 63, 180, 0, 111, 182, 0, 199, 154, 0, 38, 27, 42, 180, 0, 12, 28, 182, 0, 59, 192, 0, 63]
abbrev dktX2_lowerBound_2 : List UInt8 := dkwX2_lowerBound_2 ++ dktX2_lowerBound_3
def dkwX2_lowerBound_1 : List UInt8 := [167, 255, 238, 3, 61, 28, 42, 180, 0, 12, 182, 0, 55, 162, 0, 64, 42, 180, 0, 12, 28, 182, 0, 59]
abbrev dktX2_lowerBound_1 : List UInt8 := dkwX2_lowerBound_1 ++ dktX2_lowerBound_2
def dkwX2_lowerBound_0 : List UInt8 := [3, 60, 3, 61, 28, 7, 162, 0, 19, 27, 42, 28, 182, 0, 235, 184, 0, 147, 60, 132, 2, 1]
abbrev dktX2_lowerBound_0 : List UInt8 := dkwX2_lowerBound_0 ++ dktX2_lowerBound_1
theorem dksX2_lowerBound_0 : cX2_lowerBound.data.toList.drop 0 = dktX2_lowerBound_0 := by decide +kernel
theorem dksX2_lowerBound_1 : cX2_lowerBound.data.toList.drop 22 = dktX2_lowerBound_1 := dk_seg dksX2_lowerBound_0 22 rfl rfl
theorem dksX2_lowerBound_2 : cX2_lowerBound.data.toList.drop 46 = dktX2_lowerBound_2 := dk_seg dksX2_lowerBound_1 24 rfl rfl
theorem dksX2_lowerBound_3 : cX2_lowerBound.data.toList.drop 70 = dktX2_lowerBound_3 := dk_seg dksX2_lowerBound_2 24 rfl rfl
theorem dksX2_lowerBound_4 : cX2_lowerBound.data.toList.drop 93 = dktX2_lowerBound_4 := dk_seg dksX2_lowerBound_3 23 rfl rfl
theorem dX2_lowerBound_0 : decode cX2_lowerBound 0 = .ok (.iconst 0, 1) := dk_3 (dk_at dksX2_lowerBound_0 0 rfl rfl)
theorem dX2_lowerBound_1 : decode cX2_lowerBound 1 = .ok (.istore_n 1, 1) := dk_60 (dk_at dksX2_lowerBound_0 1 rfl rfl)
theorem dX2_lowerBound_2 : decode cX2_lowerBound 2 = .ok (.iconst 0, 1) := dk_3 (dk_at dksX2_lowerBound_0 2 rfl rfl)
theorem dX2_lowerBound_3 : decode cX2_lowerBound 3 = .ok (.istore_n 2, 1) := dk_61 (dk_at dksX2_lowerBound_0 3 rfl rfl)
theorem dX2_lowerBound_4 : decode cX2_lowerBound 4 = .ok (.iload_n 2, 1) := dk_28 (dk_at dksX2_lowerBound_0 4 rfl rfl)
theorem dX2_lowerBound_5 : decode cX2_lowerBound 5 = .ok (.iconst 4, 1) := dk_7 (dk_at dksX2_lowerBound_0 5 rfl rfl)
theorem dX2_lowerBound_6 : decode cX2_lowerBound 6 = .ok (.if_icmp .ge 19, 3) := dk_162 0 19 (dk_at dksX2_lowerBound_0 6 rfl rfl)
theorem dX2_lowerBound_9 : decode cX2_lowerBound 9 = .ok (.iload_n 1, 1) := dk_27 (dk_at dksX2_lowerBound_0 9 rfl rfl)
theorem dX2_lowerBound_10 : decode cX2_lowerBound 10 = .ok (.aload_n 0, 1) := dk_42 (dk_at dksX2_lowerBound_0 10 rfl rfl)
theorem dX2_lowerBound_11 : decode cX2_lowerBound 11 = .ok (.iload_n 2, 1) := dk_28 (dk_at dksX2_lowerBound_0 11 rfl rfl)
theorem dX2_lowerBound_12 : decode cX2_lowerBound 12 = .ok (.invokevirtual 235, 3) := dk_182 0 235 (dk_at dksX2_lowerBound_0 12 rfl rfl)
theorem dX2_lowerBound_15 : decode cX2_lowerBound 15 = .ok (.invokestatic 147, 3) := dk_184 0 147 (dk_at dksX2_lowerBound_0 15 rfl rfl)
theorem dX2_lowerBound_18 : decode cX2_lowerBound 18 = .ok (.istore_n 1, 1) := dk_60 (dk_at dksX2_lowerBound_0 18 rfl rfl)
theorem dX2_lowerBound_19 : decode cX2_lowerBound 19 = .ok (.iinc 2 1, 3) := dk_132 2 1 (dk_at dksX2_lowerBound_0 19 rfl rfl)
theorem dX2_lowerBound_22 : decode cX2_lowerBound 22 = .ok (.goto (-18), 3) := dk_167 255 238 (dk_at dksX2_lowerBound_1 0 rfl rfl)
theorem dX2_lowerBound_25 : decode cX2_lowerBound 25 = .ok (.iconst 0, 1) := dk_3 (dk_at dksX2_lowerBound_1 3 rfl rfl)
theorem dX2_lowerBound_26 : decode cX2_lowerBound 26 = .ok (.istore_n 2, 1) := dk_61 (dk_at dksX2_lowerBound_1 4 rfl rfl)
theorem dX2_lowerBound_27 : decode cX2_lowerBound 27 = .ok (.iload_n 2, 1) := dk_28 (dk_at dksX2_lowerBound_1 5 rfl rfl)
theorem dX2_lowerBound_28 : decode cX2_lowerBound 28 = .ok (.aload_n 0, 1) := dk_42 (dk_at dksX2_lowerBound_1 6 rfl rfl)
theorem dX2_lowerBound_29 : decode cX2_lowerBound 29 = .ok (.getfield 12, 3) := dk_180 0 12 (dk_at dksX2_lowerBound_1 7 rfl rfl)
theorem dX2_lowerBound_32 : decode cX2_lowerBound 32 = .ok (.invokevirtual 55, 3) := dk_182 0 55 (dk_at dksX2_lowerBound_1 10 rfl rfl)
theorem dX2_lowerBound_35 : decode cX2_lowerBound 35 = .ok (.if_icmp .ge 64, 3) := dk_162 0 64 (dk_at dksX2_lowerBound_1 13 rfl rfl)
theorem dX2_lowerBound_38 : decode cX2_lowerBound 38 = .ok (.aload_n 0, 1) := dk_42 (dk_at dksX2_lowerBound_1 16 rfl rfl)
theorem dX2_lowerBound_39 : decode cX2_lowerBound 39 = .ok (.getfield 12, 3) := dk_180 0 12 (dk_at dksX2_lowerBound_1 17 rfl rfl)
theorem dX2_lowerBound_42 : decode cX2_lowerBound 42 = .ok (.iload_n 2, 1) := dk_28 (dk_at dksX2_lowerBound_1 20 rfl rfl)
theorem dX2_lowerBound_43 : decode cX2_lowerBound 43 = .ok (.invokevirtual 59, 3) := dk_182 0 59 (dk_at dksX2_lowerBound_1 21 rfl rfl)
theorem dX2_lowerBound_46 : decode cX2_lowerBound 46 = .ok (.checkcast 63, 3) := dk_192 0 63 (dk_at dksX2_lowerBound_2 0 rfl rfl)
theorem dX2_lowerBound_49 : decode cX2_lowerBound 49 = .ok (.getfield 111, 3) := dk_180 0 111 (dk_at dksX2_lowerBound_2 3 rfl rfl)
theorem dX2_lowerBound_52 : decode cX2_lowerBound 52 = .ok (.invokevirtual 199, 3) := dk_182 0 199 (dk_at dksX2_lowerBound_2 6 rfl rfl)
theorem dX2_lowerBound_55 : decode cX2_lowerBound 55 = .ok (.ifCond .ne 38, 3) := dk_154 0 38 (dk_at dksX2_lowerBound_2 9 rfl rfl)
theorem dX2_lowerBound_58 : decode cX2_lowerBound 58 = .ok (.iload_n 1, 1) := dk_27 (dk_at dksX2_lowerBound_2 12 rfl rfl)
theorem dX2_lowerBound_59 : decode cX2_lowerBound 59 = .ok (.aload_n 0, 1) := dk_42 (dk_at dksX2_lowerBound_2 13 rfl rfl)
theorem dX2_lowerBound_60 : decode cX2_lowerBound 60 = .ok (.getfield 12, 3) := dk_180 0 12 (dk_at dksX2_lowerBound_2 14 rfl rfl)
theorem dX2_lowerBound_63 : decode cX2_lowerBound 63 = .ok (.iload_n 2, 1) := dk_28 (dk_at dksX2_lowerBound_2 17 rfl rfl)
theorem dX2_lowerBound_64 : decode cX2_lowerBound 64 = .ok (.invokevirtual 59, 3) := dk_182 0 59 (dk_at dksX2_lowerBound_2 18 rfl rfl)
theorem dX2_lowerBound_67 : decode cX2_lowerBound 67 = .ok (.checkcast 63, 3) := dk_192 0 63 (dk_at dksX2_lowerBound_2 21 rfl rfl)
theorem dX2_lowerBound_70 : decode cX2_lowerBound 70 = .ok (.invokevirtual 65, 3) := dk_182 0 65 (dk_at dksX2_lowerBound_3 0 rfl rfl)
theorem dX2_lowerBound_73 : decode cX2_lowerBound 73 = .ok (.aload_n 0, 1) := dk_42 (dk_at dksX2_lowerBound_3 3 rfl rfl)
theorem dX2_lowerBound_74 : decode cX2_lowerBound 74 = .ok (.getfield 12, 3) := dk_180 0 12 (dk_at dksX2_lowerBound_3 4 rfl rfl)
theorem dX2_lowerBound_77 : decode cX2_lowerBound 77 = .ok (.iload_n 2, 1) := dk_28 (dk_at dksX2_lowerBound_3 7 rfl rfl)
theorem dX2_lowerBound_78 : decode cX2_lowerBound 78 = .ok (.invokevirtual 59, 3) := dk_182 0 59 (dk_at dksX2_lowerBound_3 8 rfl rfl)
theorem dX2_lowerBound_81 : decode cX2_lowerBound 81 = .ok (.checkcast 63, 3) := dk_192 0 63 (dk_at dksX2_lowerBound_3 11 rfl rfl)
theorem dX2_lowerBound_84 : decode cX2_lowerBound 84 = .ok (.iconst 0, 1) := dk_3 (dk_at dksX2_lowerBound_3 14 rfl rfl)
theorem dX2_lowerBound_85 : decode cX2_lowerBound 85 = .ok (.invokevirtual 222, 3) := dk_182 0 222 (dk_at dksX2_lowerBound_3 15 rfl rfl)
theorem dX2_lowerBound_88 : decode cX2_lowerBound 88 = .ok (.iadd, 1) := dk_96 (dk_at dksX2_lowerBound_3 18 rfl rfl)
theorem dX2_lowerBound_89 : decode cX2_lowerBound 89 = .ok (.invokestatic 147, 3) := dk_184 0 147 (dk_at dksX2_lowerBound_3 19 rfl rfl)
theorem dX2_lowerBound_92 : decode cX2_lowerBound 92 = .ok (.istore_n 1, 1) := dk_60 (dk_at dksX2_lowerBound_3 22 rfl rfl)
theorem dX2_lowerBound_93 : decode cX2_lowerBound 93 = .ok (.iinc 2 1, 3) := dk_132 2 1 (dk_at dksX2_lowerBound_4 0 rfl rfl)
theorem dX2_lowerBound_96 : decode cX2_lowerBound 96 = .ok (.goto (-69), 3) := dk_167 255 187 (dk_at dksX2_lowerBound_4 3 rfl rfl)
theorem dX2_lowerBound_99 : decode cX2_lowerBound 99 = .ok (.iload_n 1, 1) := dk_27 (dk_at dksX2_lowerBound_4 6 rfl rfl)
theorem dX2_lowerBound_100 : decode cX2_lowerBound 100 = .ok (.ireturn, 1) := dk_172 (dk_at dksX2_lowerBound_4 7 rfl rfl)
abbrev cX2_bound : ByteArray := prog_15_method_26_code
def yX2_bound : MethodName := ⟨RX2, "bound", "(I)I"⟩
def dkwX2_bound_10 : List UInt8 := [184, 0, 147, 54, 5, 132, 6, 1, 167, 255, 91, 21, 5, 172]
abbrev dktX2_bound_10 : List UInt8 := dkwX2_bound_10 ++ []
def dkwX2_bound_9 : List UInt8 := [4, 96, 42, 42, 180, 0, 18, 44, 180, 0, 169, 21, 7, 46, 182, 0, 59, 192, 0, 77, 182, 0, 232, 96]
abbrev dktX2_bound_9 : List UInt8 := dkwX2_bound_9 ++ dktX2_bound_10
def dkwX2_bound_8 : List UInt8 := [21, 7, 92, 46, 4, 100, 79, 45, 21, 7, 46, 158, 0, 6, 167, 0, 39, 132, 4, 255, 21, 5, 21, 6]
abbrev dktX2_bound_8 : List UInt8 := dkwX2_bound_8 ++ dktX2_bound_9
def dkwX2_bound_7 : List UInt8 := [153, 0, 7, 21, 8, 54, 7, 132, 8, 1, 167, 255, 171, 21, 7, 2, 160, 0, 6, 167, 0, 57, 45]
abbrev dktX2_bound_7 : List UInt8 := dkwX2_bound_7 ++ dktX2_bound_8
def dkwX2_bound_6 : List UInt8 := [25, 9, 42, 180, 0, 18, 44, 180, 0, 169, 21, 7, 46, 182, 0, 59, 192, 0, 77, 182, 0, 228]
abbrev dktX2_bound_6 : List UInt8 := dkwX2_bound_6 ++ dktX2_bound_7
def dkwX2_bound_5 : List UInt8 := [21, 8, 46, 158, 0, 50, 42, 25, 9, 182, 0, 225, 21, 6, 163, 0, 39, 21, 7, 2, 159, 0, 29, 42]
abbrev dktX2_bound_5 : List UInt8 := dkwX2_bound_5 ++ dktX2_bound_6
def dkwX2_bound_4 : List UInt8 := [162, 0, 82, 42, 180, 0, 18, 44, 180, 0, 169, 21, 8, 46, 182, 0, 59, 192, 0, 77, 58, 9, 45]
abbrev dktX2_bound_4 : List UInt8 := dkwX2_bound_4 ++ dktX2_bound_5
def dkwX2_bound_3 : List UInt8 := [54, 5, 3, 54, 6, 21, 4, 158, 0, 166, 2, 54, 7, 3, 54, 8, 21, 8, 44, 180, 0, 167]
abbrev dktX2_bound_3 : List UInt8 := dkwX2_bound_3 ++ dktX2_bound_4
def dkwX2_bound_2 : List UInt8 := [180, 0, 169, 21, 5, 46, 182, 0, 59, 192, 0, 77, 180, 0, 85, 79, 132, 5, 1, 167, 255, 220, 3]
abbrev dktX2_bound_2 : List UInt8 := dkwX2_bound_2 ++ dktX2_bound_3
def dkwX2_bound_1 : List UInt8 := [54, 4, 3, 54, 5, 21, 5, 44, 180, 0, 167, 162, 0, 33, 45, 21, 5, 42, 180, 0, 18, 44]
abbrev dktX2_bound_1 : List UInt8 := dkwX2_bound_1 ++ dktX2_bound_2
def dkwX2_bound_0 : List UInt8 := [42, 180, 0, 28, 27, 182, 0, 59, 192, 0, 51, 77, 44, 180, 0, 167, 188, 10, 78, 44, 180, 0, 167]
abbrev dktX2_bound_0 : List UInt8 := dkwX2_bound_0 ++ dktX2_bound_1
theorem dksX2_bound_0 : cX2_bound.data.toList.drop 0 = dktX2_bound_0 := by decide +kernel
theorem dksX2_bound_1 : cX2_bound.data.toList.drop 23 = dktX2_bound_1 := dk_seg dksX2_bound_0 23 rfl rfl
theorem dksX2_bound_2 : cX2_bound.data.toList.drop 45 = dktX2_bound_2 := dk_seg dksX2_bound_1 22 rfl rfl
theorem dksX2_bound_3 : cX2_bound.data.toList.drop 68 = dktX2_bound_3 := dk_seg dksX2_bound_2 23 rfl rfl
theorem dksX2_bound_4 : cX2_bound.data.toList.drop 90 = dktX2_bound_4 := dk_seg dksX2_bound_3 22 rfl rfl
theorem dksX2_bound_5 : cX2_bound.data.toList.drop 113 = dktX2_bound_5 := dk_seg dksX2_bound_4 23 rfl rfl
theorem dksX2_bound_6 : cX2_bound.data.toList.drop 137 = dktX2_bound_6 := dk_seg dksX2_bound_5 24 rfl rfl
theorem dksX2_bound_7 : cX2_bound.data.toList.drop 159 = dktX2_bound_7 := dk_seg dksX2_bound_6 22 rfl rfl
theorem dksX2_bound_8 : cX2_bound.data.toList.drop 182 = dktX2_bound_8 := dk_seg dksX2_bound_7 23 rfl rfl
theorem dksX2_bound_9 : cX2_bound.data.toList.drop 206 = dktX2_bound_9 := dk_seg dksX2_bound_8 24 rfl rfl
theorem dksX2_bound_10 : cX2_bound.data.toList.drop 230 = dktX2_bound_10 := dk_seg dksX2_bound_9 24 rfl rfl
theorem dX2_bound_0 : decode cX2_bound 0 = .ok (.aload_n 0, 1) := dk_42 (dk_at dksX2_bound_0 0 rfl rfl)
theorem dX2_bound_1 : decode cX2_bound 1 = .ok (.getfield 28, 3) := dk_180 0 28 (dk_at dksX2_bound_0 1 rfl rfl)
theorem dX2_bound_4 : decode cX2_bound 4 = .ok (.iload_n 1, 1) := dk_27 (dk_at dksX2_bound_0 4 rfl rfl)
theorem dX2_bound_5 : decode cX2_bound 5 = .ok (.invokevirtual 59, 3) := dk_182 0 59 (dk_at dksX2_bound_0 5 rfl rfl)
theorem dX2_bound_8 : decode cX2_bound 8 = .ok (.checkcast 51, 3) := dk_192 0 51 (dk_at dksX2_bound_0 8 rfl rfl)
theorem dX2_bound_11 : decode cX2_bound 11 = .ok (.astore_n 2, 1) := dk_77 (dk_at dksX2_bound_0 11 rfl rfl)
theorem dX2_bound_12 : decode cX2_bound 12 = .ok (.aload_n 2, 1) := dk_44 (dk_at dksX2_bound_0 12 rfl rfl)
theorem dX2_bound_13 : decode cX2_bound 13 = .ok (.getfield 167, 3) := dk_180 0 167 (dk_at dksX2_bound_0 13 rfl rfl)
theorem dX2_bound_16 : decode cX2_bound 16 = .ok (.newarray .int, 2) := dk_188_10 (dk_at dksX2_bound_0 16 rfl rfl)
theorem dX2_bound_18 : decode cX2_bound 18 = .ok (.astore_n 3, 1) := dk_78 (dk_at dksX2_bound_0 18 rfl rfl)
theorem dX2_bound_19 : decode cX2_bound 19 = .ok (.aload_n 2, 1) := dk_44 (dk_at dksX2_bound_0 19 rfl rfl)
theorem dX2_bound_20 : decode cX2_bound 20 = .ok (.getfield 167, 3) := dk_180 0 167 (dk_at dksX2_bound_0 20 rfl rfl)
theorem dX2_bound_23 : decode cX2_bound 23 = .ok (.istore 4, 2) := dk_54 4 (dk_at dksX2_bound_1 0 rfl rfl)
theorem dX2_bound_25 : decode cX2_bound 25 = .ok (.iconst 0, 1) := dk_3 (dk_at dksX2_bound_1 2 rfl rfl)
theorem dX2_bound_26 : decode cX2_bound 26 = .ok (.istore 5, 2) := dk_54 5 (dk_at dksX2_bound_1 3 rfl rfl)
theorem dX2_bound_28 : decode cX2_bound 28 = .ok (.iload 5, 2) := dk_21 5 (dk_at dksX2_bound_1 5 rfl rfl)
theorem dX2_bound_30 : decode cX2_bound 30 = .ok (.aload_n 2, 1) := dk_44 (dk_at dksX2_bound_1 7 rfl rfl)
theorem dX2_bound_31 : decode cX2_bound 31 = .ok (.getfield 167, 3) := dk_180 0 167 (dk_at dksX2_bound_1 8 rfl rfl)
theorem dX2_bound_34 : decode cX2_bound 34 = .ok (.if_icmp .ge 33, 3) := dk_162 0 33 (dk_at dksX2_bound_1 11 rfl rfl)
theorem dX2_bound_37 : decode cX2_bound 37 = .ok (.aload_n 3, 1) := dk_45 (dk_at dksX2_bound_1 14 rfl rfl)
theorem dX2_bound_38 : decode cX2_bound 38 = .ok (.iload 5, 2) := dk_21 5 (dk_at dksX2_bound_1 15 rfl rfl)
theorem dX2_bound_40 : decode cX2_bound 40 = .ok (.aload_n 0, 1) := dk_42 (dk_at dksX2_bound_1 17 rfl rfl)
theorem dX2_bound_41 : decode cX2_bound 41 = .ok (.getfield 18, 3) := dk_180 0 18 (dk_at dksX2_bound_1 18 rfl rfl)
theorem dX2_bound_44 : decode cX2_bound 44 = .ok (.aload_n 2, 1) := dk_44 (dk_at dksX2_bound_1 21 rfl rfl)
theorem dX2_bound_45 : decode cX2_bound 45 = .ok (.getfield 169, 3) := dk_180 0 169 (dk_at dksX2_bound_2 0 rfl rfl)
theorem dX2_bound_48 : decode cX2_bound 48 = .ok (.iload 5, 2) := dk_21 5 (dk_at dksX2_bound_2 3 rfl rfl)
theorem dX2_bound_50 : decode cX2_bound 50 = .ok (.iaload, 1) := dk_46 (dk_at dksX2_bound_2 5 rfl rfl)
theorem dX2_bound_51 : decode cX2_bound 51 = .ok (.invokevirtual 59, 3) := dk_182 0 59 (dk_at dksX2_bound_2 6 rfl rfl)
theorem dX2_bound_54 : decode cX2_bound 54 = .ok (.checkcast 77, 3) := dk_192 0 77 (dk_at dksX2_bound_2 9 rfl rfl)
theorem dX2_bound_57 : decode cX2_bound 57 = .ok (.getfield 85, 3) := dk_180 0 85 (dk_at dksX2_bound_2 12 rfl rfl)
theorem dX2_bound_60 : decode cX2_bound 60 = .ok (.iastore, 1) := dk_79 (dk_at dksX2_bound_2 15 rfl rfl)
theorem dX2_bound_61 : decode cX2_bound 61 = .ok (.iinc 5 1, 3) := dk_132 5 1 (dk_at dksX2_bound_2 16 rfl rfl)
theorem dX2_bound_64 : decode cX2_bound 64 = .ok (.goto (-36), 3) := dk_167 255 220 (dk_at dksX2_bound_2 19 rfl rfl)
theorem dX2_bound_67 : decode cX2_bound 67 = .ok (.iconst 0, 1) := dk_3 (dk_at dksX2_bound_2 22 rfl rfl)
theorem dX2_bound_68 : decode cX2_bound 68 = .ok (.istore 5, 2) := dk_54 5 (dk_at dksX2_bound_3 0 rfl rfl)
theorem dX2_bound_70 : decode cX2_bound 70 = .ok (.iconst 0, 1) := dk_3 (dk_at dksX2_bound_3 2 rfl rfl)
theorem dX2_bound_71 : decode cX2_bound 71 = .ok (.istore 6, 2) := dk_54 6 (dk_at dksX2_bound_3 3 rfl rfl)
theorem dX2_bound_73 : decode cX2_bound 73 = .ok (.iload 4, 2) := dk_21 4 (dk_at dksX2_bound_3 5 rfl rfl)
theorem dX2_bound_75 : decode cX2_bound 75 = .ok (.ifCond .le 166, 3) := dk_158 0 166 (dk_at dksX2_bound_3 7 rfl rfl)
theorem dX2_bound_78 : decode cX2_bound 78 = .ok (.iconst (-1), 1) := dk_2 (dk_at dksX2_bound_3 10 rfl rfl)
theorem dX2_bound_79 : decode cX2_bound 79 = .ok (.istore 7, 2) := dk_54 7 (dk_at dksX2_bound_3 11 rfl rfl)
theorem dX2_bound_81 : decode cX2_bound 81 = .ok (.iconst 0, 1) := dk_3 (dk_at dksX2_bound_3 13 rfl rfl)
theorem dX2_bound_82 : decode cX2_bound 82 = .ok (.istore 8, 2) := dk_54 8 (dk_at dksX2_bound_3 14 rfl rfl)
theorem dX2_bound_84 : decode cX2_bound 84 = .ok (.iload 8, 2) := dk_21 8 (dk_at dksX2_bound_3 16 rfl rfl)
theorem dX2_bound_86 : decode cX2_bound 86 = .ok (.aload_n 2, 1) := dk_44 (dk_at dksX2_bound_3 18 rfl rfl)
theorem dX2_bound_87 : decode cX2_bound 87 = .ok (.getfield 167, 3) := dk_180 0 167 (dk_at dksX2_bound_3 19 rfl rfl)
theorem dX2_bound_90 : decode cX2_bound 90 = .ok (.if_icmp .ge 82, 3) := dk_162 0 82 (dk_at dksX2_bound_4 0 rfl rfl)
theorem dX2_bound_93 : decode cX2_bound 93 = .ok (.aload_n 0, 1) := dk_42 (dk_at dksX2_bound_4 3 rfl rfl)
theorem dX2_bound_94 : decode cX2_bound 94 = .ok (.getfield 18, 3) := dk_180 0 18 (dk_at dksX2_bound_4 4 rfl rfl)
theorem dX2_bound_97 : decode cX2_bound 97 = .ok (.aload_n 2, 1) := dk_44 (dk_at dksX2_bound_4 7 rfl rfl)
theorem dX2_bound_98 : decode cX2_bound 98 = .ok (.getfield 169, 3) := dk_180 0 169 (dk_at dksX2_bound_4 8 rfl rfl)
theorem dX2_bound_101 : decode cX2_bound 101 = .ok (.iload 8, 2) := dk_21 8 (dk_at dksX2_bound_4 11 rfl rfl)
theorem dX2_bound_103 : decode cX2_bound 103 = .ok (.iaload, 1) := dk_46 (dk_at dksX2_bound_4 13 rfl rfl)
theorem dX2_bound_104 : decode cX2_bound 104 = .ok (.invokevirtual 59, 3) := dk_182 0 59 (dk_at dksX2_bound_4 14 rfl rfl)
theorem dX2_bound_107 : decode cX2_bound 107 = .ok (.checkcast 77, 3) := dk_192 0 77 (dk_at dksX2_bound_4 17 rfl rfl)
theorem dX2_bound_110 : decode cX2_bound 110 = .ok (.astore 9, 2) := dk_58 9 (dk_at dksX2_bound_4 20 rfl rfl)
theorem dX2_bound_112 : decode cX2_bound 112 = .ok (.aload_n 3, 1) := dk_45 (dk_at dksX2_bound_4 22 rfl rfl)
theorem dX2_bound_113 : decode cX2_bound 113 = .ok (.iload 8, 2) := dk_21 8 (dk_at dksX2_bound_5 0 rfl rfl)
theorem dX2_bound_115 : decode cX2_bound 115 = .ok (.iaload, 1) := dk_46 (dk_at dksX2_bound_5 2 rfl rfl)
theorem dX2_bound_116 : decode cX2_bound 116 = .ok (.ifCond .le 50, 3) := dk_158 0 50 (dk_at dksX2_bound_5 3 rfl rfl)
theorem dX2_bound_119 : decode cX2_bound 119 = .ok (.aload_n 0, 1) := dk_42 (dk_at dksX2_bound_5 6 rfl rfl)
theorem dX2_bound_120 : decode cX2_bound 120 = .ok (.aload 9, 2) := dk_25 9 (dk_at dksX2_bound_5 7 rfl rfl)
theorem dX2_bound_122 : decode cX2_bound 122 = .ok (.invokevirtual 225, 3) := dk_182 0 225 (dk_at dksX2_bound_5 9 rfl rfl)
theorem dX2_bound_125 : decode cX2_bound 125 = .ok (.iload 6, 2) := dk_21 6 (dk_at dksX2_bound_5 12 rfl rfl)
theorem dX2_bound_127 : decode cX2_bound 127 = .ok (.if_icmp .gt 39, 3) := dk_163 0 39 (dk_at dksX2_bound_5 14 rfl rfl)
theorem dX2_bound_130 : decode cX2_bound 130 = .ok (.iload 7, 2) := dk_21 7 (dk_at dksX2_bound_5 17 rfl rfl)
theorem dX2_bound_132 : decode cX2_bound 132 = .ok (.iconst (-1), 1) := dk_2 (dk_at dksX2_bound_5 19 rfl rfl)
theorem dX2_bound_133 : decode cX2_bound 133 = .ok (.if_icmp .eq 29, 3) := dk_159 0 29 (dk_at dksX2_bound_5 20 rfl rfl)
theorem dX2_bound_136 : decode cX2_bound 136 = .ok (.aload_n 0, 1) := dk_42 (dk_at dksX2_bound_5 23 rfl rfl)
theorem dX2_bound_137 : decode cX2_bound 137 = .ok (.aload 9, 2) := dk_25 9 (dk_at dksX2_bound_6 0 rfl rfl)
theorem dX2_bound_139 : decode cX2_bound 139 = .ok (.aload_n 0, 1) := dk_42 (dk_at dksX2_bound_6 2 rfl rfl)
theorem dX2_bound_140 : decode cX2_bound 140 = .ok (.getfield 18, 3) := dk_180 0 18 (dk_at dksX2_bound_6 3 rfl rfl)
theorem dX2_bound_143 : decode cX2_bound 143 = .ok (.aload_n 2, 1) := dk_44 (dk_at dksX2_bound_6 6 rfl rfl)
theorem dX2_bound_144 : decode cX2_bound 144 = .ok (.getfield 169, 3) := dk_180 0 169 (dk_at dksX2_bound_6 7 rfl rfl)
theorem dX2_bound_147 : decode cX2_bound 147 = .ok (.iload 7, 2) := dk_21 7 (dk_at dksX2_bound_6 10 rfl rfl)
theorem dX2_bound_149 : decode cX2_bound 149 = .ok (.iaload, 1) := dk_46 (dk_at dksX2_bound_6 12 rfl rfl)
theorem dX2_bound_150 : decode cX2_bound 150 = .ok (.invokevirtual 59, 3) := dk_182 0 59 (dk_at dksX2_bound_6 13 rfl rfl)
theorem dX2_bound_153 : decode cX2_bound 153 = .ok (.checkcast 77, 3) := dk_192 0 77 (dk_at dksX2_bound_6 16 rfl rfl)
theorem dX2_bound_156 : decode cX2_bound 156 = .ok (.invokevirtual 228, 3) := dk_182 0 228 (dk_at dksX2_bound_6 19 rfl rfl)
theorem dX2_bound_159 : decode cX2_bound 159 = .ok (.ifCond .eq 7, 3) := dk_153 0 7 (dk_at dksX2_bound_7 0 rfl rfl)
theorem dX2_bound_162 : decode cX2_bound 162 = .ok (.iload 8, 2) := dk_21 8 (dk_at dksX2_bound_7 3 rfl rfl)
theorem dX2_bound_164 : decode cX2_bound 164 = .ok (.istore 7, 2) := dk_54 7 (dk_at dksX2_bound_7 5 rfl rfl)
theorem dX2_bound_166 : decode cX2_bound 166 = .ok (.iinc 8 1, 3) := dk_132 8 1 (dk_at dksX2_bound_7 7 rfl rfl)
theorem dX2_bound_169 : decode cX2_bound 169 = .ok (.goto (-85), 3) := dk_167 255 171 (dk_at dksX2_bound_7 10 rfl rfl)
theorem dX2_bound_172 : decode cX2_bound 172 = .ok (.iload 7, 2) := dk_21 7 (dk_at dksX2_bound_7 13 rfl rfl)
theorem dX2_bound_174 : decode cX2_bound 174 = .ok (.iconst (-1), 1) := dk_2 (dk_at dksX2_bound_7 15 rfl rfl)
theorem dX2_bound_175 : decode cX2_bound 175 = .ok (.if_icmp .ne 6, 3) := dk_160 0 6 (dk_at dksX2_bound_7 16 rfl rfl)
theorem dX2_bound_178 : decode cX2_bound 178 = .ok (.goto 57, 3) := dk_167 0 57 (dk_at dksX2_bound_7 19 rfl rfl)
theorem dX2_bound_181 : decode cX2_bound 181 = .ok (.aload_n 3, 1) := dk_45 (dk_at dksX2_bound_7 22 rfl rfl)
theorem dX2_bound_182 : decode cX2_bound 182 = .ok (.iload 7, 2) := dk_21 7 (dk_at dksX2_bound_8 0 rfl rfl)
theorem dX2_bound_184 : decode cX2_bound 184 = .ok (.dup2, 1) := dk_92 (dk_at dksX2_bound_8 2 rfl rfl)
theorem dX2_bound_185 : decode cX2_bound 185 = .ok (.iaload, 1) := dk_46 (dk_at dksX2_bound_8 3 rfl rfl)
theorem dX2_bound_186 : decode cX2_bound 186 = .ok (.iconst 1, 1) := dk_4 (dk_at dksX2_bound_8 4 rfl rfl)
theorem dX2_bound_187 : decode cX2_bound 187 = .ok (.isub, 1) := dk_100 (dk_at dksX2_bound_8 5 rfl rfl)
theorem dX2_bound_188 : decode cX2_bound 188 = .ok (.iastore, 1) := dk_79 (dk_at dksX2_bound_8 6 rfl rfl)
theorem dX2_bound_189 : decode cX2_bound 189 = .ok (.aload_n 3, 1) := dk_45 (dk_at dksX2_bound_8 7 rfl rfl)
theorem dX2_bound_190 : decode cX2_bound 190 = .ok (.iload 7, 2) := dk_21 7 (dk_at dksX2_bound_8 8 rfl rfl)
theorem dX2_bound_192 : decode cX2_bound 192 = .ok (.iaload, 1) := dk_46 (dk_at dksX2_bound_8 10 rfl rfl)
theorem dX2_bound_193 : decode cX2_bound 193 = .ok (.ifCond .le 6, 3) := dk_158 0 6 (dk_at dksX2_bound_8 11 rfl rfl)
theorem dX2_bound_196 : decode cX2_bound 196 = .ok (.goto 39, 3) := dk_167 0 39 (dk_at dksX2_bound_8 14 rfl rfl)
theorem dX2_bound_199 : decode cX2_bound 199 = .ok (.iinc 4 (-1), 3) := dk_132 4 255 (dk_at dksX2_bound_8 17 rfl rfl)
theorem dX2_bound_202 : decode cX2_bound 202 = .ok (.iload 5, 2) := dk_21 5 (dk_at dksX2_bound_8 20 rfl rfl)
theorem dX2_bound_204 : decode cX2_bound 204 = .ok (.iload 6, 2) := dk_21 6 (dk_at dksX2_bound_8 22 rfl rfl)
theorem dX2_bound_206 : decode cX2_bound 206 = .ok (.iconst 1, 1) := dk_4 (dk_at dksX2_bound_9 0 rfl rfl)
theorem dX2_bound_207 : decode cX2_bound 207 = .ok (.iadd, 1) := dk_96 (dk_at dksX2_bound_9 1 rfl rfl)
theorem dX2_bound_208 : decode cX2_bound 208 = .ok (.aload_n 0, 1) := dk_42 (dk_at dksX2_bound_9 2 rfl rfl)
theorem dX2_bound_209 : decode cX2_bound 209 = .ok (.aload_n 0, 1) := dk_42 (dk_at dksX2_bound_9 3 rfl rfl)
theorem dX2_bound_210 : decode cX2_bound 210 = .ok (.getfield 18, 3) := dk_180 0 18 (dk_at dksX2_bound_9 4 rfl rfl)
theorem dX2_bound_213 : decode cX2_bound 213 = .ok (.aload_n 2, 1) := dk_44 (dk_at dksX2_bound_9 7 rfl rfl)
theorem dX2_bound_214 : decode cX2_bound 214 = .ok (.getfield 169, 3) := dk_180 0 169 (dk_at dksX2_bound_9 8 rfl rfl)
theorem dX2_bound_217 : decode cX2_bound 217 = .ok (.iload 7, 2) := dk_21 7 (dk_at dksX2_bound_9 11 rfl rfl)
theorem dX2_bound_219 : decode cX2_bound 219 = .ok (.iaload, 1) := dk_46 (dk_at dksX2_bound_9 13 rfl rfl)
theorem dX2_bound_220 : decode cX2_bound 220 = .ok (.invokevirtual 59, 3) := dk_182 0 59 (dk_at dksX2_bound_9 14 rfl rfl)
theorem dX2_bound_223 : decode cX2_bound 223 = .ok (.checkcast 77, 3) := dk_192 0 77 (dk_at dksX2_bound_9 17 rfl rfl)
theorem dX2_bound_226 : decode cX2_bound 226 = .ok (.invokevirtual 232, 3) := dk_182 0 232 (dk_at dksX2_bound_9 20 rfl rfl)
theorem dX2_bound_229 : decode cX2_bound 229 = .ok (.iadd, 1) := dk_96 (dk_at dksX2_bound_9 23 rfl rfl)
theorem dX2_bound_230 : decode cX2_bound 230 = .ok (.invokestatic 147, 3) := dk_184 0 147 (dk_at dksX2_bound_10 0 rfl rfl)
theorem dX2_bound_233 : decode cX2_bound 233 = .ok (.istore 5, 2) := dk_54 5 (dk_at dksX2_bound_10 3 rfl rfl)
theorem dX2_bound_235 : decode cX2_bound 235 = .ok (.iinc 6 1, 3) := dk_132 6 1 (dk_at dksX2_bound_10 5 rfl rfl)
theorem dX2_bound_238 : decode cX2_bound 238 = .ok (.goto (-165), 3) := dk_167 255 91 (dk_at dksX2_bound_10 8 rfl rfl)
theorem dX2_bound_241 : decode cX2_bound 241 = .ok (.iload 5, 2) := dk_21 5 (dk_at dksX2_bound_10 11 rfl rfl)
theorem dX2_bound_243 : decode cX2_bound 243 = .ok (.ireturn, 1) := dk_172 (dk_at dksX2_bound_10 13 rfl rfl)
abbrev cX2_head : ByteArray := prog_15_method_24_code
def yX2_head : MethodName := ⟨RX2, "head", "(LSetupJobShop$Operation;)I"⟩
def dkwX2_head_2 : List UInt8 := [29, 182, 0, 59, 192, 0, 77, 180, 0, 85, 96, 61, 132, 3, 1, 167, 255, 215, 28, 172]
abbrev dktX2_head_2 : List UInt8 := dkwX2_head_2 ++ []
def dkwX2_head_1 : List UInt8 := [180, 0, 140, 162, 0, 39, 28, 42, 180, 0, 12, 43, 180, 0, 79, 182, 0, 59, 192, 0, 63, 180, 0, 111]
abbrev dktX2_head_1 : List UInt8 := dkwX2_head_1 ++ dktX2_head_2
def dkwX2_head_0 : List UInt8 := [42, 180, 0, 12, 43, 180, 0, 79, 182, 0, 59, 192, 0, 63, 182, 0, 65, 61, 3, 62, 29, 43]
abbrev dktX2_head_0 : List UInt8 := dkwX2_head_0 ++ dktX2_head_1
theorem dksX2_head_0 : cX2_head.data.toList.drop 0 = dktX2_head_0 := by decide +kernel
theorem dksX2_head_1 : cX2_head.data.toList.drop 22 = dktX2_head_1 := dk_seg dksX2_head_0 22 rfl rfl
theorem dksX2_head_2 : cX2_head.data.toList.drop 46 = dktX2_head_2 := dk_seg dksX2_head_1 24 rfl rfl
theorem dX2_head_0 : decode cX2_head 0 = .ok (.aload_n 0, 1) := dk_42 (dk_at dksX2_head_0 0 rfl rfl)
theorem dX2_head_1 : decode cX2_head 1 = .ok (.getfield 12, 3) := dk_180 0 12 (dk_at dksX2_head_0 1 rfl rfl)
theorem dX2_head_4 : decode cX2_head 4 = .ok (.aload_n 1, 1) := dk_43 (dk_at dksX2_head_0 4 rfl rfl)
theorem dX2_head_5 : decode cX2_head 5 = .ok (.getfield 79, 3) := dk_180 0 79 (dk_at dksX2_head_0 5 rfl rfl)
theorem dX2_head_8 : decode cX2_head 8 = .ok (.invokevirtual 59, 3) := dk_182 0 59 (dk_at dksX2_head_0 8 rfl rfl)
theorem dX2_head_11 : decode cX2_head 11 = .ok (.checkcast 63, 3) := dk_192 0 63 (dk_at dksX2_head_0 11 rfl rfl)
theorem dX2_head_14 : decode cX2_head 14 = .ok (.invokevirtual 65, 3) := dk_182 0 65 (dk_at dksX2_head_0 14 rfl rfl)
theorem dX2_head_17 : decode cX2_head 17 = .ok (.istore_n 2, 1) := dk_61 (dk_at dksX2_head_0 17 rfl rfl)
theorem dX2_head_18 : decode cX2_head 18 = .ok (.iconst 0, 1) := dk_3 (dk_at dksX2_head_0 18 rfl rfl)
theorem dX2_head_19 : decode cX2_head 19 = .ok (.istore_n 3, 1) := dk_62 (dk_at dksX2_head_0 19 rfl rfl)
theorem dX2_head_20 : decode cX2_head 20 = .ok (.iload_n 3, 1) := dk_29 (dk_at dksX2_head_0 20 rfl rfl)
theorem dX2_head_21 : decode cX2_head 21 = .ok (.aload_n 1, 1) := dk_43 (dk_at dksX2_head_0 21 rfl rfl)
theorem dX2_head_22 : decode cX2_head 22 = .ok (.getfield 140, 3) := dk_180 0 140 (dk_at dksX2_head_1 0 rfl rfl)
theorem dX2_head_25 : decode cX2_head 25 = .ok (.if_icmp .ge 39, 3) := dk_162 0 39 (dk_at dksX2_head_1 3 rfl rfl)
theorem dX2_head_28 : decode cX2_head 28 = .ok (.iload_n 2, 1) := dk_28 (dk_at dksX2_head_1 6 rfl rfl)
theorem dX2_head_29 : decode cX2_head 29 = .ok (.aload_n 0, 1) := dk_42 (dk_at dksX2_head_1 7 rfl rfl)
theorem dX2_head_30 : decode cX2_head 30 = .ok (.getfield 12, 3) := dk_180 0 12 (dk_at dksX2_head_1 8 rfl rfl)
theorem dX2_head_33 : decode cX2_head 33 = .ok (.aload_n 1, 1) := dk_43 (dk_at dksX2_head_1 11 rfl rfl)
theorem dX2_head_34 : decode cX2_head 34 = .ok (.getfield 79, 3) := dk_180 0 79 (dk_at dksX2_head_1 12 rfl rfl)
theorem dX2_head_37 : decode cX2_head 37 = .ok (.invokevirtual 59, 3) := dk_182 0 59 (dk_at dksX2_head_1 15 rfl rfl)
theorem dX2_head_40 : decode cX2_head 40 = .ok (.checkcast 63, 3) := dk_192 0 63 (dk_at dksX2_head_1 18 rfl rfl)
theorem dX2_head_43 : decode cX2_head 43 = .ok (.getfield 111, 3) := dk_180 0 111 (dk_at dksX2_head_1 21 rfl rfl)
theorem dX2_head_46 : decode cX2_head 46 = .ok (.iload_n 3, 1) := dk_29 (dk_at dksX2_head_2 0 rfl rfl)
theorem dX2_head_47 : decode cX2_head 47 = .ok (.invokevirtual 59, 3) := dk_182 0 59 (dk_at dksX2_head_2 1 rfl rfl)
theorem dX2_head_50 : decode cX2_head 50 = .ok (.checkcast 77, 3) := dk_192 0 77 (dk_at dksX2_head_2 4 rfl rfl)
theorem dX2_head_53 : decode cX2_head 53 = .ok (.getfield 85, 3) := dk_180 0 85 (dk_at dksX2_head_2 7 rfl rfl)
theorem dX2_head_56 : decode cX2_head 56 = .ok (.iadd, 1) := dk_96 (dk_at dksX2_head_2 10 rfl rfl)
theorem dX2_head_57 : decode cX2_head 57 = .ok (.istore_n 2, 1) := dk_61 (dk_at dksX2_head_2 11 rfl rfl)
theorem dX2_head_58 : decode cX2_head 58 = .ok (.iinc 3 1, 3) := dk_132 3 1 (dk_at dksX2_head_2 12 rfl rfl)
theorem dX2_head_61 : decode cX2_head 61 = .ok (.goto (-41), 3) := dk_167 255 215 (dk_at dksX2_head_2 15 rfl rfl)
theorem dX2_head_64 : decode cX2_head 64 = .ok (.iload_n 2, 1) := dk_28 (dk_at dksX2_head_2 18 rfl rfl)
theorem dX2_head_65 : decode cX2_head 65 = .ok (.ireturn, 1) := dk_172 (dk_at dksX2_head_2 19 rfl rfl)
abbrev cX2_precedes : ByteArray := prog_15_method_27_code
def yX2_precedes : MethodName := ⟨RX2, "precedes", "(LSetupJobShop$Operation;LSetupJobShop$Operation;)Z"⟩
def dkwX2_precedes_2 : List UInt8 := [167, 0, 4, 3, 172]
abbrev dktX2_precedes_2 : List UInt8 := dkwX2_precedes_2 ++ []
def dkwX2_precedes_1 : List UInt8 := [164, 0, 7, 4, 167, 0, 23, 3, 167, 0, 19, 43, 180, 0, 115, 44, 180, 0, 115, 162, 0, 7, 4]
abbrev dktX2_precedes_1 : List UInt8 := dkwX2_precedes_1 ++ dktX2_precedes_2
def dkwX2_precedes_0 : List UInt8 := [42, 43, 182, 0, 232, 42, 44, 182, 0, 232, 159, 0, 24, 42, 43, 182, 0, 232, 42, 44, 182, 0, 232]
abbrev dktX2_precedes_0 : List UInt8 := dkwX2_precedes_0 ++ dktX2_precedes_1
theorem dksX2_precedes_0 : cX2_precedes.data.toList.drop 0 = dktX2_precedes_0 := by decide +kernel
theorem dksX2_precedes_1 : cX2_precedes.data.toList.drop 23 = dktX2_precedes_1 := dk_seg dksX2_precedes_0 23 rfl rfl
theorem dksX2_precedes_2 : cX2_precedes.data.toList.drop 46 = dktX2_precedes_2 := dk_seg dksX2_precedes_1 23 rfl rfl
theorem dX2_precedes_0 : decode cX2_precedes 0 = .ok (.aload_n 0, 1) := dk_42 (dk_at dksX2_precedes_0 0 rfl rfl)
theorem dX2_precedes_1 : decode cX2_precedes 1 = .ok (.aload_n 1, 1) := dk_43 (dk_at dksX2_precedes_0 1 rfl rfl)
theorem dX2_precedes_2 : decode cX2_precedes 2 = .ok (.invokevirtual 232, 3) := dk_182 0 232 (dk_at dksX2_precedes_0 2 rfl rfl)
theorem dX2_precedes_5 : decode cX2_precedes 5 = .ok (.aload_n 0, 1) := dk_42 (dk_at dksX2_precedes_0 5 rfl rfl)
theorem dX2_precedes_6 : decode cX2_precedes 6 = .ok (.aload_n 2, 1) := dk_44 (dk_at dksX2_precedes_0 6 rfl rfl)
theorem dX2_precedes_7 : decode cX2_precedes 7 = .ok (.invokevirtual 232, 3) := dk_182 0 232 (dk_at dksX2_precedes_0 7 rfl rfl)
theorem dX2_precedes_10 : decode cX2_precedes 10 = .ok (.if_icmp .eq 24, 3) := dk_159 0 24 (dk_at dksX2_precedes_0 10 rfl rfl)
theorem dX2_precedes_13 : decode cX2_precedes 13 = .ok (.aload_n 0, 1) := dk_42 (dk_at dksX2_precedes_0 13 rfl rfl)
theorem dX2_precedes_14 : decode cX2_precedes 14 = .ok (.aload_n 1, 1) := dk_43 (dk_at dksX2_precedes_0 14 rfl rfl)
theorem dX2_precedes_15 : decode cX2_precedes 15 = .ok (.invokevirtual 232, 3) := dk_182 0 232 (dk_at dksX2_precedes_0 15 rfl rfl)
theorem dX2_precedes_18 : decode cX2_precedes 18 = .ok (.aload_n 0, 1) := dk_42 (dk_at dksX2_precedes_0 18 rfl rfl)
theorem dX2_precedes_19 : decode cX2_precedes 19 = .ok (.aload_n 2, 1) := dk_44 (dk_at dksX2_precedes_0 19 rfl rfl)
theorem dX2_precedes_20 : decode cX2_precedes 20 = .ok (.invokevirtual 232, 3) := dk_182 0 232 (dk_at dksX2_precedes_0 20 rfl rfl)
theorem dX2_precedes_23 : decode cX2_precedes 23 = .ok (.if_icmp .le 7, 3) := dk_164 0 7 (dk_at dksX2_precedes_1 0 rfl rfl)
theorem dX2_precedes_26 : decode cX2_precedes 26 = .ok (.iconst 1, 1) := dk_4 (dk_at dksX2_precedes_1 3 rfl rfl)
theorem dX2_precedes_27 : decode cX2_precedes 27 = .ok (.goto 23, 3) := dk_167 0 23 (dk_at dksX2_precedes_1 4 rfl rfl)
theorem dX2_precedes_30 : decode cX2_precedes 30 = .ok (.iconst 0, 1) := dk_3 (dk_at dksX2_precedes_1 7 rfl rfl)
theorem dX2_precedes_31 : decode cX2_precedes 31 = .ok (.goto 19, 3) := dk_167 0 19 (dk_at dksX2_precedes_1 8 rfl rfl)
theorem dX2_precedes_34 : decode cX2_precedes 34 = .ok (.aload_n 1, 1) := dk_43 (dk_at dksX2_precedes_1 11 rfl rfl)
theorem dX2_precedes_35 : decode cX2_precedes 35 = .ok (.getfield 115, 3) := dk_180 0 115 (dk_at dksX2_precedes_1 12 rfl rfl)
theorem dX2_precedes_38 : decode cX2_precedes 38 = .ok (.aload_n 2, 1) := dk_44 (dk_at dksX2_precedes_1 15 rfl rfl)
theorem dX2_precedes_39 : decode cX2_precedes 39 = .ok (.getfield 115, 3) := dk_180 0 115 (dk_at dksX2_precedes_1 16 rfl rfl)
theorem dX2_precedes_42 : decode cX2_precedes 42 = .ok (.if_icmp .ge 7, 3) := dk_162 0 7 (dk_at dksX2_precedes_1 19 rfl rfl)
theorem dX2_precedes_45 : decode cX2_precedes 45 = .ok (.iconst 1, 1) := dk_4 (dk_at dksX2_precedes_1 22 rfl rfl)
theorem dX2_precedes_46 : decode cX2_precedes 46 = .ok (.goto 4, 3) := dk_167 0 4 (dk_at dksX2_precedes_2 0 rfl rfl)
theorem dX2_precedes_49 : decode cX2_precedes 49 = .ok (.iconst 0, 1) := dk_3 (dk_at dksX2_precedes_2 3 rfl rfl)
theorem dX2_precedes_50 : decode cX2_precedes 50 = .ok (.ireturn, 1) := dk_172 (dk_at dksX2_precedes_2 4 rfl rfl)
abbrev cX2_tail : ByteArray := prog_15_method_25_code
def yX2_tail : MethodName := ⟨RX2, "tail", "(LSetupJobShop$Operation;)I"⟩
def dkwX2_tail_0 : List UInt8 := [42, 180, 0, 12, 43, 180, 0, 79, 182, 0, 59, 192, 0, 63, 43, 180, 0, 140, 4, 96, 182, 0, 222, 172]
abbrev dktX2_tail_0 : List UInt8 := dkwX2_tail_0 ++ []
theorem dksX2_tail_0 : cX2_tail.data.toList.drop 0 = dktX2_tail_0 := by decide +kernel
theorem dX2_tail_0 : decode cX2_tail 0 = .ok (.aload_n 0, 1) := dk_42 (dk_at dksX2_tail_0 0 rfl rfl)
theorem dX2_tail_1 : decode cX2_tail 1 = .ok (.getfield 12, 3) := dk_180 0 12 (dk_at dksX2_tail_0 1 rfl rfl)
theorem dX2_tail_4 : decode cX2_tail 4 = .ok (.aload_n 1, 1) := dk_43 (dk_at dksX2_tail_0 4 rfl rfl)
theorem dX2_tail_5 : decode cX2_tail 5 = .ok (.getfield 79, 3) := dk_180 0 79 (dk_at dksX2_tail_0 5 rfl rfl)
theorem dX2_tail_8 : decode cX2_tail 8 = .ok (.invokevirtual 59, 3) := dk_182 0 59 (dk_at dksX2_tail_0 8 rfl rfl)
theorem dX2_tail_11 : decode cX2_tail 11 = .ok (.checkcast 63, 3) := dk_192 0 63 (dk_at dksX2_tail_0 11 rfl rfl)
theorem dX2_tail_14 : decode cX2_tail 14 = .ok (.aload_n 1, 1) := dk_43 (dk_at dksX2_tail_0 14 rfl rfl)
theorem dX2_tail_15 : decode cX2_tail 15 = .ok (.getfield 140, 3) := dk_180 0 140 (dk_at dksX2_tail_0 15 rfl rfl)
theorem dX2_tail_18 : decode cX2_tail 18 = .ok (.iconst 1, 1) := dk_4 (dk_at dksX2_tail_0 18 rfl rfl)
theorem dX2_tail_19 : decode cX2_tail 19 = .ok (.iadd, 1) := dk_96 (dk_at dksX2_tail_0 19 rfl rfl)
theorem dX2_tail_20 : decode cX2_tail 20 = .ok (.invokevirtual 222, 3) := dk_182 0 222 (dk_at dksX2_tail_0 20 rfl rfl)
theorem dX2_tail_23 : decode cX2_tail 23 = .ok (.ireturn, 1) := dk_172 (dk_at dksX2_tail_0 23 rfl rfl)
abbrev cX2_init_2 : ByteArray := prog_15_method_2_code
def yX2_init_2 : MethodName := ⟨RX2, "<init>", "(LSetupJobShop$Shop;)V"⟩
def dkwX2_init_2_8 : List UInt8 := [192, 0, 51, 182, 0, 107, 132, 2, 1, 167, 255, 197, 177]
abbrev dktX2_init_2_8 : List UInt8 := dkwX2_init_2_8 ++ []
def dkwX2_init_2_7 : List UInt8 := [182, 0, 103, 87, 42, 180, 0, 28, 28, 182, 0, 59, 192, 0, 51, 43, 180, 0, 28, 28, 182, 0, 59]
abbrev dktX2_init_2_7 : List UInt8 := dkwX2_init_2_7 ++ dktX2_init_2_8
def dkwX2_init_2_6 : List UInt8 := [42, 180, 0, 25, 28, 182, 0, 59, 192, 0, 9, 43, 180, 0, 25, 28, 182, 0, 59, 192, 0, 101]
abbrev dktX2_init_2_6 : List UInt8 := dkwX2_init_2_6 ++ dktX2_init_2_7
def dkwX2_init_2_5 : List UInt8 := [180, 0, 21, 3, 42, 180, 0, 21, 3, 42, 180, 0, 21, 190, 184, 0, 95, 3, 61, 28, 7, 162, 0, 60]
abbrev dktX2_init_2_5 : List UInt8 := dkwX2_init_2_5 ++ dktX2_init_2_6
def dkwX2_init_2_4 : List UInt8 := [180, 0, 82, 45, 180, 0, 85, 45, 180, 0, 88, 182, 0, 91, 87, 132, 2, 1, 167, 255, 209, 43]
abbrev dktX2_init_2_4 : List UInt8 := dkwX2_init_2_4 ++ dktX2_init_2_5
def dkwX2_init_2_3 : List UInt8 := [182, 0, 55, 162, 0, 42, 43, 180, 0, 18, 28, 182, 0, 59, 192, 0, 77, 78, 42, 45, 180, 0, 79, 45]
abbrev dktX2_init_2_3 : List UInt8 := dkwX2_init_2_3 ++ dktX2_init_2_4
def dkwX2_init_2_2 : List UInt8 := [182, 0, 71, 183, 0, 74, 182, 0, 47, 87, 132, 2, 1, 167, 255, 203, 3, 61, 28, 43, 180, 0, 18]
abbrev dktX2_init_2_2 : List UInt8 := dkwX2_init_2_2 ++ dktX2_init_2_3
def dkwX2_init_2_1 : List UInt8 := [182, 0, 59, 192, 0, 63, 78, 42, 180, 0, 12, 187, 0, 63, 89, 45, 182, 0, 65, 45, 182, 0, 68, 45]
abbrev dktX2_init_2_1 : List UInt8 := dkwX2_init_2_1 ++ dktX2_init_2_2
def dkwX2_init_2_0 : List UInt8 := [42, 183, 0, 54, 3, 61, 28, 43, 180, 0, 12, 182, 0, 55, 162, 0, 48, 43, 180, 0, 12, 28]
abbrev dktX2_init_2_0 : List UInt8 := dkwX2_init_2_0 ++ dktX2_init_2_1
theorem dksX2_init_2_0 : cX2_init_2.data.toList.drop 0 = dktX2_init_2_0 := by decide +kernel
theorem dksX2_init_2_1 : cX2_init_2.data.toList.drop 22 = dktX2_init_2_1 := dk_seg dksX2_init_2_0 22 rfl rfl
theorem dksX2_init_2_2 : cX2_init_2.data.toList.drop 46 = dktX2_init_2_2 := dk_seg dksX2_init_2_1 24 rfl rfl
theorem dksX2_init_2_3 : cX2_init_2.data.toList.drop 69 = dktX2_init_2_3 := dk_seg dksX2_init_2_2 23 rfl rfl
theorem dksX2_init_2_4 : cX2_init_2.data.toList.drop 93 = dktX2_init_2_4 := dk_seg dksX2_init_2_3 24 rfl rfl
theorem dksX2_init_2_5 : cX2_init_2.data.toList.drop 115 = dktX2_init_2_5 := dk_seg dksX2_init_2_4 22 rfl rfl
theorem dksX2_init_2_6 : cX2_init_2.data.toList.drop 139 = dktX2_init_2_6 := dk_seg dksX2_init_2_5 24 rfl rfl
theorem dksX2_init_2_7 : cX2_init_2.data.toList.drop 161 = dktX2_init_2_7 := dk_seg dksX2_init_2_6 22 rfl rfl
theorem dksX2_init_2_8 : cX2_init_2.data.toList.drop 184 = dktX2_init_2_8 := dk_seg dksX2_init_2_7 23 rfl rfl
theorem dX2_init_2_0 : decode cX2_init_2 0 = .ok (.aload_n 0, 1) := dk_42 (dk_at dksX2_init_2_0 0 rfl rfl)
theorem dX2_init_2_1 : decode cX2_init_2 1 = .ok (.invokespecial 54, 3) := dk_183 0 54 (dk_at dksX2_init_2_0 1 rfl rfl)
theorem dX2_init_2_4 : decode cX2_init_2 4 = .ok (.iconst 0, 1) := dk_3 (dk_at dksX2_init_2_0 4 rfl rfl)
theorem dX2_init_2_5 : decode cX2_init_2 5 = .ok (.istore_n 2, 1) := dk_61 (dk_at dksX2_init_2_0 5 rfl rfl)
theorem dX2_init_2_6 : decode cX2_init_2 6 = .ok (.iload_n 2, 1) := dk_28 (dk_at dksX2_init_2_0 6 rfl rfl)
theorem dX2_init_2_7 : decode cX2_init_2 7 = .ok (.aload_n 1, 1) := dk_43 (dk_at dksX2_init_2_0 7 rfl rfl)
theorem dX2_init_2_8 : decode cX2_init_2 8 = .ok (.getfield 12, 3) := dk_180 0 12 (dk_at dksX2_init_2_0 8 rfl rfl)
theorem dX2_init_2_11 : decode cX2_init_2 11 = .ok (.invokevirtual 55, 3) := dk_182 0 55 (dk_at dksX2_init_2_0 11 rfl rfl)
theorem dX2_init_2_14 : decode cX2_init_2 14 = .ok (.if_icmp .ge 48, 3) := dk_162 0 48 (dk_at dksX2_init_2_0 14 rfl rfl)
theorem dX2_init_2_17 : decode cX2_init_2 17 = .ok (.aload_n 1, 1) := dk_43 (dk_at dksX2_init_2_0 17 rfl rfl)
theorem dX2_init_2_18 : decode cX2_init_2 18 = .ok (.getfield 12, 3) := dk_180 0 12 (dk_at dksX2_init_2_0 18 rfl rfl)
theorem dX2_init_2_21 : decode cX2_init_2 21 = .ok (.iload_n 2, 1) := dk_28 (dk_at dksX2_init_2_0 21 rfl rfl)
theorem dX2_init_2_22 : decode cX2_init_2 22 = .ok (.invokevirtual 59, 3) := dk_182 0 59 (dk_at dksX2_init_2_1 0 rfl rfl)
theorem dX2_init_2_25 : decode cX2_init_2 25 = .ok (.checkcast 63, 3) := dk_192 0 63 (dk_at dksX2_init_2_1 3 rfl rfl)
theorem dX2_init_2_28 : decode cX2_init_2 28 = .ok (.astore_n 3, 1) := dk_78 (dk_at dksX2_init_2_1 6 rfl rfl)
theorem dX2_init_2_29 : decode cX2_init_2 29 = .ok (.aload_n 0, 1) := dk_42 (dk_at dksX2_init_2_1 7 rfl rfl)
theorem dX2_init_2_30 : decode cX2_init_2 30 = .ok (.getfield 12, 3) := dk_180 0 12 (dk_at dksX2_init_2_1 8 rfl rfl)
theorem dX2_init_2_33 : decode cX2_init_2 33 = .ok (.new 63, 3) := dk_187 0 63 (dk_at dksX2_init_2_1 11 rfl rfl)
theorem dX2_init_2_36 : decode cX2_init_2 36 = .ok (.dup, 1) := dk_89 (dk_at dksX2_init_2_1 14 rfl rfl)
theorem dX2_init_2_37 : decode cX2_init_2 37 = .ok (.aload_n 3, 1) := dk_45 (dk_at dksX2_init_2_1 15 rfl rfl)
theorem dX2_init_2_38 : decode cX2_init_2 38 = .ok (.invokevirtual 65, 3) := dk_182 0 65 (dk_at dksX2_init_2_1 16 rfl rfl)
theorem dX2_init_2_41 : decode cX2_init_2 41 = .ok (.aload_n 3, 1) := dk_45 (dk_at dksX2_init_2_1 19 rfl rfl)
theorem dX2_init_2_42 : decode cX2_init_2 42 = .ok (.invokevirtual 68, 3) := dk_182 0 68 (dk_at dksX2_init_2_1 20 rfl rfl)
theorem dX2_init_2_45 : decode cX2_init_2 45 = .ok (.aload_n 3, 1) := dk_45 (dk_at dksX2_init_2_1 23 rfl rfl)
theorem dX2_init_2_46 : decode cX2_init_2 46 = .ok (.invokevirtual 71, 3) := dk_182 0 71 (dk_at dksX2_init_2_2 0 rfl rfl)
theorem dX2_init_2_49 : decode cX2_init_2 49 = .ok (.invokespecial 74, 3) := dk_183 0 74 (dk_at dksX2_init_2_2 3 rfl rfl)
theorem dX2_init_2_52 : decode cX2_init_2 52 = .ok (.invokevirtual 47, 3) := dk_182 0 47 (dk_at dksX2_init_2_2 6 rfl rfl)
theorem dX2_init_2_55 : decode cX2_init_2 55 = .ok (.pop, 1) := dk_87 (dk_at dksX2_init_2_2 9 rfl rfl)
theorem dX2_init_2_56 : decode cX2_init_2 56 = .ok (.iinc 2 1, 3) := dk_132 2 1 (dk_at dksX2_init_2_2 10 rfl rfl)
theorem dX2_init_2_59 : decode cX2_init_2 59 = .ok (.goto (-53), 3) := dk_167 255 203 (dk_at dksX2_init_2_2 13 rfl rfl)
theorem dX2_init_2_62 : decode cX2_init_2 62 = .ok (.iconst 0, 1) := dk_3 (dk_at dksX2_init_2_2 16 rfl rfl)
theorem dX2_init_2_63 : decode cX2_init_2 63 = .ok (.istore_n 2, 1) := dk_61 (dk_at dksX2_init_2_2 17 rfl rfl)
theorem dX2_init_2_64 : decode cX2_init_2 64 = .ok (.iload_n 2, 1) := dk_28 (dk_at dksX2_init_2_2 18 rfl rfl)
theorem dX2_init_2_65 : decode cX2_init_2 65 = .ok (.aload_n 1, 1) := dk_43 (dk_at dksX2_init_2_2 19 rfl rfl)
theorem dX2_init_2_66 : decode cX2_init_2 66 = .ok (.getfield 18, 3) := dk_180 0 18 (dk_at dksX2_init_2_2 20 rfl rfl)
theorem dX2_init_2_69 : decode cX2_init_2 69 = .ok (.invokevirtual 55, 3) := dk_182 0 55 (dk_at dksX2_init_2_3 0 rfl rfl)
theorem dX2_init_2_72 : decode cX2_init_2 72 = .ok (.if_icmp .ge 42, 3) := dk_162 0 42 (dk_at dksX2_init_2_3 3 rfl rfl)
theorem dX2_init_2_75 : decode cX2_init_2 75 = .ok (.aload_n 1, 1) := dk_43 (dk_at dksX2_init_2_3 6 rfl rfl)
theorem dX2_init_2_76 : decode cX2_init_2 76 = .ok (.getfield 18, 3) := dk_180 0 18 (dk_at dksX2_init_2_3 7 rfl rfl)
theorem dX2_init_2_79 : decode cX2_init_2 79 = .ok (.iload_n 2, 1) := dk_28 (dk_at dksX2_init_2_3 10 rfl rfl)
theorem dX2_init_2_80 : decode cX2_init_2 80 = .ok (.invokevirtual 59, 3) := dk_182 0 59 (dk_at dksX2_init_2_3 11 rfl rfl)
theorem dX2_init_2_83 : decode cX2_init_2 83 = .ok (.checkcast 77, 3) := dk_192 0 77 (dk_at dksX2_init_2_3 14 rfl rfl)
theorem dX2_init_2_86 : decode cX2_init_2 86 = .ok (.astore_n 3, 1) := dk_78 (dk_at dksX2_init_2_3 17 rfl rfl)
theorem dX2_init_2_87 : decode cX2_init_2 87 = .ok (.aload_n 0, 1) := dk_42 (dk_at dksX2_init_2_3 18 rfl rfl)
theorem dX2_init_2_88 : decode cX2_init_2 88 = .ok (.aload_n 3, 1) := dk_45 (dk_at dksX2_init_2_3 19 rfl rfl)
theorem dX2_init_2_89 : decode cX2_init_2 89 = .ok (.getfield 79, 3) := dk_180 0 79 (dk_at dksX2_init_2_3 20 rfl rfl)
theorem dX2_init_2_92 : decode cX2_init_2 92 = .ok (.aload_n 3, 1) := dk_45 (dk_at dksX2_init_2_3 23 rfl rfl)
theorem dX2_init_2_93 : decode cX2_init_2 93 = .ok (.getfield 82, 3) := dk_180 0 82 (dk_at dksX2_init_2_4 0 rfl rfl)
theorem dX2_init_2_96 : decode cX2_init_2 96 = .ok (.aload_n 3, 1) := dk_45 (dk_at dksX2_init_2_4 3 rfl rfl)
theorem dX2_init_2_97 : decode cX2_init_2 97 = .ok (.getfield 85, 3) := dk_180 0 85 (dk_at dksX2_init_2_4 4 rfl rfl)
theorem dX2_init_2_100 : decode cX2_init_2 100 = .ok (.aload_n 3, 1) := dk_45 (dk_at dksX2_init_2_4 7 rfl rfl)
theorem dX2_init_2_101 : decode cX2_init_2 101 = .ok (.getfield 88, 3) := dk_180 0 88 (dk_at dksX2_init_2_4 8 rfl rfl)
theorem dX2_init_2_104 : decode cX2_init_2 104 = .ok (.invokevirtual 91, 3) := dk_182 0 91 (dk_at dksX2_init_2_4 11 rfl rfl)
theorem dX2_init_2_107 : decode cX2_init_2 107 = .ok (.pop, 1) := dk_87 (dk_at dksX2_init_2_4 14 rfl rfl)
theorem dX2_init_2_108 : decode cX2_init_2 108 = .ok (.iinc 2 1, 3) := dk_132 2 1 (dk_at dksX2_init_2_4 15 rfl rfl)
theorem dX2_init_2_111 : decode cX2_init_2 111 = .ok (.goto (-47), 3) := dk_167 255 209 (dk_at dksX2_init_2_4 18 rfl rfl)
theorem dX2_init_2_114 : decode cX2_init_2 114 = .ok (.aload_n 1, 1) := dk_43 (dk_at dksX2_init_2_4 21 rfl rfl)
theorem dX2_init_2_115 : decode cX2_init_2 115 = .ok (.getfield 21, 3) := dk_180 0 21 (dk_at dksX2_init_2_5 0 rfl rfl)
theorem dX2_init_2_118 : decode cX2_init_2 118 = .ok (.iconst 0, 1) := dk_3 (dk_at dksX2_init_2_5 3 rfl rfl)
theorem dX2_init_2_119 : decode cX2_init_2 119 = .ok (.aload_n 0, 1) := dk_42 (dk_at dksX2_init_2_5 4 rfl rfl)
theorem dX2_init_2_120 : decode cX2_init_2 120 = .ok (.getfield 21, 3) := dk_180 0 21 (dk_at dksX2_init_2_5 5 rfl rfl)
theorem dX2_init_2_123 : decode cX2_init_2 123 = .ok (.iconst 0, 1) := dk_3 (dk_at dksX2_init_2_5 8 rfl rfl)
theorem dX2_init_2_124 : decode cX2_init_2 124 = .ok (.aload_n 0, 1) := dk_42 (dk_at dksX2_init_2_5 9 rfl rfl)
theorem dX2_init_2_125 : decode cX2_init_2 125 = .ok (.getfield 21, 3) := dk_180 0 21 (dk_at dksX2_init_2_5 10 rfl rfl)
theorem dX2_init_2_128 : decode cX2_init_2 128 = .ok (.arraylength, 1) := dk_190 (dk_at dksX2_init_2_5 13 rfl rfl)
theorem dX2_init_2_129 : decode cX2_init_2 129 = .ok (.invokestatic 95, 3) := dk_184 0 95 (dk_at dksX2_init_2_5 14 rfl rfl)
theorem dX2_init_2_132 : decode cX2_init_2 132 = .ok (.iconst 0, 1) := dk_3 (dk_at dksX2_init_2_5 17 rfl rfl)
theorem dX2_init_2_133 : decode cX2_init_2 133 = .ok (.istore_n 2, 1) := dk_61 (dk_at dksX2_init_2_5 18 rfl rfl)
theorem dX2_init_2_134 : decode cX2_init_2 134 = .ok (.iload_n 2, 1) := dk_28 (dk_at dksX2_init_2_5 19 rfl rfl)
theorem dX2_init_2_135 : decode cX2_init_2 135 = .ok (.iconst 4, 1) := dk_7 (dk_at dksX2_init_2_5 20 rfl rfl)
theorem dX2_init_2_136 : decode cX2_init_2 136 = .ok (.if_icmp .ge 60, 3) := dk_162 0 60 (dk_at dksX2_init_2_5 21 rfl rfl)
theorem dX2_init_2_139 : decode cX2_init_2 139 = .ok (.aload_n 0, 1) := dk_42 (dk_at dksX2_init_2_6 0 rfl rfl)
theorem dX2_init_2_140 : decode cX2_init_2 140 = .ok (.getfield 25, 3) := dk_180 0 25 (dk_at dksX2_init_2_6 1 rfl rfl)
theorem dX2_init_2_143 : decode cX2_init_2 143 = .ok (.iload_n 2, 1) := dk_28 (dk_at dksX2_init_2_6 4 rfl rfl)
theorem dX2_init_2_144 : decode cX2_init_2 144 = .ok (.invokevirtual 59, 3) := dk_182 0 59 (dk_at dksX2_init_2_6 5 rfl rfl)
theorem dX2_init_2_147 : decode cX2_init_2 147 = .ok (.checkcast 9, 3) := dk_192 0 9 (dk_at dksX2_init_2_6 8 rfl rfl)
theorem dX2_init_2_150 : decode cX2_init_2 150 = .ok (.aload_n 1, 1) := dk_43 (dk_at dksX2_init_2_6 11 rfl rfl)
theorem dX2_init_2_151 : decode cX2_init_2 151 = .ok (.getfield 25, 3) := dk_180 0 25 (dk_at dksX2_init_2_6 12 rfl rfl)
theorem dX2_init_2_154 : decode cX2_init_2 154 = .ok (.iload_n 2, 1) := dk_28 (dk_at dksX2_init_2_6 15 rfl rfl)
theorem dX2_init_2_155 : decode cX2_init_2 155 = .ok (.invokevirtual 59, 3) := dk_182 0 59 (dk_at dksX2_init_2_6 16 rfl rfl)
theorem dX2_init_2_158 : decode cX2_init_2 158 = .ok (.checkcast 101, 3) := dk_192 0 101 (dk_at dksX2_init_2_6 19 rfl rfl)
theorem dX2_init_2_161 : decode cX2_init_2 161 = .ok (.invokevirtual 103, 3) := dk_182 0 103 (dk_at dksX2_init_2_7 0 rfl rfl)
theorem dX2_init_2_164 : decode cX2_init_2 164 = .ok (.pop, 1) := dk_87 (dk_at dksX2_init_2_7 3 rfl rfl)
theorem dX2_init_2_165 : decode cX2_init_2 165 = .ok (.aload_n 0, 1) := dk_42 (dk_at dksX2_init_2_7 4 rfl rfl)
theorem dX2_init_2_166 : decode cX2_init_2 166 = .ok (.getfield 28, 3) := dk_180 0 28 (dk_at dksX2_init_2_7 5 rfl rfl)
theorem dX2_init_2_169 : decode cX2_init_2 169 = .ok (.iload_n 2, 1) := dk_28 (dk_at dksX2_init_2_7 8 rfl rfl)
theorem dX2_init_2_170 : decode cX2_init_2 170 = .ok (.invokevirtual 59, 3) := dk_182 0 59 (dk_at dksX2_init_2_7 9 rfl rfl)
theorem dX2_init_2_173 : decode cX2_init_2 173 = .ok (.checkcast 51, 3) := dk_192 0 51 (dk_at dksX2_init_2_7 12 rfl rfl)
theorem dX2_init_2_176 : decode cX2_init_2 176 = .ok (.aload_n 1, 1) := dk_43 (dk_at dksX2_init_2_7 15 rfl rfl)
theorem dX2_init_2_177 : decode cX2_init_2 177 = .ok (.getfield 28, 3) := dk_180 0 28 (dk_at dksX2_init_2_7 16 rfl rfl)
theorem dX2_init_2_180 : decode cX2_init_2 180 = .ok (.iload_n 2, 1) := dk_28 (dk_at dksX2_init_2_7 19 rfl rfl)
theorem dX2_init_2_181 : decode cX2_init_2 181 = .ok (.invokevirtual 59, 3) := dk_182 0 59 (dk_at dksX2_init_2_7 20 rfl rfl)
theorem dX2_init_2_184 : decode cX2_init_2 184 = .ok (.checkcast 51, 3) := dk_192 0 51 (dk_at dksX2_init_2_8 0 rfl rfl)
theorem dX2_init_2_187 : decode cX2_init_2 187 = .ok (.invokevirtual 107, 3) := dk_182 0 107 (dk_at dksX2_init_2_8 3 rfl rfl)
theorem dX2_init_2_190 : decode cX2_init_2 190 = .ok (.iinc 2 1, 3) := dk_132 2 1 (dk_at dksX2_init_2_8 6 rfl rfl)
theorem dX2_init_2_193 : decode cX2_init_2 193 = .ok (.goto (-59), 3) := dk_167 255 197 (dk_at dksX2_init_2_8 9 rfl rfl)
theorem dX2_init_2_196 : decode cX2_init_2 196 = .ok (.return_, 1) := dk_177 (dk_at dksX2_init_2_8 12 rfl rfl)
abbrev cX2_addOperation : ByteArray := prog_15_method_3_code
def yX2_addOperation : MethodName := ⟨RX2, "addOperation", "(IIII)I"⟩
def dkwX2_addOperation_3 : List UInt8 := [192, 0, 51, 25, 6, 180, 0, 115, 182, 0, 118, 25, 6, 180, 0, 115, 172]
abbrev dktX2_addOperation_3 : List UInt8 := dkwX2_addOperation_3 ++ []
def dkwX2_addOperation_2 : List UInt8 := [25, 6, 182, 0, 47, 87, 42, 180, 0, 18, 25, 6, 182, 0, 47, 87, 42, 180, 0, 28, 28, 182, 0, 59]
abbrev dktX2_addOperation_2 : List UInt8 := dkwX2_addOperation_2 ++ dktX2_addOperation_3
def dkwX2_addOperation_1 : List UInt8 := [27, 25, 5, 180, 0, 111, 182, 0, 55, 28, 29, 21, 4, 183, 0, 112, 58, 6, 25, 5, 180, 0, 111]
abbrev dktX2_addOperation_1 : List UInt8 := dkwX2_addOperation_1 ++ dktX2_addOperation_2
def dkwX2_addOperation_0 : List UInt8 := [42, 180, 0, 12, 27, 182, 0, 59, 192, 0, 63, 58, 5, 187, 0, 77, 89, 42, 180, 0, 18, 182, 0, 55]
abbrev dktX2_addOperation_0 : List UInt8 := dkwX2_addOperation_0 ++ dktX2_addOperation_1
theorem dksX2_addOperation_0 : cX2_addOperation.data.toList.drop 0 = dktX2_addOperation_0 := by decide +kernel
theorem dksX2_addOperation_1 : cX2_addOperation.data.toList.drop 24 = dktX2_addOperation_1 := dk_seg dksX2_addOperation_0 24 rfl rfl
theorem dksX2_addOperation_2 : cX2_addOperation.data.toList.drop 47 = dktX2_addOperation_2 := dk_seg dksX2_addOperation_1 23 rfl rfl
theorem dksX2_addOperation_3 : cX2_addOperation.data.toList.drop 71 = dktX2_addOperation_3 := dk_seg dksX2_addOperation_2 24 rfl rfl
theorem dX2_addOperation_0 : decode cX2_addOperation 0 = .ok (.aload_n 0, 1) := dk_42 (dk_at dksX2_addOperation_0 0 rfl rfl)
theorem dX2_addOperation_1 : decode cX2_addOperation 1 = .ok (.getfield 12, 3) := dk_180 0 12 (dk_at dksX2_addOperation_0 1 rfl rfl)
theorem dX2_addOperation_4 : decode cX2_addOperation 4 = .ok (.iload_n 1, 1) := dk_27 (dk_at dksX2_addOperation_0 4 rfl rfl)
theorem dX2_addOperation_5 : decode cX2_addOperation 5 = .ok (.invokevirtual 59, 3) := dk_182 0 59 (dk_at dksX2_addOperation_0 5 rfl rfl)
theorem dX2_addOperation_8 : decode cX2_addOperation 8 = .ok (.checkcast 63, 3) := dk_192 0 63 (dk_at dksX2_addOperation_0 8 rfl rfl)
theorem dX2_addOperation_11 : decode cX2_addOperation 11 = .ok (.astore 5, 2) := dk_58 5 (dk_at dksX2_addOperation_0 11 rfl rfl)
theorem dX2_addOperation_13 : decode cX2_addOperation 13 = .ok (.new 77, 3) := dk_187 0 77 (dk_at dksX2_addOperation_0 13 rfl rfl)
theorem dX2_addOperation_16 : decode cX2_addOperation 16 = .ok (.dup, 1) := dk_89 (dk_at dksX2_addOperation_0 16 rfl rfl)
theorem dX2_addOperation_17 : decode cX2_addOperation 17 = .ok (.aload_n 0, 1) := dk_42 (dk_at dksX2_addOperation_0 17 rfl rfl)
theorem dX2_addOperation_18 : decode cX2_addOperation 18 = .ok (.getfield 18, 3) := dk_180 0 18 (dk_at dksX2_addOperation_0 18 rfl rfl)
theorem dX2_addOperation_21 : decode cX2_addOperation 21 = .ok (.invokevirtual 55, 3) := dk_182 0 55 (dk_at dksX2_addOperation_0 21 rfl rfl)
theorem dX2_addOperation_24 : decode cX2_addOperation 24 = .ok (.iload_n 1, 1) := dk_27 (dk_at dksX2_addOperation_1 0 rfl rfl)
theorem dX2_addOperation_25 : decode cX2_addOperation 25 = .ok (.aload 5, 2) := dk_25 5 (dk_at dksX2_addOperation_1 1 rfl rfl)
theorem dX2_addOperation_27 : decode cX2_addOperation 27 = .ok (.getfield 111, 3) := dk_180 0 111 (dk_at dksX2_addOperation_1 3 rfl rfl)
theorem dX2_addOperation_30 : decode cX2_addOperation 30 = .ok (.invokevirtual 55, 3) := dk_182 0 55 (dk_at dksX2_addOperation_1 6 rfl rfl)
theorem dX2_addOperation_33 : decode cX2_addOperation 33 = .ok (.iload_n 2, 1) := dk_28 (dk_at dksX2_addOperation_1 9 rfl rfl)
theorem dX2_addOperation_34 : decode cX2_addOperation 34 = .ok (.iload_n 3, 1) := dk_29 (dk_at dksX2_addOperation_1 10 rfl rfl)
theorem dX2_addOperation_35 : decode cX2_addOperation 35 = .ok (.iload 4, 2) := dk_21 4 (dk_at dksX2_addOperation_1 11 rfl rfl)
theorem dX2_addOperation_37 : decode cX2_addOperation 37 = .ok (.invokespecial 112, 3) := dk_183 0 112 (dk_at dksX2_addOperation_1 13 rfl rfl)
theorem dX2_addOperation_40 : decode cX2_addOperation 40 = .ok (.astore 6, 2) := dk_58 6 (dk_at dksX2_addOperation_1 16 rfl rfl)
theorem dX2_addOperation_42 : decode cX2_addOperation 42 = .ok (.aload 5, 2) := dk_25 5 (dk_at dksX2_addOperation_1 18 rfl rfl)
theorem dX2_addOperation_44 : decode cX2_addOperation 44 = .ok (.getfield 111, 3) := dk_180 0 111 (dk_at dksX2_addOperation_1 20 rfl rfl)
theorem dX2_addOperation_47 : decode cX2_addOperation 47 = .ok (.aload 6, 2) := dk_25 6 (dk_at dksX2_addOperation_2 0 rfl rfl)
theorem dX2_addOperation_49 : decode cX2_addOperation 49 = .ok (.invokevirtual 47, 3) := dk_182 0 47 (dk_at dksX2_addOperation_2 2 rfl rfl)
theorem dX2_addOperation_52 : decode cX2_addOperation 52 = .ok (.pop, 1) := dk_87 (dk_at dksX2_addOperation_2 5 rfl rfl)
theorem dX2_addOperation_53 : decode cX2_addOperation 53 = .ok (.aload_n 0, 1) := dk_42 (dk_at dksX2_addOperation_2 6 rfl rfl)
theorem dX2_addOperation_54 : decode cX2_addOperation 54 = .ok (.getfield 18, 3) := dk_180 0 18 (dk_at dksX2_addOperation_2 7 rfl rfl)
theorem dX2_addOperation_57 : decode cX2_addOperation 57 = .ok (.aload 6, 2) := dk_25 6 (dk_at dksX2_addOperation_2 10 rfl rfl)
theorem dX2_addOperation_59 : decode cX2_addOperation 59 = .ok (.invokevirtual 47, 3) := dk_182 0 47 (dk_at dksX2_addOperation_2 12 rfl rfl)
theorem dX2_addOperation_62 : decode cX2_addOperation 62 = .ok (.pop, 1) := dk_87 (dk_at dksX2_addOperation_2 15 rfl rfl)
theorem dX2_addOperation_63 : decode cX2_addOperation 63 = .ok (.aload_n 0, 1) := dk_42 (dk_at dksX2_addOperation_2 16 rfl rfl)
theorem dX2_addOperation_64 : decode cX2_addOperation 64 = .ok (.getfield 28, 3) := dk_180 0 28 (dk_at dksX2_addOperation_2 17 rfl rfl)
theorem dX2_addOperation_67 : decode cX2_addOperation 67 = .ok (.iload_n 2, 1) := dk_28 (dk_at dksX2_addOperation_2 20 rfl rfl)
theorem dX2_addOperation_68 : decode cX2_addOperation 68 = .ok (.invokevirtual 59, 3) := dk_182 0 59 (dk_at dksX2_addOperation_2 21 rfl rfl)
theorem dX2_addOperation_71 : decode cX2_addOperation 71 = .ok (.checkcast 51, 3) := dk_192 0 51 (dk_at dksX2_addOperation_3 0 rfl rfl)
theorem dX2_addOperation_74 : decode cX2_addOperation 74 = .ok (.aload 6, 2) := dk_25 6 (dk_at dksX2_addOperation_3 3 rfl rfl)
theorem dX2_addOperation_76 : decode cX2_addOperation 76 = .ok (.getfield 115, 3) := dk_180 0 115 (dk_at dksX2_addOperation_3 5 rfl rfl)
theorem dX2_addOperation_79 : decode cX2_addOperation 79 = .ok (.invokevirtual 118, 3) := dk_182 0 118 (dk_at dksX2_addOperation_3 8 rfl rfl)
theorem dX2_addOperation_82 : decode cX2_addOperation 82 = .ok (.aload 6, 2) := dk_25 6 (dk_at dksX2_addOperation_3 11 rfl rfl)
theorem dX2_addOperation_84 : decode cX2_addOperation 84 = .ok (.getfield 115, 3) := dk_180 0 115 (dk_at dksX2_addOperation_3 13 rfl rfl)
theorem dX2_addOperation_87 : decode cX2_addOperation 87 = .ok (.ireturn, 1) := dk_172 (dk_at dksX2_addOperation_3 16 rfl rfl)
abbrev cX2_canAdd : ByteArray := prog_15_method_4_code
def yX2_canAdd : MethodName := ⟨RX2, "canAdd", "(II)Z"⟩
def dkwX2_canAdd_1 : List UInt8 := [180, 0, 12, 27, 182, 0, 59, 192, 0, 63, 28, 182, 0, 121, 154, 0, 7, 4, 167, 0, 4, 3, 172]
abbrev dktX2_canAdd_1 : List UInt8 := dkwX2_canAdd_1 ++ []
def dkwX2_canAdd_0 : List UInt8 := [42, 180, 0, 12, 27, 182, 0, 59, 192, 0, 63, 180, 0, 111, 182, 0, 55, 7, 162, 0, 25, 42]
abbrev dktX2_canAdd_0 : List UInt8 := dkwX2_canAdd_0 ++ dktX2_canAdd_1
theorem dksX2_canAdd_0 : cX2_canAdd.data.toList.drop 0 = dktX2_canAdd_0 := by decide +kernel
theorem dksX2_canAdd_1 : cX2_canAdd.data.toList.drop 22 = dktX2_canAdd_1 := dk_seg dksX2_canAdd_0 22 rfl rfl
theorem dX2_canAdd_0 : decode cX2_canAdd 0 = .ok (.aload_n 0, 1) := dk_42 (dk_at dksX2_canAdd_0 0 rfl rfl)
theorem dX2_canAdd_1 : decode cX2_canAdd 1 = .ok (.getfield 12, 3) := dk_180 0 12 (dk_at dksX2_canAdd_0 1 rfl rfl)
theorem dX2_canAdd_4 : decode cX2_canAdd 4 = .ok (.iload_n 1, 1) := dk_27 (dk_at dksX2_canAdd_0 4 rfl rfl)
theorem dX2_canAdd_5 : decode cX2_canAdd 5 = .ok (.invokevirtual 59, 3) := dk_182 0 59 (dk_at dksX2_canAdd_0 5 rfl rfl)
theorem dX2_canAdd_8 : decode cX2_canAdd 8 = .ok (.checkcast 63, 3) := dk_192 0 63 (dk_at dksX2_canAdd_0 8 rfl rfl)
theorem dX2_canAdd_11 : decode cX2_canAdd 11 = .ok (.getfield 111, 3) := dk_180 0 111 (dk_at dksX2_canAdd_0 11 rfl rfl)
theorem dX2_canAdd_14 : decode cX2_canAdd 14 = .ok (.invokevirtual 55, 3) := dk_182 0 55 (dk_at dksX2_canAdd_0 14 rfl rfl)
theorem dX2_canAdd_17 : decode cX2_canAdd 17 = .ok (.iconst 4, 1) := dk_7 (dk_at dksX2_canAdd_0 17 rfl rfl)
theorem dX2_canAdd_18 : decode cX2_canAdd 18 = .ok (.if_icmp .ge 25, 3) := dk_162 0 25 (dk_at dksX2_canAdd_0 18 rfl rfl)
theorem dX2_canAdd_21 : decode cX2_canAdd 21 = .ok (.aload_n 0, 1) := dk_42 (dk_at dksX2_canAdd_0 21 rfl rfl)
theorem dX2_canAdd_22 : decode cX2_canAdd 22 = .ok (.getfield 12, 3) := dk_180 0 12 (dk_at dksX2_canAdd_1 0 rfl rfl)
theorem dX2_canAdd_25 : decode cX2_canAdd 25 = .ok (.iload_n 1, 1) := dk_27 (dk_at dksX2_canAdd_1 3 rfl rfl)
theorem dX2_canAdd_26 : decode cX2_canAdd 26 = .ok (.invokevirtual 59, 3) := dk_182 0 59 (dk_at dksX2_canAdd_1 4 rfl rfl)
theorem dX2_canAdd_29 : decode cX2_canAdd 29 = .ok (.checkcast 63, 3) := dk_192 0 63 (dk_at dksX2_canAdd_1 7 rfl rfl)
theorem dX2_canAdd_32 : decode cX2_canAdd 32 = .ok (.iload_n 2, 1) := dk_28 (dk_at dksX2_canAdd_1 10 rfl rfl)
theorem dX2_canAdd_33 : decode cX2_canAdd 33 = .ok (.invokevirtual 121, 3) := dk_182 0 121 (dk_at dksX2_canAdd_1 11 rfl rfl)
theorem dX2_canAdd_36 : decode cX2_canAdd 36 = .ok (.ifCond .ne 7, 3) := dk_154 0 7 (dk_at dksX2_canAdd_1 14 rfl rfl)
theorem dX2_canAdd_39 : decode cX2_canAdd 39 = .ok (.iconst 1, 1) := dk_4 (dk_at dksX2_canAdd_1 17 rfl rfl)
theorem dX2_canAdd_40 : decode cX2_canAdd 40 = .ok (.goto 4, 3) := dk_167 0 4 (dk_at dksX2_canAdd_1 18 rfl rfl)
theorem dX2_canAdd_43 : decode cX2_canAdd 43 = .ok (.iconst 0, 1) := dk_3 (dk_at dksX2_canAdd_1 21 rfl rfl)
theorem dX2_canAdd_44 : decode cX2_canAdd 44 = .ok (.ireturn, 1) := dk_172 (dk_at dksX2_canAdd_1 22 rfl rfl)
abbrev cX2_makespanWith : ByteArray := prog_15_method_13_code
def yX2_makespanWith : MethodName := ⟨RX2, "makespanWith", "(II)I"⟩
def dkwX2_makespanWith_1 : List UInt8 := [153, 0, 10, 42, 180, 0, 164, 167, 0, 4, 2, 172]
abbrev dktX2_makespanWith_1 : List UInt8 := dkwX2_makespanWith_1 ++ []
def dkwX2_makespanWith_0 : List UInt8 := [42, 27, 181, 0, 43, 42, 28, 181, 0, 157, 42, 3, 182, 0, 182, 62, 42, 2, 181, 0, 43, 29]
abbrev dktX2_makespanWith_0 : List UInt8 := dkwX2_makespanWith_0 ++ dktX2_makespanWith_1
theorem dksX2_makespanWith_0 : cX2_makespanWith.data.toList.drop 0 = dktX2_makespanWith_0 := by decide +kernel
theorem dksX2_makespanWith_1 : cX2_makespanWith.data.toList.drop 22 = dktX2_makespanWith_1 := dk_seg dksX2_makespanWith_0 22 rfl rfl
theorem dX2_makespanWith_0 : decode cX2_makespanWith 0 = .ok (.aload_n 0, 1) := dk_42 (dk_at dksX2_makespanWith_0 0 rfl rfl)
theorem dX2_makespanWith_1 : decode cX2_makespanWith 1 = .ok (.iload_n 1, 1) := dk_27 (dk_at dksX2_makespanWith_0 1 rfl rfl)
theorem dX2_makespanWith_2 : decode cX2_makespanWith 2 = .ok (.putfield 43, 3) := dk_181 0 43 (dk_at dksX2_makespanWith_0 2 rfl rfl)
theorem dX2_makespanWith_5 : decode cX2_makespanWith 5 = .ok (.aload_n 0, 1) := dk_42 (dk_at dksX2_makespanWith_0 5 rfl rfl)
theorem dX2_makespanWith_6 : decode cX2_makespanWith 6 = .ok (.iload_n 2, 1) := dk_28 (dk_at dksX2_makespanWith_0 6 rfl rfl)
theorem dX2_makespanWith_7 : decode cX2_makespanWith 7 = .ok (.putfield 157, 3) := dk_181 0 157 (dk_at dksX2_makespanWith_0 7 rfl rfl)
theorem dX2_makespanWith_10 : decode cX2_makespanWith 10 = .ok (.aload_n 0, 1) := dk_42 (dk_at dksX2_makespanWith_0 10 rfl rfl)
theorem dX2_makespanWith_11 : decode cX2_makespanWith 11 = .ok (.iconst 0, 1) := dk_3 (dk_at dksX2_makespanWith_0 11 rfl rfl)
theorem dX2_makespanWith_12 : decode cX2_makespanWith 12 = .ok (.invokevirtual 182, 3) := dk_182 0 182 (dk_at dksX2_makespanWith_0 12 rfl rfl)
theorem dX2_makespanWith_15 : decode cX2_makespanWith 15 = .ok (.istore_n 3, 1) := dk_62 (dk_at dksX2_makespanWith_0 15 rfl rfl)
theorem dX2_makespanWith_16 : decode cX2_makespanWith 16 = .ok (.aload_n 0, 1) := dk_42 (dk_at dksX2_makespanWith_0 16 rfl rfl)
theorem dX2_makespanWith_17 : decode cX2_makespanWith 17 = .ok (.iconst (-1), 1) := dk_2 (dk_at dksX2_makespanWith_0 17 rfl rfl)
theorem dX2_makespanWith_18 : decode cX2_makespanWith 18 = .ok (.putfield 43, 3) := dk_181 0 43 (dk_at dksX2_makespanWith_0 18 rfl rfl)
theorem dX2_makespanWith_21 : decode cX2_makespanWith 21 = .ok (.iload_n 3, 1) := dk_29 (dk_at dksX2_makespanWith_0 21 rfl rfl)
theorem dX2_makespanWith_22 : decode cX2_makespanWith 22 = .ok (.ifCond .eq 10, 3) := dk_153 0 10 (dk_at dksX2_makespanWith_1 0 rfl rfl)
theorem dX2_makespanWith_25 : decode cX2_makespanWith 25 = .ok (.aload_n 0, 1) := dk_42 (dk_at dksX2_makespanWith_1 3 rfl rfl)
theorem dX2_makespanWith_26 : decode cX2_makespanWith 26 = .ok (.getfield 164, 3) := dk_180 0 164 (dk_at dksX2_makespanWith_1 4 rfl rfl)
theorem dX2_makespanWith_29 : decode cX2_makespanWith 29 = .ok (.goto 4, 3) := dk_167 0 4 (dk_at dksX2_makespanWith_1 7 rfl rfl)
theorem dX2_makespanWith_32 : decode cX2_makespanWith 32 = .ok (.iconst (-1), 1) := dk_2 (dk_at dksX2_makespanWith_1 10 rfl rfl)
theorem dX2_makespanWith_33 : decode cX2_makespanWith 33 = .ok (.ireturn, 1) := dk_172 (dk_at dksX2_makespanWith_1 11 rfl rfl)
abbrev cX2_completion : ByteArray := prog_15_method_16_code
def yX2_completion : MethodName := ⟨RX2, "completion", "(I)I"⟩
def dkwX2_completion_2 : List UInt8 := [182, 0, 55, 4, 100, 182, 0, 59, 192, 0, 77, 180, 0, 115, 46, 172]
abbrev dktX2_completion_2 : List UInt8 := dkwX2_completion_2 ++ []
def dkwX2_completion_1 : List UInt8 := [180, 0, 12, 27, 182, 0, 59, 192, 0, 63, 182, 0, 65, 167, 0, 24, 42, 180, 0, 40, 44, 44]
abbrev dktX2_completion_1 : List UInt8 := dkwX2_completion_1 ++ dktX2_completion_2
def dkwX2_completion_0 : List UInt8 := [42, 180, 0, 12, 27, 182, 0, 59, 192, 0, 63, 180, 0, 111, 77, 44, 182, 0, 199, 153, 0, 20, 42]
abbrev dktX2_completion_0 : List UInt8 := dkwX2_completion_0 ++ dktX2_completion_1
theorem dksX2_completion_0 : cX2_completion.data.toList.drop 0 = dktX2_completion_0 := by decide +kernel
theorem dksX2_completion_1 : cX2_completion.data.toList.drop 23 = dktX2_completion_1 := dk_seg dksX2_completion_0 23 rfl rfl
theorem dksX2_completion_2 : cX2_completion.data.toList.drop 45 = dktX2_completion_2 := dk_seg dksX2_completion_1 22 rfl rfl
theorem dX2_completion_0 : decode cX2_completion 0 = .ok (.aload_n 0, 1) := dk_42 (dk_at dksX2_completion_0 0 rfl rfl)
theorem dX2_completion_1 : decode cX2_completion 1 = .ok (.getfield 12, 3) := dk_180 0 12 (dk_at dksX2_completion_0 1 rfl rfl)
theorem dX2_completion_4 : decode cX2_completion 4 = .ok (.iload_n 1, 1) := dk_27 (dk_at dksX2_completion_0 4 rfl rfl)
theorem dX2_completion_5 : decode cX2_completion 5 = .ok (.invokevirtual 59, 3) := dk_182 0 59 (dk_at dksX2_completion_0 5 rfl rfl)
theorem dX2_completion_8 : decode cX2_completion 8 = .ok (.checkcast 63, 3) := dk_192 0 63 (dk_at dksX2_completion_0 8 rfl rfl)
theorem dX2_completion_11 : decode cX2_completion 11 = .ok (.getfield 111, 3) := dk_180 0 111 (dk_at dksX2_completion_0 11 rfl rfl)
theorem dX2_completion_14 : decode cX2_completion 14 = .ok (.astore_n 2, 1) := dk_77 (dk_at dksX2_completion_0 14 rfl rfl)
theorem dX2_completion_15 : decode cX2_completion 15 = .ok (.aload_n 2, 1) := dk_44 (dk_at dksX2_completion_0 15 rfl rfl)
theorem dX2_completion_16 : decode cX2_completion 16 = .ok (.invokevirtual 199, 3) := dk_182 0 199 (dk_at dksX2_completion_0 16 rfl rfl)
theorem dX2_completion_19 : decode cX2_completion 19 = .ok (.ifCond .eq 20, 3) := dk_153 0 20 (dk_at dksX2_completion_0 19 rfl rfl)
theorem dX2_completion_22 : decode cX2_completion 22 = .ok (.aload_n 0, 1) := dk_42 (dk_at dksX2_completion_0 22 rfl rfl)
theorem dX2_completion_23 : decode cX2_completion 23 = .ok (.getfield 12, 3) := dk_180 0 12 (dk_at dksX2_completion_1 0 rfl rfl)
theorem dX2_completion_26 : decode cX2_completion 26 = .ok (.iload_n 1, 1) := dk_27 (dk_at dksX2_completion_1 3 rfl rfl)
theorem dX2_completion_27 : decode cX2_completion 27 = .ok (.invokevirtual 59, 3) := dk_182 0 59 (dk_at dksX2_completion_1 4 rfl rfl)
theorem dX2_completion_30 : decode cX2_completion 30 = .ok (.checkcast 63, 3) := dk_192 0 63 (dk_at dksX2_completion_1 7 rfl rfl)
theorem dX2_completion_33 : decode cX2_completion 33 = .ok (.invokevirtual 65, 3) := dk_182 0 65 (dk_at dksX2_completion_1 10 rfl rfl)
theorem dX2_completion_36 : decode cX2_completion 36 = .ok (.goto 24, 3) := dk_167 0 24 (dk_at dksX2_completion_1 13 rfl rfl)
theorem dX2_completion_39 : decode cX2_completion 39 = .ok (.aload_n 0, 1) := dk_42 (dk_at dksX2_completion_1 16 rfl rfl)
theorem dX2_completion_40 : decode cX2_completion 40 = .ok (.getfield 40, 3) := dk_180 0 40 (dk_at dksX2_completion_1 17 rfl rfl)
theorem dX2_completion_43 : decode cX2_completion 43 = .ok (.aload_n 2, 1) := dk_44 (dk_at dksX2_completion_1 20 rfl rfl)
theorem dX2_completion_44 : decode cX2_completion 44 = .ok (.aload_n 2, 1) := dk_44 (dk_at dksX2_completion_1 21 rfl rfl)
theorem dX2_completion_45 : decode cX2_completion 45 = .ok (.invokevirtual 55, 3) := dk_182 0 55 (dk_at dksX2_completion_2 0 rfl rfl)
theorem dX2_completion_48 : decode cX2_completion 48 = .ok (.iconst 1, 1) := dk_4 (dk_at dksX2_completion_2 3 rfl rfl)
theorem dX2_completion_49 : decode cX2_completion 49 = .ok (.isub, 1) := dk_100 (dk_at dksX2_completion_2 4 rfl rfl)
theorem dX2_completion_50 : decode cX2_completion 50 = .ok (.invokevirtual 59, 3) := dk_182 0 59 (dk_at dksX2_completion_2 5 rfl rfl)
theorem dX2_completion_53 : decode cX2_completion 53 = .ok (.checkcast 77, 3) := dk_192 0 77 (dk_at dksX2_completion_2 8 rfl rfl)
theorem dX2_completion_56 : decode cX2_completion 56 = .ok (.getfield 115, 3) := dk_180 0 115 (dk_at dksX2_completion_2 11 rfl rfl)
theorem dX2_completion_59 : decode cX2_completion 59 = .ok (.iaload, 1) := dk_46 (dk_at dksX2_completion_2 14 rfl rfl)
theorem dX2_completion_60 : decode cX2_completion 60 = .ok (.ireturn, 1) := dk_172 (dk_at dksX2_completion_2 15 rfl rfl)
abbrev cX2_tardiness : ByteArray := prog_15_method_17_code
def yX2_tardiness : MethodName := ⟨RX2, "tardiness", "(I)I"⟩
def dkwX2_tardiness_1 : List UInt8 := [172]
abbrev dktX2_tardiness_1 : List UInt8 := dkwX2_tardiness_1 ++ []
def dkwX2_tardiness_0 : List UInt8 := [3, 42, 27, 182, 0, 203, 42, 180, 0, 12, 27, 182, 0, 59, 192, 0, 63, 182, 0, 68, 100, 184, 0, 147]
abbrev dktX2_tardiness_0 : List UInt8 := dkwX2_tardiness_0 ++ dktX2_tardiness_1
theorem dksX2_tardiness_0 : cX2_tardiness.data.toList.drop 0 = dktX2_tardiness_0 := by decide +kernel
theorem dksX2_tardiness_1 : cX2_tardiness.data.toList.drop 24 = dktX2_tardiness_1 := dk_seg dksX2_tardiness_0 24 rfl rfl
theorem dX2_tardiness_0 : decode cX2_tardiness 0 = .ok (.iconst 0, 1) := dk_3 (dk_at dksX2_tardiness_0 0 rfl rfl)
theorem dX2_tardiness_1 : decode cX2_tardiness 1 = .ok (.aload_n 0, 1) := dk_42 (dk_at dksX2_tardiness_0 1 rfl rfl)
theorem dX2_tardiness_2 : decode cX2_tardiness 2 = .ok (.iload_n 1, 1) := dk_27 (dk_at dksX2_tardiness_0 2 rfl rfl)
theorem dX2_tardiness_3 : decode cX2_tardiness 3 = .ok (.invokevirtual 203, 3) := dk_182 0 203 (dk_at dksX2_tardiness_0 3 rfl rfl)
theorem dX2_tardiness_6 : decode cX2_tardiness 6 = .ok (.aload_n 0, 1) := dk_42 (dk_at dksX2_tardiness_0 6 rfl rfl)
theorem dX2_tardiness_7 : decode cX2_tardiness 7 = .ok (.getfield 12, 3) := dk_180 0 12 (dk_at dksX2_tardiness_0 7 rfl rfl)
theorem dX2_tardiness_10 : decode cX2_tardiness 10 = .ok (.iload_n 1, 1) := dk_27 (dk_at dksX2_tardiness_0 10 rfl rfl)
theorem dX2_tardiness_11 : decode cX2_tardiness 11 = .ok (.invokevirtual 59, 3) := dk_182 0 59 (dk_at dksX2_tardiness_0 11 rfl rfl)
theorem dX2_tardiness_14 : decode cX2_tardiness 14 = .ok (.checkcast 63, 3) := dk_192 0 63 (dk_at dksX2_tardiness_0 14 rfl rfl)
theorem dX2_tardiness_17 : decode cX2_tardiness 17 = .ok (.invokevirtual 68, 3) := dk_182 0 68 (dk_at dksX2_tardiness_0 17 rfl rfl)
theorem dX2_tardiness_20 : decode cX2_tardiness 20 = .ok (.isub, 1) := dk_100 (dk_at dksX2_tardiness_0 20 rfl rfl)
theorem dX2_tardiness_21 : decode cX2_tardiness 21 = .ok (.invokestatic 147, 3) := dk_184 0 147 (dk_at dksX2_tardiness_0 21 rfl rfl)
theorem dX2_tardiness_24 : decode cX2_tardiness 24 = .ok (.ireturn, 1) := dk_172 (dk_at dksX2_tardiness_1 0 rfl rfl)
abbrev cX2_allSetups : ByteArray := prog_15_method_18_code
def yX2_allSetups : MethodName := ⟨RX2, "allSetups", "()I"⟩
def dkwX2_allSetups_3 : List UInt8 := [182, 0, 153, 96, 60, 132, 4, 1, 167, 255, 201, 132, 2, 1, 167, 255, 175, 27, 172]
abbrev dktX2_allSetups_3 : List UInt8 := dkwX2_allSetups_3 ++ []
def dkwX2_allSetups_2 : List UInt8 := [182, 0, 59, 192, 0, 77, 42, 180, 0, 18, 45, 180, 0, 169, 21, 4, 46, 182, 0, 59, 192, 0, 77]
abbrev dktX2_allSetups_2 : List UInt8 := dkwX2_allSetups_2 ++ dktX2_allSetups_3
def dkwX2_allSetups_1 : List UInt8 := [21, 4, 45, 180, 0, 167, 162, 0, 52, 27, 42, 42, 180, 0, 18, 45, 180, 0, 169, 21, 4, 4, 100, 46]
abbrev dktX2_allSetups_1 : List UInt8 := dkwX2_allSetups_1 ++ dktX2_allSetups_2
def dkwX2_allSetups_0 : List UInt8 := [3, 60, 3, 61, 28, 7, 162, 0, 82, 42, 180, 0, 28, 28, 182, 0, 59, 192, 0, 51, 78, 4, 54, 4]
abbrev dktX2_allSetups_0 : List UInt8 := dkwX2_allSetups_0 ++ dktX2_allSetups_1
theorem dksX2_allSetups_0 : cX2_allSetups.data.toList.drop 0 = dktX2_allSetups_0 := by decide +kernel
theorem dksX2_allSetups_1 : cX2_allSetups.data.toList.drop 24 = dktX2_allSetups_1 := dk_seg dksX2_allSetups_0 24 rfl rfl
theorem dksX2_allSetups_2 : cX2_allSetups.data.toList.drop 48 = dktX2_allSetups_2 := dk_seg dksX2_allSetups_1 24 rfl rfl
theorem dksX2_allSetups_3 : cX2_allSetups.data.toList.drop 71 = dktX2_allSetups_3 := dk_seg dksX2_allSetups_2 23 rfl rfl
theorem dX2_allSetups_0 : decode cX2_allSetups 0 = .ok (.iconst 0, 1) := dk_3 (dk_at dksX2_allSetups_0 0 rfl rfl)
theorem dX2_allSetups_1 : decode cX2_allSetups 1 = .ok (.istore_n 1, 1) := dk_60 (dk_at dksX2_allSetups_0 1 rfl rfl)
theorem dX2_allSetups_2 : decode cX2_allSetups 2 = .ok (.iconst 0, 1) := dk_3 (dk_at dksX2_allSetups_0 2 rfl rfl)
theorem dX2_allSetups_3 : decode cX2_allSetups 3 = .ok (.istore_n 2, 1) := dk_61 (dk_at dksX2_allSetups_0 3 rfl rfl)
theorem dX2_allSetups_4 : decode cX2_allSetups 4 = .ok (.iload_n 2, 1) := dk_28 (dk_at dksX2_allSetups_0 4 rfl rfl)
theorem dX2_allSetups_5 : decode cX2_allSetups 5 = .ok (.iconst 4, 1) := dk_7 (dk_at dksX2_allSetups_0 5 rfl rfl)
theorem dX2_allSetups_6 : decode cX2_allSetups 6 = .ok (.if_icmp .ge 82, 3) := dk_162 0 82 (dk_at dksX2_allSetups_0 6 rfl rfl)
theorem dX2_allSetups_9 : decode cX2_allSetups 9 = .ok (.aload_n 0, 1) := dk_42 (dk_at dksX2_allSetups_0 9 rfl rfl)
theorem dX2_allSetups_10 : decode cX2_allSetups 10 = .ok (.getfield 28, 3) := dk_180 0 28 (dk_at dksX2_allSetups_0 10 rfl rfl)
theorem dX2_allSetups_13 : decode cX2_allSetups 13 = .ok (.iload_n 2, 1) := dk_28 (dk_at dksX2_allSetups_0 13 rfl rfl)
theorem dX2_allSetups_14 : decode cX2_allSetups 14 = .ok (.invokevirtual 59, 3) := dk_182 0 59 (dk_at dksX2_allSetups_0 14 rfl rfl)
theorem dX2_allSetups_17 : decode cX2_allSetups 17 = .ok (.checkcast 51, 3) := dk_192 0 51 (dk_at dksX2_allSetups_0 17 rfl rfl)
theorem dX2_allSetups_20 : decode cX2_allSetups 20 = .ok (.astore_n 3, 1) := dk_78 (dk_at dksX2_allSetups_0 20 rfl rfl)
theorem dX2_allSetups_21 : decode cX2_allSetups 21 = .ok (.iconst 1, 1) := dk_4 (dk_at dksX2_allSetups_0 21 rfl rfl)
theorem dX2_allSetups_22 : decode cX2_allSetups 22 = .ok (.istore 4, 2) := dk_54 4 (dk_at dksX2_allSetups_0 22 rfl rfl)
theorem dX2_allSetups_24 : decode cX2_allSetups 24 = .ok (.iload 4, 2) := dk_21 4 (dk_at dksX2_allSetups_1 0 rfl rfl)
theorem dX2_allSetups_26 : decode cX2_allSetups 26 = .ok (.aload_n 3, 1) := dk_45 (dk_at dksX2_allSetups_1 2 rfl rfl)
theorem dX2_allSetups_27 : decode cX2_allSetups 27 = .ok (.getfield 167, 3) := dk_180 0 167 (dk_at dksX2_allSetups_1 3 rfl rfl)
theorem dX2_allSetups_30 : decode cX2_allSetups 30 = .ok (.if_icmp .ge 52, 3) := dk_162 0 52 (dk_at dksX2_allSetups_1 6 rfl rfl)
theorem dX2_allSetups_33 : decode cX2_allSetups 33 = .ok (.iload_n 1, 1) := dk_27 (dk_at dksX2_allSetups_1 9 rfl rfl)
theorem dX2_allSetups_34 : decode cX2_allSetups 34 = .ok (.aload_n 0, 1) := dk_42 (dk_at dksX2_allSetups_1 10 rfl rfl)
theorem dX2_allSetups_35 : decode cX2_allSetups 35 = .ok (.aload_n 0, 1) := dk_42 (dk_at dksX2_allSetups_1 11 rfl rfl)
theorem dX2_allSetups_36 : decode cX2_allSetups 36 = .ok (.getfield 18, 3) := dk_180 0 18 (dk_at dksX2_allSetups_1 12 rfl rfl)
theorem dX2_allSetups_39 : decode cX2_allSetups 39 = .ok (.aload_n 3, 1) := dk_45 (dk_at dksX2_allSetups_1 15 rfl rfl)
theorem dX2_allSetups_40 : decode cX2_allSetups 40 = .ok (.getfield 169, 3) := dk_180 0 169 (dk_at dksX2_allSetups_1 16 rfl rfl)
theorem dX2_allSetups_43 : decode cX2_allSetups 43 = .ok (.iload 4, 2) := dk_21 4 (dk_at dksX2_allSetups_1 19 rfl rfl)
theorem dX2_allSetups_45 : decode cX2_allSetups 45 = .ok (.iconst 1, 1) := dk_4 (dk_at dksX2_allSetups_1 21 rfl rfl)
theorem dX2_allSetups_46 : decode cX2_allSetups 46 = .ok (.isub, 1) := dk_100 (dk_at dksX2_allSetups_1 22 rfl rfl)
theorem dX2_allSetups_47 : decode cX2_allSetups 47 = .ok (.iaload, 1) := dk_46 (dk_at dksX2_allSetups_1 23 rfl rfl)
theorem dX2_allSetups_48 : decode cX2_allSetups 48 = .ok (.invokevirtual 59, 3) := dk_182 0 59 (dk_at dksX2_allSetups_2 0 rfl rfl)
theorem dX2_allSetups_51 : decode cX2_allSetups 51 = .ok (.checkcast 77, 3) := dk_192 0 77 (dk_at dksX2_allSetups_2 3 rfl rfl)
theorem dX2_allSetups_54 : decode cX2_allSetups 54 = .ok (.aload_n 0, 1) := dk_42 (dk_at dksX2_allSetups_2 6 rfl rfl)
theorem dX2_allSetups_55 : decode cX2_allSetups 55 = .ok (.getfield 18, 3) := dk_180 0 18 (dk_at dksX2_allSetups_2 7 rfl rfl)
theorem dX2_allSetups_58 : decode cX2_allSetups 58 = .ok (.aload_n 3, 1) := dk_45 (dk_at dksX2_allSetups_2 10 rfl rfl)
theorem dX2_allSetups_59 : decode cX2_allSetups 59 = .ok (.getfield 169, 3) := dk_180 0 169 (dk_at dksX2_allSetups_2 11 rfl rfl)
theorem dX2_allSetups_62 : decode cX2_allSetups 62 = .ok (.iload 4, 2) := dk_21 4 (dk_at dksX2_allSetups_2 14 rfl rfl)
theorem dX2_allSetups_64 : decode cX2_allSetups 64 = .ok (.iaload, 1) := dk_46 (dk_at dksX2_allSetups_2 16 rfl rfl)
theorem dX2_allSetups_65 : decode cX2_allSetups 65 = .ok (.invokevirtual 59, 3) := dk_182 0 59 (dk_at dksX2_allSetups_2 17 rfl rfl)
theorem dX2_allSetups_68 : decode cX2_allSetups 68 = .ok (.checkcast 77, 3) := dk_192 0 77 (dk_at dksX2_allSetups_2 20 rfl rfl)
theorem dX2_allSetups_71 : decode cX2_allSetups 71 = .ok (.invokevirtual 153, 3) := dk_182 0 153 (dk_at dksX2_allSetups_3 0 rfl rfl)
theorem dX2_allSetups_74 : decode cX2_allSetups 74 = .ok (.iadd, 1) := dk_96 (dk_at dksX2_allSetups_3 3 rfl rfl)
theorem dX2_allSetups_75 : decode cX2_allSetups 75 = .ok (.istore_n 1, 1) := dk_60 (dk_at dksX2_allSetups_3 4 rfl rfl)
theorem dX2_allSetups_76 : decode cX2_allSetups 76 = .ok (.iinc 4 1, 3) := dk_132 4 1 (dk_at dksX2_allSetups_3 5 rfl rfl)
theorem dX2_allSetups_79 : decode cX2_allSetups 79 = .ok (.goto (-55), 3) := dk_167 255 201 (dk_at dksX2_allSetups_3 8 rfl rfl)
theorem dX2_allSetups_82 : decode cX2_allSetups 82 = .ok (.iinc 2 1, 3) := dk_132 2 1 (dk_at dksX2_allSetups_3 11 rfl rfl)
theorem dX2_allSetups_85 : decode cX2_allSetups 85 = .ok (.goto (-81), 3) := dk_167 255 175 (dk_at dksX2_allSetups_3 14 rfl rfl)
theorem dX2_allSetups_88 : decode cX2_allSetups 88 = .ok (.iload_n 1, 1) := dk_27 (dk_at dksX2_allSetups_3 17 rfl rfl)
theorem dX2_allSetups_89 : decode cX2_allSetups 89 = .ok (.ireturn, 1) := dk_172 (dk_at dksX2_allSetups_3 18 rfl rfl)
abbrev cX2_schedule : ByteArray := prog_15_method_12_code
def yX2_schedule : MethodName := ⟨RX2, "schedule", "()V"⟩
def dkwX2_schedule_1 : List UInt8 := [2, 130, 126, 60, 187, 0, 185, 89, 27, 184, 0, 187, 27, 184, 0, 193, 183, 0, 196, 191]
abbrev dktX2_schedule_1 : List UInt8 := dkwX2_schedule_1 ++ []
def dkwX2_schedule_0 : List UInt8 := [42, 3, 182, 0, 182, 153, 0, 4, 177, 4, 42, 180, 0, 18, 182, 0, 55, 120, 4, 100, 42, 180, 0, 137]
abbrev dktX2_schedule_0 : List UInt8 := dkwX2_schedule_0 ++ dktX2_schedule_1
theorem dksX2_schedule_0 : cX2_schedule.data.toList.drop 0 = dktX2_schedule_0 := by decide +kernel
theorem dksX2_schedule_1 : cX2_schedule.data.toList.drop 24 = dktX2_schedule_1 := dk_seg dksX2_schedule_0 24 rfl rfl
theorem dX2_schedule_0 : decode cX2_schedule 0 = .ok (.aload_n 0, 1) := dk_42 (dk_at dksX2_schedule_0 0 rfl rfl)
theorem dX2_schedule_1 : decode cX2_schedule 1 = .ok (.iconst 0, 1) := dk_3 (dk_at dksX2_schedule_0 1 rfl rfl)
theorem dX2_schedule_2 : decode cX2_schedule 2 = .ok (.invokevirtual 182, 3) := dk_182 0 182 (dk_at dksX2_schedule_0 2 rfl rfl)
theorem dX2_schedule_5 : decode cX2_schedule 5 = .ok (.ifCond .eq 4, 3) := dk_153 0 4 (dk_at dksX2_schedule_0 5 rfl rfl)
theorem dX2_schedule_8 : decode cX2_schedule 8 = .ok (.return_, 1) := dk_177 (dk_at dksX2_schedule_0 8 rfl rfl)
theorem dX2_schedule_9 : decode cX2_schedule 9 = .ok (.iconst 1, 1) := dk_4 (dk_at dksX2_schedule_0 9 rfl rfl)
theorem dX2_schedule_10 : decode cX2_schedule 10 = .ok (.aload_n 0, 1) := dk_42 (dk_at dksX2_schedule_0 10 rfl rfl)
theorem dX2_schedule_11 : decode cX2_schedule 11 = .ok (.getfield 18, 3) := dk_180 0 18 (dk_at dksX2_schedule_0 11 rfl rfl)
theorem dX2_schedule_14 : decode cX2_schedule 14 = .ok (.invokevirtual 55, 3) := dk_182 0 55 (dk_at dksX2_schedule_0 14 rfl rfl)
theorem dX2_schedule_17 : decode cX2_schedule 17 = .ok (.ishl, 1) := dk_120 (dk_at dksX2_schedule_0 17 rfl rfl)
theorem dX2_schedule_18 : decode cX2_schedule 18 = .ok (.iconst 1, 1) := dk_4 (dk_at dksX2_schedule_0 18 rfl rfl)
theorem dX2_schedule_19 : decode cX2_schedule 19 = .ok (.isub, 1) := dk_100 (dk_at dksX2_schedule_0 19 rfl rfl)
theorem dX2_schedule_20 : decode cX2_schedule 20 = .ok (.aload_n 0, 1) := dk_42 (dk_at dksX2_schedule_0 20 rfl rfl)
theorem dX2_schedule_21 : decode cX2_schedule 21 = .ok (.getfield 137, 3) := dk_180 0 137 (dk_at dksX2_schedule_0 21 rfl rfl)
theorem dX2_schedule_24 : decode cX2_schedule 24 = .ok (.iconst (-1), 1) := dk_2 (dk_at dksX2_schedule_1 0 rfl rfl)
theorem dX2_schedule_25 : decode cX2_schedule 25 = .ok (.ixor, 1) := dk_130 (dk_at dksX2_schedule_1 1 rfl rfl)
theorem dX2_schedule_26 : decode cX2_schedule 26 = .ok (.iand, 1) := dk_126 (dk_at dksX2_schedule_1 2 rfl rfl)
theorem dX2_schedule_27 : decode cX2_schedule 27 = .ok (.istore_n 1, 1) := dk_60 (dk_at dksX2_schedule_1 3 rfl rfl)
theorem dX2_schedule_28 : decode cX2_schedule 28 = .ok (.new 185, 3) := dk_187 0 185 (dk_at dksX2_schedule_1 4 rfl rfl)
theorem dX2_schedule_31 : decode cX2_schedule 31 = .ok (.dup, 1) := dk_89 (dk_at dksX2_schedule_1 7 rfl rfl)
theorem dX2_schedule_32 : decode cX2_schedule 32 = .ok (.iload_n 1, 1) := dk_27 (dk_at dksX2_schedule_1 8 rfl rfl)
theorem dX2_schedule_33 : decode cX2_schedule 33 = .ok (.invokestatic 187, 3) := dk_184 0 187 (dk_at dksX2_schedule_1 9 rfl rfl)
theorem dX2_schedule_36 : decode cX2_schedule 36 = .ok (.iload_n 1, 1) := dk_27 (dk_at dksX2_schedule_1 12 rfl rfl)
theorem dX2_schedule_37 : decode cX2_schedule 37 = .ok (.invokestatic 193, 3) := dk_184 0 193 (dk_at dksX2_schedule_1 13 rfl rfl)
theorem dX2_schedule_40 : decode cX2_schedule 40 = .ok (.invokespecial 196, 3) := dk_183 0 196 (dk_at dksX2_schedule_1 16 rfl rfl)
theorem dX2_schedule_43 : decode cX2_schedule 43 = .ok (.athrow, 1) := dk_191 (dk_at dksX2_schedule_1 19 rfl rfl)
abbrev cX2_copyOrders : ByteArray := prog_15_method_15_code
def yX2_copyOrders : MethodName := ⟨RX2, "copyOrders", "()Ljava/util/ArrayList;"⟩
def dkwX2_copyOrders_2 : List UInt8 := [182, 0, 107, 132, 2, 1, 167, 255, 214, 43, 176]
abbrev dktX2_copyOrders_2 : List UInt8 := dkwX2_copyOrders_2 ++ []
def dkwX2_copyOrders_1 : List UInt8 := [182, 0, 47, 87, 43, 28, 182, 0, 59, 192, 0, 51, 42, 180, 0, 28, 28, 182, 0, 59, 192, 0, 51]
abbrev dktX2_copyOrders_1 : List UInt8 := dkwX2_copyOrders_1 ++ dktX2_copyOrders_2
def dkwX2_copyOrders_0 : List UInt8 := [187, 0, 9, 89, 183, 0, 11, 76, 3, 61, 28, 7, 162, 0, 43, 43, 187, 0, 51, 89, 183, 0, 53]
abbrev dktX2_copyOrders_0 : List UInt8 := dkwX2_copyOrders_0 ++ dktX2_copyOrders_1
theorem dksX2_copyOrders_0 : cX2_copyOrders.data.toList.drop 0 = dktX2_copyOrders_0 := by decide +kernel
theorem dksX2_copyOrders_1 : cX2_copyOrders.data.toList.drop 23 = dktX2_copyOrders_1 := dk_seg dksX2_copyOrders_0 23 rfl rfl
theorem dksX2_copyOrders_2 : cX2_copyOrders.data.toList.drop 46 = dktX2_copyOrders_2 := dk_seg dksX2_copyOrders_1 23 rfl rfl
theorem dX2_copyOrders_0 : decode cX2_copyOrders 0 = .ok (.new 9, 3) := dk_187 0 9 (dk_at dksX2_copyOrders_0 0 rfl rfl)
theorem dX2_copyOrders_3 : decode cX2_copyOrders 3 = .ok (.dup, 1) := dk_89 (dk_at dksX2_copyOrders_0 3 rfl rfl)
theorem dX2_copyOrders_4 : decode cX2_copyOrders 4 = .ok (.invokespecial 11, 3) := dk_183 0 11 (dk_at dksX2_copyOrders_0 4 rfl rfl)
theorem dX2_copyOrders_7 : decode cX2_copyOrders 7 = .ok (.astore_n 1, 1) := dk_76 (dk_at dksX2_copyOrders_0 7 rfl rfl)
theorem dX2_copyOrders_8 : decode cX2_copyOrders 8 = .ok (.iconst 0, 1) := dk_3 (dk_at dksX2_copyOrders_0 8 rfl rfl)
theorem dX2_copyOrders_9 : decode cX2_copyOrders 9 = .ok (.istore_n 2, 1) := dk_61 (dk_at dksX2_copyOrders_0 9 rfl rfl)
theorem dX2_copyOrders_10 : decode cX2_copyOrders 10 = .ok (.iload_n 2, 1) := dk_28 (dk_at dksX2_copyOrders_0 10 rfl rfl)
theorem dX2_copyOrders_11 : decode cX2_copyOrders 11 = .ok (.iconst 4, 1) := dk_7 (dk_at dksX2_copyOrders_0 11 rfl rfl)
theorem dX2_copyOrders_12 : decode cX2_copyOrders 12 = .ok (.if_icmp .ge 43, 3) := dk_162 0 43 (dk_at dksX2_copyOrders_0 12 rfl rfl)
theorem dX2_copyOrders_15 : decode cX2_copyOrders 15 = .ok (.aload_n 1, 1) := dk_43 (dk_at dksX2_copyOrders_0 15 rfl rfl)
theorem dX2_copyOrders_16 : decode cX2_copyOrders 16 = .ok (.new 51, 3) := dk_187 0 51 (dk_at dksX2_copyOrders_0 16 rfl rfl)
theorem dX2_copyOrders_19 : decode cX2_copyOrders 19 = .ok (.dup, 1) := dk_89 (dk_at dksX2_copyOrders_0 19 rfl rfl)
theorem dX2_copyOrders_20 : decode cX2_copyOrders 20 = .ok (.invokespecial 53, 3) := dk_183 0 53 (dk_at dksX2_copyOrders_0 20 rfl rfl)
theorem dX2_copyOrders_23 : decode cX2_copyOrders 23 = .ok (.invokevirtual 47, 3) := dk_182 0 47 (dk_at dksX2_copyOrders_1 0 rfl rfl)
theorem dX2_copyOrders_26 : decode cX2_copyOrders 26 = .ok (.pop, 1) := dk_87 (dk_at dksX2_copyOrders_1 3 rfl rfl)
theorem dX2_copyOrders_27 : decode cX2_copyOrders 27 = .ok (.aload_n 1, 1) := dk_43 (dk_at dksX2_copyOrders_1 4 rfl rfl)
theorem dX2_copyOrders_28 : decode cX2_copyOrders 28 = .ok (.iload_n 2, 1) := dk_28 (dk_at dksX2_copyOrders_1 5 rfl rfl)
theorem dX2_copyOrders_29 : decode cX2_copyOrders 29 = .ok (.invokevirtual 59, 3) := dk_182 0 59 (dk_at dksX2_copyOrders_1 6 rfl rfl)
theorem dX2_copyOrders_32 : decode cX2_copyOrders 32 = .ok (.checkcast 51, 3) := dk_192 0 51 (dk_at dksX2_copyOrders_1 9 rfl rfl)
theorem dX2_copyOrders_35 : decode cX2_copyOrders 35 = .ok (.aload_n 0, 1) := dk_42 (dk_at dksX2_copyOrders_1 12 rfl rfl)
theorem dX2_copyOrders_36 : decode cX2_copyOrders 36 = .ok (.getfield 28, 3) := dk_180 0 28 (dk_at dksX2_copyOrders_1 13 rfl rfl)
theorem dX2_copyOrders_39 : decode cX2_copyOrders 39 = .ok (.iload_n 2, 1) := dk_28 (dk_at dksX2_copyOrders_1 16 rfl rfl)
theorem dX2_copyOrders_40 : decode cX2_copyOrders 40 = .ok (.invokevirtual 59, 3) := dk_182 0 59 (dk_at dksX2_copyOrders_1 17 rfl rfl)
theorem dX2_copyOrders_43 : decode cX2_copyOrders 43 = .ok (.checkcast 51, 3) := dk_192 0 51 (dk_at dksX2_copyOrders_1 20 rfl rfl)
theorem dX2_copyOrders_46 : decode cX2_copyOrders 46 = .ok (.invokevirtual 107, 3) := dk_182 0 107 (dk_at dksX2_copyOrders_2 0 rfl rfl)
theorem dX2_copyOrders_49 : decode cX2_copyOrders 49 = .ok (.iinc 2 1, 3) := dk_132 2 1 (dk_at dksX2_copyOrders_2 3 rfl rfl)
theorem dX2_copyOrders_52 : decode cX2_copyOrders 52 = .ok (.goto (-42), 3) := dk_167 255 214 (dk_at dksX2_copyOrders_2 6 rfl rfl)
theorem dX2_copyOrders_55 : decode cX2_copyOrders 55 = .ok (.aload_n 1, 1) := dk_43 (dk_at dksX2_copyOrders_2 9 rfl rfl)
theorem dX2_copyOrders_56 : decode cX2_copyOrders 56 = .ok (.areturn, 1) := dk_176 (dk_at dksX2_copyOrders_2 10 rfl rfl)
abbrev cX2_takeOrders : ByteArray := prog_15_method_14_code
def yX2_takeOrders : MethodName := ⟨RX2, "takeOrders", "(Ljava/util/ArrayList;)V"⟩
def dkwX2_takeOrders_1 : List UInt8 := [192, 0, 51, 182, 0, 107, 132, 2, 1, 167, 255, 226, 177]
abbrev dktX2_takeOrders_1 : List UInt8 := dkwX2_takeOrders_1 ++ []
def dkwX2_takeOrders_0 : List UInt8 := [3, 61, 28, 7, 162, 0, 31, 42, 180, 0, 28, 28, 182, 0, 59, 192, 0, 51, 43, 28, 182, 0, 59]
abbrev dktX2_takeOrders_0 : List UInt8 := dkwX2_takeOrders_0 ++ dktX2_takeOrders_1
theorem dksX2_takeOrders_0 : cX2_takeOrders.data.toList.drop 0 = dktX2_takeOrders_0 := by decide +kernel
theorem dksX2_takeOrders_1 : cX2_takeOrders.data.toList.drop 23 = dktX2_takeOrders_1 := dk_seg dksX2_takeOrders_0 23 rfl rfl
theorem dX2_takeOrders_0 : decode cX2_takeOrders 0 = .ok (.iconst 0, 1) := dk_3 (dk_at dksX2_takeOrders_0 0 rfl rfl)
theorem dX2_takeOrders_1 : decode cX2_takeOrders 1 = .ok (.istore_n 2, 1) := dk_61 (dk_at dksX2_takeOrders_0 1 rfl rfl)
theorem dX2_takeOrders_2 : decode cX2_takeOrders 2 = .ok (.iload_n 2, 1) := dk_28 (dk_at dksX2_takeOrders_0 2 rfl rfl)
theorem dX2_takeOrders_3 : decode cX2_takeOrders 3 = .ok (.iconst 4, 1) := dk_7 (dk_at dksX2_takeOrders_0 3 rfl rfl)
theorem dX2_takeOrders_4 : decode cX2_takeOrders 4 = .ok (.if_icmp .ge 31, 3) := dk_162 0 31 (dk_at dksX2_takeOrders_0 4 rfl rfl)
theorem dX2_takeOrders_7 : decode cX2_takeOrders 7 = .ok (.aload_n 0, 1) := dk_42 (dk_at dksX2_takeOrders_0 7 rfl rfl)
theorem dX2_takeOrders_8 : decode cX2_takeOrders 8 = .ok (.getfield 28, 3) := dk_180 0 28 (dk_at dksX2_takeOrders_0 8 rfl rfl)
theorem dX2_takeOrders_11 : decode cX2_takeOrders 11 = .ok (.iload_n 2, 1) := dk_28 (dk_at dksX2_takeOrders_0 11 rfl rfl)
theorem dX2_takeOrders_12 : decode cX2_takeOrders 12 = .ok (.invokevirtual 59, 3) := dk_182 0 59 (dk_at dksX2_takeOrders_0 12 rfl rfl)
theorem dX2_takeOrders_15 : decode cX2_takeOrders 15 = .ok (.checkcast 51, 3) := dk_192 0 51 (dk_at dksX2_takeOrders_0 15 rfl rfl)
theorem dX2_takeOrders_18 : decode cX2_takeOrders 18 = .ok (.aload_n 1, 1) := dk_43 (dk_at dksX2_takeOrders_0 18 rfl rfl)
theorem dX2_takeOrders_19 : decode cX2_takeOrders 19 = .ok (.iload_n 2, 1) := dk_28 (dk_at dksX2_takeOrders_0 19 rfl rfl)
theorem dX2_takeOrders_20 : decode cX2_takeOrders 20 = .ok (.invokevirtual 59, 3) := dk_182 0 59 (dk_at dksX2_takeOrders_0 20 rfl rfl)
theorem dX2_takeOrders_23 : decode cX2_takeOrders 23 = .ok (.checkcast 51, 3) := dk_192 0 51 (dk_at dksX2_takeOrders_1 0 rfl rfl)
theorem dX2_takeOrders_26 : decode cX2_takeOrders 26 = .ok (.invokevirtual 107, 3) := dk_182 0 107 (dk_at dksX2_takeOrders_1 3 rfl rfl)
theorem dX2_takeOrders_29 : decode cX2_takeOrders 29 = .ok (.iinc 2 1, 3) := dk_132 2 1 (dk_at dksX2_takeOrders_1 6 rfl rfl)
theorem dX2_takeOrders_32 : decode cX2_takeOrders 32 = .ok (.goto (-30), 3) := dk_167 255 226 (dk_at dksX2_takeOrders_1 9 rfl rfl)
theorem dX2_takeOrders_35 : decode cX2_takeOrders 35 = .ok (.return_, 1) := dk_177 (dk_at dksX2_takeOrders_1 12 rfl rfl)
theorem q90 : (Jvm.Cond.initialized "SetupJobShop$Shop") ∈ lw_all := lw_g (lw_at lw_m1 2 rfl) rfl
theorem q141 : (Jvm.Cond.instantiable "SetupJobShop$Shop" (13 : Nat)) ∈ lw_all := lw_g (lw_at lw_m1 53 rfl) rfl
theorem q143 : (Jvm.Cond.instanceMethod ({ cls := "SetupJobShop$Shop", name := "<init>", desc := "()V" } : Jvm.MethodName)) ∈ lw_all := lw_g (lw_at lw_m1 55 rfl) rfl
theorem q144 : (Jvm.Cond.code ({ cls := "SetupJobShop$Shop", name := "<init>", desc := "()V" } : Jvm.MethodName) prog_15_method_1_code (2 : Nat) (Option.none : Option Jvm.ClassFile.FieldType)) ∈ lw_all := lw_g (lw_at lw_m1 56 rfl) rfl
theorem q145 : (Jvm.Cond.methodLink "SetupJobShop$Shop" (3 : Nat) ({ cls := "java/lang/Object", name := "<init>", desc := "()V" } : Jvm.MethodName)) ∈ lw_all := lw_g (lw_at lw_m1 57 rfl) rfl
theorem q146 : (Jvm.Cond.classLink "SetupJobShop$Shop" (9 : Nat) "java/util/ArrayList") ∈ lw_all := lw_g (lw_at lw_m1 58 rfl) rfl
theorem q148 : (Jvm.Cond.methodLink "SetupJobShop$Shop" (11 : Nat) ({ cls := "java/util/ArrayList", name := "<init>", desc := "()V" } : Jvm.MethodName)) ∈ lw_all := lw_g (lw_at lw_m1 60 rfl) rfl
theorem q172 : (Jvm.Cond.methodLink "SetupJobShop$Shop" (47 : Nat) ({ cls := "java/util/ArrayList", name := "add", desc := "(Ljava/lang/Object;)Z" } : Jvm.MethodName)) ∈ lw_all := lw_g (lw_at lw_m1 84 rfl) rfl
theorem q218 : (Jvm.Cond.selects "SetupJobShop$Shop" ({ cls := "java/lang/Object", name := "getClass", desc := "()Ljava/lang/Class;" } : Jvm.MethodName) ({ cls := "java/lang/Object", name := "getClass", desc := "()Ljava/lang/Class;" } : Jvm.MethodName)) ∈ lw_all := lw_g (lw_at lw_m1 130 rfl) rfl
theorem q246 : (Jvm.Cond.classLink "SetupJobShop$Shop" (51 : Nat) "SetupJobShop$Order") ∈ lw_all := lw_g (lw_at lw_m1 158 rfl) rfl
theorem q248 : (Jvm.Cond.methodLinkNest "SetupJobShop$Shop" (53 : Nat) ({ cls := "SetupJobShop$Order", name := "<init>", desc := "()V" } : Jvm.MethodName) "SetupJobShop") ∈ lw_tbl := lw_at lw_m1 160 rfl
theorem q255 : (Jvm.Cond.fieldLinkNest "SetupJobShop$Shop" (169 : Nat) "SetupJobShop$Order" "row" "[I" "SetupJobShop") ∈ lw_tbl := lw_at lw_m1 167 rfl
theorem q259 : (Jvm.Cond.fieldLinkNest "SetupJobShop$Shop" (167 : Nat) "SetupJobShop$Order" "size" "I" "SetupJobShop") ∈ lw_tbl := lw_at lw_m1 171 rfl
theorem q267 : (Jvm.Cond.fieldLink "SetupJobShop$Shop" (12 : Nat) "SetupJobShop$Shop" "jobs" "Ljava/util/ArrayList;") ∈ lw_all := lw_g (lw_at lw_m1 179 rfl) rfl
theorem q271 : (Jvm.Cond.fieldLink "SetupJobShop$Shop" (18 : Nat) "SetupJobShop$Shop" "operations" "Ljava/util/ArrayList;") ∈ lw_all := lw_g (lw_at lw_m1 183 rfl) rfl
theorem q274 : (Jvm.Cond.fieldLink "SetupJobShop$Shop" (21 : Nat) "SetupJobShop$Shop" "setups" "[I") ∈ lw_all := lw_g (lw_at lw_m1 186 rfl) rfl
theorem q276 : (Jvm.Cond.fieldLink "SetupJobShop$Shop" (25 : Nat) "SetupJobShop$Shop" "breakdowns" "Ljava/util/ArrayList;") ∈ lw_all := lw_g (lw_at lw_m1 188 rfl) rfl
theorem q278 : (Jvm.Cond.fieldLink "SetupJobShop$Shop" (28 : Nat) "SetupJobShop$Shop" "orders" "Ljava/util/ArrayList;") ∈ lw_all := lw_g (lw_at lw_m1 190 rfl) rfl
theorem q282 : (Jvm.Cond.fieldLink "SetupJobShop$Shop" (31 : Nat) "SetupJobShop$Shop" "before" "[I") ∈ lw_all := lw_g (lw_at lw_m1 194 rfl) rfl
theorem q283 : (Jvm.Cond.fieldLink "SetupJobShop$Shop" (34 : Nat) "SetupJobShop$Shop" "ready" "[I") ∈ lw_all := lw_g (lw_at lw_m1 195 rfl) rfl
theorem q285 : (Jvm.Cond.fieldLink "SetupJobShop$Shop" (37 : Nat) "SetupJobShop$Shop" "start" "[I") ∈ lw_all := lw_g (lw_at lw_m1 197 rfl) rfl
theorem q288 : (Jvm.Cond.fieldLink "SetupJobShop$Shop" (40 : Nat) "SetupJobShop$Shop" "end" "[I") ∈ lw_all := lw_g (lw_at lw_m1 200 rfl) rfl
theorem q291 : (Jvm.Cond.fieldLink "SetupJobShop$Shop" (164 : Nat) "SetupJobShop$Shop" "makespan" "I") ∈ lw_all := lw_g (lw_at lw_m1 203 rfl) rfl
theorem q293 : (Jvm.Cond.fieldLink "SetupJobShop$Shop" (137 : Nat) "SetupJobShop$Shop" "done" "I") ∈ lw_all := lw_g (lw_at lw_m1 205 rfl) rfl
theorem q294 : (Jvm.Cond.fieldLink "SetupJobShop$Shop" (43 : Nat) "SetupJobShop$Shop" "held" "I") ∈ lw_all := lw_g (lw_at lw_m1 206 rfl) rfl
theorem q295 : (Jvm.Cond.fieldLink "SetupJobShop$Shop" (157 : Nat) "SetupJobShop$Shop" "heldUntil" "I") ∈ lw_all := lw_g (lw_at lw_m1 207 rfl) rfl
theorem q296 : (Jvm.Cond.laysFinal "SetupJobShop$Shop" "SetupJobShop$Shop" "jobs" "Ljava/util/ArrayList;") ∈ lw_all := lw_g (lw_at lw_m1 208 rfl) rfl
theorem q297 : (Jvm.Cond.soleField "SetupJobShop$Shop" "jobs") ∈ lw_all := lw_g (lw_at lw_m1 209 rfl) rfl
theorem q298 : (Jvm.Cond.laysFinal "SetupJobShop$Shop" "SetupJobShop$Shop" "operations" "Ljava/util/ArrayList;") ∈ lw_all := lw_g (lw_at lw_m1 210 rfl) rfl
theorem q299 : (Jvm.Cond.soleField "SetupJobShop$Shop" "operations") ∈ lw_all := lw_g (lw_at lw_m1 211 rfl) rfl
theorem q300 : (Jvm.Cond.laysFinal "SetupJobShop$Shop" "SetupJobShop$Shop" "setups" "[I") ∈ lw_all := lw_g (lw_at lw_m1 212 rfl) rfl
theorem q301 : (Jvm.Cond.soleField "SetupJobShop$Shop" "setups") ∈ lw_all := lw_g (lw_at lw_m1 213 rfl) rfl
theorem q302 : (Jvm.Cond.laysFinal "SetupJobShop$Shop" "SetupJobShop$Shop" "breakdowns" "Ljava/util/ArrayList;") ∈ lw_all := lw_g (lw_at lw_m1 214 rfl) rfl
theorem q303 : (Jvm.Cond.soleField "SetupJobShop$Shop" "breakdowns") ∈ lw_all := lw_g (lw_at lw_m1 215 rfl) rfl
theorem q304 : (Jvm.Cond.laysFinal "SetupJobShop$Shop" "SetupJobShop$Shop" "orders" "Ljava/util/ArrayList;") ∈ lw_all := lw_g (lw_at lw_m1 216 rfl) rfl
theorem q305 : (Jvm.Cond.soleField "SetupJobShop$Shop" "orders") ∈ lw_all := lw_g (lw_at lw_m1 217 rfl) rfl
theorem q306 : (Jvm.Cond.laysFinal "SetupJobShop$Shop" "SetupJobShop$Shop" "before" "[I") ∈ lw_all := lw_g (lw_at lw_m1 218 rfl) rfl
theorem q307 : (Jvm.Cond.soleField "SetupJobShop$Shop" "before") ∈ lw_all := lw_g (lw_at lw_m1 219 rfl) rfl
theorem q308 : (Jvm.Cond.laysFinal "SetupJobShop$Shop" "SetupJobShop$Shop" "ready" "[I") ∈ lw_all := lw_g (lw_at lw_m1 220 rfl) rfl
theorem q309 : (Jvm.Cond.soleField "SetupJobShop$Shop" "ready") ∈ lw_all := lw_g (lw_at lw_m1 221 rfl) rfl
theorem q310 : (Jvm.Cond.laysFinal "SetupJobShop$Shop" "SetupJobShop$Shop" "start" "[I") ∈ lw_all := lw_g (lw_at lw_m1 222 rfl) rfl
theorem q311 : (Jvm.Cond.soleField "SetupJobShop$Shop" "start") ∈ lw_all := lw_g (lw_at lw_m1 223 rfl) rfl
theorem q312 : (Jvm.Cond.laysFinal "SetupJobShop$Shop" "SetupJobShop$Shop" "end" "[I") ∈ lw_all := lw_g (lw_at lw_m1 224 rfl) rfl
theorem q313 : (Jvm.Cond.soleField "SetupJobShop$Shop" "end") ∈ lw_all := lw_g (lw_at lw_m1 225 rfl) rfl
theorem q314 : (Jvm.Cond.lays "SetupJobShop$Shop" "SetupJobShop$Shop" "makespan" "I") ∈ lw_all := lw_g (lw_at lw_m1 226 rfl) rfl
theorem q315 : (Jvm.Cond.soleField "SetupJobShop$Shop" "makespan") ∈ lw_all := lw_g (lw_at lw_m1 227 rfl) rfl
theorem q316 : (Jvm.Cond.lays "SetupJobShop$Shop" "SetupJobShop$Shop" "done" "I") ∈ lw_all := lw_g (lw_at lw_m1 228 rfl) rfl
theorem q317 : (Jvm.Cond.soleField "SetupJobShop$Shop" "done") ∈ lw_all := lw_g (lw_at lw_m1 229 rfl) rfl
theorem q318 : (Jvm.Cond.lays "SetupJobShop$Shop" "SetupJobShop$Shop" "held" "I") ∈ lw_all := lw_g (lw_at lw_m1 230 rfl) rfl
theorem q319 : (Jvm.Cond.soleField "SetupJobShop$Shop" "held") ∈ lw_all := lw_g (lw_at lw_m1 231 rfl) rfl
theorem q320 : (Jvm.Cond.lays "SetupJobShop$Shop" "SetupJobShop$Shop" "heldUntil" "I") ∈ lw_all := lw_g (lw_at lw_m1 232 rfl) rfl
theorem q321 : (Jvm.Cond.soleField "SetupJobShop$Shop" "heldUntil") ∈ lw_all := lw_g (lw_at lw_m1 233 rfl) rfl
theorem q322 : (Jvm.Cond.superclass "SetupJobShop$Shop" "java/lang/Object") ∈ lw_all := lw_g (lw_at lw_m1 234 rfl) rfl
theorem q383 : (Jvm.Cond.instanceMethod ({ cls := "SetupJobShop$Shop", name := "isScheduled", desc := "(I)Z" } : Jvm.MethodName)) ∈ lw_all := lw_g (lw_at lw_m2 55 rfl) rfl
theorem q384 : (Jvm.Cond.selects "SetupJobShop$Shop" ({ cls := "SetupJobShop$Shop", name := "isScheduled", desc := "(I)Z" } : Jvm.MethodName) ({ cls := "SetupJobShop$Shop", name := "isScheduled", desc := "(I)Z" } : Jvm.MethodName)) ∈ lw_all := lw_g (lw_at lw_m2 56 rfl) rfl
theorem q385 : (Jvm.Cond.code ({ cls := "SetupJobShop$Shop", name := "isScheduled", desc := "(I)Z" } : Jvm.MethodName) prog_15_method_11_code (5 : Nat) (Option.some Jvm.ClassFile.FieldType.boolean)) ∈ lw_all := lw_g (lw_at lw_m2 57 rfl) rfl
theorem q386 : (Jvm.Cond.methodLink "SetupJobShop$Shop" (172 : Nat) ({ cls := "SetupJobShop$Shop", name := "link", desc := "(I)V" } : Jvm.MethodName)) ∈ lw_all := lw_g (lw_at lw_m2 58 rfl) rfl
theorem q387 : (Jvm.Cond.privateMethod ({ cls := "SetupJobShop$Shop", name := "link", desc := "(I)V" } : Jvm.MethodName)) ∈ lw_tbl := lw_at lw_m2 59 rfl
theorem q388 : (Jvm.Cond.instanceMethod ({ cls := "SetupJobShop$Shop", name := "link", desc := "(I)V" } : Jvm.MethodName)) ∈ lw_all := lw_g (lw_at lw_m2 60 rfl) rfl
theorem q389 : (Jvm.Cond.code ({ cls := "SetupJobShop$Shop", name := "link", desc := "(I)V" } : Jvm.MethodName) prog_15_method_10_code (5 : Nat) (Option.none : Option Jvm.ClassFile.FieldType)) ∈ lw_all := lw_g (lw_at lw_m2 61 rfl) rfl
theorem q390 : (Jvm.Cond.methodLink "SetupJobShop$Shop" (55 : Nat) ({ cls := "java/util/ArrayList", name := "size", desc := "()I" } : Jvm.MethodName)) ∈ lw_all := lw_g (lw_at lw_m2 62 rfl) rfl
theorem q394 : (Jvm.Cond.methodLink "SetupJobShop$Shop" (59 : Nat) ({ cls := "java/util/ArrayList", name := "get", desc := "(I)Ljava/lang/Object;" } : Jvm.MethodName)) ∈ lw_all := lw_g (lw_at lw_m2 66 rfl) rfl
theorem q408 : (Jvm.Cond.classLink "SetupJobShop$Shop" (77 : Nat) "SetupJobShop$Operation") ∈ lw_all := lw_g (lw_at lw_m2 80 rfl) rfl
theorem q409 : (Jvm.Cond.methodLink "SetupJobShop$Shop" (175 : Nat) ({ cls := "SetupJobShop$Shop", name := "isDone", desc := "(I)Z" } : Jvm.MethodName)) ∈ lw_all := lw_g (lw_at lw_m2 81 rfl) rfl
theorem q410 : (Jvm.Cond.privateMethod ({ cls := "SetupJobShop$Shop", name := "isDone", desc := "(I)Z" } : Jvm.MethodName)) ∈ lw_tbl := lw_at lw_m2 82 rfl
theorem q411 : (Jvm.Cond.instanceMethod ({ cls := "SetupJobShop$Shop", name := "isDone", desc := "(I)Z" } : Jvm.MethodName)) ∈ lw_all := lw_g (lw_at lw_m2 83 rfl) rfl
theorem q412 : (Jvm.Cond.code ({ cls := "SetupJobShop$Shop", name := "isDone", desc := "(I)Z" } : Jvm.MethodName) prog_15_method_7_code (2 : Nat) (Option.some Jvm.ClassFile.FieldType.boolean)) ∈ lw_all := lw_g (lw_at lw_m2 84 rfl) rfl
theorem q413 : (Jvm.Cond.methodLink "SetupJobShop$Shop" (143 : Nat) ({ cls := "SetupJobShop$Shop", name := "earlier", desc := "(LSetupJobShop$Operation;)I" } : Jvm.MethodName)) ∈ lw_all := lw_g (lw_at lw_m2 85 rfl) rfl
theorem q414 : (Jvm.Cond.privateMethod ({ cls := "SetupJobShop$Shop", name := "earlier", desc := "(LSetupJobShop$Operation;)I" } : Jvm.MethodName)) ∈ lw_tbl := lw_at lw_m2 86 rfl
theorem q415 : (Jvm.Cond.instanceMethod ({ cls := "SetupJobShop$Shop", name := "earlier", desc := "(LSetupJobShop$Operation;)I" } : Jvm.MethodName)) ∈ lw_all := lw_g (lw_at lw_m2 87 rfl) rfl
theorem q416 : (Jvm.Cond.code ({ cls := "SetupJobShop$Shop", name := "earlier", desc := "(LSetupJobShop$Operation;)I" } : Jvm.MethodName) prog_15_method_8_code (2 : Nat) (Option.some Jvm.ClassFile.FieldType.int)) ∈ lw_all := lw_g (lw_at lw_m2 88 rfl) rfl
theorem q417 : (Jvm.Cond.classLink "SetupJobShop$Shop" (63 : Nat) "SetupJobShop$Job") ∈ lw_all := lw_g (lw_at lw_m2 89 rfl) rfl
theorem q418 : (Jvm.Cond.methodLink "SetupJobShop$Shop" (178 : Nat) ({ cls := "SetupJobShop$Shop", name := "place", desc := "(LSetupJobShop$Operation;)V" } : Jvm.MethodName)) ∈ lw_all := lw_g (lw_at lw_m2 90 rfl) rfl
theorem q419 : (Jvm.Cond.privateMethod ({ cls := "SetupJobShop$Shop", name := "place", desc := "(LSetupJobShop$Operation;)V" } : Jvm.MethodName)) ∈ lw_tbl := lw_at lw_m2 91 rfl
theorem q420 : (Jvm.Cond.instanceMethod ({ cls := "SetupJobShop$Shop", name := "place", desc := "(LSetupJobShop$Operation;)V" } : Jvm.MethodName)) ∈ lw_all := lw_g (lw_at lw_m2 92 rfl) rfl
theorem q421 : (Jvm.Cond.code ({ cls := "SetupJobShop$Shop", name := "place", desc := "(LSetupJobShop$Operation;)V" } : Jvm.MethodName) prog_15_method_9_code (5 : Nat) (Option.none : Option Jvm.ClassFile.FieldType)) ∈ lw_all := lw_g (lw_at lw_m2 93 rfl) rfl
theorem q422 : (Jvm.Cond.methodLink "SetupJobShop$Shop" (65 : Nat) ({ cls := "SetupJobShop$Job", name := "release", desc := "()I" } : Jvm.MethodName)) ∈ lw_all := lw_g (lw_at lw_m2 94 rfl) rfl
theorem q426 : (Jvm.Cond.methodLink "SetupJobShop$Shop" (147 : Nat) ({ cls := "java/lang/Math", name := "max", desc := "(II)I" } : Jvm.MethodName)) ∈ lw_all := lw_g (lw_at lw_m2 98 rfl) rfl
theorem q427 : (Jvm.Cond.methodLink "SetupJobShop$Shop" (153 : Nat) ({ cls := "SetupJobShop$Shop", name := "setup", desc := "(LSetupJobShop$Operation;LSetupJobShop$Operation;)I" } : Jvm.MethodName)) ∈ lw_all := lw_g (lw_at lw_m2 99 rfl) rfl
theorem q428 : (Jvm.Cond.instanceMethod ({ cls := "SetupJobShop$Shop", name := "setup", desc := "(LSetupJobShop$Operation;LSetupJobShop$Operation;)I" } : Jvm.MethodName)) ∈ lw_all := lw_g (lw_at lw_m2 100 rfl) rfl
theorem q429 : (Jvm.Cond.selects "SetupJobShop$Shop" ({ cls := "SetupJobShop$Shop", name := "setup", desc := "(LSetupJobShop$Operation;LSetupJobShop$Operation;)I" } : Jvm.MethodName) ({ cls := "SetupJobShop$Shop", name := "setup", desc := "(LSetupJobShop$Operation;LSetupJobShop$Operation;)I" } : Jvm.MethodName)) ∈ lw_all := lw_g (lw_at lw_m2 101 rfl) rfl
theorem q430 : (Jvm.Cond.code ({ cls := "SetupJobShop$Shop", name := "setup", desc := "(LSetupJobShop$Operation;LSetupJobShop$Operation;)I" } : Jvm.MethodName) prog_15_method_5_code (3 : Nat) (Option.some Jvm.ClassFile.FieldType.int)) ∈ lw_all := lw_g (lw_at lw_m2 102 rfl) rfl
theorem q431 : (Jvm.Cond.methodLink "SetupJobShop$Shop" (160 : Nat) ({ cls := "SetupJobShop$Shop", name := "unhindered", desc := "(LSetupJobShop$Operation;I)I" } : Jvm.MethodName)) ∈ lw_all := lw_g (lw_at lw_m2 103 rfl) rfl
theorem q432 : (Jvm.Cond.privateMethod ({ cls := "SetupJobShop$Shop", name := "unhindered", desc := "(LSetupJobShop$Operation;I)I" } : Jvm.MethodName)) ∈ lw_tbl := lw_at lw_m2 104 rfl
theorem q433 : (Jvm.Cond.instanceMethod ({ cls := "SetupJobShop$Shop", name := "unhindered", desc := "(LSetupJobShop$Operation;I)I" } : Jvm.MethodName)) ∈ lw_all := lw_g (lw_at lw_m2 105 rfl) rfl
theorem q434 : (Jvm.Cond.code ({ cls := "SetupJobShop$Shop", name := "unhindered", desc := "(LSetupJobShop$Operation;I)I" } : Jvm.MethodName) prog_15_method_6_code (6 : Nat) (Option.some Jvm.ClassFile.FieldType.int)) ∈ lw_all := lw_g (lw_at lw_m2 106 rfl) rfl
theorem q435 : (Jvm.Cond.classLink "SetupJobShop$Shop" (125 : Nat) "SetupJobShop$Breakdown") ∈ lw_all := lw_g (lw_at lw_m2 107 rfl) rfl
theorem q436 : (Jvm.Cond.methodLink "SetupJobShop$Shop" (127 : Nat) ({ cls := "SetupJobShop$Breakdown", name := "hinders", desc := "(II)Z" } : Jvm.MethodName)) ∈ lw_all := lw_g (lw_at lw_m2 108 rfl) rfl
theorem q449 : (Jvm.Cond.instanceMethod ({ cls := "SetupJobShop$Shop", name := "path", desc := "()Ljava/util/ArrayList;" } : Jvm.MethodName)) ∈ lw_all := lw_g (lw_at lw_m2 121 rfl) rfl
theorem q450 : (Jvm.Cond.selects "SetupJobShop$Shop" ({ cls := "SetupJobShop$Shop", name := "path", desc := "()Ljava/util/ArrayList;" } : Jvm.MethodName) ({ cls := "SetupJobShop$Shop", name := "path", desc := "()Ljava/util/ArrayList;" } : Jvm.MethodName)) ∈ lw_all := lw_g (lw_at lw_m2 122 rfl) rfl
theorem q451 : (Jvm.Cond.code ({ cls := "SetupJobShop$Shop", name := "path", desc := "()Ljava/util/ArrayList;" } : Jvm.MethodName) prog_15_method_20_code (4 : Nat) (Option.some (Jvm.ClassFile.FieldType.object "java/util/ArrayList"))) ∈ lw_all := lw_g (lw_at lw_m2 123 rfl) rfl
theorem q452 : (Jvm.Cond.methodLink "SetupJobShop$Shop" (206 : Nat) ({ cls := "SetupJobShop$Shop", name := "pathBackwards", desc := "()Ljava/util/ArrayList;" } : Jvm.MethodName)) ∈ lw_all := lw_g (lw_at lw_m2 124 rfl) rfl
theorem q453 : (Jvm.Cond.instanceMethod ({ cls := "SetupJobShop$Shop", name := "pathBackwards", desc := "()Ljava/util/ArrayList;" } : Jvm.MethodName)) ∈ lw_all := lw_g (lw_at lw_m2 125 rfl) rfl
theorem q454 : (Jvm.Cond.selects "SetupJobShop$Shop" ({ cls := "SetupJobShop$Shop", name := "pathBackwards", desc := "()Ljava/util/ArrayList;" } : Jvm.MethodName) ({ cls := "SetupJobShop$Shop", name := "pathBackwards", desc := "()Ljava/util/ArrayList;" } : Jvm.MethodName)) ∈ lw_all := lw_g (lw_at lw_m2 126 rfl) rfl
theorem q455 : (Jvm.Cond.code ({ cls := "SetupJobShop$Shop", name := "pathBackwards", desc := "()Ljava/util/ArrayList;" } : Jvm.MethodName) prog_15_method_19_code (6 : Nat) (Option.some (Jvm.ClassFile.FieldType.object "java/util/ArrayList"))) ∈ lw_all := lw_g (lw_at lw_m2 127 rfl) rfl
theorem q495 : (Jvm.Cond.instanceMethod ({ cls := "SetupJobShop$Shop", name := "shift", desc := "()[I" } : Jvm.MethodName)) ∈ lw_all := lw_g (lw_at lw_m2 167 rfl) rfl
theorem q496 : (Jvm.Cond.selects "SetupJobShop$Shop" ({ cls := "SetupJobShop$Shop", name := "shift", desc := "()[I" } : Jvm.MethodName) ({ cls := "SetupJobShop$Shop", name := "shift", desc := "()[I" } : Jvm.MethodName)) ∈ lw_all := lw_g (lw_at lw_m2 168 rfl) rfl
theorem q497 : (Jvm.Cond.code ({ cls := "SetupJobShop$Shop", name := "shift", desc := "()[I" } : Jvm.MethodName) prog_15_method_23_code (8 : Nat) (Option.some (Jvm.ClassFile.FieldType.array Jvm.ClassFile.FieldType.int))) ∈ lw_all := lw_g (lw_at lw_m2 169 rfl) rfl
theorem q498 : (Jvm.Cond.methodLink "SetupJobShop$Shop" (219 : Nat) ({ cls := "SetupJobShop$Shop", name := "optimum", desc := "(II)I" } : Jvm.MethodName)) ∈ lw_all := lw_g (lw_at lw_m2 170 rfl) rfl
theorem q499 : (Jvm.Cond.instanceMethod ({ cls := "SetupJobShop$Shop", name := "optimum", desc := "(II)I" } : Jvm.MethodName)) ∈ lw_all := lw_g (lw_at lw_m2 171 rfl) rfl
theorem q500 : (Jvm.Cond.selects "SetupJobShop$Shop" ({ cls := "SetupJobShop$Shop", name := "optimum", desc := "(II)I" } : Jvm.MethodName) ({ cls := "SetupJobShop$Shop", name := "optimum", desc := "(II)I" } : Jvm.MethodName)) ∈ lw_all := lw_g (lw_at lw_m2 172 rfl) rfl
theorem q501 : (Jvm.Cond.code ({ cls := "SetupJobShop$Shop", name := "optimum", desc := "(II)I" } : Jvm.MethodName) prog_15_method_22_code (5 : Nat) (Option.some Jvm.ClassFile.FieldType.int)) ∈ lw_all := lw_g (lw_at lw_m2 173 rfl) rfl
theorem q502 : (Jvm.Cond.methodLink "SetupJobShop$Shop" (107 : Nat) ({ cls := "SetupJobShop$Order", name := "take", desc := "(LSetupJobShop$Order;)V" } : Jvm.MethodName)) ∈ lw_all := lw_g (lw_at lw_m2 174 rfl) rfl
theorem q507 : (Jvm.Cond.methodLink "SetupJobShop$Shop" (216 : Nat) ({ cls := "SetupJobShop$Shop", name := "optimize", desc := "(II)I" } : Jvm.MethodName)) ∈ lw_all := lw_g (lw_at lw_m2 179 rfl) rfl
theorem q508 : (Jvm.Cond.instanceMethod ({ cls := "SetupJobShop$Shop", name := "optimize", desc := "(II)I" } : Jvm.MethodName)) ∈ lw_all := lw_g (lw_at lw_m2 180 rfl) rfl
theorem q509 : (Jvm.Cond.selects "SetupJobShop$Shop" ({ cls := "SetupJobShop$Shop", name := "optimize", desc := "(II)I" } : Jvm.MethodName) ({ cls := "SetupJobShop$Shop", name := "optimize", desc := "(II)I" } : Jvm.MethodName)) ∈ lw_all := lw_g (lw_at lw_m2 181 rfl) rfl
theorem q510 : (Jvm.Cond.code ({ cls := "SetupJobShop$Shop", name := "optimize", desc := "(II)I" } : Jvm.MethodName) prog_15_method_21_code (6 : Nat) (Option.some Jvm.ClassFile.FieldType.int)) ∈ lw_all := lw_g (lw_at lw_m2 182 rfl) rfl
theorem q511 : (Jvm.Cond.methodLink "SetupJobShop$Shop" (210 : Nat) ({ cls := "SetupJobShop$Order", name := "sort", desc := "()V" } : Jvm.MethodName)) ∈ lw_all := lw_g (lw_at lw_m2 183 rfl) rfl
theorem q519 : (Jvm.Cond.methodLink "SetupJobShop$Shop" (182 : Nat) ({ cls := "SetupJobShop$Shop", name := "isScheduled", desc := "(I)Z" } : Jvm.MethodName)) ∈ lw_all := lw_g (lw_at lw_m2 191 rfl) rfl
theorem q520 : (Jvm.Cond.methodLink "SetupJobShop$Shop" (213 : Nat) ({ cls := "SetupJobShop$Order", name := "advance", desc := "()Z" } : Jvm.MethodName)) ∈ lw_all := lw_g (lw_at lw_m2 192 rfl) rfl
theorem q533 : (Jvm.Cond.instanceMethod ({ cls := "SetupJobShop$Shop", name := "lowerBound", desc := "()I" } : Jvm.MethodName)) ∈ lw_all := lw_g (lw_at lw_m2 205 rfl) rfl
theorem q534 : (Jvm.Cond.selects "SetupJobShop$Shop" ({ cls := "SetupJobShop$Shop", name := "lowerBound", desc := "()I" } : Jvm.MethodName) ({ cls := "SetupJobShop$Shop", name := "lowerBound", desc := "()I" } : Jvm.MethodName)) ∈ lw_all := lw_g (lw_at lw_m2 206 rfl) rfl
theorem q535 : (Jvm.Cond.code ({ cls := "SetupJobShop$Shop", name := "lowerBound", desc := "()I" } : Jvm.MethodName) prog_15_method_28_code (3 : Nat) (Option.some Jvm.ClassFile.FieldType.int)) ∈ lw_all := lw_g (lw_at lw_m2 207 rfl) rfl
theorem q536 : (Jvm.Cond.methodLink "SetupJobShop$Shop" (235 : Nat) ({ cls := "SetupJobShop$Shop", name := "bound", desc := "(I)I" } : Jvm.MethodName)) ∈ lw_all := lw_g (lw_at lw_m2 208 rfl) rfl
theorem q537 : (Jvm.Cond.instanceMethod ({ cls := "SetupJobShop$Shop", name := "bound", desc := "(I)I" } : Jvm.MethodName)) ∈ lw_all := lw_g (lw_at lw_m2 209 rfl) rfl
theorem q538 : (Jvm.Cond.selects "SetupJobShop$Shop" ({ cls := "SetupJobShop$Shop", name := "bound", desc := "(I)I" } : Jvm.MethodName) ({ cls := "SetupJobShop$Shop", name := "bound", desc := "(I)I" } : Jvm.MethodName)) ∈ lw_all := lw_g (lw_at lw_m2 210 rfl) rfl
theorem q539 : (Jvm.Cond.code ({ cls := "SetupJobShop$Shop", name := "bound", desc := "(I)I" } : Jvm.MethodName) prog_15_method_26_code (10 : Nat) (Option.some Jvm.ClassFile.FieldType.int)) ∈ lw_all := lw_g (lw_at lw_m2 211 rfl) rfl
theorem q540 : (Jvm.Cond.methodLink "SetupJobShop$Shop" (225 : Nat) ({ cls := "SetupJobShop$Shop", name := "head", desc := "(LSetupJobShop$Operation;)I" } : Jvm.MethodName)) ∈ lw_all := lw_g (lw_at lw_m2 212 rfl) rfl
theorem q541 : (Jvm.Cond.privateMethod ({ cls := "SetupJobShop$Shop", name := "head", desc := "(LSetupJobShop$Operation;)I" } : Jvm.MethodName)) ∈ lw_tbl := lw_at lw_m2 213 rfl
theorem q542 : (Jvm.Cond.instanceMethod ({ cls := "SetupJobShop$Shop", name := "head", desc := "(LSetupJobShop$Operation;)I" } : Jvm.MethodName)) ∈ lw_all := lw_g (lw_at lw_m2 214 rfl) rfl
theorem q543 : (Jvm.Cond.code ({ cls := "SetupJobShop$Shop", name := "head", desc := "(LSetupJobShop$Operation;)I" } : Jvm.MethodName) prog_15_method_24_code (4 : Nat) (Option.some Jvm.ClassFile.FieldType.int)) ∈ lw_all := lw_g (lw_at lw_m2 215 rfl) rfl
theorem q544 : (Jvm.Cond.methodLink "SetupJobShop$Shop" (228 : Nat) ({ cls := "SetupJobShop$Shop", name := "precedes", desc := "(LSetupJobShop$Operation;LSetupJobShop$Operation;)Z" } : Jvm.MethodName)) ∈ lw_all := lw_g (lw_at lw_m2 216 rfl) rfl
theorem q545 : (Jvm.Cond.privateMethod ({ cls := "SetupJobShop$Shop", name := "precedes", desc := "(LSetupJobShop$Operation;LSetupJobShop$Operation;)Z" } : Jvm.MethodName)) ∈ lw_tbl := lw_at lw_m2 217 rfl
theorem q546 : (Jvm.Cond.instanceMethod ({ cls := "SetupJobShop$Shop", name := "precedes", desc := "(LSetupJobShop$Operation;LSetupJobShop$Operation;)Z" } : Jvm.MethodName)) ∈ lw_all := lw_g (lw_at lw_m2 218 rfl) rfl
theorem q547 : (Jvm.Cond.code ({ cls := "SetupJobShop$Shop", name := "precedes", desc := "(LSetupJobShop$Operation;LSetupJobShop$Operation;)Z" } : Jvm.MethodName) prog_15_method_27_code (3 : Nat) (Option.some Jvm.ClassFile.FieldType.boolean)) ∈ lw_all := lw_g (lw_at lw_m2 219 rfl) rfl
theorem q548 : (Jvm.Cond.methodLink "SetupJobShop$Shop" (232 : Nat) ({ cls := "SetupJobShop$Shop", name := "tail", desc := "(LSetupJobShop$Operation;)I" } : Jvm.MethodName)) ∈ lw_all := lw_g (lw_at lw_m2 220 rfl) rfl
theorem q549 : (Jvm.Cond.privateMethod ({ cls := "SetupJobShop$Shop", name := "tail", desc := "(LSetupJobShop$Operation;)I" } : Jvm.MethodName)) ∈ lw_tbl := lw_at lw_m2 221 rfl
theorem q550 : (Jvm.Cond.instanceMethod ({ cls := "SetupJobShop$Shop", name := "tail", desc := "(LSetupJobShop$Operation;)I" } : Jvm.MethodName)) ∈ lw_all := lw_g (lw_at lw_m2 222 rfl) rfl
theorem q551 : (Jvm.Cond.code ({ cls := "SetupJobShop$Shop", name := "tail", desc := "(LSetupJobShop$Operation;)I" } : Jvm.MethodName) prog_15_method_25_code (2 : Nat) (Option.some Jvm.ClassFile.FieldType.int)) ∈ lw_all := lw_g (lw_at lw_m2 223 rfl) rfl
theorem q552 : (Jvm.Cond.methodLink "SetupJobShop$Shop" (222 : Nat) ({ cls := "SetupJobShop$Job", name := "work", desc := "(I)I" } : Jvm.MethodName)) ∈ lw_all := lw_g (lw_at lw_m2 224 rfl) rfl
theorem q559 : (Jvm.Cond.methodLink "SetupJobShop$Shop" (199 : Nat) ({ cls := "java/util/ArrayList", name := "isEmpty", desc := "()Z" } : Jvm.MethodName)) ∈ lw_all := lw_g (lw_at lw_m2 231 rfl) rfl
theorem q568 : (Jvm.Cond.instanceMethod ({ cls := "SetupJobShop$Shop", name := "<init>", desc := "(LSetupJobShop$Shop;)V" } : Jvm.MethodName)) ∈ lw_all := lw_g (lw_at lw_m3 0 rfl) rfl
theorem q569 : (Jvm.Cond.code ({ cls := "SetupJobShop$Shop", name := "<init>", desc := "(LSetupJobShop$Shop;)V" } : Jvm.MethodName) prog_15_method_2_code (4 : Nat) (Option.none : Option Jvm.ClassFile.FieldType)) ∈ lw_all := lw_g (lw_at lw_m3 1 rfl) rfl
theorem q570 : (Jvm.Cond.methodLink "SetupJobShop$Shop" (54 : Nat) ({ cls := "SetupJobShop$Shop", name := "<init>", desc := "()V" } : Jvm.MethodName)) ∈ lw_all := lw_g (lw_at lw_m3 2 rfl) rfl
theorem q572 : (Jvm.Cond.methodLink "SetupJobShop$Shop" (68 : Nat) ({ cls := "SetupJobShop$Job", name := "due", desc := "()I" } : Jvm.MethodName)) ∈ lw_all := lw_g (lw_at lw_m3 4 rfl) rfl
theorem q576 : (Jvm.Cond.methodLink "SetupJobShop$Shop" (71 : Nat) ({ cls := "SetupJobShop$Job", name := "weight", desc := "()I" } : Jvm.MethodName)) ∈ lw_all := lw_g (lw_at lw_m3 8 rfl) rfl
theorem q580 : (Jvm.Cond.methodLink "SetupJobShop$Shop" (74 : Nat) ({ cls := "SetupJobShop$Job", name := "<init>", desc := "(III)V" } : Jvm.MethodName)) ∈ lw_all := lw_g (lw_at lw_m3 12 rfl) rfl
theorem q589 : (Jvm.Cond.fieldLinkNest "SetupJobShop$Shop" (111 : Nat) "SetupJobShop$Job" "operations" "Ljava/util/ArrayList;" "SetupJobShop") ∈ lw_tbl := lw_at lw_m3 21 rfl
theorem q596 : (Jvm.Cond.methodLink "SetupJobShop$Shop" (91 : Nat) ({ cls := "SetupJobShop$Shop", name := "addOperation", desc := "(IIII)I" } : Jvm.MethodName)) ∈ lw_all := lw_g (lw_at lw_m3 28 rfl) rfl
theorem q597 : (Jvm.Cond.instanceMethod ({ cls := "SetupJobShop$Shop", name := "addOperation", desc := "(IIII)I" } : Jvm.MethodName)) ∈ lw_all := lw_g (lw_at lw_m3 29 rfl) rfl
theorem q598 : (Jvm.Cond.selects "SetupJobShop$Shop" ({ cls := "SetupJobShop$Shop", name := "addOperation", desc := "(IIII)I" } : Jvm.MethodName) ({ cls := "SetupJobShop$Shop", name := "addOperation", desc := "(IIII)I" } : Jvm.MethodName)) ∈ lw_all := lw_g (lw_at lw_m3 30 rfl) rfl
theorem q599 : (Jvm.Cond.code ({ cls := "SetupJobShop$Shop", name := "addOperation", desc := "(IIII)I" } : Jvm.MethodName) prog_15_method_3_code (7 : Nat) (Option.some Jvm.ClassFile.FieldType.int)) ∈ lw_all := lw_g (lw_at lw_m3 31 rfl) rfl
theorem q601 : (Jvm.Cond.methodLink "SetupJobShop$Shop" (112 : Nat) ({ cls := "SetupJobShop$Operation", name := "<init>", desc := "(IIIIII)V" } : Jvm.MethodName)) ∈ lw_all := lw_g (lw_at lw_m3 33 rfl) rfl
theorem q606 : (Jvm.Cond.fieldLinkNest "SetupJobShop$Shop" (115 : Nat) "SetupJobShop$Operation" "number" "I" "SetupJobShop") ∈ lw_tbl := lw_at lw_m3 38 rfl
theorem q611 : (Jvm.Cond.fieldLinkNest "SetupJobShop$Shop" (79 : Nat) "SetupJobShop$Operation" "job" "I" "SetupJobShop") ∈ lw_tbl := lw_at lw_m3 43 rfl
theorem q615 : (Jvm.Cond.fieldLinkNest "SetupJobShop$Shop" (82 : Nat) "SetupJobShop$Operation" "machine" "I" "SetupJobShop") ∈ lw_tbl := lw_at lw_m3 47 rfl
theorem q621 : (Jvm.Cond.fieldLinkNest "SetupJobShop$Shop" (88 : Nat) "SetupJobShop$Operation" "family" "I" "SetupJobShop") ∈ lw_tbl := lw_at lw_m3 53 rfl
theorem q625 : (Jvm.Cond.fieldLinkNest "SetupJobShop$Shop" (140 : Nat) "SetupJobShop$Operation" "index" "I" "SetupJobShop") ∈ lw_tbl := lw_at lw_m3 57 rfl
theorem q628 : (Jvm.Cond.fieldLinkNest "SetupJobShop$Shop" (85 : Nat) "SetupJobShop$Operation" "duration" "I" "SetupJobShop") ∈ lw_tbl := lw_at lw_m3 60 rfl
theorem q645 : (Jvm.Cond.methodLink "SetupJobShop$Shop" (118 : Nat) ({ cls := "SetupJobShop$Order", name := "add", desc := "(I)V" } : Jvm.MethodName)) ∈ lw_all := lw_g (lw_at lw_m3 77 rfl) rfl
theorem q649 : (Jvm.Cond.methodLink "SetupJobShop$Shop" (95 : Nat) ({ cls := "java/lang/System", name := "arraycopy", desc := "(Ljava/lang/Object;ILjava/lang/Object;II)V" } : Jvm.MethodName)) ∈ lw_all := lw_g (lw_at lw_m3 81 rfl) rfl
theorem q650 : (Jvm.Cond.classLink "SetupJobShop$Shop" (101 : Nat) "java/util/Collection") ∈ lw_all := lw_g (lw_at lw_m3 82 rfl) rfl
theorem q651 : (Jvm.Cond.methodLink "SetupJobShop$Shop" (103 : Nat) ({ cls := "java/util/ArrayList", name := "addAll", desc := "(Ljava/util/Collection;)Z" } : Jvm.MethodName)) ∈ lw_all := lw_g (lw_at lw_m3 83 rfl) rfl
theorem q833 : (Jvm.Cond.instanceMethod ({ cls := "SetupJobShop$Shop", name := "canAdd", desc := "(II)Z" } : Jvm.MethodName)) ∈ lw_all := lw_g (lw_at lw_m4 25 rfl) rfl
theorem q834 : (Jvm.Cond.selects "SetupJobShop$Shop" ({ cls := "SetupJobShop$Shop", name := "canAdd", desc := "(II)Z" } : Jvm.MethodName) ({ cls := "SetupJobShop$Shop", name := "canAdd", desc := "(II)Z" } : Jvm.MethodName)) ∈ lw_all := lw_g (lw_at lw_m4 26 rfl) rfl
theorem q835 : (Jvm.Cond.code ({ cls := "SetupJobShop$Shop", name := "canAdd", desc := "(II)Z" } : Jvm.MethodName) prog_15_method_4_code (3 : Nat) (Option.some Jvm.ClassFile.FieldType.boolean)) ∈ lw_all := lw_g (lw_at lw_m4 27 rfl) rfl
theorem q836 : (Jvm.Cond.methodLink "SetupJobShop$Shop" (121 : Nat) ({ cls := "SetupJobShop$Job", name := "visits", desc := "(I)Z" } : Jvm.MethodName)) ∈ lw_all := lw_g (lw_at lw_m4 28 rfl) rfl
theorem q884 : (Jvm.Cond.fieldLinkNest "SetupJobShop$Shop" (131 : Nat) "SetupJobShop$Breakdown" "first" "I" "SetupJobShop") ∈ lw_tbl := lw_at lw_m4 76 rfl
theorem q886 : (Jvm.Cond.fieldLinkNest "SetupJobShop$Shop" (134 : Nat) "SetupJobShop$Breakdown" "length" "I" "SetupJobShop") ∈ lw_tbl := lw_at lw_m4 78 rfl
theorem q967 : (Jvm.Cond.instanceMethod ({ cls := "SetupJobShop$Shop", name := "makespanWith", desc := "(II)I" } : Jvm.MethodName)) ∈ lw_all := lw_g (lw_at lw_m4 159 rfl) rfl
theorem q968 : (Jvm.Cond.selects "SetupJobShop$Shop" ({ cls := "SetupJobShop$Shop", name := "makespanWith", desc := "(II)I" } : Jvm.MethodName) ({ cls := "SetupJobShop$Shop", name := "makespanWith", desc := "(II)I" } : Jvm.MethodName)) ∈ lw_all := lw_g (lw_at lw_m4 160 rfl) rfl
theorem q969 : (Jvm.Cond.code ({ cls := "SetupJobShop$Shop", name := "makespanWith", desc := "(II)I" } : Jvm.MethodName) prog_15_method_13_code (4 : Nat) (Option.some Jvm.ClassFile.FieldType.int)) ∈ lw_all := lw_g (lw_at lw_m4 161 rfl) rfl
theorem q978 : (Jvm.Cond.instanceMethod ({ cls := "SetupJobShop$Shop", name := "completion", desc := "(I)I" } : Jvm.MethodName)) ∈ lw_all := lw_g (lw_at lw_m4 170 rfl) rfl
theorem q979 : (Jvm.Cond.selects "SetupJobShop$Shop" ({ cls := "SetupJobShop$Shop", name := "completion", desc := "(I)I" } : Jvm.MethodName) ({ cls := "SetupJobShop$Shop", name := "completion", desc := "(I)I" } : Jvm.MethodName)) ∈ lw_all := lw_g (lw_at lw_m4 171 rfl) rfl
theorem q980 : (Jvm.Cond.code ({ cls := "SetupJobShop$Shop", name := "completion", desc := "(I)I" } : Jvm.MethodName) prog_15_method_16_code (3 : Nat) (Option.some Jvm.ClassFile.FieldType.int)) ∈ lw_all := lw_g (lw_at lw_m4 172 rfl) rfl
theorem q993 : (Jvm.Cond.instanceMethod ({ cls := "SetupJobShop$Shop", name := "tardiness", desc := "(I)I" } : Jvm.MethodName)) ∈ lw_all := lw_g (lw_at lw_m4 185 rfl) rfl
theorem q994 : (Jvm.Cond.selects "SetupJobShop$Shop" ({ cls := "SetupJobShop$Shop", name := "tardiness", desc := "(I)I" } : Jvm.MethodName) ({ cls := "SetupJobShop$Shop", name := "tardiness", desc := "(I)I" } : Jvm.MethodName)) ∈ lw_all := lw_g (lw_at lw_m4 186 rfl) rfl
theorem q995 : (Jvm.Cond.code ({ cls := "SetupJobShop$Shop", name := "tardiness", desc := "(I)I" } : Jvm.MethodName) prog_15_method_17_code (2 : Nat) (Option.some Jvm.ClassFile.FieldType.int)) ∈ lw_all := lw_g (lw_at lw_m4 187 rfl) rfl
theorem q996 : (Jvm.Cond.methodLink "SetupJobShop$Shop" (203 : Nat) ({ cls := "SetupJobShop$Shop", name := "completion", desc := "(I)I" } : Jvm.MethodName)) ∈ lw_all := lw_g (lw_at lw_m4 188 rfl) rfl
theorem q999 : (Jvm.Cond.instanceMethod ({ cls := "SetupJobShop$Shop", name := "allSetups", desc := "()I" } : Jvm.MethodName)) ∈ lw_all := lw_g (lw_at lw_m4 191 rfl) rfl
theorem q1000 : (Jvm.Cond.selects "SetupJobShop$Shop" ({ cls := "SetupJobShop$Shop", name := "allSetups", desc := "()I" } : Jvm.MethodName) ({ cls := "SetupJobShop$Shop", name := "allSetups", desc := "()I" } : Jvm.MethodName)) ∈ lw_all := lw_g (lw_at lw_m4 192 rfl) rfl
theorem q1001 : (Jvm.Cond.code ({ cls := "SetupJobShop$Shop", name := "allSetups", desc := "()I" } : Jvm.MethodName) prog_15_method_18_code (5 : Nat) (Option.some Jvm.ClassFile.FieldType.int)) ∈ lw_all := lw_g (lw_at lw_m4 193 rfl) rfl
theorem q1055 : (Jvm.Cond.instanceMethod ({ cls := "SetupJobShop$Shop", name := "schedule", desc := "()V" } : Jvm.MethodName)) ∈ lw_all := lw_g (lw_at lw_m5 7 rfl) rfl
theorem q1056 : (Jvm.Cond.selects "SetupJobShop$Shop" ({ cls := "SetupJobShop$Shop", name := "schedule", desc := "()V" } : Jvm.MethodName) ({ cls := "SetupJobShop$Shop", name := "schedule", desc := "()V" } : Jvm.MethodName)) ∈ lw_all := lw_g (lw_at lw_m5 8 rfl) rfl
theorem q1057 : (Jvm.Cond.code ({ cls := "SetupJobShop$Shop", name := "schedule", desc := "()V" } : Jvm.MethodName) prog_15_method_12_code (2 : Nat) (Option.none : Option Jvm.ClassFile.FieldType)) ∈ lw_all := lw_g (lw_at lw_m5 9 rfl) rfl
theorem q1058 : (Jvm.Cond.classLink "SetupJobShop$Shop" (185 : Nat) "SetupJobShop$Cycle") ∈ lw_all := lw_g (lw_at lw_m5 10 rfl) rfl
theorem q1067 : (Jvm.Cond.methodLink "SetupJobShop$Shop" (187 : Nat) ({ cls := "java/lang/Integer", name := "numberOfTrailingZeros", desc := "(I)I" } : Jvm.MethodName)) ∈ lw_all := lw_g (lw_at lw_m5 19 rfl) rfl
theorem q1071 : (Jvm.Cond.methodLink "SetupJobShop$Shop" (193 : Nat) ({ cls := "java/lang/Integer", name := "bitCount", desc := "(I)I" } : Jvm.MethodName)) ∈ lw_all := lw_g (lw_at lw_m5 23 rfl) rfl
theorem q1077 : (Jvm.Cond.methodLink "SetupJobShop$Shop" (196 : Nat) ({ cls := "SetupJobShop$Cycle", name := "<init>", desc := "(II)V" } : Jvm.MethodName)) ∈ lw_all := lw_g (lw_at lw_m5 29 rfl) rfl
theorem q1245 : (Jvm.Cond.instanceMethod ({ cls := "SetupJobShop$Shop", name := "copyOrders", desc := "()Ljava/util/ArrayList;" } : Jvm.MethodName)) ∈ lw_all := lw_g (lw_at lw_m5 197 rfl) rfl
theorem q1246 : (Jvm.Cond.selects "SetupJobShop$Shop" ({ cls := "SetupJobShop$Shop", name := "copyOrders", desc := "()Ljava/util/ArrayList;" } : Jvm.MethodName) ({ cls := "SetupJobShop$Shop", name := "copyOrders", desc := "()Ljava/util/ArrayList;" } : Jvm.MethodName)) ∈ lw_all := lw_g (lw_at lw_m5 198 rfl) rfl
theorem q1247 : (Jvm.Cond.code ({ cls := "SetupJobShop$Shop", name := "copyOrders", desc := "()Ljava/util/ArrayList;" } : Jvm.MethodName) prog_15_method_15_code (3 : Nat) (Option.some (Jvm.ClassFile.FieldType.object "java/util/ArrayList"))) ∈ lw_all := lw_g (lw_at lw_m5 199 rfl) rfl
theorem q1326 : (Jvm.Cond.instanceMethod ({ cls := "SetupJobShop$Shop", name := "takeOrders", desc := "(Ljava/util/ArrayList;)V" } : Jvm.MethodName)) ∈ lw_all := lw_g (lw_at lw_m6 38 rfl) rfl
theorem q1327 : (Jvm.Cond.selects "SetupJobShop$Shop" ({ cls := "SetupJobShop$Shop", name := "takeOrders", desc := "(Ljava/util/ArrayList;)V" } : Jvm.MethodName) ({ cls := "SetupJobShop$Shop", name := "takeOrders", desc := "(Ljava/util/ArrayList;)V" } : Jvm.MethodName)) ∈ lw_all := lw_g (lw_at lw_m6 39 rfl) rfl
theorem q1328 : (Jvm.Cond.code ({ cls := "SetupJobShop$Shop", name := "takeOrders", desc := "(Ljava/util/ArrayList;)V" } : Jvm.MethodName) prog_15_method_14_code (3 : Nat) (Option.none : Option Jvm.ClassFile.FieldType)) ∈ lw_all := lw_g (lw_at lw_m6 40 rfl) rfl
theorem q2289 : (Jvm.Cond.castable "SetupJobShop$Shop" "java/lang/Object") ∈ lw_tbl := lw_at lw_m10 41 rfl
theorem in_X2 : ∀ w ∈ wsX20, w ∈ lw_all := lw_in wsX20 [296, 298, 300, 302, 304, 306, 308, 310, 312, 314, 316, 318, 320] (by decide +kernel) (by decide +kernel)
