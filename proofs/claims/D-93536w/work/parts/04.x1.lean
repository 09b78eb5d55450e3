/-! SetupJobShop -/
set_option maxRecDepth 100000
def RX1 : String := "SetupJobShop"
def TX1 : u_T := fun k => match k with
  | 0 => ("SetupJobShop", "shop", "LSetupJobShop$Shop;", false)
  | 1 => ("SetupJobShop", "saved", "LSetupJobShop$Shop;", false)
  | 2 => ("SetupJobShop", "text", "Ljava/lang/StringBuilder;", false)
  | 3 => ("SetupJobShop", "failure", "LSetupJobShop$Failure;", false)
  | 4 => ("SetupJobShop", "closed", "[I", false)
  | _ => ("SetupJobShop", "stepsMade", "I", false)
def tyX1 : Nat → FieldType := fun k => match k with
  | 0 => .object "SetupJobShop$Shop"
  | 1 => .object "SetupJobShop$Shop"
  | 2 => .object "java/lang/StringBuilder"
  | 3 => .object "SetupJobShop$Failure"
  | 4 => .array .int
  | _ => .int
abbrev wsX10 : List Cond := u_ws RX1 TX1 6
theorem nmX1 : ∀ a, a < 6 → ∀ b, b < 6 → a ≠ b → (TX1 a).2.1 ≠ (TX1 b).2.1 := by decide +kernel
theorem tyX1_ok : ∀ k, k < 6 → parseFieldDescriptor (TX1 k).2.2.1 = some (tyX1 k) := by decide +kernel
abbrev cX1_init : ByteArray := prog_1_method_3_code
def yX1_init : MethodName := ⟨RX1, "<init>", "()V"⟩
def dkwX1_init_1 : List UInt8 := [181, 0, 23, 177]
abbrev dktX1_init_1 : List UInt8 := dkwX1_init_1 ++ []
def dkwX1_init_0 : List UInt8 := [42, 183, 0, 7, 42, 187, 0, 13, 89, 183, 0, 15, 181, 0, 16, 42, 187, 0, 20, 89, 183, 0, 22]
abbrev dktX1_init_0 : List UInt8 := dkwX1_init_0 ++ dktX1_init_1
theorem dksX1_init_0 : cX1_init.data.toList.drop 0 = dktX1_init_0 := by decide +kernel
theorem dksX1_init_1 : cX1_init.data.toList.drop 23 = dktX1_init_1 := dk_seg dksX1_init_0 23 rfl rfl
theorem dX1_init_0 : decode cX1_init 0 = .ok (.aload_n 0, 1) := dk_42 (dk_at dksX1_init_0 0 rfl rfl)
theorem dX1_init_1 : decode cX1_init 1 = .ok (.invokespecial 7, 3) := dk_183 0 7 (dk_at dksX1_init_0 1 rfl rfl)
theorem dX1_init_4 : decode cX1_init 4 = .ok (.aload_n 0, 1) := dk_42 (dk_at dksX1_init_0 4 rfl rfl)
theorem dX1_init_5 : decode cX1_init 5 = .ok (.new 13, 3) := dk_187 0 13 (dk_at dksX1_init_0 5 rfl rfl)
theorem dX1_init_8 : decode cX1_init 8 = .ok (.dup, 1) := dk_89 (dk_at dksX1_init_0 8 rfl rfl)
theorem dX1_init_9 : decode cX1_init 9 = .ok (.invokespecial 15, 3) := dk_183 0 15 (dk_at dksX1_init_0 9 rfl rfl)
theorem dX1_init_12 : decode cX1_init 12 = .ok (.putfield 16, 3) := dk_181 0 16 (dk_at dksX1_init_0 12 rfl rfl)
theorem dX1_init_15 : decode cX1_init 15 = .ok (.aload_n 0, 1) := dk_42 (dk_at dksX1_init_0 15 rfl rfl)
theorem dX1_init_16 : decode cX1_init 16 = .ok (.new 20, 3) := dk_187 0 20 (dk_at dksX1_init_0 16 rfl rfl)
theorem dX1_init_19 : decode cX1_init 19 = .ok (.dup, 1) := dk_89 (dk_at dksX1_init_0 19 rfl rfl)
theorem dX1_init_20 : decode cX1_init 20 = .ok (.invokespecial 22, 3) := dk_183 0 22 (dk_at dksX1_init_0 20 rfl rfl)
theorem dX1_init_23 : decode cX1_init 23 = .ok (.putfield 23, 3) := dk_181 0 23 (dk_at dksX1_init_1 0 rfl rfl)
theorem dX1_init_26 : decode cX1_init 26 = .ok (.return_, 1) := dk_177 (dk_at dksX1_init_1 3 rfl rfl)
abbrev cX1_makespan : ByteArray := prog_1_method_23_code
def yX1_makespan : MethodName := ⟨RX1, "makespan", "()I"⟩
theorem dX1_makespan_0 : decode cX1_makespan 0 = .ok (.aload_n 0, 1) := by decide +kernel
theorem dX1_makespan_1 : decode cX1_makespan 1 = .ok (.invokevirtual 158, 3) := by decide +kernel
theorem dX1_makespan_4 : decode cX1_makespan 4 = .ok (.ireturn, 1) := by decide +kernel
abbrev cX1_compute : ByteArray := prog_1_method_11_code
def yX1_compute : MethodName := ⟨RX1, "compute", "()I"⟩
def dkwX1_compute_0 : List UInt8 := [42, 180, 0, 16, 3, 182, 0, 69, 60, 42, 180, 0, 16, 180, 0, 73, 172]
abbrev dktX1_compute_0 : List UInt8 := dkwX1_compute_0 ++ []
theorem dksX1_compute_0 : cX1_compute.data.toList.drop 0 = dktX1_compute_0 := by decide +kernel
theorem dX1_compute_0 : decode cX1_compute 0 = .ok (.aload_n 0, 1) := dk_42 (dk_at dksX1_compute_0 0 rfl rfl)
theorem dX1_compute_1 : decode cX1_compute 1 = .ok (.getfield 16, 3) := dk_180 0 16 (dk_at dksX1_compute_0 1 rfl rfl)
theorem dX1_compute_4 : decode cX1_compute 4 = .ok (.iconst 0, 1) := dk_3 (dk_at dksX1_compute_0 4 rfl rfl)
theorem dX1_compute_5 : decode cX1_compute 5 = .ok (.invokevirtual 69, 3) := dk_182 0 69 (dk_at dksX1_compute_0 5 rfl rfl)
theorem dX1_compute_8 : decode cX1_compute 8 = .ok (.istore_n 1, 1) := dk_60 (dk_at dksX1_compute_0 8 rfl rfl)
theorem dX1_compute_9 : decode cX1_compute 9 = .ok (.aload_n 0, 1) := dk_42 (dk_at dksX1_compute_0 9 rfl rfl)
theorem dX1_compute_10 : decode cX1_compute 10 = .ok (.getfield 16, 3) := dk_180 0 16 (dk_at dksX1_compute_0 10 rfl rfl)
theorem dX1_compute_13 : decode cX1_compute 13 = .ok (.getfield 73, 3) := dk_180 0 73 (dk_at dksX1_compute_0 13 rfl rfl)
theorem dX1_compute_16 : decode cX1_compute 16 = .ok (.ireturn, 1) := dk_172 (dk_at dksX1_compute_0 16 rfl rfl)
abbrev cX1_pathLength : ByteArray := prog_1_method_31_code
def yX1_pathLength : MethodName := ⟨RX1, "pathLength", "()I"⟩
def dkwX1_pathLength_0 : List UInt8 := [42, 182, 0, 196, 182, 0, 43, 172]
abbrev dktX1_pathLength_0 : List UInt8 := dkwX1_pathLength_0 ++ []
theorem dksX1_pathLength_0 : cX1_pathLength.data.toList.drop 0 = dktX1_pathLength_0 := by decide +kernel
theorem dX1_pathLength_0 : decode cX1_pathLength 0 = .ok (.aload_n 0, 1) := dk_42 (dk_at dksX1_pathLength_0 0 rfl rfl)
theorem dX1_pathLength_1 : decode cX1_pathLength 1 = .ok (.invokevirtual 196, 3) := dk_182 0 196 (dk_at dksX1_pathLength_0 1 rfl rfl)
theorem dX1_pathLength_4 : decode cX1_pathLength 4 = .ok (.invokevirtual 43, 3) := dk_182 0 43 (dk_at dksX1_pathLength_0 4 rfl rfl)
theorem dX1_pathLength_7 : decode cX1_pathLength 7 = .ok (.ireturn, 1) := dk_172 (dk_at dksX1_pathLength_0 7 rfl rfl)
abbrev cX1_criticalPath : ByteArray := prog_1_method_30_code
def yX1_criticalPath : MethodName := ⟨RX1, "criticalPath", "()Ljava/util/ArrayList;"⟩
def dkwX1_criticalPath_0 : List UInt8 := [42, 182, 0, 158, 87, 42, 180, 0, 16, 182, 0, 192, 176]
abbrev dktX1_criticalPath_0 : List UInt8 := dkwX1_criticalPath_0 ++ []
theorem dksX1_criticalPath_0 : cX1_criticalPath.data.toList.drop 0 = dktX1_criticalPath_0 := by decide +kernel
theorem dX1_criticalPath_0 : decode cX1_criticalPath 0 = .ok (.aload_n 0, 1) := dk_42 (dk_at dksX1_criticalPath_0 0 rfl rfl)
theorem dX1_criticalPath_1 : decode cX1_criticalPath 1 = .ok (.invokevirtual 158, 3) := dk_182 0 158 (dk_at dksX1_criticalPath_0 1 rfl rfl)
theorem dX1_criticalPath_4 : decode cX1_criticalPath 4 = .ok (.pop, 1) := dk_87 (dk_at dksX1_criticalPath_0 4 rfl rfl)
theorem dX1_criticalPath_5 : decode cX1_criticalPath 5 = .ok (.aload_n 0, 1) := dk_42 (dk_at dksX1_criticalPath_0 5 rfl rfl)
theorem dX1_criticalPath_6 : decode cX1_criticalPath 6 = .ok (.getfield 16, 3) := dk_180 0 16 (dk_at dksX1_criticalPath_0 6 rfl rfl)
theorem dX1_criticalPath_9 : decode cX1_criticalPath 9 = .ok (.invokevirtual 192, 3) := dk_182 0 192 (dk_at dksX1_criticalPath_0 9 rfl rfl)
theorem dX1_criticalPath_12 : decode cX1_criticalPath 12 = .ok (.areturn, 1) := dk_176 (dk_at dksX1_criticalPath_0 12 rfl rfl)
abbrev cX1_blocks : ByteArray := prog_1_method_34_code
def yX1_blocks : MethodName := ⟨RX1, "blocks", "()I"⟩
def dkwX1_blocks_0 : List UInt8 := [42, 182, 0, 209, 182, 0, 43, 172]
abbrev dktX1_blocks_0 : List UInt8 := dkwX1_blocks_0 ++ []
theorem dksX1_blocks_0 : cX1_blocks.data.toList.drop 0 = dktX1_blocks_0 := by decide +kernel
theorem dX1_blocks_0 : decode cX1_blocks 0 = .ok (.aload_n 0, 1) := dk_42 (dk_at dksX1_blocks_0 0 rfl rfl)
theorem dX1_blocks_1 : decode cX1_blocks 1 = .ok (.invokevirtual 209, 3) := dk_182 0 209 (dk_at dksX1_blocks_0 1 rfl rfl)
theorem dX1_blocks_4 : decode cX1_blocks 4 = .ok (.invokevirtual 43, 3) := dk_182 0 43 (dk_at dksX1_blocks_0 4 rfl rfl)
theorem dX1_blocks_7 : decode cX1_blocks 7 = .ok (.ireturn, 1) := dk_172 (dk_at dksX1_blocks_0 7 rfl rfl)
abbrev cX1_blockLengths : ByteArray := prog_1_method_33_code
def yX1_blockLengths : MethodName := ⟨RX1, "blockLengths", "()Ljava/util/ArrayList;"⟩
def dkwX1_blockLengths_3 : List UInt8 := [184, 0, 203, 182, 0, 89, 87, 21, 4, 62, 132, 4, 1, 167, 255, 191, 44, 176]
abbrev dktX1_blockLengths_3 : List UInt8 := dkwX1_blockLengths_3 ++ []
def dkwX1_blockLengths_2 : List UInt8 := [43, 29, 182, 0, 53, 192, 0, 62, 180, 0, 133, 160, 0, 6, 167, 0, 18, 44, 21, 4, 29, 100]
abbrev dktX1_blockLengths_2 : List UInt8 := dkwX1_blockLengths_2 ++ dktX1_blockLengths_3
def dkwX1_blockLengths_1 : List UInt8 := [163, 0, 62, 21, 4, 43, 182, 0, 43, 162, 0, 32, 43, 21, 4, 182, 0, 53, 192, 0, 62, 180, 0, 133]
abbrev dktX1_blockLengths_1 : List UInt8 := dkwX1_blockLengths_1 ++ dktX1_blockLengths_2
def dkwX1_blockLengths_0 : List UInt8 := [42, 182, 0, 196, 76, 187, 0, 44, 89, 183, 0, 202, 77, 3, 62, 4, 54, 4, 21, 4, 43, 182, 0, 43]
abbrev dktX1_blockLengths_0 : List UInt8 := dkwX1_blockLengths_0 ++ dktX1_blockLengths_1
theorem dksX1_blockLengths_0 : cX1_blockLengths.data.toList.drop 0 = dktX1_blockLengths_0 := by decide +kernel
theorem dksX1_blockLengths_1 : cX1_blockLengths.data.toList.drop 24 = dktX1_blockLengths_1 := dk_seg dksX1_blockLengths_0 24 rfl rfl
theorem dksX1_blockLengths_2 : cX1_blockLengths.data.toList.drop 48 = dktX1_blockLengths_2 := dk_seg dksX1_blockLengths_1 24 rfl rfl
theorem dksX1_blockLengths_3 : cX1_blockLengths.data.toList.drop 70 = dktX1_blockLengths_3 := dk_seg dksX1_blockLengths_2 22 rfl rfl
theorem dX1_blockLengths_0 : decode cX1_blockLengths 0 = .ok (.aload_n 0, 1) := dk_42 (dk_at dksX1_blockLengths_0 0 rfl rfl)
theorem dX1_blockLengths_1 : decode cX1_blockLengths 1 = .ok (.invokevirtual 196, 3) := dk_182 0 196 (dk_at dksX1_blockLengths_0 1 rfl rfl)
theorem dX1_blockLengths_4 : decode cX1_blockLengths 4 = .ok (.astore_n 1, 1) := dk_76 (dk_at dksX1_blockLengths_0 4 rfl rfl)
theorem dX1_blockLengths_5 : decode cX1_blockLengths 5 = .ok (.new 44, 3) := dk_187 0 44 (dk_at dksX1_blockLengths_0 5 rfl rfl)
theorem dX1_blockLengths_8 : decode cX1_blockLengths 8 = .ok (.dup, 1) := dk_89 (dk_at dksX1_blockLengths_0 8 rfl rfl)
theorem dX1_blockLengths_9 : decode cX1_blockLengths 9 = .ok (.invokespecial 202, 3) := dk_183 0 202 (dk_at dksX1_blockLengths_0 9 rfl rfl)
theorem dX1_blockLengths_12 : decode cX1_blockLengths 12 = .ok (.astore_n 2, 1) := dk_77 (dk_at dksX1_blockLengths_0 12 rfl rfl)
theorem dX1_blockLengths_13 : decode cX1_blockLengths 13 = .ok (.iconst 0, 1) := dk_3 (dk_at dksX1_blockLengths_0 13 rfl rfl)
theorem dX1_blockLengths_14 : decode cX1_blockLengths 14 = .ok (.istore_n 3, 1) := dk_62 (dk_at dksX1_blockLengths_0 14 rfl rfl)
theorem dX1_blockLengths_15 : decode cX1_blockLengths 15 = .ok (.iconst 1, 1) := dk_4 (dk_at dksX1_blockLengths_0 15 rfl rfl)
theorem dX1_blockLengths_16 : decode cX1_blockLengths 16 = .ok (.istore 4, 2) := dk_54 4 (dk_at dksX1_blockLengths_0 16 rfl rfl)
theorem dX1_blockLengths_18 : decode cX1_blockLengths 18 = .ok (.iload 4, 2) := dk_21 4 (dk_at dksX1_blockLengths_0 18 rfl rfl)
theorem dX1_blockLengths_20 : decode cX1_blockLengths 20 = .ok (.aload_n 1, 1) := dk_43 (dk_at dksX1_blockLengths_0 20 rfl rfl)
theorem dX1_blockLengths_21 : decode cX1_blockLengths 21 = .ok (.invokevirtual 43, 3) := dk_182 0 43 (dk_at dksX1_blockLengths_0 21 rfl rfl)
theorem dX1_blockLengths_24 : decode cX1_blockLengths 24 = .ok (.if_icmp .gt 62, 3) := dk_163 0 62 (dk_at dksX1_blockLengths_1 0 rfl rfl)
theorem dX1_blockLengths_27 : decode cX1_blockLengths 27 = .ok (.iload 4, 2) := dk_21 4 (dk_at dksX1_blockLengths_1 3 rfl rfl)
theorem dX1_blockLengths_29 : decode cX1_blockLengths 29 = .ok (.aload_n 1, 1) := dk_43 (dk_at dksX1_blockLengths_1 5 rfl rfl)
theorem dX1_blockLengths_30 : decode cX1_blockLengths 30 = .ok (.invokevirtual 43, 3) := dk_182 0 43 (dk_at dksX1_blockLengths_1 6 rfl rfl)
theorem dX1_blockLengths_33 : decode cX1_blockLengths 33 = .ok (.if_icmp .ge 32, 3) := dk_162 0 32 (dk_at dksX1_blockLengths_1 9 rfl rfl)
theorem dX1_blockLengths_36 : decode cX1_blockLengths 36 = .ok (.aload_n 1, 1) := dk_43 (dk_at dksX1_blockLengths_1 12 rfl rfl)
theorem dX1_blockLengths_37 : decode cX1_blockLengths 37 = .ok (.iload 4, 2) := dk_21 4 (dk_at dksX1_blockLengths_1 13 rfl rfl)
theorem dX1_blockLengths_39 : decode cX1_blockLengths 39 = .ok (.invokevirtual 53, 3) := dk_182 0 53 (dk_at dksX1_blockLengths_1 15 rfl rfl)
theorem dX1_blockLengths_42 : decode cX1_blockLengths 42 = .ok (.checkcast 62, 3) := dk_192 0 62 (dk_at dksX1_blockLengths_1 18 rfl rfl)
theorem dX1_blockLengths_45 : decode cX1_blockLengths 45 = .ok (.getfield 133, 3) := dk_180 0 133 (dk_at dksX1_blockLengths_1 21 rfl rfl)
theorem dX1_blockLengths_48 : decode cX1_blockLengths 48 = .ok (.aload_n 1, 1) := dk_43 (dk_at dksX1_blockLengths_2 0 rfl rfl)
theorem dX1_blockLengths_49 : decode cX1_blockLengths 49 = .ok (.iload_n 3, 1) := dk_29 (dk_at dksX1_blockLengths_2 1 rfl rfl)
theorem dX1_blockLengths_50 : decode cX1_blockLengths 50 = .ok (.invokevirtual 53, 3) := dk_182 0 53 (dk_at dksX1_blockLengths_2 2 rfl rfl)
theorem dX1_blockLengths_53 : decode cX1_blockLengths 53 = .ok (.checkcast 62, 3) := dk_192 0 62 (dk_at dksX1_blockLengths_2 5 rfl rfl)
theorem dX1_blockLengths_56 : decode cX1_blockLengths 56 = .ok (.getfield 133, 3) := dk_180 0 133 (dk_at dksX1_blockLengths_2 8 rfl rfl)
theorem dX1_blockLengths_59 : decode cX1_blockLengths 59 = .ok (.if_icmp .ne 6, 3) := dk_160 0 6 (dk_at dksX1_blockLengths_2 11 rfl rfl)
theorem dX1_blockLengths_62 : decode cX1_blockLengths 62 = .ok (.goto 18, 3) := dk_167 0 18 (dk_at dksX1_blockLengths_2 14 rfl rfl)
theorem dX1_blockLengths_65 : decode cX1_blockLengths 65 = .ok (.aload_n 2, 1) := dk_44 (dk_at dksX1_blockLengths_2 17 rfl rfl)
theorem dX1_blockLengths_66 : decode cX1_blockLengths 66 = .ok (.iload 4, 2) := dk_21 4 (dk_at dksX1_blockLengths_2 18 rfl rfl)
theorem dX1_blockLengths_68 : decode cX1_blockLengths 68 = .ok (.iload_n 3, 1) := dk_29 (dk_at dksX1_blockLengths_2 20 rfl rfl)
theorem dX1_blockLengths_69 : decode cX1_blockLengths 69 = .ok (.isub, 1) := dk_100 (dk_at dksX1_blockLengths_2 21 rfl rfl)
theorem dX1_blockLengths_70 : decode cX1_blockLengths 70 = .ok (.invokestatic 203, 3) := dk_184 0 203 (dk_at dksX1_blockLengths_3 0 rfl rfl)
theorem dX1_blockLengths_73 : decode cX1_blockLengths 73 = .ok (.invokevirtual 89, 3) := dk_182 0 89 (dk_at dksX1_blockLengths_3 3 rfl rfl)
theorem dX1_blockLengths_76 : decode cX1_blockLengths 76 = .ok (.pop, 1) := dk_87 (dk_at dksX1_blockLengths_3 6 rfl rfl)
theorem dX1_blockLengths_77 : decode cX1_blockLengths 77 = .ok (.iload 4, 2) := dk_21 4 (dk_at dksX1_blockLengths_3 7 rfl rfl)
theorem dX1_blockLengths_79 : decode cX1_blockLengths 79 = .ok (.istore_n 3, 1) := dk_62 (dk_at dksX1_blockLengths_3 9 rfl rfl)
theorem dX1_blockLengths_80 : decode cX1_blockLengths 80 = .ok (.iinc 4 1, 3) := dk_132 4 1 (dk_at dksX1_blockLengths_3 10 rfl rfl)
theorem dX1_blockLengths_83 : decode cX1_blockLengths 83 = .ok (.goto (-65), 3) := dk_167 255 191 (dk_at dksX1_blockLengths_3 13 rfl rfl)
theorem dX1_blockLengths_86 : decode cX1_blockLengths 86 = .ok (.aload_n 2, 1) := dk_44 (dk_at dksX1_blockLengths_3 16 rfl rfl)
theorem dX1_blockLengths_87 : decode cX1_blockLengths 87 = .ok (.areturn, 1) := dk_176 (dk_at dksX1_blockLengths_3 17 rfl rfl)
abbrev cX1_shiftBottlenecks : ByteArray := prog_1_method_46_code
def yX1_shiftBottlenecks : MethodName := ⟨RX1, "shiftBottlenecks", "()I"⟩
def dkwX1_shiftBottlenecks_0 : List UInt8 := [42, 42, 180, 0, 16, 182, 1, 13, 181, 1, 17, 42, 182, 0, 158, 172]
abbrev dktX1_shiftBottlenecks_0 : List UInt8 := dkwX1_shiftBottlenecks_0 ++ []
theorem dksX1_shiftBottlenecks_0 : cX1_shiftBottlenecks.data.toList.drop 0 = dktX1_shiftBottlenecks_0 := by decide +kernel
theorem dX1_shiftBottlenecks_0 : decode cX1_shiftBottlenecks 0 = .ok (.aload_n 0, 1) := dk_42 (dk_at dksX1_shiftBottlenecks_0 0 rfl rfl)
theorem dX1_shiftBottlenecks_1 : decode cX1_shiftBottlenecks 1 = .ok (.aload_n 0, 1) := dk_42 (dk_at dksX1_shiftBottlenecks_0 1 rfl rfl)
theorem dX1_shiftBottlenecks_2 : decode cX1_shiftBottlenecks 2 = .ok (.getfield 16, 3) := dk_180 0 16 (dk_at dksX1_shiftBottlenecks_0 2 rfl rfl)
theorem dX1_shiftBottlenecks_5 : decode cX1_shiftBottlenecks 5 = .ok (.invokevirtual 269, 3) := dk_182 1 13 (dk_at dksX1_shiftBottlenecks_0 5 rfl rfl)
theorem dX1_shiftBottlenecks_8 : decode cX1_shiftBottlenecks 8 = .ok (.putfield 273, 3) := dk_181 1 17 (dk_at dksX1_shiftBottlenecks_0 8 rfl rfl)
theorem dX1_shiftBottlenecks_11 : decode cX1_shiftBottlenecks 11 = .ok (.aload_n 0, 1) := dk_42 (dk_at dksX1_shiftBottlenecks_0 11 rfl rfl)
theorem dX1_shiftBottlenecks_12 : decode cX1_shiftBottlenecks 12 = .ok (.invokevirtual 158, 3) := dk_182 0 158 (dk_at dksX1_shiftBottlenecks_0 12 rfl rfl)
theorem dX1_shiftBottlenecks_15 : decode cX1_shiftBottlenecks 15 = .ok (.ireturn, 1) := dk_172 (dk_at dksX1_shiftBottlenecks_0 15 rfl rfl)
abbrev cX1_tabuSteps : ByteArray := prog_1_method_49_code
def yX1_tabuSteps : MethodName := ⟨RX1, "tabuSteps", "()I"⟩
theorem dX1_tabuSteps_0 : decode cX1_tabuSteps 0 = .ok (.aload_n 0, 1) := by decide +kernel
theorem dX1_tabuSteps_1 : decode cX1_tabuSteps 1 = .ok (.getfield 286, 3) := by decide +kernel
theorem dX1_tabuSteps_4 : decode cX1_tabuSteps 4 = .ok (.ireturn, 1) := by decide +kernel
abbrev cX1_lowerBound : ByteArray := prog_1_method_51_code
def yX1_lowerBound : MethodName := ⟨RX1, "lowerBound", "()I"⟩
def dkwX1_lowerBound_0 : List UInt8 := [42, 180, 0, 16, 182, 1, 36, 172]
abbrev dktX1_lowerBound_0 : List UInt8 := dkwX1_lowerBound_0 ++ []
theorem dksX1_lowerBound_0 : cX1_lowerBound.data.toList.drop 0 = dktX1_lowerBound_0 := by decide +kernel
theorem dX1_lowerBound_0 : decode cX1_lowerBound 0 = .ok (.aload_n 0, 1) := dk_42 (dk_at dksX1_lowerBound_0 0 rfl rfl)
theorem dX1_lowerBound_1 : decode cX1_lowerBound 1 = .ok (.getfield 16, 3) := dk_180 0 16 (dk_at dksX1_lowerBound_0 1 rfl rfl)
theorem dX1_lowerBound_4 : decode cX1_lowerBound 4 = .ok (.invokevirtual 292, 3) := dk_182 1 36 (dk_at dksX1_lowerBound_0 4 rfl rfl)
theorem dX1_lowerBound_7 : decode cX1_lowerBound 7 = .ok (.ireturn, 1) := dk_172 (dk_at dksX1_lowerBound_0 7 rfl rfl)
abbrev cX1_save : ByteArray := prog_1_method_56_code
def yX1_save : MethodName := ⟨RX1, "save", "()V"⟩
def dkwX1_save_0 : List UInt8 := [42, 187, 0, 13, 89, 42, 180, 0, 16, 183, 1, 54, 181, 1, 86, 177]
abbrev dktX1_save_0 : List UInt8 := dkwX1_save_0 ++ []
theorem dksX1_save_0 : cX1_save.data.toList.drop 0 = dktX1_save_0 := by decide +kernel
theorem dX1_save_0 : decode cX1_save 0 = .ok (.aload_n 0, 1) := dk_42 (dk_at dksX1_save_0 0 rfl rfl)
theorem dX1_save_1 : decode cX1_save 1 = .ok (.new 13, 3) := dk_187 0 13 (dk_at dksX1_save_0 1 rfl rfl)
theorem dX1_save_4 : decode cX1_save 4 = .ok (.dup, 1) := dk_89 (dk_at dksX1_save_0 4 rfl rfl)
theorem dX1_save_5 : decode cX1_save 5 = .ok (.aload_n 0, 1) := dk_42 (dk_at dksX1_save_0 5 rfl rfl)
theorem dX1_save_6 : decode cX1_save 6 = .ok (.getfield 16, 3) := dk_180 0 16 (dk_at dksX1_save_0 6 rfl rfl)
theorem dX1_save_9 : decode cX1_save 9 = .ok (.invokespecial 310, 3) := dk_183 1 54 (dk_at dksX1_save_0 9 rfl rfl)
theorem dX1_save_12 : decode cX1_save 12 = .ok (.putfield 342, 3) := dk_181 1 86 (dk_at dksX1_save_0 12 rfl rfl)
theorem dX1_save_15 : decode cX1_save 15 = .ok (.return_, 1) := dk_177 (dk_at dksX1_save_0 15 rfl rfl)
abbrev cX1_addJob : ByteArray := prog_1_method_12_code
def yX1_addJob : MethodName := ⟨RX1, "addJob", "(III)I"⟩
def dkwX1_addJob_2 : List UInt8 := [182, 0, 89, 87, 42, 180, 0, 16, 180, 0, 39, 182, 0, 43, 4, 100, 172]
abbrev dktX1_addJob_2 : List UInt8 := dkwX1_addJob_2 ++ []
def dkwX1_addJob_1 : List UInt8 := [167, 0, 4, 3, 184, 0, 83, 42, 180, 0, 16, 180, 0, 39, 187, 0, 57, 89, 27, 28, 29, 183, 0, 86]
abbrev dktX1_addJob_1 : List UInt8 := dkwX1_addJob_1 ++ dktX1_addJob_2
def dkwX1_addJob_0 : List UInt8 := [27, 28, 29, 184, 0, 77, 184, 0, 80, 42, 180, 0, 16, 180, 0, 39, 182, 0, 43, 8, 162, 0, 7, 4]
abbrev dktX1_addJob_0 : List UInt8 := dkwX1_addJob_0 ++ dktX1_addJob_1
theorem dksX1_addJob_0 : cX1_addJob.data.toList.drop 0 = dktX1_addJob_0 := by decide +kernel
theorem dksX1_addJob_1 : cX1_addJob.data.toList.drop 24 = dktX1_addJob_1 := dk_seg dksX1_addJob_0 24 rfl rfl
theorem dksX1_addJob_2 : cX1_addJob.data.toList.drop 48 = dktX1_addJob_2 := dk_seg dksX1_addJob_1 24 rfl rfl
theorem dX1_addJob_0 : decode cX1_addJob 0 = .ok (.iload_n 1, 1) := dk_27 (dk_at dksX1_addJob_0 0 rfl rfl)
theorem dX1_addJob_1 : decode cX1_addJob 1 = .ok (.iload_n 2, 1) := dk_28 (dk_at dksX1_addJob_0 1 rfl rfl)
theorem dX1_addJob_2 : decode cX1_addJob 2 = .ok (.iload_n 3, 1) := dk_29 (dk_at dksX1_addJob_0 2 rfl rfl)
theorem dX1_addJob_3 : decode cX1_addJob 3 = .ok (.invokestatic 77, 3) := dk_184 0 77 (dk_at dksX1_addJob_0 3 rfl rfl)
theorem dX1_addJob_6 : decode cX1_addJob 6 = .ok (.invokestatic 80, 3) := dk_184 0 80 (dk_at dksX1_addJob_0 6 rfl rfl)
theorem dX1_addJob_9 : decode cX1_addJob 9 = .ok (.aload_n 0, 1) := dk_42 (dk_at dksX1_addJob_0 9 rfl rfl)
theorem dX1_addJob_10 : decode cX1_addJob 10 = .ok (.getfield 16, 3) := dk_180 0 16 (dk_at dksX1_addJob_0 10 rfl rfl)
theorem dX1_addJob_13 : decode cX1_addJob 13 = .ok (.getfield 39, 3) := dk_180 0 39 (dk_at dksX1_addJob_0 13 rfl rfl)
theorem dX1_addJob_16 : decode cX1_addJob 16 = .ok (.invokevirtual 43, 3) := dk_182 0 43 (dk_at dksX1_addJob_0 16 rfl rfl)
theorem dX1_addJob_19 : decode cX1_addJob 19 = .ok (.iconst 5, 1) := dk_8 (dk_at dksX1_addJob_0 19 rfl rfl)
theorem dX1_addJob_20 : decode cX1_addJob 20 = .ok (.if_icmp .ge 7, 3) := dk_162 0 7 (dk_at dksX1_addJob_0 20 rfl rfl)
theorem dX1_addJob_23 : decode cX1_addJob 23 = .ok (.iconst 1, 1) := dk_4 (dk_at dksX1_addJob_0 23 rfl rfl)
theorem dX1_addJob_24 : decode cX1_addJob 24 = .ok (.goto 4, 3) := dk_167 0 4 (dk_at dksX1_addJob_1 0 rfl rfl)
theorem dX1_addJob_27 : decode cX1_addJob 27 = .ok (.iconst 0, 1) := dk_3 (dk_at dksX1_addJob_1 3 rfl rfl)
theorem dX1_addJob_28 : decode cX1_addJob 28 = .ok (.invokestatic 83, 3) := dk_184 0 83 (dk_at dksX1_addJob_1 4 rfl rfl)
theorem dX1_addJob_31 : decode cX1_addJob 31 = .ok (.aload_n 0, 1) := dk_42 (dk_at dksX1_addJob_1 7 rfl rfl)
theorem dX1_addJob_32 : decode cX1_addJob 32 = .ok (.getfield 16, 3) := dk_180 0 16 (dk_at dksX1_addJob_1 8 rfl rfl)
theorem dX1_addJob_35 : decode cX1_addJob 35 = .ok (.getfield 39, 3) := dk_180 0 39 (dk_at dksX1_addJob_1 11 rfl rfl)
theorem dX1_addJob_38 : decode cX1_addJob 38 = .ok (.new 57, 3) := dk_187 0 57 (dk_at dksX1_addJob_1 14 rfl rfl)
theorem dX1_addJob_41 : decode cX1_addJob 41 = .ok (.dup, 1) := dk_89 (dk_at dksX1_addJob_1 17 rfl rfl)
theorem dX1_addJob_42 : decode cX1_addJob 42 = .ok (.iload_n 1, 1) := dk_27 (dk_at dksX1_addJob_1 18 rfl rfl)
theorem dX1_addJob_43 : decode cX1_addJob 43 = .ok (.iload_n 2, 1) := dk_28 (dk_at dksX1_addJob_1 19 rfl rfl)
theorem dX1_addJob_44 : decode cX1_addJob 44 = .ok (.iload_n 3, 1) := dk_29 (dk_at dksX1_addJob_1 20 rfl rfl)
theorem dX1_addJob_45 : decode cX1_addJob 45 = .ok (.invokespecial 86, 3) := dk_183 0 86 (dk_at dksX1_addJob_1 21 rfl rfl)
theorem dX1_addJob_48 : decode cX1_addJob 48 = .ok (.invokevirtual 89, 3) := dk_182 0 89 (dk_at dksX1_addJob_2 0 rfl rfl)
theorem dX1_addJob_51 : decode cX1_addJob 51 = .ok (.pop, 1) := dk_87 (dk_at dksX1_addJob_2 3 rfl rfl)
theorem dX1_addJob_52 : decode cX1_addJob 52 = .ok (.aload_n 0, 1) := dk_42 (dk_at dksX1_addJob_2 4 rfl rfl)
theorem dX1_addJob_53 : decode cX1_addJob 53 = .ok (.getfield 16, 3) := dk_180 0 16 (dk_at dksX1_addJob_2 5 rfl rfl)
theorem dX1_addJob_56 : decode cX1_addJob 56 = .ok (.getfield 39, 3) := dk_180 0 39 (dk_at dksX1_addJob_2 8 rfl rfl)
theorem dX1_addJob_59 : decode cX1_addJob 59 = .ok (.invokevirtual 43, 3) := dk_182 0 43 (dk_at dksX1_addJob_2 11 rfl rfl)
theorem dX1_addJob_62 : decode cX1_addJob 62 = .ok (.iconst 1, 1) := dk_4 (dk_at dksX1_addJob_2 14 rfl rfl)
theorem dX1_addJob_63 : decode cX1_addJob 63 = .ok (.isub, 1) := dk_100 (dk_at dksX1_addJob_2 15 rfl rfl)
theorem dX1_addJob_64 : decode cX1_addJob 64 = .ok (.ireturn, 1) := dk_172 (dk_at dksX1_addJob_2 16 rfl rfl)
abbrev cX1_areJobValues : ByteArray := prog_1_method_2_code
def yX1_areJobValues : MethodName := ⟨RX1, "areJobValues", "(III)Z"⟩
def dkwX1_areJobValues_1 : List UInt8 := [16, 9, 184, 0, 3, 153, 0, 7, 4, 167, 0, 4, 3, 172]
abbrev dktX1_areJobValues_1 : List UInt8 := dkwX1_areJobValues_1 ++ []
def dkwX1_areJobValues_0 : List UInt8 := [26, 3, 16, 99, 184, 0, 3, 153, 0, 28, 27, 3, 17, 0, 200, 184, 0, 3, 153, 0, 17, 28, 3]
abbrev dktX1_areJobValues_0 : List UInt8 := dkwX1_areJobValues_0 ++ dktX1_areJobValues_1
theorem dksX1_areJobValues_0 : cX1_areJobValues.data.toList.drop 0 = dktX1_areJobValues_0 := by decide +kernel
theorem dksX1_areJobValues_1 : cX1_areJobValues.data.toList.drop 23 = dktX1_areJobValues_1 := dk_seg dksX1_areJobValues_0 23 rfl rfl
theorem dX1_areJobValues_0 : decode cX1_areJobValues 0 = .ok (.iload_n 0, 1) := dk_26 (dk_at dksX1_areJobValues_0 0 rfl rfl)
theorem dX1_areJobValues_1 : decode cX1_areJobValues 1 = .ok (.iconst 0, 1) := dk_3 (dk_at dksX1_areJobValues_0 1 rfl rfl)
theorem dX1_areJobValues_2 : decode cX1_areJobValues 2 = .ok (.bipush 99, 2) := dk_16 99 (dk_at dksX1_areJobValues_0 2 rfl rfl)
theorem dX1_areJobValues_4 : decode cX1_areJobValues 4 = .ok (.invokestatic 3, 3) := dk_184 0 3 (dk_at dksX1_areJobValues_0 4 rfl rfl)
theorem dX1_areJobValues_7 : decode cX1_areJobValues 7 = .ok (.ifCond .eq 28, 3) := dk_153 0 28 (dk_at dksX1_areJobValues_0 7 rfl rfl)
theorem dX1_areJobValues_10 : decode cX1_areJobValues 10 = .ok (.iload_n 1, 1) := dk_27 (dk_at dksX1_areJobValues_0 10 rfl rfl)
theorem dX1_areJobValues_11 : decode cX1_areJobValues 11 = .ok (.iconst 0, 1) := dk_3 (dk_at dksX1_areJobValues_0 11 rfl rfl)
theorem dX1_areJobValues_12 : decode cX1_areJobValues 12 = .ok (.sipush 200, 3) := dk_17 0 200 (dk_at dksX1_areJobValues_0 12 rfl rfl)
theorem dX1_areJobValues_15 : decode cX1_areJobValues 15 = .ok (.invokestatic 3, 3) := dk_184 0 3 (dk_at dksX1_areJobValues_0 15 rfl rfl)
theorem dX1_areJobValues_18 : decode cX1_areJobValues 18 = .ok (.ifCond .eq 17, 3) := dk_153 0 17 (dk_at dksX1_areJobValues_0 18 rfl rfl)
theorem dX1_areJobValues_21 : decode cX1_areJobValues 21 = .ok (.iload_n 2, 1) := dk_28 (dk_at dksX1_areJobValues_0 21 rfl rfl)
theorem dX1_areJobValues_22 : decode cX1_areJobValues 22 = .ok (.iconst 0, 1) := dk_3 (dk_at dksX1_areJobValues_0 22 rfl rfl)
theorem dX1_areJobValues_23 : decode cX1_areJobValues 23 = .ok (.bipush 9, 2) := dk_16 9 (dk_at dksX1_areJobValues_1 0 rfl rfl)
theorem dX1_areJobValues_25 : decode cX1_areJobValues 25 = .ok (.invokestatic 3, 3) := dk_184 0 3 (dk_at dksX1_areJobValues_1 2 rfl rfl)
theorem dX1_areJobValues_28 : decode cX1_areJobValues 28 = .ok (.ifCond .eq 7, 3) := dk_153 0 7 (dk_at dksX1_areJobValues_1 5 rfl rfl)
theorem dX1_areJobValues_31 : decode cX1_areJobValues 31 = .ok (.iconst 1, 1) := dk_4 (dk_at dksX1_areJobValues_1 8 rfl rfl)
theorem dX1_areJobValues_32 : decode cX1_areJobValues 32 = .ok (.goto 4, 3) := dk_167 0 4 (dk_at dksX1_areJobValues_1 9 rfl rfl)
theorem dX1_areJobValues_35 : decode cX1_areJobValues 35 = .ok (.iconst 0, 1) := dk_3 (dk_at dksX1_areJobValues_1 12 rfl rfl)
theorem dX1_areJobValues_36 : decode cX1_areJobValues 36 = .ok (.ireturn, 1) := dk_172 (dk_at dksX1_areJobValues_1 13 rfl rfl)
abbrev cX1_in : ByteArray := prog_1_method_1_code
def yX1_in : MethodName := ⟨RX1, "in", "(III)Z"⟩
def dkwX1_in_0 : List UInt8 := [26, 27, 161, 0, 12, 26, 28, 163, 0, 7, 4, 167, 0, 4, 3, 172]
abbrev dktX1_in_0 : List UInt8 := dkwX1_in_0 ++ []
theorem dksX1_in_0 : cX1_in.data.toList.drop 0 = dktX1_in_0 := by decide +kernel
theorem dX1_in_0 : decode cX1_in 0 = .ok (.iload_n 0, 1) := dk_26 (dk_at dksX1_in_0 0 rfl rfl)
theorem dX1_in_1 : decode cX1_in 1 = .ok (.iload_n 1, 1) := dk_27 (dk_at dksX1_in_0 1 rfl rfl)
theorem dX1_in_2 : decode cX1_in 2 = .ok (.if_icmp .lt 12, 3) := dk_161 0 12 (dk_at dksX1_in_0 2 rfl rfl)
theorem dX1_in_5 : decode cX1_in 5 = .ok (.iload_n 0, 1) := dk_26 (dk_at dksX1_in_0 5 rfl rfl)
theorem dX1_in_6 : decode cX1_in 6 = .ok (.iload_n 2, 1) := dk_28 (dk_at dksX1_in_0 6 rfl rfl)
theorem dX1_in_7 : decode cX1_in 7 = .ok (.if_icmp .gt 7, 3) := dk_163 0 7 (dk_at dksX1_in_0 7 rfl rfl)
theorem dX1_in_10 : decode cX1_in 10 = .ok (.iconst 1, 1) := dk_4 (dk_at dksX1_in_0 10 rfl rfl)
theorem dX1_in_11 : decode cX1_in 11 = .ok (.goto 4, 3) := dk_167 0 4 (dk_at dksX1_in_0 11 rfl rfl)
theorem dX1_in_14 : decode cX1_in 14 = .ok (.iconst 0, 1) := dk_3 (dk_at dksX1_in_0 14 rfl rfl)
theorem dX1_in_15 : decode cX1_in 15 = .ok (.ireturn, 1) := dk_172 (dk_at dksX1_in_0 15 rfl rfl)
abbrev cX1_check : ByteArray := prog_1_method_4_code
def yX1_check : MethodName := ⟨RX1, "check", "(Z)V"⟩
def dkwX1_check_0 : List UInt8 := [26, 154, 0, 11, 187, 0, 27, 89, 183, 0, 29, 191, 177]
abbrev dktX1_check_0 : List UInt8 := dkwX1_check_0 ++ []
theorem dksX1_check_0 : cX1_check.data.toList.drop 0 = dktX1_check_0 := by decide +kernel
theorem dX1_check_0 : decode cX1_check 0 = .ok (.iload_n 0, 1) := dk_26 (dk_at dksX1_check_0 0 rfl rfl)
theorem dX1_check_1 : decode cX1_check 1 = .ok (.ifCond .ne 11, 3) := dk_154 0 11 (dk_at dksX1_check_0 1 rfl rfl)
theorem dX1_check_4 : decode cX1_check 4 = .ok (.new 27, 3) := dk_187 0 27 (dk_at dksX1_check_0 4 rfl rfl)
theorem dX1_check_7 : decode cX1_check 7 = .ok (.dup, 1) := dk_89 (dk_at dksX1_check_0 7 rfl rfl)
theorem dX1_check_8 : decode cX1_check 8 = .ok (.invokespecial 29, 3) := dk_183 0 29 (dk_at dksX1_check_0 8 rfl rfl)
theorem dX1_check_11 : decode cX1_check 11 = .ok (.athrow, 1) := dk_191 (dk_at dksX1_check_0 11 rfl rfl)
theorem dX1_check_12 : decode cX1_check 12 = .ok (.return_, 1) := dk_177 (dk_at dksX1_check_0 12 rfl rfl)
abbrev cX1_checkState : ByteArray := prog_1_method_7_code
def yX1_checkState : MethodName := ⟨RX1, "checkState", "(Z)V"⟩
def dkwX1_checkState_0 : List UInt8 := [26, 154, 0, 11, 187, 0, 36, 89, 183, 0, 38, 191, 177]
abbrev dktX1_checkState_0 : List UInt8 := dkwX1_checkState_0 ++ []
theorem dksX1_checkState_0 : cX1_checkState.data.toList.drop 0 = dktX1_checkState_0 := by decide +kernel
theorem dX1_checkState_0 : decode cX1_checkState 0 = .ok (.iload_n 0, 1) := dk_26 (dk_at dksX1_checkState_0 0 rfl rfl)
theorem dX1_checkState_1 : decode cX1_checkState 1 = .ok (.ifCond .ne 11, 3) := dk_154 0 11 (dk_at dksX1_checkState_0 1 rfl rfl)
theorem dX1_checkState_4 : decode cX1_checkState 4 = .ok (.new 36, 3) := dk_187 0 36 (dk_at dksX1_checkState_0 4 rfl rfl)
theorem dX1_checkState_7 : decode cX1_checkState 7 = .ok (.dup, 1) := dk_89 (dk_at dksX1_checkState_0 7 rfl rfl)
theorem dX1_checkState_8 : decode cX1_checkState 8 = .ok (.invokespecial 38, 3) := dk_183 0 38 (dk_at dksX1_checkState_0 8 rfl rfl)
theorem dX1_checkState_11 : decode cX1_checkState 11 = .ok (.athrow, 1) := dk_191 (dk_at dksX1_checkState_0 11 rfl rfl)
theorem dX1_checkState_12 : decode cX1_checkState 12 = .ok (.return_, 1) := dk_177 (dk_at dksX1_checkState_0 12 rfl rfl)
abbrev cX1_addOperation : ByteArray := prog_1_method_13_code
def yX1_addOperation : MethodName := ⟨RX1, "addOperation", "(IIII)I"⟩
def dkwX1_addOperation_3 : List UInt8 := [182, 0, 93, 184, 0, 83, 42, 180, 0, 16, 27, 28, 29, 21, 4, 182, 0, 97, 172]
abbrev dktX1_addOperation_3 : List UInt8 := dkwX1_addOperation_3 ++ []
def dkwX1_addOperation_2 : List UInt8 := [21, 4, 3, 5, 184, 0, 3, 153, 0, 7, 4, 167, 0, 4, 3, 184, 0, 80, 42, 180, 0, 16, 27, 28]
abbrev dktX1_addOperation_2 : List UInt8 := dkwX1_addOperation_2 ++ dktX1_addOperation_3
def dkwX1_addOperation_1 : List UInt8 := [184, 0, 3, 153, 0, 7, 4, 167, 0, 4, 3, 184, 0, 49, 29, 4, 16, 30, 184, 0, 3, 153, 0, 17]
abbrev dktX1_addOperation_1 : List UInt8 := dkwX1_addOperation_1 ++ dktX1_addOperation_2
def dkwX1_addOperation_0 : List UInt8 := [27, 3, 42, 180, 0, 16, 180, 0, 39, 182, 0, 43, 4, 100, 184, 0, 3, 153, 0, 16, 28, 3, 6]
abbrev dktX1_addOperation_0 : List UInt8 := dkwX1_addOperation_0 ++ dktX1_addOperation_1
theorem dksX1_addOperation_0 : cX1_addOperation.data.toList.drop 0 = dktX1_addOperation_0 := by decide +kernel
theorem dksX1_addOperation_1 : cX1_addOperation.data.toList.drop 23 = dktX1_addOperation_1 := dk_seg dksX1_addOperation_0 23 rfl rfl
theorem dksX1_addOperation_2 : cX1_addOperation.data.toList.drop 47 = dktX1_addOperation_2 := dk_seg dksX1_addOperation_1 24 rfl rfl
theorem dksX1_addOperation_3 : cX1_addOperation.data.toList.drop 71 = dktX1_addOperation_3 := dk_seg dksX1_addOperation_2 24 rfl rfl
theorem dX1_addOperation_0 : decode cX1_addOperation 0 = .ok (.iload_n 1, 1) := dk_27 (dk_at dksX1_addOperation_0 0 rfl rfl)
theorem dX1_addOperation_1 : decode cX1_addOperation 1 = .ok (.iconst 0, 1) := dk_3 (dk_at dksX1_addOperation_0 1 rfl rfl)
theorem dX1_addOperation_2 : decode cX1_addOperation 2 = .ok (.aload_n 0, 1) := dk_42 (dk_at dksX1_addOperation_0 2 rfl rfl)
theorem dX1_addOperation_3 : decode cX1_addOperation 3 = .ok (.getfield 16, 3) := dk_180 0 16 (dk_at dksX1_addOperation_0 3 rfl rfl)
theorem dX1_addOperation_6 : decode cX1_addOperation 6 = .ok (.getfield 39, 3) := dk_180 0 39 (dk_at dksX1_addOperation_0 6 rfl rfl)
theorem dX1_addOperation_9 : decode cX1_addOperation 9 = .ok (.invokevirtual 43, 3) := dk_182 0 43 (dk_at dksX1_addOperation_0 9 rfl rfl)
theorem dX1_addOperation_12 : decode cX1_addOperation 12 = .ok (.iconst 1, 1) := dk_4 (dk_at dksX1_addOperation_0 12 rfl rfl)
theorem dX1_addOperation_13 : decode cX1_addOperation 13 = .ok (.isub, 1) := dk_100 (dk_at dksX1_addOperation_0 13 rfl rfl)
theorem dX1_addOperation_14 : decode cX1_addOperation 14 = .ok (.invokestatic 3, 3) := dk_184 0 3 (dk_at dksX1_addOperation_0 14 rfl rfl)
theorem dX1_addOperation_17 : decode cX1_addOperation 17 = .ok (.ifCond .eq 16, 3) := dk_153 0 16 (dk_at dksX1_addOperation_0 17 rfl rfl)
theorem dX1_addOperation_20 : decode cX1_addOperation 20 = .ok (.iload_n 2, 1) := dk_28 (dk_at dksX1_addOperation_0 20 rfl rfl)
theorem dX1_addOperation_21 : decode cX1_addOperation 21 = .ok (.iconst 0, 1) := dk_3 (dk_at dksX1_addOperation_0 21 rfl rfl)
theorem dX1_addOperation_22 : decode cX1_addOperation 22 = .ok (.iconst 3, 1) := dk_6 (dk_at dksX1_addOperation_0 22 rfl rfl)
theorem dX1_addOperation_23 : decode cX1_addOperation 23 = .ok (.invokestatic 3, 3) := dk_184 0 3 (dk_at dksX1_addOperation_1 0 rfl rfl)
theorem dX1_addOperation_26 : decode cX1_addOperation 26 = .ok (.ifCond .eq 7, 3) := dk_153 0 7 (dk_at dksX1_addOperation_1 3 rfl rfl)
theorem dX1_addOperation_29 : decode cX1_addOperation 29 = .ok (.iconst 1, 1) := dk_4 (dk_at dksX1_addOperation_1 6 rfl rfl)
theorem dX1_addOperation_30 : decode cX1_addOperation 30 = .ok (.goto 4, 3) := dk_167 0 4 (dk_at dksX1_addOperation_1 7 rfl rfl)
theorem dX1_addOperation_33 : decode cX1_addOperation 33 = .ok (.iconst 0, 1) := dk_3 (dk_at dksX1_addOperation_1 10 rfl rfl)
theorem dX1_addOperation_34 : decode cX1_addOperation 34 = .ok (.invokestatic 49, 3) := dk_184 0 49 (dk_at dksX1_addOperation_1 11 rfl rfl)
theorem dX1_addOperation_37 : decode cX1_addOperation 37 = .ok (.iload_n 3, 1) := dk_29 (dk_at dksX1_addOperation_1 14 rfl rfl)
theorem dX1_addOperation_38 : decode cX1_addOperation 38 = .ok (.iconst 1, 1) := dk_4 (dk_at dksX1_addOperation_1 15 rfl rfl)
theorem dX1_addOperation_39 : decode cX1_addOperation 39 = .ok (.bipush 30, 2) := dk_16 30 (dk_at dksX1_addOperation_1 16 rfl rfl)
theorem dX1_addOperation_41 : decode cX1_addOperation 41 = .ok (.invokestatic 3, 3) := dk_184 0 3 (dk_at dksX1_addOperation_1 18 rfl rfl)
theorem dX1_addOperation_44 : decode cX1_addOperation 44 = .ok (.ifCond .eq 17, 3) := dk_153 0 17 (dk_at dksX1_addOperation_1 21 rfl rfl)
theorem dX1_addOperation_47 : decode cX1_addOperation 47 = .ok (.iload 4, 2) := dk_21 4 (dk_at dksX1_addOperation_2 0 rfl rfl)
theorem dX1_addOperation_49 : decode cX1_addOperation 49 = .ok (.iconst 0, 1) := dk_3 (dk_at dksX1_addOperation_2 2 rfl rfl)
theorem dX1_addOperation_50 : decode cX1_addOperation 50 = .ok (.iconst 2, 1) := dk_5 (dk_at dksX1_addOperation_2 3 rfl rfl)
theorem dX1_addOperation_51 : decode cX1_addOperation 51 = .ok (.invokestatic 3, 3) := dk_184 0 3 (dk_at dksX1_addOperation_2 4 rfl rfl)
theorem dX1_addOperation_54 : decode cX1_addOperation 54 = .ok (.ifCond .eq 7, 3) := dk_153 0 7 (dk_at dksX1_addOperation_2 7 rfl rfl)
theorem dX1_addOperation_57 : decode cX1_addOperation 57 = .ok (.iconst 1, 1) := dk_4 (dk_at dksX1_addOperation_2 10 rfl rfl)
theorem dX1_addOperation_58 : decode cX1_addOperation 58 = .ok (.goto 4, 3) := dk_167 0 4 (dk_at dksX1_addOperation_2 11 rfl rfl)
theorem dX1_addOperation_61 : decode cX1_addOperation 61 = .ok (.iconst 0, 1) := dk_3 (dk_at dksX1_addOperation_2 14 rfl rfl)
theorem dX1_addOperation_62 : decode cX1_addOperation 62 = .ok (.invokestatic 80, 3) := dk_184 0 80 (dk_at dksX1_addOperation_2 15 rfl rfl)
theorem dX1_addOperation_65 : decode cX1_addOperation 65 = .ok (.aload_n 0, 1) := dk_42 (dk_at dksX1_addOperation_2 18 rfl rfl)
theorem dX1_addOperation_66 : decode cX1_addOperation 66 = .ok (.getfield 16, 3) := dk_180 0 16 (dk_at dksX1_addOperation_2 19 rfl rfl)
theorem dX1_addOperation_69 : decode cX1_addOperation 69 = .ok (.iload_n 1, 1) := dk_27 (dk_at dksX1_addOperation_2 22 rfl rfl)
theorem dX1_addOperation_70 : decode cX1_addOperation 70 = .ok (.iload_n 2, 1) := dk_28 (dk_at dksX1_addOperation_2 23 rfl rfl)
theorem dX1_addOperation_71 : decode cX1_addOperation 71 = .ok (.invokevirtual 93, 3) := dk_182 0 93 (dk_at dksX1_addOperation_3 0 rfl rfl)
theorem dX1_addOperation_74 : decode cX1_addOperation 74 = .ok (.invokestatic 83, 3) := dk_184 0 83 (dk_at dksX1_addOperation_3 3 rfl rfl)
theorem dX1_addOperation_77 : decode cX1_addOperation 77 = .ok (.aload_n 0, 1) := dk_42 (dk_at dksX1_addOperation_3 6 rfl rfl)
theorem dX1_addOperation_78 : decode cX1_addOperation 78 = .ok (.getfield 16, 3) := dk_180 0 16 (dk_at dksX1_addOperation_3 7 rfl rfl)
theorem dX1_addOperation_81 : decode cX1_addOperation 81 = .ok (.iload_n 1, 1) := dk_27 (dk_at dksX1_addOperation_3 10 rfl rfl)
theorem dX1_addOperation_82 : decode cX1_addOperation 82 = .ok (.iload_n 2, 1) := dk_28 (dk_at dksX1_addOperation_3 11 rfl rfl)
theorem dX1_addOperation_83 : decode cX1_addOperation 83 = .ok (.iload_n 3, 1) := dk_29 (dk_at dksX1_addOperation_3 12 rfl rfl)
theorem dX1_addOperation_84 : decode cX1_addOperation 84 = .ok (.iload 4, 2) := dk_21 4 (dk_at dksX1_addOperation_3 13 rfl rfl)
theorem dX1_addOperation_86 : decode cX1_addOperation 86 = .ok (.invokevirtual 97, 3) := dk_182 0 97 (dk_at dksX1_addOperation_3 15 rfl rfl)
theorem dX1_addOperation_89 : decode cX1_addOperation 89 = .ok (.ireturn, 1) := dk_172 (dk_at dksX1_addOperation_3 18 rfl rfl)
abbrev cX1_checkIndex : ByteArray := prog_1_method_5_code
def yX1_checkIndex : MethodName := ⟨RX1, "checkIndex", "(Z)V"⟩
def dkwX1_checkIndex_0 : List UInt8 := [26, 154, 0, 11, 187, 0, 30, 89, 183, 0, 32, 191, 177]
abbrev dktX1_checkIndex_0 : List UInt8 := dkwX1_checkIndex_0 ++ []
theorem dksX1_checkIndex_0 : cX1_checkIndex.data.toList.drop 0 = dktX1_checkIndex_0 := by decide +kernel
theorem dX1_checkIndex_0 : decode cX1_checkIndex 0 = .ok (.iload_n 0, 1) := dk_26 (dk_at dksX1_checkIndex_0 0 rfl rfl)
theorem dX1_checkIndex_1 : decode cX1_checkIndex 1 = .ok (.ifCond .ne 11, 3) := dk_154 0 11 (dk_at dksX1_checkIndex_0 1 rfl rfl)
theorem dX1_checkIndex_4 : decode cX1_checkIndex 4 = .ok (.new 30, 3) := dk_187 0 30 (dk_at dksX1_checkIndex_0 4 rfl rfl)
theorem dX1_checkIndex_7 : decode cX1_checkIndex 7 = .ok (.dup, 1) := dk_89 (dk_at dksX1_checkIndex_0 7 rfl rfl)
theorem dX1_checkIndex_8 : decode cX1_checkIndex 8 = .ok (.invokespecial 32, 3) := dk_183 0 32 (dk_at dksX1_checkIndex_0 8 rfl rfl)
theorem dX1_checkIndex_11 : decode cX1_checkIndex 11 = .ok (.athrow, 1) := dk_191 (dk_at dksX1_checkIndex_0 11 rfl rfl)
theorem dX1_checkIndex_12 : decode cX1_checkIndex 12 = .ok (.return_, 1) := dk_177 (dk_at dksX1_checkIndex_0 12 rfl rfl)
abbrev cX1_setJob : ByteArray := prog_1_method_14_code
def yX1_setJob : MethodName := ⟨RX1, "setJob", "(III)I"⟩
def dkwX1_setJob_2 : List UInt8 := [184, 0, 80, 25, 4, 180, 0, 105, 28, 46, 54, 5, 25, 4, 180, 0, 105, 28, 29, 79, 21, 5, 172]
abbrev dktX1_setJob_2 : List UInt8 := dkwX1_setJob_2 ++ []
def dkwX1_setJob_1 : List UInt8 := [3, 28, 4, 160, 0, 7, 29, 167, 0, 4, 3, 28, 5, 160, 0, 7, 29, 167, 0, 4, 3, 184, 0, 77]
abbrev dktX1_setJob_1 : List UInt8 := dkwX1_setJob_1 ++ dktX1_setJob_2
def dkwX1_setJob_0 : List UInt8 := [42, 27, 182, 0, 101, 58, 4, 28, 3, 5, 184, 0, 3, 184, 0, 80, 28, 154, 0, 7, 29, 167, 0, 4]
abbrev dktX1_setJob_0 : List UInt8 := dkwX1_setJob_0 ++ dktX1_setJob_1
theorem dksX1_setJob_0 : cX1_setJob.data.toList.drop 0 = dktX1_setJob_0 := by decide +kernel
theorem dksX1_setJob_1 : cX1_setJob.data.toList.drop 24 = dktX1_setJob_1 := dk_seg dksX1_setJob_0 24 rfl rfl
theorem dksX1_setJob_2 : cX1_setJob.data.toList.drop 48 = dktX1_setJob_2 := dk_seg dksX1_setJob_1 24 rfl rfl
theorem dX1_setJob_0 : decode cX1_setJob 0 = .ok (.aload_n 0, 1) := dk_42 (dk_at dksX1_setJob_0 0 rfl rfl)
theorem dX1_setJob_1 : decode cX1_setJob 1 = .ok (.iload_n 1, 1) := dk_27 (dk_at dksX1_setJob_0 1 rfl rfl)
theorem dX1_setJob_2 : decode cX1_setJob 2 = .ok (.invokevirtual 101, 3) := dk_182 0 101 (dk_at dksX1_setJob_0 2 rfl rfl)
theorem dX1_setJob_5 : decode cX1_setJob 5 = .ok (.astore 4, 2) := dk_58 4 (dk_at dksX1_setJob_0 5 rfl rfl)
theorem dX1_setJob_7 : decode cX1_setJob 7 = .ok (.iload_n 2, 1) := dk_28 (dk_at dksX1_setJob_0 7 rfl rfl)
theorem dX1_setJob_8 : decode cX1_setJob 8 = .ok (.iconst 0, 1) := dk_3 (dk_at dksX1_setJob_0 8 rfl rfl)
theorem dX1_setJob_9 : decode cX1_setJob 9 = .ok (.iconst 2, 1) := dk_5 (dk_at dksX1_setJob_0 9 rfl rfl)
theorem dX1_setJob_10 : decode cX1_setJob 10 = .ok (.invokestatic 3, 3) := dk_184 0 3 (dk_at dksX1_setJob_0 10 rfl rfl)
theorem dX1_setJob_13 : decode cX1_setJob 13 = .ok (.invokestatic 80, 3) := dk_184 0 80 (dk_at dksX1_setJob_0 13 rfl rfl)
theorem dX1_setJob_16 : decode cX1_setJob 16 = .ok (.iload_n 2, 1) := dk_28 (dk_at dksX1_setJob_0 16 rfl rfl)
theorem dX1_setJob_17 : decode cX1_setJob 17 = .ok (.ifCond .ne 7, 3) := dk_154 0 7 (dk_at dksX1_setJob_0 17 rfl rfl)
theorem dX1_setJob_20 : decode cX1_setJob 20 = .ok (.iload_n 3, 1) := dk_29 (dk_at dksX1_setJob_0 20 rfl rfl)
theorem dX1_setJob_21 : decode cX1_setJob 21 = .ok (.goto 4, 3) := dk_167 0 4 (dk_at dksX1_setJob_0 21 rfl rfl)
theorem dX1_setJob_24 : decode cX1_setJob 24 = .ok (.iconst 0, 1) := dk_3 (dk_at dksX1_setJob_1 0 rfl rfl)
theorem dX1_setJob_25 : decode cX1_setJob 25 = .ok (.iload_n 2, 1) := dk_28 (dk_at dksX1_setJob_1 1 rfl rfl)
theorem dX1_setJob_26 : decode cX1_setJob 26 = .ok (.iconst 1, 1) := dk_4 (dk_at dksX1_setJob_1 2 rfl rfl)
theorem dX1_setJob_27 : decode cX1_setJob 27 = .ok (.if_icmp .ne 7, 3) := dk_160 0 7 (dk_at dksX1_setJob_1 3 rfl rfl)
theorem dX1_setJob_30 : decode cX1_setJob 30 = .ok (.iload_n 3, 1) := dk_29 (dk_at dksX1_setJob_1 6 rfl rfl)
theorem dX1_setJob_31 : decode cX1_setJob 31 = .ok (.goto 4, 3) := dk_167 0 4 (dk_at dksX1_setJob_1 7 rfl rfl)
theorem dX1_setJob_34 : decode cX1_setJob 34 = .ok (.iconst 0, 1) := dk_3 (dk_at dksX1_setJob_1 10 rfl rfl)
theorem dX1_setJob_35 : decode cX1_setJob 35 = .ok (.iload_n 2, 1) := dk_28 (dk_at dksX1_setJob_1 11 rfl rfl)
theorem dX1_setJob_36 : decode cX1_setJob 36 = .ok (.iconst 2, 1) := dk_5 (dk_at dksX1_setJob_1 12 rfl rfl)
theorem dX1_setJob_37 : decode cX1_setJob 37 = .ok (.if_icmp .ne 7, 3) := dk_160 0 7 (dk_at dksX1_setJob_1 13 rfl rfl)
theorem dX1_setJob_40 : decode cX1_setJob 40 = .ok (.iload_n 3, 1) := dk_29 (dk_at dksX1_setJob_1 16 rfl rfl)
theorem dX1_setJob_41 : decode cX1_setJob 41 = .ok (.goto 4, 3) := dk_167 0 4 (dk_at dksX1_setJob_1 17 rfl rfl)
theorem dX1_setJob_44 : decode cX1_setJob 44 = .ok (.iconst 0, 1) := dk_3 (dk_at dksX1_setJob_1 20 rfl rfl)
theorem dX1_setJob_45 : decode cX1_setJob 45 = .ok (.invokestatic 77, 3) := dk_184 0 77 (dk_at dksX1_setJob_1 21 rfl rfl)
theorem dX1_setJob_48 : decode cX1_setJob 48 = .ok (.invokestatic 80, 3) := dk_184 0 80 (dk_at dksX1_setJob_2 0 rfl rfl)
theorem dX1_setJob_51 : decode cX1_setJob 51 = .ok (.aload 4, 2) := dk_25 4 (dk_at dksX1_setJob_2 3 rfl rfl)
theorem dX1_setJob_53 : decode cX1_setJob 53 = .ok (.getfield 105, 3) := dk_180 0 105 (dk_at dksX1_setJob_2 5 rfl rfl)
theorem dX1_setJob_56 : decode cX1_setJob 56 = .ok (.iload_n 2, 1) := dk_28 (dk_at dksX1_setJob_2 8 rfl rfl)
theorem dX1_setJob_57 : decode cX1_setJob 57 = .ok (.iaload, 1) := dk_46 (dk_at dksX1_setJob_2 9 rfl rfl)
theorem dX1_setJob_58 : decode cX1_setJob 58 = .ok (.istore 5, 2) := dk_54 5 (dk_at dksX1_setJob_2 10 rfl rfl)
theorem dX1_setJob_60 : decode cX1_setJob 60 = .ok (.aload 4, 2) := dk_25 4 (dk_at dksX1_setJob_2 12 rfl rfl)
theorem dX1_setJob_62 : decode cX1_setJob 62 = .ok (.getfield 105, 3) := dk_180 0 105 (dk_at dksX1_setJob_2 14 rfl rfl)
theorem dX1_setJob_65 : decode cX1_setJob 65 = .ok (.iload_n 2, 1) := dk_28 (dk_at dksX1_setJob_2 17 rfl rfl)
theorem dX1_setJob_66 : decode cX1_setJob 66 = .ok (.iload_n 3, 1) := dk_29 (dk_at dksX1_setJob_2 18 rfl rfl)
theorem dX1_setJob_67 : decode cX1_setJob 67 = .ok (.iastore, 1) := dk_79 (dk_at dksX1_setJob_2 19 rfl rfl)
theorem dX1_setJob_68 : decode cX1_setJob 68 = .ok (.iload 5, 2) := dk_21 5 (dk_at dksX1_setJob_2 20 rfl rfl)
theorem dX1_setJob_70 : decode cX1_setJob 70 = .ok (.ireturn, 1) := dk_172 (dk_at dksX1_setJob_2 22 rfl rfl)
abbrev cX1_jobAt : ByteArray := prog_1_method_8_code
def yX1_jobAt : MethodName := ⟨RX1, "jobAt", "(I)LSetupJobShop$Job;"⟩
def dkwX1_jobAt_1 : List UInt8 := [180, 0, 39, 27, 182, 0, 53, 192, 0, 57, 176]
abbrev dktX1_jobAt_1 : List UInt8 := dkwX1_jobAt_1 ++ []
def dkwX1_jobAt_0 : List UInt8 := [27, 3, 42, 180, 0, 16, 180, 0, 39, 182, 0, 43, 4, 100, 184, 0, 3, 184, 0, 49, 42, 180, 0, 16]
abbrev dktX1_jobAt_0 : List UInt8 := dkwX1_jobAt_0 ++ dktX1_jobAt_1
theorem dksX1_jobAt_0 : cX1_jobAt.data.toList.drop 0 = dktX1_jobAt_0 := by decide +kernel
theorem dksX1_jobAt_1 : cX1_jobAt.data.toList.drop 24 = dktX1_jobAt_1 := dk_seg dksX1_jobAt_0 24 rfl rfl
theorem dX1_jobAt_0 : decode cX1_jobAt 0 = .ok (.iload_n 1, 1) := dk_27 (dk_at dksX1_jobAt_0 0 rfl rfl)
theorem dX1_jobAt_1 : decode cX1_jobAt 1 = .ok (.iconst 0, 1) := dk_3 (dk_at dksX1_jobAt_0 1 rfl rfl)
theorem dX1_jobAt_2 : decode cX1_jobAt 2 = .ok (.aload_n 0, 1) := dk_42 (dk_at dksX1_jobAt_0 2 rfl rfl)
theorem dX1_jobAt_3 : decode cX1_jobAt 3 = .ok (.getfield 16, 3) := dk_180 0 16 (dk_at dksX1_jobAt_0 3 rfl rfl)
theorem dX1_jobAt_6 : decode cX1_jobAt 6 = .ok (.getfield 39, 3) := dk_180 0 39 (dk_at dksX1_jobAt_0 6 rfl rfl)
theorem dX1_jobAt_9 : decode cX1_jobAt 9 = .ok (.invokevirtual 43, 3) := dk_182 0 43 (dk_at dksX1_jobAt_0 9 rfl rfl)
theorem dX1_jobAt_12 : decode cX1_jobAt 12 = .ok (.iconst 1, 1) := dk_4 (dk_at dksX1_jobAt_0 12 rfl rfl)
theorem dX1_jobAt_13 : decode cX1_jobAt 13 = .ok (.isub, 1) := dk_100 (dk_at dksX1_jobAt_0 13 rfl rfl)
theorem dX1_jobAt_14 : decode cX1_jobAt 14 = .ok (.invokestatic 3, 3) := dk_184 0 3 (dk_at dksX1_jobAt_0 14 rfl rfl)
theorem dX1_jobAt_17 : decode cX1_jobAt 17 = .ok (.invokestatic 49, 3) := dk_184 0 49 (dk_at dksX1_jobAt_0 17 rfl rfl)
theorem dX1_jobAt_20 : decode cX1_jobAt 20 = .ok (.aload_n 0, 1) := dk_42 (dk_at dksX1_jobAt_0 20 rfl rfl)
theorem dX1_jobAt_21 : decode cX1_jobAt 21 = .ok (.getfield 16, 3) := dk_180 0 16 (dk_at dksX1_jobAt_0 21 rfl rfl)
theorem dX1_jobAt_24 : decode cX1_jobAt 24 = .ok (.getfield 39, 3) := dk_180 0 39 (dk_at dksX1_jobAt_1 0 rfl rfl)
theorem dX1_jobAt_27 : decode cX1_jobAt 27 = .ok (.iload_n 1, 1) := dk_27 (dk_at dksX1_jobAt_1 3 rfl rfl)
theorem dX1_jobAt_28 : decode cX1_jobAt 28 = .ok (.invokevirtual 53, 3) := dk_182 0 53 (dk_at dksX1_jobAt_1 4 rfl rfl)
theorem dX1_jobAt_31 : decode cX1_jobAt 31 = .ok (.checkcast 57, 3) := dk_192 0 57 (dk_at dksX1_jobAt_1 7 rfl rfl)
theorem dX1_jobAt_34 : decode cX1_jobAt 34 = .ok (.areturn, 1) := dk_176 (dk_at dksX1_jobAt_1 10 rfl rfl)
abbrev cX1_setDuration : ByteArray := prog_1_method_15_code
def yX1_setDuration : MethodName := ⟨RX1, "setDuration", "(II)I"⟩
def dkwX1_setDuration_1 : List UInt8 := [181, 0, 113, 21, 4, 172]
abbrev dktX1_setDuration_1 : List UInt8 := dkwX1_setDuration_1 ++ []
def dkwX1_setDuration_0 : List UInt8 := [42, 27, 182, 0, 109, 78, 28, 4, 16, 30, 184, 0, 3, 184, 0, 80, 45, 180, 0, 113, 54, 4, 45, 28]
abbrev dktX1_setDuration_0 : List UInt8 := dkwX1_setDuration_0 ++ dktX1_setDuration_1
theorem dksX1_setDuration_0 : cX1_setDuration.data.toList.drop 0 = dktX1_setDuration_0 := by decide +kernel
theorem dksX1_setDuration_1 : cX1_setDuration.data.toList.drop 24 = dktX1_setDuration_1 := dk_seg dksX1_setDuration_0 24 rfl rfl
theorem dX1_setDuration_0 : decode cX1_setDuration 0 = .ok (.aload_n 0, 1) := dk_42 (dk_at dksX1_setDuration_0 0 rfl rfl)
theorem dX1_setDuration_1 : decode cX1_setDuration 1 = .ok (.iload_n 1, 1) := dk_27 (dk_at dksX1_setDuration_0 1 rfl rfl)
theorem dX1_setDuration_2 : decode cX1_setDuration 2 = .ok (.invokevirtual 109, 3) := dk_182 0 109 (dk_at dksX1_setDuration_0 2 rfl rfl)
theorem dX1_setDuration_5 : decode cX1_setDuration 5 = .ok (.astore_n 3, 1) := dk_78 (dk_at dksX1_setDuration_0 5 rfl rfl)
theorem dX1_setDuration_6 : decode cX1_setDuration 6 = .ok (.iload_n 2, 1) := dk_28 (dk_at dksX1_setDuration_0 6 rfl rfl)
theorem dX1_setDuration_7 : decode cX1_setDuration 7 = .ok (.iconst 1, 1) := dk_4 (dk_at dksX1_setDuration_0 7 rfl rfl)
theorem dX1_setDuration_8 : decode cX1_setDuration 8 = .ok (.bipush 30, 2) := dk_16 30 (dk_at dksX1_setDuration_0 8 rfl rfl)
theorem dX1_setDuration_10 : decode cX1_setDuration 10 = .ok (.invokestatic 3, 3) := dk_184 0 3 (dk_at dksX1_setDuration_0 10 rfl rfl)
theorem dX1_setDuration_13 : decode cX1_setDuration 13 = .ok (.invokestatic 80, 3) := dk_184 0 80 (dk_at dksX1_setDuration_0 13 rfl rfl)
theorem dX1_setDuration_16 : decode cX1_setDuration 16 = .ok (.aload_n 3, 1) := dk_45 (dk_at dksX1_setDuration_0 16 rfl rfl)
theorem dX1_setDuration_17 : decode cX1_setDuration 17 = .ok (.getfield 113, 3) := dk_180 0 113 (dk_at dksX1_setDuration_0 17 rfl rfl)
theorem dX1_setDuration_20 : decode cX1_setDuration 20 = .ok (.istore 4, 2) := dk_54 4 (dk_at dksX1_setDuration_0 20 rfl rfl)
theorem dX1_setDuration_22 : decode cX1_setDuration 22 = .ok (.aload_n 3, 1) := dk_45 (dk_at dksX1_setDuration_0 22 rfl rfl)
theorem dX1_setDuration_23 : decode cX1_setDuration 23 = .ok (.iload_n 2, 1) := dk_28 (dk_at dksX1_setDuration_0 23 rfl rfl)
theorem dX1_setDuration_24 : decode cX1_setDuration 24 = .ok (.putfield 113, 3) := dk_181 0 113 (dk_at dksX1_setDuration_1 0 rfl rfl)
theorem dX1_setDuration_27 : decode cX1_setDuration 27 = .ok (.iload 4, 2) := dk_21 4 (dk_at dksX1_setDuration_1 3 rfl rfl)
theorem dX1_setDuration_29 : decode cX1_setDuration 29 = .ok (.ireturn, 1) := dk_172 (dk_at dksX1_setDuration_1 5 rfl rfl)
abbrev cX1_operationAt : ByteArray := prog_1_method_9_code
def yX1_operationAt : MethodName := ⟨RX1, "operationAt", "(I)LSetupJobShop$Operation;"⟩
def dkwX1_operationAt_1 : List UInt8 := [180, 0, 59, 27, 182, 0, 53, 192, 0, 62, 176]
abbrev dktX1_operationAt_1 : List UInt8 := dkwX1_operationAt_1 ++ []
def dkwX1_operationAt_0 : List UInt8 := [27, 3, 42, 180, 0, 16, 180, 0, 59, 182, 0, 43, 4, 100, 184, 0, 3, 184, 0, 49, 42, 180, 0, 16]
abbrev dktX1_operationAt_0 : List UInt8 := dkwX1_operationAt_0 ++ dktX1_operationAt_1
theorem dksX1_operationAt_0 : cX1_operationAt.data.toList.drop 0 = dktX1_operationAt_0 := by decide +kernel
theorem dksX1_operationAt_1 : cX1_operationAt.data.toList.drop 24 = dktX1_operationAt_1 := dk_seg dksX1_operationAt_0 24 rfl rfl
theorem dX1_operationAt_0 : decode cX1_operationAt 0 = .ok (.iload_n 1, 1) := dk_27 (dk_at dksX1_operationAt_0 0 rfl rfl)
theorem dX1_operationAt_1 : decode cX1_operationAt 1 = .ok (.iconst 0, 1) := dk_3 (dk_at dksX1_operationAt_0 1 rfl rfl)
theorem dX1_operationAt_2 : decode cX1_operationAt 2 = .ok (.aload_n 0, 1) := dk_42 (dk_at dksX1_operationAt_0 2 rfl rfl)
theorem dX1_operationAt_3 : decode cX1_operationAt 3 = .ok (.getfield 16, 3) := dk_180 0 16 (dk_at dksX1_operationAt_0 3 rfl rfl)
theorem dX1_operationAt_6 : decode cX1_operationAt 6 = .ok (.getfield 59, 3) := dk_180 0 59 (dk_at dksX1_operationAt_0 6 rfl rfl)
theorem dX1_operationAt_9 : decode cX1_operationAt 9 = .ok (.invokevirtual 43, 3) := dk_182 0 43 (dk_at dksX1_operationAt_0 9 rfl rfl)
theorem dX1_operationAt_12 : decode cX1_operationAt 12 = .ok (.iconst 1, 1) := dk_4 (dk_at dksX1_operationAt_0 12 rfl rfl)
theorem dX1_operationAt_13 : decode cX1_operationAt 13 = .ok (.isub, 1) := dk_100 (dk_at dksX1_operationAt_0 13 rfl rfl)
theorem dX1_operationAt_14 : decode cX1_operationAt 14 = .ok (.invokestatic 3, 3) := dk_184 0 3 (dk_at dksX1_operationAt_0 14 rfl rfl)
theorem dX1_operationAt_17 : decode cX1_operationAt 17 = .ok (.invokestatic 49, 3) := dk_184 0 49 (dk_at dksX1_operationAt_0 17 rfl rfl)
theorem dX1_operationAt_20 : decode cX1_operationAt 20 = .ok (.aload_n 0, 1) := dk_42 (dk_at dksX1_operationAt_0 20 rfl rfl)
theorem dX1_operationAt_21 : decode cX1_operationAt 21 = .ok (.getfield 16, 3) := dk_180 0 16 (dk_at dksX1_operationAt_0 21 rfl rfl)
theorem dX1_operationAt_24 : decode cX1_operationAt 24 = .ok (.getfield 59, 3) := dk_180 0 59 (dk_at dksX1_operationAt_1 0 rfl rfl)
theorem dX1_operationAt_27 : decode cX1_operationAt 27 = .ok (.iload_n 1, 1) := dk_27 (dk_at dksX1_operationAt_1 3 rfl rfl)
theorem dX1_operationAt_28 : decode cX1_operationAt 28 = .ok (.invokevirtual 53, 3) := dk_182 0 53 (dk_at dksX1_operationAt_1 4 rfl rfl)
theorem dX1_operationAt_31 : decode cX1_operationAt 31 = .ok (.checkcast 62, 3) := dk_192 0 62 (dk_at dksX1_operationAt_1 7 rfl rfl)
theorem dX1_operationAt_34 : decode cX1_operationAt 34 = .ok (.areturn, 1) := dk_176 (dk_at dksX1_operationAt_1 10 rfl rfl)
abbrev cX1_setSetup : ByteArray := prog_1_method_16_code
def yX1_setSetup : MethodName := ⟨RX1, "setSetup", "(III)I"⟩
def dkwX1_setSetup_2 : List UInt8 := [96, 46, 54, 4, 42, 180, 0, 16, 180, 0, 116, 6, 27, 104, 28, 96, 29, 79, 21, 4, 172]
abbrev dktX1_setSetup_2 : List UInt8 := dkwX1_setSetup_2 ++ []
def dkwX1_setSetup_1 : List UInt8 := [184, 0, 49, 29, 3, 16, 9, 184, 0, 3, 184, 0, 80, 42, 180, 0, 16, 180, 0, 116, 6, 27, 104, 28]
abbrev dktX1_setSetup_1 : List UInt8 := dkwX1_setSetup_1 ++ dktX1_setSetup_2
def dkwX1_setSetup_0 : List UInt8 := [27, 3, 5, 184, 0, 3, 153, 0, 16, 28, 3, 5, 184, 0, 3, 153, 0, 7, 4, 167, 0, 4, 3]
abbrev dktX1_setSetup_0 : List UInt8 := dkwX1_setSetup_0 ++ dktX1_setSetup_1
theorem dksX1_setSetup_0 : cX1_setSetup.data.toList.drop 0 = dktX1_setSetup_0 := by decide +kernel
theorem dksX1_setSetup_1 : cX1_setSetup.data.toList.drop 23 = dktX1_setSetup_1 := dk_seg dksX1_setSetup_0 23 rfl rfl
theorem dksX1_setSetup_2 : cX1_setSetup.data.toList.drop 47 = dktX1_setSetup_2 := dk_seg dksX1_setSetup_1 24 rfl rfl
theorem dX1_setSetup_0 : decode cX1_setSetup 0 = .ok (.iload_n 1, 1) := dk_27 (dk_at dksX1_setSetup_0 0 rfl rfl)
theorem dX1_setSetup_1 : decode cX1_setSetup 1 = .ok (.iconst 0, 1) := dk_3 (dk_at dksX1_setSetup_0 1 rfl rfl)
theorem dX1_setSetup_2 : decode cX1_setSetup 2 = .ok (.iconst 2, 1) := dk_5 (dk_at dksX1_setSetup_0 2 rfl rfl)
theorem dX1_setSetup_3 : decode cX1_setSetup 3 = .ok (.invokestatic 3, 3) := dk_184 0 3 (dk_at dksX1_setSetup_0 3 rfl rfl)
theorem dX1_setSetup_6 : decode cX1_setSetup 6 = .ok (.ifCond .eq 16, 3) := dk_153 0 16 (dk_at dksX1_setSetup_0 6 rfl rfl)
theorem dX1_setSetup_9 : decode cX1_setSetup 9 = .ok (.iload_n 2, 1) := dk_28 (dk_at dksX1_setSetup_0 9 rfl rfl)
theorem dX1_setSetup_10 : decode cX1_setSetup 10 = .ok (.iconst 0, 1) := dk_3 (dk_at dksX1_setSetup_0 10 rfl rfl)
theorem dX1_setSetup_11 : decode cX1_setSetup 11 = .ok (.iconst 2, 1) := dk_5 (dk_at dksX1_setSetup_0 11 rfl rfl)
theorem dX1_setSetup_12 : decode cX1_setSetup 12 = .ok (.invokestatic 3, 3) := dk_184 0 3 (dk_at dksX1_setSetup_0 12 rfl rfl)
theorem dX1_setSetup_15 : decode cX1_setSetup 15 = .ok (.ifCond .eq 7, 3) := dk_153 0 7 (dk_at dksX1_setSetup_0 15 rfl rfl)
theorem dX1_setSetup_18 : decode cX1_setSetup 18 = .ok (.iconst 1, 1) := dk_4 (dk_at dksX1_setSetup_0 18 rfl rfl)
theorem dX1_setSetup_19 : decode cX1_setSetup 19 = .ok (.goto 4, 3) := dk_167 0 4 (dk_at dksX1_setSetup_0 19 rfl rfl)
theorem dX1_setSetup_22 : decode cX1_setSetup 22 = .ok (.iconst 0, 1) := dk_3 (dk_at dksX1_setSetup_0 22 rfl rfl)
theorem dX1_setSetup_23 : decode cX1_setSetup 23 = .ok (.invokestatic 49, 3) := dk_184 0 49 (dk_at dksX1_setSetup_1 0 rfl rfl)
theorem dX1_setSetup_26 : decode cX1_setSetup 26 = .ok (.iload_n 3, 1) := dk_29 (dk_at dksX1_setSetup_1 3 rfl rfl)
theorem dX1_setSetup_27 : decode cX1_setSetup 27 = .ok (.iconst 0, 1) := dk_3 (dk_at dksX1_setSetup_1 4 rfl rfl)
theorem dX1_setSetup_28 : decode cX1_setSetup 28 = .ok (.bipush 9, 2) := dk_16 9 (dk_at dksX1_setSetup_1 5 rfl rfl)
theorem dX1_setSetup_30 : decode cX1_setSetup 30 = .ok (.invokestatic 3, 3) := dk_184 0 3 (dk_at dksX1_setSetup_1 7 rfl rfl)
theorem dX1_setSetup_33 : decode cX1_setSetup 33 = .ok (.invokestatic 80, 3) := dk_184 0 80 (dk_at dksX1_setSetup_1 10 rfl rfl)
theorem dX1_setSetup_36 : decode cX1_setSetup 36 = .ok (.aload_n 0, 1) := dk_42 (dk_at dksX1_setSetup_1 13 rfl rfl)
theorem dX1_setSetup_37 : decode cX1_setSetup 37 = .ok (.getfield 16, 3) := dk_180 0 16 (dk_at dksX1_setSetup_1 14 rfl rfl)
theorem dX1_setSetup_40 : decode cX1_setSetup 40 = .ok (.getfield 116, 3) := dk_180 0 116 (dk_at dksX1_setSetup_1 17 rfl rfl)
theorem dX1_setSetup_43 : decode cX1_setSetup 43 = .ok (.iconst 3, 1) := dk_6 (dk_at dksX1_setSetup_1 20 rfl rfl)
theorem dX1_setSetup_44 : decode cX1_setSetup 44 = .ok (.iload_n 1, 1) := dk_27 (dk_at dksX1_setSetup_1 21 rfl rfl)
theorem dX1_setSetup_45 : decode cX1_setSetup 45 = .ok (.imul, 1) := dk_104 (dk_at dksX1_setSetup_1 22 rfl rfl)
theorem dX1_setSetup_46 : decode cX1_setSetup 46 = .ok (.iload_n 2, 1) := dk_28 (dk_at dksX1_setSetup_1 23 rfl rfl)
theorem dX1_setSetup_47 : decode cX1_setSetup 47 = .ok (.iadd, 1) := dk_96 (dk_at dksX1_setSetup_2 0 rfl rfl)
theorem dX1_setSetup_48 : decode cX1_setSetup 48 = .ok (.iaload, 1) := dk_46 (dk_at dksX1_setSetup_2 1 rfl rfl)
theorem dX1_setSetup_49 : decode cX1_setSetup 49 = .ok (.istore 4, 2) := dk_54 4 (dk_at dksX1_setSetup_2 2 rfl rfl)
theorem dX1_setSetup_51 : decode cX1_setSetup 51 = .ok (.aload_n 0, 1) := dk_42 (dk_at dksX1_setSetup_2 4 rfl rfl)
theorem dX1_setSetup_52 : decode cX1_setSetup 52 = .ok (.getfield 16, 3) := dk_180 0 16 (dk_at dksX1_setSetup_2 5 rfl rfl)
theorem dX1_setSetup_55 : decode cX1_setSetup 55 = .ok (.getfield 116, 3) := dk_180 0 116 (dk_at dksX1_setSetup_2 8 rfl rfl)
theorem dX1_setSetup_58 : decode cX1_setSetup 58 = .ok (.iconst 3, 1) := dk_6 (dk_at dksX1_setSetup_2 11 rfl rfl)
theorem dX1_setSetup_59 : decode cX1_setSetup 59 = .ok (.iload_n 1, 1) := dk_27 (dk_at dksX1_setSetup_2 12 rfl rfl)
theorem dX1_setSetup_60 : decode cX1_setSetup 60 = .ok (.imul, 1) := dk_104 (dk_at dksX1_setSetup_2 13 rfl rfl)
theorem dX1_setSetup_61 : decode cX1_setSetup 61 = .ok (.iload_n 2, 1) := dk_28 (dk_at dksX1_setSetup_2 14 rfl rfl)
theorem dX1_setSetup_62 : decode cX1_setSetup 62 = .ok (.iadd, 1) := dk_96 (dk_at dksX1_setSetup_2 15 rfl rfl)
theorem dX1_setSetup_63 : decode cX1_setSetup 63 = .ok (.iload_n 3, 1) := dk_29 (dk_at dksX1_setSetup_2 16 rfl rfl)
theorem dX1_setSetup_64 : decode cX1_setSetup 64 = .ok (.iastore, 1) := dk_79 (dk_at dksX1_setSetup_2 17 rfl rfl)
theorem dX1_setSetup_65 : decode cX1_setSetup 65 = .ok (.iload 4, 2) := dk_21 4 (dk_at dksX1_setSetup_2 18 rfl rfl)
theorem dX1_setSetup_67 : decode cX1_setSetup 67 = .ok (.ireturn, 1) := dk_172 (dk_at dksX1_setSetup_2 20 rfl rfl)
abbrev cX1_addBreakdown : ByteArray := prog_1_method_17_code
def yX1_addBreakdown : MethodName := ⟨RX1, "addBreakdown", "(III)I"⟩
def dkwX1_addBreakdown_3 : List UInt8 := [184, 0, 83, 25, 4, 187, 0, 122, 89, 28, 29, 183, 0, 124, 182, 0, 89, 87, 25, 4, 182, 0, 43, 172]
abbrev dktX1_addBreakdown_3 : List UInt8 := dkwX1_addBreakdown_3 ++ []
def dkwX1_addBreakdown_2 : List UInt8 := [182, 0, 53, 192, 0, 44, 58, 4, 25, 4, 182, 0, 43, 6, 162, 0, 7, 4, 167, 0, 4, 3]
abbrev dktX1_addBreakdown_2 : List UInt8 := dkwX1_addBreakdown_2 ++ dktX1_addBreakdown_3
def dkwX1_addBreakdown_1 : List UInt8 := [184, 0, 3, 153, 0, 7, 4, 167, 0, 4, 3, 184, 0, 80, 42, 180, 0, 16, 180, 0, 119, 27]
abbrev dktX1_addBreakdown_1 : List UInt8 := dkwX1_addBreakdown_1 ++ dktX1_addBreakdown_2
def dkwX1_addBreakdown_0 : List UInt8 := [27, 3, 6, 184, 0, 3, 184, 0, 49, 28, 3, 17, 1, 144, 184, 0, 3, 153, 0, 17, 29, 4, 16, 60]
abbrev dktX1_addBreakdown_0 : List UInt8 := dkwX1_addBreakdown_0 ++ dktX1_addBreakdown_1
theorem dksX1_addBreakdown_0 : cX1_addBreakdown.data.toList.drop 0 = dktX1_addBreakdown_0 := by decide +kernel
theorem dksX1_addBreakdown_1 : cX1_addBreakdown.data.toList.drop 24 = dktX1_addBreakdown_1 := dk_seg dksX1_addBreakdown_0 24 rfl rfl
theorem dksX1_addBreakdown_2 : cX1_addBreakdown.data.toList.drop 46 = dktX1_addBreakdown_2 := dk_seg dksX1_addBreakdown_1 22 rfl rfl
theorem dksX1_addBreakdown_3 : cX1_addBreakdown.data.toList.drop 68 = dktX1_addBreakdown_3 := dk_seg dksX1_addBreakdown_2 22 rfl rfl
theorem dX1_addBreakdown_0 : decode cX1_addBreakdown 0 = .ok (.iload_n 1, 1) := dk_27 (dk_at dksX1_addBreakdown_0 0 rfl rfl)
theorem dX1_addBreakdown_1 : decode cX1_addBreakdown 1 = .ok (.iconst 0, 1) := dk_3 (dk_at dksX1_addBreakdown_0 1 rfl rfl)
theorem dX1_addBreakdown_2 : decode cX1_addBreakdown 2 = .ok (.iconst 3, 1) := dk_6 (dk_at dksX1_addBreakdown_0 2 rfl rfl)
theorem dX1_addBreakdown_3 : decode cX1_addBreakdown 3 = .ok (.invokestatic 3, 3) := dk_184 0 3 (dk_at dksX1_addBreakdown_0 3 rfl rfl)
theorem dX1_addBreakdown_6 : decode cX1_addBreakdown 6 = .ok (.invokestatic 49, 3) := dk_184 0 49 (dk_at dksX1_addBreakdown_0 6 rfl rfl)
theorem dX1_addBreakdown_9 : decode cX1_addBreakdown 9 = .ok (.iload_n 2, 1) := dk_28 (dk_at dksX1_addBreakdown_0 9 rfl rfl)
theorem dX1_addBreakdown_10 : decode cX1_addBreakdown 10 = .ok (.iconst 0, 1) := dk_3 (dk_at dksX1_addBreakdown_0 10 rfl rfl)
theorem dX1_addBreakdown_11 : decode cX1_addBreakdown 11 = .ok (.sipush 400, 3) := dk_17 1 144 (dk_at dksX1_addBreakdown_0 11 rfl rfl)
theorem dX1_addBreakdown_14 : decode cX1_addBreakdown 14 = .ok (.invokestatic 3, 3) := dk_184 0 3 (dk_at dksX1_addBreakdown_0 14 rfl rfl)
theorem dX1_addBreakdown_17 : decode cX1_addBreakdown 17 = .ok (.ifCond .eq 17, 3) := dk_153 0 17 (dk_at dksX1_addBreakdown_0 17 rfl rfl)
theorem dX1_addBreakdown_20 : decode cX1_addBreakdown 20 = .ok (.iload_n 3, 1) := dk_29 (dk_at dksX1_addBreakdown_0 20 rfl rfl)
theorem dX1_addBreakdown_21 : decode cX1_addBreakdown 21 = .ok (.iconst 1, 1) := dk_4 (dk_at dksX1_addBreakdown_0 21 rfl rfl)
theorem dX1_addBreakdown_22 : decode cX1_addBreakdown 22 = .ok (.bipush 60, 2) := dk_16 60 (dk_at dksX1_addBreakdown_0 22 rfl rfl)
theorem dX1_addBreakdown_24 : decode cX1_addBreakdown 24 = .ok (.invokestatic 3, 3) := dk_184 0 3 (dk_at dksX1_addBreakdown_1 0 rfl rfl)
theorem dX1_addBreakdown_27 : decode cX1_addBreakdown 27 = .ok (.ifCond .eq 7, 3) := dk_153 0 7 (dk_at dksX1_addBreakdown_1 3 rfl rfl)
theorem dX1_addBreakdown_30 : decode cX1_addBreakdown 30 = .ok (.iconst 1, 1) := dk_4 (dk_at dksX1_addBreakdown_1 6 rfl rfl)
theorem dX1_addBreakdown_31 : decode cX1_addBreakdown 31 = .ok (.goto 4, 3) := dk_167 0 4 (dk_at dksX1_addBreakdown_1 7 rfl rfl)
theorem dX1_addBreakdown_34 : decode cX1_addBreakdown 34 = .ok (.iconst 0, 1) := dk_3 (dk_at dksX1_addBreakdown_1 10 rfl rfl)
theorem dX1_addBreakdown_35 : decode cX1_addBreakdown 35 = .ok (.invokestatic 80, 3) := dk_184 0 80 (dk_at dksX1_addBreakdown_1 11 rfl rfl)
theorem dX1_addBreakdown_38 : decode cX1_addBreakdown 38 = .ok (.aload_n 0, 1) := dk_42 (dk_at dksX1_addBreakdown_1 14 rfl rfl)
theorem dX1_addBreakdown_39 : decode cX1_addBreakdown 39 = .ok (.getfield 16, 3) := dk_180 0 16 (dk_at dksX1_addBreakdown_1 15 rfl rfl)
theorem dX1_addBreakdown_42 : decode cX1_addBreakdown 42 = .ok (.getfield 119, 3) := dk_180 0 119 (dk_at dksX1_addBreakdown_1 18 rfl rfl)
theorem dX1_addBreakdown_45 : decode cX1_addBreakdown 45 = .ok (.iload_n 1, 1) := dk_27 (dk_at dksX1_addBreakdown_1 21 rfl rfl)
theorem dX1_addBreakdown_46 : decode cX1_addBreakdown 46 = .ok (.invokevirtual 53, 3) := dk_182 0 53 (dk_at dksX1_addBreakdown_2 0 rfl rfl)
theorem dX1_addBreakdown_49 : decode cX1_addBreakdown 49 = .ok (.checkcast 44, 3) := dk_192 0 44 (dk_at dksX1_addBreakdown_2 3 rfl rfl)
theorem dX1_addBreakdown_52 : decode cX1_addBreakdown 52 = .ok (.astore 4, 2) := dk_58 4 (dk_at dksX1_addBreakdown_2 6 rfl rfl)
theorem dX1_addBreakdown_54 : decode cX1_addBreakdown 54 = .ok (.aload 4, 2) := dk_25 4 (dk_at dksX1_addBreakdown_2 8 rfl rfl)
theorem dX1_addBreakdown_56 : decode cX1_addBreakdown 56 = .ok (.invokevirtual 43, 3) := dk_182 0 43 (dk_at dksX1_addBreakdown_2 10 rfl rfl)
theorem dX1_addBreakdown_59 : decode cX1_addBreakdown 59 = .ok (.iconst 3, 1) := dk_6 (dk_at dksX1_addBreakdown_2 13 rfl rfl)
theorem dX1_addBreakdown_60 : decode cX1_addBreakdown 60 = .ok (.if_icmp .ge 7, 3) := dk_162 0 7 (dk_at dksX1_addBreakdown_2 14 rfl rfl)
theorem dX1_addBreakdown_63 : decode cX1_addBreakdown 63 = .ok (.iconst 1, 1) := dk_4 (dk_at dksX1_addBreakdown_2 17 rfl rfl)
theorem dX1_addBreakdown_64 : decode cX1_addBreakdown 64 = .ok (.goto 4, 3) := dk_167 0 4 (dk_at dksX1_addBreakdown_2 18 rfl rfl)
theorem dX1_addBreakdown_67 : decode cX1_addBreakdown 67 = .ok (.iconst 0, 1) := dk_3 (dk_at dksX1_addBreakdown_2 21 rfl rfl)
theorem dX1_addBreakdown_68 : decode cX1_addBreakdown 68 = .ok (.invokestatic 83, 3) := dk_184 0 83 (dk_at dksX1_addBreakdown_3 0 rfl rfl)
theorem dX1_addBreakdown_71 : decode cX1_addBreakdown 71 = .ok (.aload 4, 2) := dk_25 4 (dk_at dksX1_addBreakdown_3 3 rfl rfl)
theorem dX1_addBreakdown_73 : decode cX1_addBreakdown 73 = .ok (.new 122, 3) := dk_187 0 122 (dk_at dksX1_addBreakdown_3 5 rfl rfl)
theorem dX1_addBreakdown_76 : decode cX1_addBreakdown 76 = .ok (.dup, 1) := dk_89 (dk_at dksX1_addBreakdown_3 8 rfl rfl)
theorem dX1_addBreakdown_77 : decode cX1_addBreakdown 77 = .ok (.iload_n 2, 1) := dk_28 (dk_at dksX1_addBreakdown_3 9 rfl rfl)
theorem dX1_addBreakdown_78 : decode cX1_addBreakdown 78 = .ok (.iload_n 3, 1) := dk_29 (dk_at dksX1_addBreakdown_3 10 rfl rfl)
theorem dX1_addBreakdown_79 : decode cX1_addBreakdown 79 = .ok (.invokespecial 124, 3) := dk_183 0 124 (dk_at dksX1_addBreakdown_3 11 rfl rfl)
theorem dX1_addBreakdown_82 : decode cX1_addBreakdown 82 = .ok (.invokevirtual 89, 3) := dk_182 0 89 (dk_at dksX1_addBreakdown_3 14 rfl rfl)
theorem dX1_addBreakdown_85 : decode cX1_addBreakdown 85 = .ok (.pop, 1) := dk_87 (dk_at dksX1_addBreakdown_3 17 rfl rfl)
theorem dX1_addBreakdown_86 : decode cX1_addBreakdown 86 = .ok (.aload 4, 2) := dk_25 4 (dk_at dksX1_addBreakdown_3 18 rfl rfl)
theorem dX1_addBreakdown_88 : decode cX1_addBreakdown 88 = .ok (.invokevirtual 43, 3) := dk_182 0 43 (dk_at dksX1_addBreakdown_3 20 rfl rfl)
theorem dX1_addBreakdown_91 : decode cX1_addBreakdown 91 = .ok (.ireturn, 1) := dk_172 (dk_at dksX1_addBreakdown_3 23 rfl rfl)
abbrev cX1_clearBreakdowns : ByteArray := prog_1_method_18_code
def yX1_clearBreakdowns : MethodName := ⟨RX1, "clearBreakdowns", "(I)I"⟩
def dkwX1_clearBreakdowns_1 : List UInt8 := [182, 0, 43, 61, 42, 180, 0, 16, 180, 0, 119, 27, 182, 0, 53, 192, 0, 44, 182, 0, 127, 28, 172]
abbrev dktX1_clearBreakdowns_1 : List UInt8 := dkwX1_clearBreakdowns_1 ++ []
def dkwX1_clearBreakdowns_0 : List UInt8 := [27, 3, 6, 184, 0, 3, 184, 0, 49, 42, 180, 0, 16, 180, 0, 119, 27, 182, 0, 53, 192, 0, 44]
abbrev dktX1_clearBreakdowns_0 : List UInt8 := dkwX1_clearBreakdowns_0 ++ dktX1_clearBreakdowns_1
theorem dksX1_clearBreakdowns_0 : cX1_clearBreakdowns.data.toList.drop 0 = dktX1_clearBreakdowns_0 := by decide +kernel
theorem dksX1_clearBreakdowns_1 : cX1_clearBreakdowns.data.toList.drop 23 = dktX1_clearBreakdowns_1 := dk_seg dksX1_clearBreakdowns_0 23 rfl rfl
theorem dX1_clearBreakdowns_0 : decode cX1_clearBreakdowns 0 = .ok (.iload_n 1, 1) := dk_27 (dk_at dksX1_clearBreakdowns_0 0 rfl rfl)
theorem dX1_clearBreakdowns_1 : decode cX1_clearBreakdowns 1 = .ok (.iconst 0, 1) := dk_3 (dk_at dksX1_clearBreakdowns_0 1 rfl rfl)
theorem dX1_clearBreakdowns_2 : decode cX1_clearBreakdowns 2 = .ok (.iconst 3, 1) := dk_6 (dk_at dksX1_clearBreakdowns_0 2 rfl rfl)
theorem dX1_clearBreakdowns_3 : decode cX1_clearBreakdowns 3 = .ok (.invokestatic 3, 3) := dk_184 0 3 (dk_at dksX1_clearBreakdowns_0 3 rfl rfl)
theorem dX1_clearBreakdowns_6 : decode cX1_clearBreakdowns 6 = .ok (.invokestatic 49, 3) := dk_184 0 49 (dk_at dksX1_clearBreakdowns_0 6 rfl rfl)
theorem dX1_clearBreakdowns_9 : decode cX1_clearBreakdowns 9 = .ok (.aload_n 0, 1) := dk_42 (dk_at dksX1_clearBreakdowns_0 9 rfl rfl)
theorem dX1_clearBreakdowns_10 : decode cX1_clearBreakdowns 10 = .ok (.getfield 16, 3) := dk_180 0 16 (dk_at dksX1_clearBreakdowns_0 10 rfl rfl)
theorem dX1_clearBreakdowns_13 : decode cX1_clearBreakdowns 13 = .ok (.getfield 119, 3) := dk_180 0 119 (dk_at dksX1_clearBreakdowns_0 13 rfl rfl)
theorem dX1_clearBreakdowns_16 : decode cX1_clearBreakdowns 16 = .ok (.iload_n 1, 1) := dk_27 (dk_at dksX1_clearBreakdowns_0 16 rfl rfl)
theorem dX1_clearBreakdowns_17 : decode cX1_clearBreakdowns 17 = .ok (.invokevirtual 53, 3) := dk_182 0 53 (dk_at dksX1_clearBreakdowns_0 17 rfl rfl)
theorem dX1_clearBreakdowns_20 : decode cX1_clearBreakdowns 20 = .ok (.checkcast 44, 3) := dk_192 0 44 (dk_at dksX1_clearBreakdowns_0 20 rfl rfl)
theorem dX1_clearBreakdowns_23 : decode cX1_clearBreakdowns 23 = .ok (.invokevirtual 43, 3) := dk_182 0 43 (dk_at dksX1_clearBreakdowns_1 0 rfl rfl)
theorem dX1_clearBreakdowns_26 : decode cX1_clearBreakdowns 26 = .ok (.istore_n 2, 1) := dk_61 (dk_at dksX1_clearBreakdowns_1 3 rfl rfl)
theorem dX1_clearBreakdowns_27 : decode cX1_clearBreakdowns 27 = .ok (.aload_n 0, 1) := dk_42 (dk_at dksX1_clearBreakdowns_1 4 rfl rfl)
theorem dX1_clearBreakdowns_28 : decode cX1_clearBreakdowns 28 = .ok (.getfield 16, 3) := dk_180 0 16 (dk_at dksX1_clearBreakdowns_1 5 rfl rfl)
theorem dX1_clearBreakdowns_31 : decode cX1_clearBreakdowns 31 = .ok (.getfield 119, 3) := dk_180 0 119 (dk_at dksX1_clearBreakdowns_1 8 rfl rfl)
theorem dX1_clearBreakdowns_34 : decode cX1_clearBreakdowns 34 = .ok (.iload_n 1, 1) := dk_27 (dk_at dksX1_clearBreakdowns_1 11 rfl rfl)
theorem dX1_clearBreakdowns_35 : decode cX1_clearBreakdowns 35 = .ok (.invokevirtual 53, 3) := dk_182 0 53 (dk_at dksX1_clearBreakdowns_1 12 rfl rfl)
theorem dX1_clearBreakdowns_38 : decode cX1_clearBreakdowns 38 = .ok (.checkcast 44, 3) := dk_192 0 44 (dk_at dksX1_clearBreakdowns_1 15 rfl rfl)
theorem dX1_clearBreakdowns_41 : decode cX1_clearBreakdowns 41 = .ok (.invokevirtual 127, 3) := dk_182 0 127 (dk_at dksX1_clearBreakdowns_1 18 rfl rfl)
theorem dX1_clearBreakdowns_44 : decode cX1_clearBreakdowns 44 = .ok (.iload_n 2, 1) := dk_28 (dk_at dksX1_clearBreakdowns_1 21 rfl rfl)
theorem dX1_clearBreakdowns_45 : decode cX1_clearBreakdowns 45 = .ok (.ireturn, 1) := dk_172 (dk_at dksX1_clearBreakdowns_1 22 rfl rfl)
abbrev cX1_count : ByteArray := prog_1_method_19_code
def yX1_count : MethodName := ⟨RX1, "count", "(I)I"⟩
def dkwX1_count_1 : List UInt8 := [167, 0, 13, 42, 180, 0, 16, 180, 0, 59, 182, 0, 43, 172]
abbrev dktX1_count_1 : List UInt8 := dkwX1_count_1 ++ []
def dkwX1_count_0 : List UInt8 := [27, 3, 4, 184, 0, 3, 184, 0, 80, 27, 154, 0, 16, 42, 180, 0, 16, 180, 0, 39, 182, 0, 43]
abbrev dktX1_count_0 : List UInt8 := dkwX1_count_0 ++ dktX1_count_1
theorem dksX1_count_0 : cX1_count.data.toList.drop 0 = dktX1_count_0 := by decide +kernel
theorem dksX1_count_1 : cX1_count.data.toList.drop 23 = dktX1_count_1 := dk_seg dksX1_count_0 23 rfl rfl
theorem dX1_count_0 : decode cX1_count 0 = .ok (.iload_n 1, 1) := dk_27 (dk_at dksX1_count_0 0 rfl rfl)
theorem dX1_count_1 : decode cX1_count 1 = .ok (.iconst 0, 1) := dk_3 (dk_at dksX1_count_0 1 rfl rfl)
theorem dX1_count_2 : decode cX1_count 2 = .ok (.iconst 1, 1) := dk_4 (dk_at dksX1_count_0 2 rfl rfl)
theorem dX1_count_3 : decode cX1_count 3 = .ok (.invokestatic 3, 3) := dk_184 0 3 (dk_at dksX1_count_0 3 rfl rfl)
theorem dX1_count_6 : decode cX1_count 6 = .ok (.invokestatic 80, 3) := dk_184 0 80 (dk_at dksX1_count_0 6 rfl rfl)
theorem dX1_count_9 : decode cX1_count 9 = .ok (.iload_n 1, 1) := dk_27 (dk_at dksX1_count_0 9 rfl rfl)
theorem dX1_count_10 : decode cX1_count 10 = .ok (.ifCond .ne 16, 3) := dk_154 0 16 (dk_at dksX1_count_0 10 rfl rfl)
theorem dX1_count_13 : decode cX1_count 13 = .ok (.aload_n 0, 1) := dk_42 (dk_at dksX1_count_0 13 rfl rfl)
theorem dX1_count_14 : decode cX1_count 14 = .ok (.getfield 16, 3) := dk_180 0 16 (dk_at dksX1_count_0 14 rfl rfl)
theorem dX1_count_17 : decode cX1_count 17 = .ok (.getfield 39, 3) := dk_180 0 39 (dk_at dksX1_count_0 17 rfl rfl)
theorem dX1_count_20 : decode cX1_count 20 = .ok (.invokevirtual 43, 3) := dk_182 0 43 (dk_at dksX1_count_0 20 rfl rfl)
theorem dX1_count_23 : decode cX1_count 23 = .ok (.goto 13, 3) := dk_167 0 13 (dk_at dksX1_count_1 0 rfl rfl)
theorem dX1_count_26 : decode cX1_count 26 = .ok (.aload_n 0, 1) := dk_42 (dk_at dksX1_count_1 3 rfl rfl)
theorem dX1_count_27 : decode cX1_count 27 = .ok (.getfield 16, 3) := dk_180 0 16 (dk_at dksX1_count_1 4 rfl rfl)
theorem dX1_count_30 : decode cX1_count 30 = .ok (.getfield 59, 3) := dk_180 0 59 (dk_at dksX1_count_1 7 rfl rfl)
theorem dX1_count_33 : decode cX1_count 33 = .ok (.invokevirtual 43, 3) := dk_182 0 43 (dk_at dksX1_count_1 10 rfl rfl)
theorem dX1_count_36 : decode cX1_count 36 = .ok (.ireturn, 1) := dk_172 (dk_at dksX1_count_1 13 rfl rfl)
abbrev cX1_property : ByteArray := prog_1_method_20_code
def yX1_property : MethodName := ⟨RX1, "property", "(II)I"⟩
def dkwX1_property_4 : List UInt8 := [187, 0, 27, 89, 183, 0, 29, 191]
abbrev dktX1_property_4 : List UInt8 := dkwX1_property_4 ++ []
def dkwX1_property_3 : List UInt8 := [172, 42, 180, 0, 16, 180, 0, 64, 45, 180, 0, 133, 182, 0, 53, 192, 0, 67, 27, 182, 0, 142, 172]
abbrev dktX1_property_3 : List UInt8 := dkwX1_property_3 ++ dktX1_property_4
def dkwX1_property_2 : List UInt8 := [45, 180, 0, 130, 172, 45, 180, 0, 133, 172, 45, 180, 0, 113, 172, 45, 180, 0, 136, 172, 45, 180, 0, 139]
abbrev dktX1_property_2 : List UInt8 := dkwX1_property_2 ++ dktX1_property_3
def dkwX1_property_1 : List UInt8 := [170, 0, 0, 0, 84, 0, 0, 0, 0, 0, 0, 0, 5, 0, 0, 0, 37, 0, 0, 0, 42, 0, 0, 0, 47, 0, 0, 0, 52, 0, 0, 0, 57, 0, 0, 0, 62]
abbrev dktX1_property_1 : List UInt8 := dkwX1_property_1 ++ dktX1_property_2
def dkwX1_property_0 : List UInt8 := [42, 27, 182, 0, 109, 78, 28]
abbrev dktX1_property_0 : List UInt8 := dkwX1_property_0 ++ dktX1_property_1
theorem dksX1_property_0 : cX1_property.data.toList.drop 0 = dktX1_property_0 := by decide +kernel
theorem dksX1_property_1 : cX1_property.data.toList.drop 7 = dktX1_property_1 := dk_seg dksX1_property_0 7 rfl rfl
theorem dksX1_property_2 : cX1_property.data.toList.drop 44 = dktX1_property_2 := dk_seg dksX1_property_1 37 rfl rfl
theorem dksX1_property_3 : cX1_property.data.toList.drop 68 = dktX1_property_3 := dk_seg dksX1_property_2 24 rfl rfl
theorem dksX1_property_4 : cX1_property.data.toList.drop 91 = dktX1_property_4 := dk_seg dksX1_property_3 23 rfl rfl
theorem dX1_property_0 : decode cX1_property 0 = .ok (.aload_n 0, 1) := dk_42 (dk_at dksX1_property_0 0 rfl rfl)
theorem dX1_property_1 : decode cX1_property 1 = .ok (.iload_n 1, 1) := dk_27 (dk_at dksX1_property_0 1 rfl rfl)
theorem dX1_property_2 : decode cX1_property 2 = .ok (.invokevirtual 109, 3) := dk_182 0 109 (dk_at dksX1_property_0 2 rfl rfl)
theorem dX1_property_5 : decode cX1_property 5 = .ok (.astore_n 3, 1) := dk_78 (dk_at dksX1_property_0 5 rfl rfl)
theorem dX1_property_6 : decode cX1_property 6 = .ok (.iload_n 2, 1) := dk_28 (dk_at dksX1_property_0 6 rfl rfl)
theorem dX1_property_7 : decode cX1_property 7 = .ok (.tableswitch 84 0 5 #[37, 42, 47, 52, 57, 62], 37) := by decide +kernel
theorem dX1_property_44 : decode cX1_property 44 = .ok (.aload_n 3, 1) := dk_45 (dk_at dksX1_property_2 0 rfl rfl)
theorem dX1_property_45 : decode cX1_property 45 = .ok (.getfield 130, 3) := dk_180 0 130 (dk_at dksX1_property_2 1 rfl rfl)
theorem dX1_property_48 : decode cX1_property 48 = .ok (.ireturn, 1) := dk_172 (dk_at dksX1_property_2 4 rfl rfl)
theorem dX1_property_49 : decode cX1_property 49 = .ok (.aload_n 3, 1) := dk_45 (dk_at dksX1_property_2 5 rfl rfl)
theorem dX1_property_50 : decode cX1_property 50 = .ok (.getfield 133, 3) := dk_180 0 133 (dk_at dksX1_property_2 6 rfl rfl)
theorem dX1_property_53 : decode cX1_property 53 = .ok (.ireturn, 1) := dk_172 (dk_at dksX1_property_2 9 rfl rfl)
theorem dX1_property_54 : decode cX1_property 54 = .ok (.aload_n 3, 1) := dk_45 (dk_at dksX1_property_2 10 rfl rfl)
theorem dX1_property_55 : decode cX1_property 55 = .ok (.getfield 113, 3) := dk_180 0 113 (dk_at dksX1_property_2 11 rfl rfl)
theorem dX1_property_58 : decode cX1_property 58 = .ok (.ireturn, 1) := dk_172 (dk_at dksX1_property_2 14 rfl rfl)
theorem dX1_property_59 : decode cX1_property 59 = .ok (.aload_n 3, 1) := dk_45 (dk_at dksX1_property_2 15 rfl rfl)
theorem dX1_property_60 : decode cX1_property 60 = .ok (.getfield 136, 3) := dk_180 0 136 (dk_at dksX1_property_2 16 rfl rfl)
theorem dX1_property_63 : decode cX1_property 63 = .ok (.ireturn, 1) := dk_172 (dk_at dksX1_property_2 19 rfl rfl)
theorem dX1_property_64 : decode cX1_property 64 = .ok (.aload_n 3, 1) := dk_45 (dk_at dksX1_property_2 20 rfl rfl)
theorem dX1_property_65 : decode cX1_property 65 = .ok (.getfield 139, 3) := dk_180 0 139 (dk_at dksX1_property_2 21 rfl rfl)
theorem dX1_property_68 : decode cX1_property 68 = .ok (.ireturn, 1) := dk_172 (dk_at dksX1_property_3 0 rfl rfl)
theorem dX1_property_69 : decode cX1_property 69 = .ok (.aload_n 0, 1) := dk_42 (dk_at dksX1_property_3 1 rfl rfl)
theorem dX1_property_70 : decode cX1_property 70 = .ok (.getfield 16, 3) := dk_180 0 16 (dk_at dksX1_property_3 2 rfl rfl)
theorem dX1_property_73 : decode cX1_property 73 = .ok (.getfield 64, 3) := dk_180 0 64 (dk_at dksX1_property_3 5 rfl rfl)
theorem dX1_property_76 : decode cX1_property 76 = .ok (.aload_n 3, 1) := dk_45 (dk_at dksX1_property_3 8 rfl rfl)
theorem dX1_property_77 : decode cX1_property 77 = .ok (.getfield 133, 3) := dk_180 0 133 (dk_at dksX1_property_3 9 rfl rfl)
theorem dX1_property_80 : decode cX1_property 80 = .ok (.invokevirtual 53, 3) := dk_182 0 53 (dk_at dksX1_property_3 12 rfl rfl)
theorem dX1_property_83 : decode cX1_property 83 = .ok (.checkcast 67, 3) := dk_192 0 67 (dk_at dksX1_property_3 15 rfl rfl)
theorem dX1_property_86 : decode cX1_property 86 = .ok (.iload_n 1, 1) := dk_27 (dk_at dksX1_property_3 18 rfl rfl)
theorem dX1_property_87 : decode cX1_property 87 = .ok (.invokevirtual 142, 3) := dk_182 0 142 (dk_at dksX1_property_3 19 rfl rfl)
theorem dX1_property_90 : decode cX1_property 90 = .ok (.ireturn, 1) := dk_172 (dk_at dksX1_property_3 22 rfl rfl)
theorem dX1_property_91 : decode cX1_property 91 = .ok (.new 27, 3) := dk_187 0 27 (dk_at dksX1_property_4 0 rfl rfl)
theorem dX1_property_94 : decode cX1_property 94 = .ok (.dup, 1) := dk_89 (dk_at dksX1_property_4 3 rfl rfl)
theorem dX1_property_95 : decode cX1_property 95 = .ok (.invokespecial 29, 3) := dk_183 0 29 (dk_at dksX1_property_4 4 rfl rfl)
theorem dX1_property_98 : decode cX1_property 98 = .ok (.athrow, 1) := dk_191 (dk_at dksX1_property_4 7 rfl rfl)
abbrev cX1_order : ByteArray := prog_1_method_21_code
def yX1_order : MethodName := ⟨RX1, "order", "(II)I"⟩
def dkwX1_order_1 : List UInt8 := [28, 46, 172]
abbrev dktX1_order_1 : List UInt8 := dkwX1_order_1 ++ []
def dkwX1_order_0 : List UInt8 := [42, 27, 182, 0, 146, 78, 28, 3, 45, 180, 0, 150, 4, 100, 184, 0, 3, 184, 0, 152, 45, 180, 0, 155]
abbrev dktX1_order_0 : List UInt8 := dkwX1_order_0 ++ dktX1_order_1
theorem dksX1_order_0 : cX1_order.data.toList.drop 0 = dktX1_order_0 := by decide +kernel
theorem dksX1_order_1 : cX1_order.data.toList.drop 24 = dktX1_order_1 := dk_seg dksX1_order_0 24 rfl rfl
theorem dX1_order_0 : decode cX1_order 0 = .ok (.aload_n 0, 1) := dk_42 (dk_at dksX1_order_0 0 rfl rfl)
theorem dX1_order_1 : decode cX1_order 1 = .ok (.iload_n 1, 1) := dk_27 (dk_at dksX1_order_0 1 rfl rfl)
theorem dX1_order_2 : decode cX1_order 2 = .ok (.invokevirtual 146, 3) := dk_182 0 146 (dk_at dksX1_order_0 2 rfl rfl)
theorem dX1_order_5 : decode cX1_order 5 = .ok (.astore_n 3, 1) := dk_78 (dk_at dksX1_order_0 5 rfl rfl)
theorem dX1_order_6 : decode cX1_order 6 = .ok (.iload_n 2, 1) := dk_28 (dk_at dksX1_order_0 6 rfl rfl)
theorem dX1_order_7 : decode cX1_order 7 = .ok (.iconst 0, 1) := dk_3 (dk_at dksX1_order_0 7 rfl rfl)
theorem dX1_order_8 : decode cX1_order 8 = .ok (.aload_n 3, 1) := dk_45 (dk_at dksX1_order_0 8 rfl rfl)
theorem dX1_order_9 : decode cX1_order 9 = .ok (.getfield 150, 3) := dk_180 0 150 (dk_at dksX1_order_0 9 rfl rfl)
theorem dX1_order_12 : decode cX1_order 12 = .ok (.iconst 1, 1) := dk_4 (dk_at dksX1_order_0 12 rfl rfl)
theorem dX1_order_13 : decode cX1_order 13 = .ok (.isub, 1) := dk_100 (dk_at dksX1_order_0 13 rfl rfl)
theorem dX1_order_14 : decode cX1_order 14 = .ok (.invokestatic 3, 3) := dk_184 0 3 (dk_at dksX1_order_0 14 rfl rfl)
theorem dX1_order_17 : decode cX1_order 17 = .ok (.invokestatic 152, 3) := dk_184 0 152 (dk_at dksX1_order_0 17 rfl rfl)
theorem dX1_order_20 : decode cX1_order 20 = .ok (.aload_n 3, 1) := dk_45 (dk_at dksX1_order_0 20 rfl rfl)
theorem dX1_order_21 : decode cX1_order 21 = .ok (.getfield 155, 3) := dk_180 0 155 (dk_at dksX1_order_0 21 rfl rfl)
theorem dX1_order_24 : decode cX1_order 24 = .ok (.iload_n 2, 1) := dk_28 (dk_at dksX1_order_1 0 rfl rfl)
theorem dX1_order_25 : decode cX1_order 25 = .ok (.iaload, 1) := dk_46 (dk_at dksX1_order_1 1 rfl rfl)
theorem dX1_order_26 : decode cX1_order 26 = .ok (.ireturn, 1) := dk_172 (dk_at dksX1_order_1 2 rfl rfl)
abbrev cX1_orderOf : ByteArray := prog_1_method_10_code
def yX1_orderOf : MethodName := ⟨RX1, "orderOf", "(I)LSetupJobShop$Order;"⟩
def dkwX1_orderOf_0 : List UInt8 := [27, 3, 6, 184, 0, 3, 184, 0, 49, 42, 180, 0, 16, 180, 0, 64, 27, 182, 0, 53, 192, 0, 67, 176]
abbrev dktX1_orderOf_0 : List UInt8 := dkwX1_orderOf_0 ++ []
theorem dksX1_orderOf_0 : cX1_orderOf.data.toList.drop 0 = dktX1_orderOf_0 := by decide +kernel
theorem dX1_orderOf_0 : decode cX1_orderOf 0 = .ok (.iload_n 1, 1) := dk_27 (dk_at dksX1_orderOf_0 0 rfl rfl)
theorem dX1_orderOf_1 : decode cX1_orderOf 1 = .ok (.iconst 0, 1) := dk_3 (dk_at dksX1_orderOf_0 1 rfl rfl)
theorem dX1_orderOf_2 : decode cX1_orderOf 2 = .ok (.iconst 3, 1) := dk_6 (dk_at dksX1_orderOf_0 2 rfl rfl)
theorem dX1_orderOf_3 : decode cX1_orderOf 3 = .ok (.invokestatic 3, 3) := dk_184 0 3 (dk_at dksX1_orderOf_0 3 rfl rfl)
theorem dX1_orderOf_6 : decode cX1_orderOf 6 = .ok (.invokestatic 49, 3) := dk_184 0 49 (dk_at dksX1_orderOf_0 6 rfl rfl)
theorem dX1_orderOf_9 : decode cX1_orderOf 9 = .ok (.aload_n 0, 1) := dk_42 (dk_at dksX1_orderOf_0 9 rfl rfl)
theorem dX1_orderOf_10 : decode cX1_orderOf 10 = .ok (.getfield 16, 3) := dk_180 0 16 (dk_at dksX1_orderOf_0 10 rfl rfl)
theorem dX1_orderOf_13 : decode cX1_orderOf 13 = .ok (.getfield 64, 3) := dk_180 0 64 (dk_at dksX1_orderOf_0 13 rfl rfl)
theorem dX1_orderOf_16 : decode cX1_orderOf 16 = .ok (.iload_n 1, 1) := dk_27 (dk_at dksX1_orderOf_0 16 rfl rfl)
theorem dX1_orderOf_17 : decode cX1_orderOf 17 = .ok (.invokevirtual 53, 3) := dk_182 0 53 (dk_at dksX1_orderOf_0 17 rfl rfl)
theorem dX1_orderOf_20 : decode cX1_orderOf 20 = .ok (.checkcast 67, 3) := dk_192 0 67 (dk_at dksX1_orderOf_0 20 rfl rfl)
theorem dX1_orderOf_23 : decode cX1_orderOf 23 = .ok (.areturn, 1) := dk_176 (dk_at dksX1_orderOf_0 23 rfl rfl)
abbrev cX1_checkElement : ByteArray := prog_1_method_6_code
def yX1_checkElement : MethodName := ⟨RX1, "checkElement", "(Z)V"⟩
def dkwX1_checkElement_0 : List UInt8 := [26, 154, 0, 11, 187, 0, 33, 89, 183, 0, 35, 191, 177]
abbrev dktX1_checkElement_0 : List UInt8 := dkwX1_checkElement_0 ++ []
theorem dksX1_checkElement_0 : cX1_checkElement.data.toList.drop 0 = dktX1_checkElement_0 := by decide +kernel
theorem dX1_checkElement_0 : decode cX1_checkElement 0 = .ok (.iload_n 0, 1) := dk_26 (dk_at dksX1_checkElement_0 0 rfl rfl)
theorem dX1_checkElement_1 : decode cX1_checkElement 1 = .ok (.ifCond .ne 11, 3) := dk_154 0 11 (dk_at dksX1_checkElement_0 1 rfl rfl)
theorem dX1_checkElement_4 : decode cX1_checkElement 4 = .ok (.new 33, 3) := dk_187 0 33 (dk_at dksX1_checkElement_0 4 rfl rfl)
theorem dX1_checkElement_7 : decode cX1_checkElement 7 = .ok (.dup, 1) := dk_89 (dk_at dksX1_checkElement_0 7 rfl rfl)
theorem dX1_checkElement_8 : decode cX1_checkElement 8 = .ok (.invokespecial 35, 3) := dk_183 0 35 (dk_at dksX1_checkElement_0 8 rfl rfl)
theorem dX1_checkElement_11 : decode cX1_checkElement 11 = .ok (.athrow, 1) := dk_191 (dk_at dksX1_checkElement_0 11 rfl rfl)
theorem dX1_checkElement_12 : decode cX1_checkElement 12 = .ok (.return_, 1) := dk_177 (dk_at dksX1_checkElement_0 12 rfl rfl)
abbrev cX1_time : ByteArray := prog_1_method_22_code
def yX1_time : MethodName := ⟨RX1, "time", "(II)I"⟩
def dkwX1_time_2 : List UInt8 := [27, 46, 167, 0, 12, 42, 180, 0, 16, 180, 0, 167, 27, 46, 172]
abbrev dktX1_time_2 : List UInt8 := dkwX1_time_2 ++ []
def dkwX1_time_1 : List UInt8 := [42, 180, 0, 16, 180, 0, 161, 27, 46, 167, 0, 29, 28, 4, 160, 0, 15, 42, 180, 0, 16, 180, 0, 164]
abbrev dktX1_time_1 : List UInt8 := dkwX1_time_1 ++ dktX1_time_2
def dkwX1_time_0 : List UInt8 := [42, 27, 182, 0, 109, 87, 28, 3, 5, 184, 0, 3, 184, 0, 80, 42, 182, 0, 158, 87, 28, 154, 0, 15]
abbrev dktX1_time_0 : List UInt8 := dkwX1_time_0 ++ dktX1_time_1
theorem dksX1_time_0 : cX1_time.data.toList.drop 0 = dktX1_time_0 := by decide +kernel
theorem dksX1_time_1 : cX1_time.data.toList.drop 24 = dktX1_time_1 := dk_seg dksX1_time_0 24 rfl rfl
theorem dksX1_time_2 : cX1_time.data.toList.drop 48 = dktX1_time_2 := dk_seg dksX1_time_1 24 rfl rfl
theorem dX1_time_0 : decode cX1_time 0 = .ok (.aload_n 0, 1) := dk_42 (dk_at dksX1_time_0 0 rfl rfl)
theorem dX1_time_1 : decode cX1_time 1 = .ok (.iload_n 1, 1) := dk_27 (dk_at dksX1_time_0 1 rfl rfl)
theorem dX1_time_2 : decode cX1_time 2 = .ok (.invokevirtual 109, 3) := dk_182 0 109 (dk_at dksX1_time_0 2 rfl rfl)
theorem dX1_time_5 : decode cX1_time 5 = .ok (.pop, 1) := dk_87 (dk_at dksX1_time_0 5 rfl rfl)
theorem dX1_time_6 : decode cX1_time 6 = .ok (.iload_n 2, 1) := dk_28 (dk_at dksX1_time_0 6 rfl rfl)
theorem dX1_time_7 : decode cX1_time 7 = .ok (.iconst 0, 1) := dk_3 (dk_at dksX1_time_0 7 rfl rfl)
theorem dX1_time_8 : decode cX1_time 8 = .ok (.iconst 2, 1) := dk_5 (dk_at dksX1_time_0 8 rfl rfl)
theorem dX1_time_9 : decode cX1_time 9 = .ok (.invokestatic 3, 3) := dk_184 0 3 (dk_at dksX1_time_0 9 rfl rfl)
theorem dX1_time_12 : decode cX1_time 12 = .ok (.invokestatic 80, 3) := dk_184 0 80 (dk_at dksX1_time_0 12 rfl rfl)
theorem dX1_time_15 : decode cX1_time 15 = .ok (.aload_n 0, 1) := dk_42 (dk_at dksX1_time_0 15 rfl rfl)
theorem dX1_time_16 : decode cX1_time 16 = .ok (.invokevirtual 158, 3) := dk_182 0 158 (dk_at dksX1_time_0 16 rfl rfl)
theorem dX1_time_19 : decode cX1_time 19 = .ok (.pop, 1) := dk_87 (dk_at dksX1_time_0 19 rfl rfl)
theorem dX1_time_20 : decode cX1_time 20 = .ok (.iload_n 2, 1) := dk_28 (dk_at dksX1_time_0 20 rfl rfl)
theorem dX1_time_21 : decode cX1_time 21 = .ok (.ifCond .ne 15, 3) := dk_154 0 15 (dk_at dksX1_time_0 21 rfl rfl)
theorem dX1_time_24 : decode cX1_time 24 = .ok (.aload_n 0, 1) := dk_42 (dk_at dksX1_time_1 0 rfl rfl)
theorem dX1_time_25 : decode cX1_time 25 = .ok (.getfield 16, 3) := dk_180 0 16 (dk_at dksX1_time_1 1 rfl rfl)
theorem dX1_time_28 : decode cX1_time 28 = .ok (.getfield 161, 3) := dk_180 0 161 (dk_at dksX1_time_1 4 rfl rfl)
theorem dX1_time_31 : decode cX1_time 31 = .ok (.iload_n 1, 1) := dk_27 (dk_at dksX1_time_1 7 rfl rfl)
theorem dX1_time_32 : decode cX1_time 32 = .ok (.iaload, 1) := dk_46 (dk_at dksX1_time_1 8 rfl rfl)
theorem dX1_time_33 : decode cX1_time 33 = .ok (.goto 29, 3) := dk_167 0 29 (dk_at dksX1_time_1 9 rfl rfl)
theorem dX1_time_36 : decode cX1_time 36 = .ok (.iload_n 2, 1) := dk_28 (dk_at dksX1_time_1 12 rfl rfl)
theorem dX1_time_37 : decode cX1_time 37 = .ok (.iconst 1, 1) := dk_4 (dk_at dksX1_time_1 13 rfl rfl)
theorem dX1_time_38 : decode cX1_time 38 = .ok (.if_icmp .ne 15, 3) := dk_160 0 15 (dk_at dksX1_time_1 14 rfl rfl)
theorem dX1_time_41 : decode cX1_time 41 = .ok (.aload_n 0, 1) := dk_42 (dk_at dksX1_time_1 17 rfl rfl)
theorem dX1_time_42 : decode cX1_time 42 = .ok (.getfield 16, 3) := dk_180 0 16 (dk_at dksX1_time_1 18 rfl rfl)
theorem dX1_time_45 : decode cX1_time 45 = .ok (.getfield 164, 3) := dk_180 0 164 (dk_at dksX1_time_1 21 rfl rfl)
theorem dX1_time_48 : decode cX1_time 48 = .ok (.iload_n 1, 1) := dk_27 (dk_at dksX1_time_2 0 rfl rfl)
theorem dX1_time_49 : decode cX1_time 49 = .ok (.iaload, 1) := dk_46 (dk_at dksX1_time_2 1 rfl rfl)
theorem dX1_time_50 : decode cX1_time 50 = .ok (.goto 12, 3) := dk_167 0 12 (dk_at dksX1_time_2 2 rfl rfl)
theorem dX1_time_53 : decode cX1_time 53 = .ok (.aload_n 0, 1) := dk_42 (dk_at dksX1_time_2 5 rfl rfl)
theorem dX1_time_54 : decode cX1_time 54 = .ok (.getfield 16, 3) := dk_180 0 16 (dk_at dksX1_time_2 6 rfl rfl)
theorem dX1_time_57 : decode cX1_time 57 = .ok (.getfield 167, 3) := dk_180 0 167 (dk_at dksX1_time_2 9 rfl rfl)
theorem dX1_time_60 : decode cX1_time 60 = .ok (.iload_n 1, 1) := dk_27 (dk_at dksX1_time_2 12 rfl rfl)
theorem dX1_time_61 : decode cX1_time 61 = .ok (.iaload, 1) := dk_46 (dk_at dksX1_time_2 13 rfl rfl)
theorem dX1_time_62 : decode cX1_time 62 = .ok (.ireturn, 1) := dk_172 (dk_at dksX1_time_2 14 rfl rfl)
abbrev cX1_slack : ByteArray := prog_1_method_24_code
def yX1_slack : MethodName := ⟨RX1, "slack", "(I)I"⟩
def dkwX1_slack_2 : List UInt8 := [132, 4, 255, 167, 255, 232, 21, 4, 172]
abbrev dktX1_slack_2 : List UInt8 := dkwX1_slack_2 ++ []
def dkwX1_slack_1 : List UInt8 := [54, 4, 21, 4, 158, 0, 25, 42, 180, 0, 16, 27, 29, 21, 4, 96, 182, 0, 170, 28, 159, 0, 9]
abbrev dktX1_slack_1 : List UInt8 := dkwX1_slack_1 ++ dktX1_slack_2
def dkwX1_slack_0 : List UInt8 := [42, 27, 182, 0, 109, 87, 42, 182, 0, 158, 61, 42, 180, 0, 16, 180, 0, 164, 27, 46, 62, 16, 60]
abbrev dktX1_slack_0 : List UInt8 := dkwX1_slack_0 ++ dktX1_slack_1
theorem dksX1_slack_0 : cX1_slack.data.toList.drop 0 = dktX1_slack_0 := by decide +kernel
theorem dksX1_slack_1 : cX1_slack.data.toList.drop 23 = dktX1_slack_1 := dk_seg dksX1_slack_0 23 rfl rfl
theorem dksX1_slack_2 : cX1_slack.data.toList.drop 46 = dktX1_slack_2 := dk_seg dksX1_slack_1 23 rfl rfl
theorem dX1_slack_0 : decode cX1_slack 0 = .ok (.aload_n 0, 1) := dk_42 (dk_at dksX1_slack_0 0 rfl rfl)
theorem dX1_slack_1 : decode cX1_slack 1 = .ok (.iload_n 1, 1) := dk_27 (dk_at dksX1_slack_0 1 rfl rfl)
theorem dX1_slack_2 : decode cX1_slack 2 = .ok (.invokevirtual 109, 3) := dk_182 0 109 (dk_at dksX1_slack_0 2 rfl rfl)
theorem dX1_slack_5 : decode cX1_slack 5 = .ok (.pop, 1) := dk_87 (dk_at dksX1_slack_0 5 rfl rfl)
theorem dX1_slack_6 : decode cX1_slack 6 = .ok (.aload_n 0, 1) := dk_42 (dk_at dksX1_slack_0 6 rfl rfl)
theorem dX1_slack_7 : decode cX1_slack 7 = .ok (.invokevirtual 158, 3) := dk_182 0 158 (dk_at dksX1_slack_0 7 rfl rfl)
theorem dX1_slack_10 : decode cX1_slack 10 = .ok (.istore_n 2, 1) := dk_61 (dk_at dksX1_slack_0 10 rfl rfl)
theorem dX1_slack_11 : decode cX1_slack 11 = .ok (.aload_n 0, 1) := dk_42 (dk_at dksX1_slack_0 11 rfl rfl)
theorem dX1_slack_12 : decode cX1_slack 12 = .ok (.getfield 16, 3) := dk_180 0 16 (dk_at dksX1_slack_0 12 rfl rfl)
theorem dX1_slack_15 : decode cX1_slack 15 = .ok (.getfield 164, 3) := dk_180 0 164 (dk_at dksX1_slack_0 15 rfl rfl)
theorem dX1_slack_18 : decode cX1_slack 18 = .ok (.iload_n 1, 1) := dk_27 (dk_at dksX1_slack_0 18 rfl rfl)
theorem dX1_slack_19 : decode cX1_slack 19 = .ok (.iaload, 1) := dk_46 (dk_at dksX1_slack_0 19 rfl rfl)
theorem dX1_slack_20 : decode cX1_slack 20 = .ok (.istore_n 3, 1) := dk_62 (dk_at dksX1_slack_0 20 rfl rfl)
theorem dX1_slack_21 : decode cX1_slack 21 = .ok (.bipush 60, 2) := dk_16 60 (dk_at dksX1_slack_0 21 rfl rfl)
theorem dX1_slack_23 : decode cX1_slack 23 = .ok (.istore 4, 2) := dk_54 4 (dk_at dksX1_slack_1 0 rfl rfl)
theorem dX1_slack_25 : decode cX1_slack 25 = .ok (.iload 4, 2) := dk_21 4 (dk_at dksX1_slack_1 2 rfl rfl)
theorem dX1_slack_27 : decode cX1_slack 27 = .ok (.ifCond .le 25, 3) := dk_158 0 25 (dk_at dksX1_slack_1 4 rfl rfl)
theorem dX1_slack_30 : decode cX1_slack 30 = .ok (.aload_n 0, 1) := dk_42 (dk_at dksX1_slack_1 7 rfl rfl)
theorem dX1_slack_31 : decode cX1_slack 31 = .ok (.getfield 16, 3) := dk_180 0 16 (dk_at dksX1_slack_1 8 rfl rfl)
theorem dX1_slack_34 : decode cX1_slack 34 = .ok (.iload_n 1, 1) := dk_27 (dk_at dksX1_slack_1 11 rfl rfl)
theorem dX1_slack_35 : decode cX1_slack 35 = .ok (.iload_n 3, 1) := dk_29 (dk_at dksX1_slack_1 12 rfl rfl)
theorem dX1_slack_36 : decode cX1_slack 36 = .ok (.iload 4, 2) := dk_21 4 (dk_at dksX1_slack_1 13 rfl rfl)
theorem dX1_slack_38 : decode cX1_slack 38 = .ok (.iadd, 1) := dk_96 (dk_at dksX1_slack_1 15 rfl rfl)
theorem dX1_slack_39 : decode cX1_slack 39 = .ok (.invokevirtual 170, 3) := dk_182 0 170 (dk_at dksX1_slack_1 16 rfl rfl)
theorem dX1_slack_42 : decode cX1_slack 42 = .ok (.iload_n 2, 1) := dk_28 (dk_at dksX1_slack_1 19 rfl rfl)
theorem dX1_slack_43 : decode cX1_slack 43 = .ok (.if_icmp .eq 9, 3) := dk_159 0 9 (dk_at dksX1_slack_1 20 rfl rfl)
theorem dX1_slack_46 : decode cX1_slack 46 = .ok (.iinc 4 (-1), 3) := dk_132 4 255 (dk_at dksX1_slack_2 0 rfl rfl)
theorem dX1_slack_49 : decode cX1_slack 49 = .ok (.goto (-24), 3) := dk_167 255 232 (dk_at dksX1_slack_2 3 rfl rfl)
theorem dX1_slack_52 : decode cX1_slack 52 = .ok (.iload 4, 2) := dk_21 4 (dk_at dksX1_slack_2 6 rfl rfl)
theorem dX1_slack_54 : decode cX1_slack 54 = .ok (.ireturn, 1) := dk_172 (dk_at dksX1_slack_2 8 rfl rfl)
abbrev cX1_completion : ByteArray := prog_1_method_25_code
def yX1_completion : MethodName := ⟨RX1, "completion", "(I)I"⟩
def dkwX1_completion_0 : List UInt8 := [42, 27, 182, 0, 101, 87, 42, 182, 0, 158, 87, 42, 180, 0, 16, 27, 182, 0, 174, 172]
abbrev dktX1_completion_0 : List UInt8 := dkwX1_completion_0 ++ []
theorem dksX1_completion_0 : cX1_completion.data.toList.drop 0 = dktX1_completion_0 := by decide +kernel
theorem dX1_completion_0 : decode cX1_completion 0 = .ok (.aload_n 0, 1) := dk_42 (dk_at dksX1_completion_0 0 rfl rfl)
theorem dX1_completion_1 : decode cX1_completion 1 = .ok (.iload_n 1, 1) := dk_27 (dk_at dksX1_completion_0 1 rfl rfl)
theorem dX1_completion_2 : decode cX1_completion 2 = .ok (.invokevirtual 101, 3) := dk_182 0 101 (dk_at dksX1_completion_0 2 rfl rfl)
theorem dX1_completion_5 : decode cX1_completion 5 = .ok (.pop, 1) := dk_87 (dk_at dksX1_completion_0 5 rfl rfl)
theorem dX1_completion_6 : decode cX1_completion 6 = .ok (.aload_n 0, 1) := dk_42 (dk_at dksX1_completion_0 6 rfl rfl)
theorem dX1_completion_7 : decode cX1_completion 7 = .ok (.invokevirtual 158, 3) := dk_182 0 158 (dk_at dksX1_completion_0 7 rfl rfl)
theorem dX1_completion_10 : decode cX1_completion 10 = .ok (.pop, 1) := dk_87 (dk_at dksX1_completion_0 10 rfl rfl)
theorem dX1_completion_11 : decode cX1_completion 11 = .ok (.aload_n 0, 1) := dk_42 (dk_at dksX1_completion_0 11 rfl rfl)
theorem dX1_completion_12 : decode cX1_completion 12 = .ok (.getfield 16, 3) := dk_180 0 16 (dk_at dksX1_completion_0 12 rfl rfl)
theorem dX1_completion_15 : decode cX1_completion 15 = .ok (.iload_n 1, 1) := dk_27 (dk_at dksX1_completion_0 15 rfl rfl)
theorem dX1_completion_16 : decode cX1_completion 16 = .ok (.invokevirtual 174, 3) := dk_182 0 174 (dk_at dksX1_completion_0 16 rfl rfl)
theorem dX1_completion_19 : decode cX1_completion 19 = .ok (.ireturn, 1) := dk_172 (dk_at dksX1_completion_0 19 rfl rfl)
abbrev cX1_objective : ByteArray := prog_1_method_28_code
def yX1_objective : MethodName := ⟨RX1, "objective", "(I)I"⟩
def dkwX1_objective_1 : List UInt8 := [167, 0, 22, 27, 6, 160, 0, 13, 42, 180, 0, 16, 182, 0, 186, 167, 0, 7, 42, 182, 0, 189, 172]
abbrev dktX1_objective_1 : List UInt8 := dkwX1_objective_1 ++ []
def dkwX1_objective_0 : List UInt8 := [27, 3, 7, 184, 0, 3, 184, 0, 80, 42, 182, 0, 158, 87, 27, 6, 162, 0, 11, 42, 27, 182, 0, 183]
abbrev dktX1_objective_0 : List UInt8 := dkwX1_objective_0 ++ dktX1_objective_1
theorem dksX1_objective_0 : cX1_objective.data.toList.drop 0 = dktX1_objective_0 := by decide +kernel
theorem dksX1_objective_1 : cX1_objective.data.toList.drop 24 = dktX1_objective_1 := dk_seg dksX1_objective_0 24 rfl rfl
theorem dX1_objective_0 : decode cX1_objective 0 = .ok (.iload_n 1, 1) := dk_27 (dk_at dksX1_objective_0 0 rfl rfl)
theorem dX1_objective_1 : decode cX1_objective 1 = .ok (.iconst 0, 1) := dk_3 (dk_at dksX1_objective_0 1 rfl rfl)
theorem dX1_objective_2 : decode cX1_objective 2 = .ok (.iconst 4, 1) := dk_7 (dk_at dksX1_objective_0 2 rfl rfl)
theorem dX1_objective_3 : decode cX1_objective 3 = .ok (.invokestatic 3, 3) := dk_184 0 3 (dk_at dksX1_objective_0 3 rfl rfl)
theorem dX1_objective_6 : decode cX1_objective 6 = .ok (.invokestatic 80, 3) := dk_184 0 80 (dk_at dksX1_objective_0 6 rfl rfl)
theorem dX1_objective_9 : decode cX1_objective 9 = .ok (.aload_n 0, 1) := dk_42 (dk_at dksX1_objective_0 9 rfl rfl)
theorem dX1_objective_10 : decode cX1_objective 10 = .ok (.invokevirtual 158, 3) := dk_182 0 158 (dk_at dksX1_objective_0 10 rfl rfl)
theorem dX1_objective_13 : decode cX1_objective 13 = .ok (.pop, 1) := dk_87 (dk_at dksX1_objective_0 13 rfl rfl)
theorem dX1_objective_14 : decode cX1_objective 14 = .ok (.iload_n 1, 1) := dk_27 (dk_at dksX1_objective_0 14 rfl rfl)
theorem dX1_objective_15 : decode cX1_objective 15 = .ok (.iconst 3, 1) := dk_6 (dk_at dksX1_objective_0 15 rfl rfl)
theorem dX1_objective_16 : decode cX1_objective 16 = .ok (.if_icmp .ge 11, 3) := dk_162 0 11 (dk_at dksX1_objective_0 16 rfl rfl)
theorem dX1_objective_19 : decode cX1_objective 19 = .ok (.aload_n 0, 1) := dk_42 (dk_at dksX1_objective_0 19 rfl rfl)
theorem dX1_objective_20 : decode cX1_objective 20 = .ok (.iload_n 1, 1) := dk_27 (dk_at dksX1_objective_0 20 rfl rfl)
theorem dX1_objective_21 : decode cX1_objective 21 = .ok (.invokevirtual 183, 3) := dk_182 0 183 (dk_at dksX1_objective_0 21 rfl rfl)
theorem dX1_objective_24 : decode cX1_objective 24 = .ok (.goto 22, 3) := dk_167 0 22 (dk_at dksX1_objective_1 0 rfl rfl)
theorem dX1_objective_27 : decode cX1_objective 27 = .ok (.iload_n 1, 1) := dk_27 (dk_at dksX1_objective_1 3 rfl rfl)
theorem dX1_objective_28 : decode cX1_objective 28 = .ok (.iconst 3, 1) := dk_6 (dk_at dksX1_objective_1 4 rfl rfl)
theorem dX1_objective_29 : decode cX1_objective 29 = .ok (.if_icmp .ne 13, 3) := dk_160 0 13 (dk_at dksX1_objective_1 5 rfl rfl)
theorem dX1_objective_32 : decode cX1_objective 32 = .ok (.aload_n 0, 1) := dk_42 (dk_at dksX1_objective_1 8 rfl rfl)
theorem dX1_objective_33 : decode cX1_objective 33 = .ok (.getfield 16, 3) := dk_180 0 16 (dk_at dksX1_objective_1 9 rfl rfl)
theorem dX1_objective_36 : decode cX1_objective 36 = .ok (.invokevirtual 186, 3) := dk_182 0 186 (dk_at dksX1_objective_1 12 rfl rfl)
theorem dX1_objective_39 : decode cX1_objective 39 = .ok (.goto 7, 3) := dk_167 0 7 (dk_at dksX1_objective_1 15 rfl rfl)
theorem dX1_objective_42 : decode cX1_objective 42 = .ok (.aload_n 0, 1) := dk_42 (dk_at dksX1_objective_1 18 rfl rfl)
theorem dX1_objective_43 : decode cX1_objective 43 = .ok (.invokevirtual 189, 3) := dk_182 0 189 (dk_at dksX1_objective_1 19 rfl rfl)
theorem dX1_objective_46 : decode cX1_objective 46 = .ok (.ireturn, 1) := dk_172 (dk_at dksX1_objective_1 22 rfl rfl)
abbrev cX1_ofJobs : ByteArray := prog_1_method_26_code
def yX1_ofJobs : MethodName := ⟨RX1, "ofJobs", "(I)I"⟩
def dkwX1_ofJobs_3 : List UInt8 := [167, 0, 13, 21, 4, 158, 0, 7, 4, 167, 0, 4, 3, 96, 61, 132, 3, 1, 167, 255, 173, 28, 172]
abbrev dktX1_ofJobs_3 : List UInt8 := dkwX1_ofJobs_3 ++ []
def dkwX1_ofJobs_2 : List UInt8 := [160, 0, 26, 42, 180, 0, 16, 180, 0, 39, 29, 182, 0, 53, 192, 0, 57, 182, 0, 180, 21, 4, 104]
abbrev dktX1_ofJobs_2 : List UInt8 := dkwX1_ofJobs_2 ++ dktX1_ofJobs_3
def dkwX1_ofJobs_1 : List UInt8 := [182, 0, 177, 54, 4, 28, 27, 154, 0, 14, 42, 180, 0, 16, 29, 182, 0, 174, 167, 0, 41, 27, 4]
abbrev dktX1_ofJobs_1 : List UInt8 := dkwX1_ofJobs_1 ++ dktX1_ofJobs_2
def dkwX1_ofJobs_0 : List UInt8 := [3, 61, 3, 62, 29, 42, 180, 0, 16, 180, 0, 39, 182, 0, 43, 162, 0, 75, 42, 180, 0, 16, 29]
abbrev dktX1_ofJobs_0 : List UInt8 := dkwX1_ofJobs_0 ++ dktX1_ofJobs_1
theorem dksX1_ofJobs_0 : cX1_ofJobs.data.toList.drop 0 = dktX1_ofJobs_0 := by decide +kernel
theorem dksX1_ofJobs_1 : cX1_ofJobs.data.toList.drop 23 = dktX1_ofJobs_1 := dk_seg dksX1_ofJobs_0 23 rfl rfl
theorem dksX1_ofJobs_2 : cX1_ofJobs.data.toList.drop 46 = dktX1_ofJobs_2 := dk_seg dksX1_ofJobs_1 23 rfl rfl
theorem dksX1_ofJobs_3 : cX1_ofJobs.data.toList.drop 69 = dktX1_ofJobs_3 := dk_seg dksX1_ofJobs_2 23 rfl rfl
theorem dX1_ofJobs_0 : decode cX1_ofJobs 0 = .ok (.iconst 0, 1) := dk_3 (dk_at dksX1_ofJobs_0 0 rfl rfl)
theorem dX1_ofJobs_1 : decode cX1_ofJobs 1 = .ok (.istore_n 2, 1) := dk_61 (dk_at dksX1_ofJobs_0 1 rfl rfl)
theorem dX1_ofJobs_2 : decode cX1_ofJobs 2 = .ok (.iconst 0, 1) := dk_3 (dk_at dksX1_ofJobs_0 2 rfl rfl)
theorem dX1_ofJobs_3 : decode cX1_ofJobs 3 = .ok (.istore_n 3, 1) := dk_62 (dk_at dksX1_ofJobs_0 3 rfl rfl)
theorem dX1_ofJobs_4 : decode cX1_ofJobs 4 = .ok (.iload_n 3, 1) := dk_29 (dk_at dksX1_ofJobs_0 4 rfl rfl)
theorem dX1_ofJobs_5 : decode cX1_ofJobs 5 = .ok (.aload_n 0, 1) := dk_42 (dk_at dksX1_ofJobs_0 5 rfl rfl)
theorem dX1_ofJobs_6 : decode cX1_ofJobs 6 = .ok (.getfield 16, 3) := dk_180 0 16 (dk_at dksX1_ofJobs_0 6 rfl rfl)
theorem dX1_ofJobs_9 : decode cX1_ofJobs 9 = .ok (.getfield 39, 3) := dk_180 0 39 (dk_at dksX1_ofJobs_0 9 rfl rfl)
theorem dX1_ofJobs_12 : decode cX1_ofJobs 12 = .ok (.invokevirtual 43, 3) := dk_182 0 43 (dk_at dksX1_ofJobs_0 12 rfl rfl)
theorem dX1_ofJobs_15 : decode cX1_ofJobs 15 = .ok (.if_icmp .ge 75, 3) := dk_162 0 75 (dk_at dksX1_ofJobs_0 15 rfl rfl)
theorem dX1_ofJobs_18 : decode cX1_ofJobs 18 = .ok (.aload_n 0, 1) := dk_42 (dk_at dksX1_ofJobs_0 18 rfl rfl)
theorem dX1_ofJobs_19 : decode cX1_ofJobs 19 = .ok (.getfield 16, 3) := dk_180 0 16 (dk_at dksX1_ofJobs_0 19 rfl rfl)
theorem dX1_ofJobs_22 : decode cX1_ofJobs 22 = .ok (.iload_n 3, 1) := dk_29 (dk_at dksX1_ofJobs_0 22 rfl rfl)
theorem dX1_ofJobs_23 : decode cX1_ofJobs 23 = .ok (.invokevirtual 177, 3) := dk_182 0 177 (dk_at dksX1_ofJobs_1 0 rfl rfl)
theorem dX1_ofJobs_26 : decode cX1_ofJobs 26 = .ok (.istore 4, 2) := dk_54 4 (dk_at dksX1_ofJobs_1 3 rfl rfl)
theorem dX1_ofJobs_28 : decode cX1_ofJobs 28 = .ok (.iload_n 2, 1) := dk_28 (dk_at dksX1_ofJobs_1 5 rfl rfl)
theorem dX1_ofJobs_29 : decode cX1_ofJobs 29 = .ok (.iload_n 1, 1) := dk_27 (dk_at dksX1_ofJobs_1 6 rfl rfl)
theorem dX1_ofJobs_30 : decode cX1_ofJobs 30 = .ok (.ifCond .ne 14, 3) := dk_154 0 14 (dk_at dksX1_ofJobs_1 7 rfl rfl)
theorem dX1_ofJobs_33 : decode cX1_ofJobs 33 = .ok (.aload_n 0, 1) := dk_42 (dk_at dksX1_ofJobs_1 10 rfl rfl)
theorem dX1_ofJobs_34 : decode cX1_ofJobs 34 = .ok (.getfield 16, 3) := dk_180 0 16 (dk_at dksX1_ofJobs_1 11 rfl rfl)
theorem dX1_ofJobs_37 : decode cX1_ofJobs 37 = .ok (.iload_n 3, 1) := dk_29 (dk_at dksX1_ofJobs_1 14 rfl rfl)
theorem dX1_ofJobs_38 : decode cX1_ofJobs 38 = .ok (.invokevirtual 174, 3) := dk_182 0 174 (dk_at dksX1_ofJobs_1 15 rfl rfl)
theorem dX1_ofJobs_41 : decode cX1_ofJobs 41 = .ok (.goto 41, 3) := dk_167 0 41 (dk_at dksX1_ofJobs_1 18 rfl rfl)
theorem dX1_ofJobs_44 : decode cX1_ofJobs 44 = .ok (.iload_n 1, 1) := dk_27 (dk_at dksX1_ofJobs_1 21 rfl rfl)
theorem dX1_ofJobs_45 : decode cX1_ofJobs 45 = .ok (.iconst 1, 1) := dk_4 (dk_at dksX1_ofJobs_1 22 rfl rfl)
theorem dX1_ofJobs_46 : decode cX1_ofJobs 46 = .ok (.if_icmp .ne 26, 3) := dk_160 0 26 (dk_at dksX1_ofJobs_2 0 rfl rfl)
theorem dX1_ofJobs_49 : decode cX1_ofJobs 49 = .ok (.aload_n 0, 1) := dk_42 (dk_at dksX1_ofJobs_2 3 rfl rfl)
theorem dX1_ofJobs_50 : decode cX1_ofJobs 50 = .ok (.getfield 16, 3) := dk_180 0 16 (dk_at dksX1_ofJobs_2 4 rfl rfl)
theorem dX1_ofJobs_53 : decode cX1_ofJobs 53 = .ok (.getfield 39, 3) := dk_180 0 39 (dk_at dksX1_ofJobs_2 7 rfl rfl)
theorem dX1_ofJobs_56 : decode cX1_ofJobs 56 = .ok (.iload_n 3, 1) := dk_29 (dk_at dksX1_ofJobs_2 10 rfl rfl)
theorem dX1_ofJobs_57 : decode cX1_ofJobs 57 = .ok (.invokevirtual 53, 3) := dk_182 0 53 (dk_at dksX1_ofJobs_2 11 rfl rfl)
theorem dX1_ofJobs_60 : decode cX1_ofJobs 60 = .ok (.checkcast 57, 3) := dk_192 0 57 (dk_at dksX1_ofJobs_2 14 rfl rfl)
theorem dX1_ofJobs_63 : decode cX1_ofJobs 63 = .ok (.invokevirtual 180, 3) := dk_182 0 180 (dk_at dksX1_ofJobs_2 17 rfl rfl)
theorem dX1_ofJobs_66 : decode cX1_ofJobs 66 = .ok (.iload 4, 2) := dk_21 4 (dk_at dksX1_ofJobs_2 20 rfl rfl)
theorem dX1_ofJobs_68 : decode cX1_ofJobs 68 = .ok (.imul, 1) := dk_104 (dk_at dksX1_ofJobs_2 22 rfl rfl)
theorem dX1_ofJobs_69 : decode cX1_ofJobs 69 = .ok (.goto 13, 3) := dk_167 0 13 (dk_at dksX1_ofJobs_3 0 rfl rfl)
theorem dX1_ofJobs_72 : decode cX1_ofJobs 72 = .ok (.iload 4, 2) := dk_21 4 (dk_at dksX1_ofJobs_3 3 rfl rfl)
theorem dX1_ofJobs_74 : decode cX1_ofJobs 74 = .ok (.ifCond .le 7, 3) := dk_158 0 7 (dk_at dksX1_ofJobs_3 5 rfl rfl)
theorem dX1_ofJobs_77 : decode cX1_ofJobs 77 = .ok (.iconst 1, 1) := dk_4 (dk_at dksX1_ofJobs_3 8 rfl rfl)
theorem dX1_ofJobs_78 : decode cX1_ofJobs 78 = .ok (.goto 4, 3) := dk_167 0 4 (dk_at dksX1_ofJobs_3 9 rfl rfl)
theorem dX1_ofJobs_81 : decode cX1_ofJobs 81 = .ok (.iconst 0, 1) := dk_3 (dk_at dksX1_ofJobs_3 12 rfl rfl)
theorem dX1_ofJobs_82 : decode cX1_ofJobs 82 = .ok (.iadd, 1) := dk_96 (dk_at dksX1_ofJobs_3 13 rfl rfl)
theorem dX1_ofJobs_83 : decode cX1_ofJobs 83 = .ok (.istore_n 2, 1) := dk_61 (dk_at dksX1_ofJobs_3 14 rfl rfl)
theorem dX1_ofJobs_84 : decode cX1_ofJobs 84 = .ok (.iinc 3 1, 3) := dk_132 3 1 (dk_at dksX1_ofJobs_3 15 rfl rfl)
theorem dX1_ofJobs_87 : decode cX1_ofJobs 87 = .ok (.goto (-83), 3) := dk_167 255 173 (dk_at dksX1_ofJobs_3 18 rfl rfl)
theorem dX1_ofJobs_90 : decode cX1_ofJobs 90 = .ok (.iload_n 2, 1) := dk_28 (dk_at dksX1_ofJobs_3 21 rfl rfl)
theorem dX1_ofJobs_91 : decode cX1_ofJobs 91 = .ok (.ireturn, 1) := dk_172 (dk_at dksX1_ofJobs_3 22 rfl rfl)
abbrev cX1_allWaiting : ByteArray := prog_1_method_27_code
def yX1_allWaiting : MethodName := ⟨RX1, "allWaiting", "()I"⟩
def dkwX1_allWaiting_2 : List UInt8 := [172]
abbrev dktX1_allWaiting_2 : List UInt8 := dkwX1_allWaiting_2 ++ []
def dkwX1_allWaiting_1 : List UInt8 := [180, 0, 164, 28, 46, 42, 180, 0, 16, 180, 0, 161, 28, 46, 100, 96, 60, 132, 2, 1, 167, 255, 217, 27]
abbrev dktX1_allWaiting_1 : List UInt8 := dkwX1_allWaiting_1 ++ dktX1_allWaiting_2
def dkwX1_allWaiting_0 : List UInt8 := [3, 60, 3, 61, 28, 42, 180, 0, 16, 180, 0, 59, 182, 0, 43, 162, 0, 31, 27, 42, 180, 0, 16]
abbrev dktX1_allWaiting_0 : List UInt8 := dkwX1_allWaiting_0 ++ dktX1_allWaiting_1
theorem dksX1_allWaiting_0 : cX1_allWaiting.data.toList.drop 0 = dktX1_allWaiting_0 := by decide +kernel
theorem dksX1_allWaiting_1 : cX1_allWaiting.data.toList.drop 23 = dktX1_allWaiting_1 := dk_seg dksX1_allWaiting_0 23 rfl rfl
theorem dksX1_allWaiting_2 : cX1_allWaiting.data.toList.drop 47 = dktX1_allWaiting_2 := dk_seg dksX1_allWaiting_1 24 rfl rfl
theorem dX1_allWaiting_0 : decode cX1_allWaiting 0 = .ok (.iconst 0, 1) := dk_3 (dk_at dksX1_allWaiting_0 0 rfl rfl)
theorem dX1_allWaiting_1 : decode cX1_allWaiting 1 = .ok (.istore_n 1, 1) := dk_60 (dk_at dksX1_allWaiting_0 1 rfl rfl)
theorem dX1_allWaiting_2 : decode cX1_allWaiting 2 = .ok (.iconst 0, 1) := dk_3 (dk_at dksX1_allWaiting_0 2 rfl rfl)
theorem dX1_allWaiting_3 : decode cX1_allWaiting 3 = .ok (.istore_n 2, 1) := dk_61 (dk_at dksX1_allWaiting_0 3 rfl rfl)
theorem dX1_allWaiting_4 : decode cX1_allWaiting 4 = .ok (.iload_n 2, 1) := dk_28 (dk_at dksX1_allWaiting_0 4 rfl rfl)
theorem dX1_allWaiting_5 : decode cX1_allWaiting 5 = .ok (.aload_n 0, 1) := dk_42 (dk_at dksX1_allWaiting_0 5 rfl rfl)
theorem dX1_allWaiting_6 : decode cX1_allWaiting 6 = .ok (.getfield 16, 3) := dk_180 0 16 (dk_at dksX1_allWaiting_0 6 rfl rfl)
theorem dX1_allWaiting_9 : decode cX1_allWaiting 9 = .ok (.getfield 59, 3) := dk_180 0 59 (dk_at dksX1_allWaiting_0 9 rfl rfl)
theorem dX1_allWaiting_12 : decode cX1_allWaiting 12 = .ok (.invokevirtual 43, 3) := dk_182 0 43 (dk_at dksX1_allWaiting_0 12 rfl rfl)
theorem dX1_allWaiting_15 : decode cX1_allWaiting 15 = .ok (.if_icmp .ge 31, 3) := dk_162 0 31 (dk_at dksX1_allWaiting_0 15 rfl rfl)
theorem dX1_allWaiting_18 : decode cX1_allWaiting 18 = .ok (.iload_n 1, 1) := dk_27 (dk_at dksX1_allWaiting_0 18 rfl rfl)
theorem dX1_allWaiting_19 : decode cX1_allWaiting 19 = .ok (.aload_n 0, 1) := dk_42 (dk_at dksX1_allWaiting_0 19 rfl rfl)
theorem dX1_allWaiting_20 : decode cX1_allWaiting 20 = .ok (.getfield 16, 3) := dk_180 0 16 (dk_at dksX1_allWaiting_0 20 rfl rfl)
theorem dX1_allWaiting_23 : decode cX1_allWaiting 23 = .ok (.getfield 164, 3) := dk_180 0 164 (dk_at dksX1_allWaiting_1 0 rfl rfl)
theorem dX1_allWaiting_26 : decode cX1_allWaiting 26 = .ok (.iload_n 2, 1) := dk_28 (dk_at dksX1_allWaiting_1 3 rfl rfl)
theorem dX1_allWaiting_27 : decode cX1_allWaiting 27 = .ok (.iaload, 1) := dk_46 (dk_at dksX1_allWaiting_1 4 rfl rfl)
theorem dX1_allWaiting_28 : decode cX1_allWaiting 28 = .ok (.aload_n 0, 1) := dk_42 (dk_at dksX1_allWaiting_1 5 rfl rfl)
theorem dX1_allWaiting_29 : decode cX1_allWaiting 29 = .ok (.getfield 16, 3) := dk_180 0 16 (dk_at dksX1_allWaiting_1 6 rfl rfl)
theorem dX1_allWaiting_32 : decode cX1_allWaiting 32 = .ok (.getfield 161, 3) := dk_180 0 161 (dk_at dksX1_allWaiting_1 9 rfl rfl)
theorem dX1_allWaiting_35 : decode cX1_allWaiting 35 = .ok (.iload_n 2, 1) := dk_28 (dk_at dksX1_allWaiting_1 12 rfl rfl)
theorem dX1_allWaiting_36 : decode cX1_allWaiting 36 = .ok (.iaload, 1) := dk_46 (dk_at dksX1_allWaiting_1 13 rfl rfl)
theorem dX1_allWaiting_37 : decode cX1_allWaiting 37 = .ok (.isub, 1) := dk_100 (dk_at dksX1_allWaiting_1 14 rfl rfl)
theorem dX1_allWaiting_38 : decode cX1_allWaiting 38 = .ok (.iadd, 1) := dk_96 (dk_at dksX1_allWaiting_1 15 rfl rfl)
theorem dX1_allWaiting_39 : decode cX1_allWaiting 39 = .ok (.istore_n 1, 1) := dk_60 (dk_at dksX1_allWaiting_1 16 rfl rfl)
theorem dX1_allWaiting_40 : decode cX1_allWaiting 40 = .ok (.iinc 2 1, 3) := dk_132 2 1 (dk_at dksX1_allWaiting_1 17 rfl rfl)
theorem dX1_allWaiting_43 : decode cX1_allWaiting 43 = .ok (.goto (-39), 3) := dk_167 255 217 (dk_at dksX1_allWaiting_1 20 rfl rfl)
theorem dX1_allWaiting_46 : decode cX1_allWaiting 46 = .ok (.iload_n 1, 1) := dk_27 (dk_at dksX1_allWaiting_1 23 rfl rfl)
theorem dX1_allWaiting_47 : decode cX1_allWaiting 47 = .ok (.ireturn, 1) := dk_172 (dk_at dksX1_allWaiting_2 0 rfl rfl)
abbrev cX1_utilization : ByteArray := prog_1_method_29_code
def yX1_utilization : MethodName := ⟨RX1, "utilization", "(I)D"⟩
def dkwX1_utilization_3 : List UInt8 := [21, 4, 135, 29, 135, 111, 175]
abbrev dktX1_utilization_3 : List UInt8 := dkwX1_utilization_3 ++ []
def dkwX1_utilization_2 : List UInt8 := [192, 0, 62, 180, 0, 113, 96, 54, 4, 132, 5, 1, 167, 255, 216, 29, 154, 0, 7, 14, 167, 0, 9]
abbrev dktX1_utilization_2 : List UInt8 := dkwX1_utilization_2 ++ dktX1_utilization_3
def dkwX1_utilization_1 : List UInt8 := [162, 0, 37, 21, 4, 42, 180, 0, 16, 180, 0, 59, 44, 180, 0, 155, 21, 5, 46, 182, 0, 53]
abbrev dktX1_utilization_1 : List UInt8 := dkwX1_utilization_1 ++ dktX1_utilization_2
def dkwX1_utilization_0 : List UInt8 := [42, 27, 182, 0, 146, 77, 42, 182, 0, 158, 62, 3, 54, 4, 3, 54, 5, 21, 5, 44, 180, 0, 150]
abbrev dktX1_utilization_0 : List UInt8 := dkwX1_utilization_0 ++ dktX1_utilization_1
theorem dksX1_utilization_0 : cX1_utilization.data.toList.drop 0 = dktX1_utilization_0 := by decide +kernel
theorem dksX1_utilization_1 : cX1_utilization.data.toList.drop 23 = dktX1_utilization_1 := dk_seg dksX1_utilization_0 23 rfl rfl
theorem dksX1_utilization_2 : cX1_utilization.data.toList.drop 45 = dktX1_utilization_2 := dk_seg dksX1_utilization_1 22 rfl rfl
theorem dksX1_utilization_3 : cX1_utilization.data.toList.drop 68 = dktX1_utilization_3 := dk_seg dksX1_utilization_2 23 rfl rfl
theorem dX1_utilization_0 : decode cX1_utilization 0 = .ok (.aload_n 0, 1) := dk_42 (dk_at dksX1_utilization_0 0 rfl rfl)
theorem dX1_utilization_1 : decode cX1_utilization 1 = .ok (.iload_n 1, 1) := dk_27 (dk_at dksX1_utilization_0 1 rfl rfl)
theorem dX1_utilization_2 : decode cX1_utilization 2 = .ok (.invokevirtual 146, 3) := dk_182 0 146 (dk_at dksX1_utilization_0 2 rfl rfl)
theorem dX1_utilization_5 : decode cX1_utilization 5 = .ok (.astore_n 2, 1) := dk_77 (dk_at dksX1_utilization_0 5 rfl rfl)
theorem dX1_utilization_6 : decode cX1_utilization 6 = .ok (.aload_n 0, 1) := dk_42 (dk_at dksX1_utilization_0 6 rfl rfl)
theorem dX1_utilization_7 : decode cX1_utilization 7 = .ok (.invokevirtual 158, 3) := dk_182 0 158 (dk_at dksX1_utilization_0 7 rfl rfl)
theorem dX1_utilization_10 : decode cX1_utilization 10 = .ok (.istore_n 3, 1) := dk_62 (dk_at dksX1_utilization_0 10 rfl rfl)
theorem dX1_utilization_11 : decode cX1_utilization 11 = .ok (.iconst 0, 1) := dk_3 (dk_at dksX1_utilization_0 11 rfl rfl)
theorem dX1_utilization_12 : decode cX1_utilization 12 = .ok (.istore 4, 2) := dk_54 4 (dk_at dksX1_utilization_0 12 rfl rfl)
theorem dX1_utilization_14 : decode cX1_utilization 14 = .ok (.iconst 0, 1) := dk_3 (dk_at dksX1_utilization_0 14 rfl rfl)
theorem dX1_utilization_15 : decode cX1_utilization 15 = .ok (.istore 5, 2) := dk_54 5 (dk_at dksX1_utilization_0 15 rfl rfl)
theorem dX1_utilization_17 : decode cX1_utilization 17 = .ok (.iload 5, 2) := dk_21 5 (dk_at dksX1_utilization_0 17 rfl rfl)
theorem dX1_utilization_19 : decode cX1_utilization 19 = .ok (.aload_n 2, 1) := dk_44 (dk_at dksX1_utilization_0 19 rfl rfl)
theorem dX1_utilization_20 : decode cX1_utilization 20 = .ok (.getfield 150, 3) := dk_180 0 150 (dk_at dksX1_utilization_0 20 rfl rfl)
theorem dX1_utilization_23 : decode cX1_utilization 23 = .ok (.if_icmp .ge 37, 3) := dk_162 0 37 (dk_at dksX1_utilization_1 0 rfl rfl)
theorem dX1_utilization_26 : decode cX1_utilization 26 = .ok (.iload 4, 2) := dk_21 4 (dk_at dksX1_utilization_1 3 rfl rfl)
theorem dX1_utilization_28 : decode cX1_utilization 28 = .ok (.aload_n 0, 1) := dk_42 (dk_at dksX1_utilization_1 5 rfl rfl)
theorem dX1_utilization_29 : decode cX1_utilization 29 = .ok (.getfield 16, 3) := dk_180 0 16 (dk_at dksX1_utilization_1 6 rfl rfl)
theorem dX1_utilization_32 : decode cX1_utilization 32 = .ok (.getfield 59, 3) := dk_180 0 59 (dk_at dksX1_utilization_1 9 rfl rfl)
theorem dX1_utilization_35 : decode cX1_utilization 35 = .ok (.aload_n 2, 1) := dk_44 (dk_at dksX1_utilization_1 12 rfl rfl)
theorem dX1_utilization_36 : decode cX1_utilization 36 = .ok (.getfield 155, 3) := dk_180 0 155 (dk_at dksX1_utilization_1 13 rfl rfl)
theorem dX1_utilization_39 : decode cX1_utilization 39 = .ok (.iload 5, 2) := dk_21 5 (dk_at dksX1_utilization_1 16 rfl rfl)
theorem dX1_utilization_41 : decode cX1_utilization 41 = .ok (.iaload, 1) := dk_46 (dk_at dksX1_utilization_1 18 rfl rfl)
theorem dX1_utilization_42 : decode cX1_utilization 42 = .ok (.invokevirtual 53, 3) := dk_182 0 53 (dk_at dksX1_utilization_1 19 rfl rfl)
theorem dX1_utilization_45 : decode cX1_utilization 45 = .ok (.checkcast 62, 3) := dk_192 0 62 (dk_at dksX1_utilization_2 0 rfl rfl)
theorem dX1_utilization_48 : decode cX1_utilization 48 = .ok (.getfield 113, 3) := dk_180 0 113 (dk_at dksX1_utilization_2 3 rfl rfl)
theorem dX1_utilization_51 : decode cX1_utilization 51 = .ok (.iadd, 1) := dk_96 (dk_at dksX1_utilization_2 6 rfl rfl)
theorem dX1_utilization_52 : decode cX1_utilization 52 = .ok (.istore 4, 2) := dk_54 4 (dk_at dksX1_utilization_2 7 rfl rfl)
theorem dX1_utilization_54 : decode cX1_utilization 54 = .ok (.iinc 5 1, 3) := dk_132 5 1 (dk_at dksX1_utilization_2 9 rfl rfl)
theorem dX1_utilization_57 : decode cX1_utilization 57 = .ok (.goto (-40), 3) := dk_167 255 216 (dk_at dksX1_utilization_2 12 rfl rfl)
theorem dX1_utilization_60 : decode cX1_utilization 60 = .ok (.iload_n 3, 1) := dk_29 (dk_at dksX1_utilization_2 15 rfl rfl)
theorem dX1_utilization_61 : decode cX1_utilization 61 = .ok (.ifCond .ne 7, 3) := dk_154 0 7 (dk_at dksX1_utilization_2 16 rfl rfl)
theorem dX1_utilization_64 : decode cX1_utilization 64 = .ok (.dconst 0, 1) := dk_14 (dk_at dksX1_utilization_2 19 rfl rfl)
theorem dX1_utilization_65 : decode cX1_utilization 65 = .ok (.goto 9, 3) := dk_167 0 9 (dk_at dksX1_utilization_2 20 rfl rfl)
theorem dX1_utilization_68 : decode cX1_utilization 68 = .ok (.iload 4, 2) := dk_21 4 (dk_at dksX1_utilization_3 0 rfl rfl)
theorem dX1_utilization_70 : decode cX1_utilization 70 = .ok (.i2d, 1) := dk_135 (dk_at dksX1_utilization_3 2 rfl rfl)
theorem dX1_utilization_71 : decode cX1_utilization 71 = .ok (.iload_n 3, 1) := dk_29 (dk_at dksX1_utilization_3 3 rfl rfl)
theorem dX1_utilization_72 : decode cX1_utilization 72 = .ok (.i2d, 1) := dk_135 (dk_at dksX1_utilization_3 4 rfl rfl)
theorem dX1_utilization_73 : decode cX1_utilization 73 = .ok (.ddiv, 1) := dk_111 (dk_at dksX1_utilization_3 5 rfl rfl)
theorem dX1_utilization_74 : decode cX1_utilization 74 = .ok (.dreturn, 1) := dk_175 (dk_at dksX1_utilization_3 6 rfl rfl)
abbrev cX1_path : ByteArray := prog_1_method_32_code
def yX1_path : MethodName := ⟨RX1, "path", "(I)I"⟩
def dkwX1_path_1 : List UInt8 := [192, 0, 62, 180, 0, 199, 172]
abbrev dktX1_path_1 : List UInt8 := dkwX1_path_1 ++ []
def dkwX1_path_0 : List UInt8 := [42, 182, 0, 196, 77, 27, 3, 44, 182, 0, 43, 4, 100, 184, 0, 3, 184, 0, 152, 44, 27, 182, 0, 53]
abbrev dktX1_path_0 : List UInt8 := dkwX1_path_0 ++ dktX1_path_1
theorem dksX1_path_0 : cX1_path.data.toList.drop 0 = dktX1_path_0 := by decide +kernel
theorem dksX1_path_1 : cX1_path.data.toList.drop 24 = dktX1_path_1 := dk_seg dksX1_path_0 24 rfl rfl
theorem dX1_path_0 : decode cX1_path 0 = .ok (.aload_n 0, 1) := dk_42 (dk_at dksX1_path_0 0 rfl rfl)
theorem dX1_path_1 : decode cX1_path 1 = .ok (.invokevirtual 196, 3) := dk_182 0 196 (dk_at dksX1_path_0 1 rfl rfl)
theorem dX1_path_4 : decode cX1_path 4 = .ok (.astore_n 2, 1) := dk_77 (dk_at dksX1_path_0 4 rfl rfl)
theorem dX1_path_5 : decode cX1_path 5 = .ok (.iload_n 1, 1) := dk_27 (dk_at dksX1_path_0 5 rfl rfl)
theorem dX1_path_6 : decode cX1_path 6 = .ok (.iconst 0, 1) := dk_3 (dk_at dksX1_path_0 6 rfl rfl)
theorem dX1_path_7 : decode cX1_path 7 = .ok (.aload_n 2, 1) := dk_44 (dk_at dksX1_path_0 7 rfl rfl)
theorem dX1_path_8 : decode cX1_path 8 = .ok (.invokevirtual 43, 3) := dk_182 0 43 (dk_at dksX1_path_0 8 rfl rfl)
theorem dX1_path_11 : decode cX1_path 11 = .ok (.iconst 1, 1) := dk_4 (dk_at dksX1_path_0 11 rfl rfl)
theorem dX1_path_12 : decode cX1_path 12 = .ok (.isub, 1) := dk_100 (dk_at dksX1_path_0 12 rfl rfl)
theorem dX1_path_13 : decode cX1_path 13 = .ok (.invokestatic 3, 3) := dk_184 0 3 (dk_at dksX1_path_0 13 rfl rfl)
theorem dX1_path_16 : decode cX1_path 16 = .ok (.invokestatic 152, 3) := dk_184 0 152 (dk_at dksX1_path_0 16 rfl rfl)
theorem dX1_path_19 : decode cX1_path 19 = .ok (.aload_n 2, 1) := dk_44 (dk_at dksX1_path_0 19 rfl rfl)
theorem dX1_path_20 : decode cX1_path 20 = .ok (.iload_n 1, 1) := dk_27 (dk_at dksX1_path_0 20 rfl rfl)
theorem dX1_path_21 : decode cX1_path 21 = .ok (.invokevirtual 53, 3) := dk_182 0 53 (dk_at dksX1_path_0 21 rfl rfl)
theorem dX1_path_24 : decode cX1_path 24 = .ok (.checkcast 62, 3) := dk_192 0 62 (dk_at dksX1_path_1 0 rfl rfl)
theorem dX1_path_27 : decode cX1_path 27 = .ok (.getfield 199, 3) := dk_180 0 199 (dk_at dksX1_path_1 3 rfl rfl)
theorem dX1_path_30 : decode cX1_path 30 = .ok (.ireturn, 1) := dk_172 (dk_at dksX1_path_1 6 rfl rfl)
abbrev cX1_blockLength : ByteArray := prog_1_method_35_code
def yX1_blockLength : MethodName := ⟨RX1, "blockLength", "(I)I"⟩
def dkwX1_blockLength_1 : List UInt8 := [192, 0, 204, 182, 0, 212, 172]
abbrev dktX1_blockLength_1 : List UInt8 := dkwX1_blockLength_1 ++ []
def dkwX1_blockLength_0 : List UInt8 := [42, 182, 0, 209, 77, 27, 3, 44, 182, 0, 43, 4, 100, 184, 0, 3, 184, 0, 152, 44, 27, 182, 0, 53]
abbrev dktX1_blockLength_0 : List UInt8 := dkwX1_blockLength_0 ++ dktX1_blockLength_1
theorem dksX1_blockLength_0 : cX1_blockLength.data.toList.drop 0 = dktX1_blockLength_0 := by decide +kernel
theorem dksX1_blockLength_1 : cX1_blockLength.data.toList.drop 24 = dktX1_blockLength_1 := dk_seg dksX1_blockLength_0 24 rfl rfl
theorem dX1_blockLength_0 : decode cX1_blockLength 0 = .ok (.aload_n 0, 1) := dk_42 (dk_at dksX1_blockLength_0 0 rfl rfl)
theorem dX1_blockLength_1 : decode cX1_blockLength 1 = .ok (.invokevirtual 209, 3) := dk_182 0 209 (dk_at dksX1_blockLength_0 1 rfl rfl)
theorem dX1_blockLength_4 : decode cX1_blockLength 4 = .ok (.astore_n 2, 1) := dk_77 (dk_at dksX1_blockLength_0 4 rfl rfl)
theorem dX1_blockLength_5 : decode cX1_blockLength 5 = .ok (.iload_n 1, 1) := dk_27 (dk_at dksX1_blockLength_0 5 rfl rfl)
theorem dX1_blockLength_6 : decode cX1_blockLength 6 = .ok (.iconst 0, 1) := dk_3 (dk_at dksX1_blockLength_0 6 rfl rfl)
theorem dX1_blockLength_7 : decode cX1_blockLength 7 = .ok (.aload_n 2, 1) := dk_44 (dk_at dksX1_blockLength_0 7 rfl rfl)
theorem dX1_blockLength_8 : decode cX1_blockLength 8 = .ok (.invokevirtual 43, 3) := dk_182 0 43 (dk_at dksX1_blockLength_0 8 rfl rfl)
theorem dX1_blockLength_11 : decode cX1_blockLength 11 = .ok (.iconst 1, 1) := dk_4 (dk_at dksX1_blockLength_0 11 rfl rfl)
theorem dX1_blockLength_12 : decode cX1_blockLength 12 = .ok (.isub, 1) := dk_100 (dk_at dksX1_blockLength_0 12 rfl rfl)
theorem dX1_blockLength_13 : decode cX1_blockLength 13 = .ok (.invokestatic 3, 3) := dk_184 0 3 (dk_at dksX1_blockLength_0 13 rfl rfl)
theorem dX1_blockLength_16 : decode cX1_blockLength 16 = .ok (.invokestatic 152, 3) := dk_184 0 152 (dk_at dksX1_blockLength_0 16 rfl rfl)
theorem dX1_blockLength_19 : decode cX1_blockLength 19 = .ok (.aload_n 2, 1) := dk_44 (dk_at dksX1_blockLength_0 19 rfl rfl)
theorem dX1_blockLength_20 : decode cX1_blockLength 20 = .ok (.iload_n 1, 1) := dk_27 (dk_at dksX1_blockLength_0 20 rfl rfl)
theorem dX1_blockLength_21 : decode cX1_blockLength 21 = .ok (.invokevirtual 53, 3) := dk_182 0 53 (dk_at dksX1_blockLength_0 21 rfl rfl)
theorem dX1_blockLength_24 : decode cX1_blockLength 24 = .ok (.checkcast 204, 3) := dk_192 0 204 (dk_at dksX1_blockLength_1 0 rfl rfl)
theorem dX1_blockLength_27 : decode cX1_blockLength 27 = .ok (.invokevirtual 212, 3) := dk_182 0 212 (dk_at dksX1_blockLength_1 3 rfl rfl)
theorem dX1_blockLength_30 : decode cX1_blockLength 30 = .ok (.ireturn, 1) := dk_172 (dk_at dksX1_blockLength_1 6 rfl rfl)
abbrev cX1_swap : ByteArray := prog_1_method_39_code
def yX1_swap : MethodName := ⟨RX1, "swap", "(II)I"⟩
def dkwX1_swap_1 : List UInt8 := [58, 4, 45, 28, 182, 0, 237, 42, 45, 25, 4, 182, 0, 241, 172]
abbrev dktX1_swap_1 : List UInt8 := dkwX1_swap_1 ++ []
def dkwX1_swap_0 : List UInt8 := [42, 27, 182, 0, 146, 78, 28, 3, 45, 180, 0, 150, 5, 100, 184, 0, 3, 184, 0, 152, 45, 184, 0, 233]
abbrev dktX1_swap_0 : List UInt8 := dkwX1_swap_0 ++ dktX1_swap_1
theorem dksX1_swap_0 : cX1_swap.data.toList.drop 0 = dktX1_swap_0 := by decide +kernel
theorem dksX1_swap_1 : cX1_swap.data.toList.drop 24 = dktX1_swap_1 := dk_seg dksX1_swap_0 24 rfl rfl
theorem dX1_swap_0 : decode cX1_swap 0 = .ok (.aload_n 0, 1) := dk_42 (dk_at dksX1_swap_0 0 rfl rfl)
theorem dX1_swap_1 : decode cX1_swap 1 = .ok (.iload_n 1, 1) := dk_27 (dk_at dksX1_swap_0 1 rfl rfl)
theorem dX1_swap_2 : decode cX1_swap 2 = .ok (.invokevirtual 146, 3) := dk_182 0 146 (dk_at dksX1_swap_0 2 rfl rfl)
theorem dX1_swap_5 : decode cX1_swap 5 = .ok (.astore_n 3, 1) := dk_78 (dk_at dksX1_swap_0 5 rfl rfl)
theorem dX1_swap_6 : decode cX1_swap 6 = .ok (.iload_n 2, 1) := dk_28 (dk_at dksX1_swap_0 6 rfl rfl)
theorem dX1_swap_7 : decode cX1_swap 7 = .ok (.iconst 0, 1) := dk_3 (dk_at dksX1_swap_0 7 rfl rfl)
theorem dX1_swap_8 : decode cX1_swap 8 = .ok (.aload_n 3, 1) := dk_45 (dk_at dksX1_swap_0 8 rfl rfl)
theorem dX1_swap_9 : decode cX1_swap 9 = .ok (.getfield 150, 3) := dk_180 0 150 (dk_at dksX1_swap_0 9 rfl rfl)
theorem dX1_swap_12 : decode cX1_swap 12 = .ok (.iconst 2, 1) := dk_5 (dk_at dksX1_swap_0 12 rfl rfl)
theorem dX1_swap_13 : decode cX1_swap 13 = .ok (.isub, 1) := dk_100 (dk_at dksX1_swap_0 13 rfl rfl)
theorem dX1_swap_14 : decode cX1_swap 14 = .ok (.invokestatic 3, 3) := dk_184 0 3 (dk_at dksX1_swap_0 14 rfl rfl)
theorem dX1_swap_17 : decode cX1_swap 17 = .ok (.invokestatic 152, 3) := dk_184 0 152 (dk_at dksX1_swap_0 17 rfl rfl)
theorem dX1_swap_20 : decode cX1_swap 20 = .ok (.aload_n 3, 1) := dk_45 (dk_at dksX1_swap_0 20 rfl rfl)
theorem dX1_swap_21 : decode cX1_swap 21 = .ok (.invokestatic 233, 3) := dk_184 0 233 (dk_at dksX1_swap_0 21 rfl rfl)
theorem dX1_swap_24 : decode cX1_swap 24 = .ok (.astore 4, 2) := dk_58 4 (dk_at dksX1_swap_1 0 rfl rfl)
theorem dX1_swap_26 : decode cX1_swap 26 = .ok (.aload_n 3, 1) := dk_45 (dk_at dksX1_swap_1 2 rfl rfl)
theorem dX1_swap_27 : decode cX1_swap 27 = .ok (.iload_n 2, 1) := dk_28 (dk_at dksX1_swap_1 3 rfl rfl)
theorem dX1_swap_28 : decode cX1_swap 28 = .ok (.invokevirtual 237, 3) := dk_182 0 237 (dk_at dksX1_swap_1 4 rfl rfl)
theorem dX1_swap_31 : decode cX1_swap 31 = .ok (.aload_n 0, 1) := dk_42 (dk_at dksX1_swap_1 7 rfl rfl)
theorem dX1_swap_32 : decode cX1_swap 32 = .ok (.aload_n 3, 1) := dk_45 (dk_at dksX1_swap_1 8 rfl rfl)
theorem dX1_swap_33 : decode cX1_swap 33 = .ok (.aload 4, 2) := dk_25 4 (dk_at dksX1_swap_1 9 rfl rfl)
theorem dX1_swap_35 : decode cX1_swap 35 = .ok (.invokevirtual 241, 3) := dk_182 0 241 (dk_at dksX1_swap_1 11 rfl rfl)
theorem dX1_swap_38 : decode cX1_swap 38 = .ok (.ireturn, 1) := dk_172 (dk_at dksX1_swap_1 14 rfl rfl)
abbrev cX1_copy : ByteArray := prog_1_method_38_code
def yX1_copy : MethodName := ⟨RX1, "copy", "(LSetupJobShop$Order;)LSetupJobShop$Order;"⟩
def dkwX1_copy_0 : List UInt8 := [187, 0, 67, 89, 183, 0, 232, 76, 43, 42, 182, 0, 220, 43, 176]
abbrev dktX1_copy_0 : List UInt8 := dkwX1_copy_0 ++ []
theorem dksX1_copy_0 : cX1_copy.data.toList.drop 0 = dktX1_copy_0 := by decide +kernel
theorem dX1_copy_0 : decode cX1_copy 0 = .ok (.new 67, 3) := dk_187 0 67 (dk_at dksX1_copy_0 0 rfl rfl)
theorem dX1_copy_3 : decode cX1_copy 3 = .ok (.dup, 1) := dk_89 (dk_at dksX1_copy_0 3 rfl rfl)
theorem dX1_copy_4 : decode cX1_copy 4 = .ok (.invokespecial 232, 3) := dk_183 0 232 (dk_at dksX1_copy_0 4 rfl rfl)
theorem dX1_copy_7 : decode cX1_copy 7 = .ok (.astore_n 1, 1) := dk_76 (dk_at dksX1_copy_0 7 rfl rfl)
theorem dX1_copy_8 : decode cX1_copy 8 = .ok (.aload_n 1, 1) := dk_43 (dk_at dksX1_copy_0 8 rfl rfl)
theorem dX1_copy_9 : decode cX1_copy 9 = .ok (.aload_n 0, 1) := dk_42 (dk_at dksX1_copy_0 9 rfl rfl)
theorem dX1_copy_10 : decode cX1_copy 10 = .ok (.invokevirtual 220, 3) := dk_182 0 220 (dk_at dksX1_copy_0 10 rfl rfl)
theorem dX1_copy_13 : decode cX1_copy 13 = .ok (.aload_n 1, 1) := dk_43 (dk_at dksX1_copy_0 13 rfl rfl)
theorem dX1_copy_14 : decode cX1_copy 14 = .ok (.areturn, 1) := dk_176 (dk_at dksX1_copy_0 14 rfl rfl)
abbrev cX1_settled : ByteArray := prog_1_method_37_code
def yX1_settled : MethodName := ⟨RX1, "settled", "(LSetupJobShop$Order;LSetupJobShop$Order;)I"⟩
def dkwX1_settled_1 : List UInt8 := [180, 0, 16, 180, 0, 73, 172]
abbrev dktX1_settled_1 : List UInt8 := dkwX1_settled_1 ++ []
def dkwX1_settled_0 : List UInt8 := [42, 43, 44, 182, 0, 224, 167, 0, 17, 78, 42, 45, 181, 0, 228, 187, 0, 36, 89, 183, 0, 38, 191, 42]
abbrev dktX1_settled_0 : List UInt8 := dkwX1_settled_0 ++ dktX1_settled_1
theorem dksX1_settled_0 : cX1_settled.data.toList.drop 0 = dktX1_settled_0 := by decide +kernel
theorem dksX1_settled_1 : cX1_settled.data.toList.drop 24 = dktX1_settled_1 := dk_seg dksX1_settled_0 24 rfl rfl
theorem dX1_settled_0 : decode cX1_settled 0 = .ok (.aload_n 0, 1) := dk_42 (dk_at dksX1_settled_0 0 rfl rfl)
theorem dX1_settled_1 : decode cX1_settled 1 = .ok (.aload_n 1, 1) := dk_43 (dk_at dksX1_settled_0 1 rfl rfl)
theorem dX1_settled_2 : decode cX1_settled 2 = .ok (.aload_n 2, 1) := dk_44 (dk_at dksX1_settled_0 2 rfl rfl)
theorem dX1_settled_3 : decode cX1_settled 3 = .ok (.invokevirtual 224, 3) := dk_182 0 224 (dk_at dksX1_settled_0 3 rfl rfl)
theorem dX1_settled_6 : decode cX1_settled 6 = .ok (.goto 17, 3) := dk_167 0 17 (dk_at dksX1_settled_0 6 rfl rfl)
theorem dX1_settled_9 : decode cX1_settled 9 = .ok (.astore_n 3, 1) := dk_78 (dk_at dksX1_settled_0 9 rfl rfl)
theorem dX1_settled_10 : decode cX1_settled 10 = .ok (.aload_n 0, 1) := dk_42 (dk_at dksX1_settled_0 10 rfl rfl)
theorem dX1_settled_11 : decode cX1_settled 11 = .ok (.aload_n 3, 1) := dk_45 (dk_at dksX1_settled_0 11 rfl rfl)
theorem dX1_settled_12 : decode cX1_settled 12 = .ok (.putfield 228, 3) := dk_181 0 228 (dk_at dksX1_settled_0 12 rfl rfl)
theorem dX1_settled_15 : decode cX1_settled 15 = .ok (.new 36, 3) := dk_187 0 36 (dk_at dksX1_settled_0 15 rfl rfl)
theorem dX1_settled_18 : decode cX1_settled 18 = .ok (.dup, 1) := dk_89 (dk_at dksX1_settled_0 18 rfl rfl)
theorem dX1_settled_19 : decode cX1_settled 19 = .ok (.invokespecial 38, 3) := dk_183 0 38 (dk_at dksX1_settled_0 19 rfl rfl)
theorem dX1_settled_22 : decode cX1_settled 22 = .ok (.athrow, 1) := dk_191 (dk_at dksX1_settled_0 22 rfl rfl)
theorem dX1_settled_23 : decode cX1_settled 23 = .ok (.aload_n 0, 1) := dk_42 (dk_at dksX1_settled_0 23 rfl rfl)
theorem dX1_settled_24 : decode cX1_settled 24 = .ok (.getfield 16, 3) := dk_180 0 16 (dk_at dksX1_settled_1 0 rfl rfl)
theorem dX1_settled_27 : decode cX1_settled 27 = .ok (.getfield 73, 3) := dk_180 0 73 (dk_at dksX1_settled_1 3 rfl rfl)
theorem dX1_settled_30 : decode cX1_settled 30 = .ok (.ireturn, 1) := dk_172 (dk_at dksX1_settled_1 6 rfl rfl)
abbrev cX1_settle : ByteArray := prog_1_method_36_code
def yX1_settle : MethodName := ⟨RX1, "settle", "(LSetupJobShop$Order;LSetupJobShop$Order;)V"⟩
def dkwX1_settle_0 : List UInt8 := [42, 180, 0, 16, 182, 0, 215, 167, 0, 11, 78, 43, 44, 182, 0, 220, 45, 191, 177]
abbrev dktX1_settle_0 : List UInt8 := dkwX1_settle_0 ++ []
theorem dksX1_settle_0 : cX1_settle.data.toList.drop 0 = dktX1_settle_0 := by decide +kernel
theorem dX1_settle_0 : decode cX1_settle 0 = .ok (.aload_n 0, 1) := dk_42 (dk_at dksX1_settle_0 0 rfl rfl)
theorem dX1_settle_1 : decode cX1_settle 1 = .ok (.getfield 16, 3) := dk_180 0 16 (dk_at dksX1_settle_0 1 rfl rfl)
theorem dX1_settle_4 : decode cX1_settle 4 = .ok (.invokevirtual 215, 3) := dk_182 0 215 (dk_at dksX1_settle_0 4 rfl rfl)
theorem dX1_settle_7 : decode cX1_settle 7 = .ok (.goto 11, 3) := dk_167 0 11 (dk_at dksX1_settle_0 7 rfl rfl)
theorem dX1_settle_10 : decode cX1_settle 10 = .ok (.astore_n 3, 1) := dk_78 (dk_at dksX1_settle_0 10 rfl rfl)
theorem dX1_settle_11 : decode cX1_settle 11 = .ok (.aload_n 1, 1) := dk_43 (dk_at dksX1_settle_0 11 rfl rfl)
theorem dX1_settle_12 : decode cX1_settle 12 = .ok (.aload_n 2, 1) := dk_44 (dk_at dksX1_settle_0 12 rfl rfl)
theorem dX1_settle_13 : decode cX1_settle 13 = .ok (.invokevirtual 220, 3) := dk_182 0 220 (dk_at dksX1_settle_0 13 rfl rfl)
theorem dX1_settle_16 : decode cX1_settle 16 = .ok (.aload_n 3, 1) := dk_45 (dk_at dksX1_settle_0 16 rfl rfl)
theorem dX1_settle_17 : decode cX1_settle 17 = .ok (.athrow, 1) := dk_191 (dk_at dksX1_settle_0 17 rfl rfl)
theorem dX1_settle_18 : decode cX1_settle 18 = .ok (.return_, 1) := dk_177 (dk_at dksX1_settle_0 18 rfl rfl)
abbrev cX1_move : ByteArray := prog_1_method_40_code
def yX1_move : MethodName := ⟨RX1, "move", "(II)I"⟩
def dkwX1_move_2 : List UInt8 := [28, 182, 0, 245, 42, 45, 25, 4, 182, 0, 241, 172]
abbrev dktX1_move_2 : List UInt8 := dkwX1_move_2 ++ []
def dkwX1_move_1 : List UInt8 := [45, 180, 0, 150, 4, 100, 184, 0, 3, 184, 0, 80, 45, 184, 0, 233, 58, 4, 45, 45, 27, 182, 0, 142]
abbrev dktX1_move_1 : List UInt8 := dkwX1_move_1 ++ dktX1_move_2
def dkwX1_move_0 : List UInt8 := [42, 180, 0, 16, 180, 0, 64, 42, 27, 182, 0, 109, 180, 0, 133, 182, 0, 53, 192, 0, 67, 78, 28, 3]
abbrev dktX1_move_0 : List UInt8 := dkwX1_move_0 ++ dktX1_move_1
theorem dksX1_move_0 : cX1_move.data.toList.drop 0 = dktX1_move_0 := by decide +kernel
theorem dksX1_move_1 : cX1_move.data.toList.drop 24 = dktX1_move_1 := dk_seg dksX1_move_0 24 rfl rfl
theorem dksX1_move_2 : cX1_move.data.toList.drop 48 = dktX1_move_2 := dk_seg dksX1_move_1 24 rfl rfl
theorem dX1_move_0 : decode cX1_move 0 = .ok (.aload_n 0, 1) := dk_42 (dk_at dksX1_move_0 0 rfl rfl)
theorem dX1_move_1 : decode cX1_move 1 = .ok (.getfield 16, 3) := dk_180 0 16 (dk_at dksX1_move_0 1 rfl rfl)
theorem dX1_move_4 : decode cX1_move 4 = .ok (.getfield 64, 3) := dk_180 0 64 (dk_at dksX1_move_0 4 rfl rfl)
theorem dX1_move_7 : decode cX1_move 7 = .ok (.aload_n 0, 1) := dk_42 (dk_at dksX1_move_0 7 rfl rfl)
theorem dX1_move_8 : decode cX1_move 8 = .ok (.iload_n 1, 1) := dk_27 (dk_at dksX1_move_0 8 rfl rfl)
theorem dX1_move_9 : decode cX1_move 9 = .ok (.invokevirtual 109, 3) := dk_182 0 109 (dk_at dksX1_move_0 9 rfl rfl)
theorem dX1_move_12 : decode cX1_move 12 = .ok (.getfield 133, 3) := dk_180 0 133 (dk_at dksX1_move_0 12 rfl rfl)
theorem dX1_move_15 : decode cX1_move 15 = .ok (.invokevirtual 53, 3) := dk_182 0 53 (dk_at dksX1_move_0 15 rfl rfl)
theorem dX1_move_18 : decode cX1_move 18 = .ok (.checkcast 67, 3) := dk_192 0 67 (dk_at dksX1_move_0 18 rfl rfl)
theorem dX1_move_21 : decode cX1_move 21 = .ok (.astore_n 3, 1) := dk_78 (dk_at dksX1_move_0 21 rfl rfl)
theorem dX1_move_22 : decode cX1_move 22 = .ok (.iload_n 2, 1) := dk_28 (dk_at dksX1_move_0 22 rfl rfl)
theorem dX1_move_23 : decode cX1_move 23 = .ok (.iconst 0, 1) := dk_3 (dk_at dksX1_move_0 23 rfl rfl)
theorem dX1_move_24 : decode cX1_move 24 = .ok (.aload_n 3, 1) := dk_45 (dk_at dksX1_move_1 0 rfl rfl)
theorem dX1_move_25 : decode cX1_move 25 = .ok (.getfield 150, 3) := dk_180 0 150 (dk_at dksX1_move_1 1 rfl rfl)
theorem dX1_move_28 : decode cX1_move 28 = .ok (.iconst 1, 1) := dk_4 (dk_at dksX1_move_1 4 rfl rfl)
theorem dX1_move_29 : decode cX1_move 29 = .ok (.isub, 1) := dk_100 (dk_at dksX1_move_1 5 rfl rfl)
theorem dX1_move_30 : decode cX1_move 30 = .ok (.invokestatic 3, 3) := dk_184 0 3 (dk_at dksX1_move_1 6 rfl rfl)
theorem dX1_move_33 : decode cX1_move 33 = .ok (.invokestatic 80, 3) := dk_184 0 80 (dk_at dksX1_move_1 9 rfl rfl)
theorem dX1_move_36 : decode cX1_move 36 = .ok (.aload_n 3, 1) := dk_45 (dk_at dksX1_move_1 12 rfl rfl)
theorem dX1_move_37 : decode cX1_move 37 = .ok (.invokestatic 233, 3) := dk_184 0 233 (dk_at dksX1_move_1 13 rfl rfl)
theorem dX1_move_40 : decode cX1_move 40 = .ok (.astore 4, 2) := dk_58 4 (dk_at dksX1_move_1 16 rfl rfl)
theorem dX1_move_42 : decode cX1_move 42 = .ok (.aload_n 3, 1) := dk_45 (dk_at dksX1_move_1 18 rfl rfl)
theorem dX1_move_43 : decode cX1_move 43 = .ok (.aload_n 3, 1) := dk_45 (dk_at dksX1_move_1 19 rfl rfl)
theorem dX1_move_44 : decode cX1_move 44 = .ok (.iload_n 1, 1) := dk_27 (dk_at dksX1_move_1 20 rfl rfl)
theorem dX1_move_45 : decode cX1_move 45 = .ok (.invokevirtual 142, 3) := dk_182 0 142 (dk_at dksX1_move_1 21 rfl rfl)
theorem dX1_move_48 : decode cX1_move 48 = .ok (.iload_n 2, 1) := dk_28 (dk_at dksX1_move_2 0 rfl rfl)
theorem dX1_move_49 : decode cX1_move 49 = .ok (.invokevirtual 245, 3) := dk_182 0 245 (dk_at dksX1_move_2 1 rfl rfl)
theorem dX1_move_52 : decode cX1_move 52 = .ok (.aload_n 0, 1) := dk_42 (dk_at dksX1_move_2 4 rfl rfl)
theorem dX1_move_53 : decode cX1_move 53 = .ok (.aload_n 3, 1) := dk_45 (dk_at dksX1_move_2 5 rfl rfl)
theorem dX1_move_54 : decode cX1_move 54 = .ok (.aload 4, 2) := dk_25 4 (dk_at dksX1_move_2 6 rfl rfl)
theorem dX1_move_56 : decode cX1_move 56 = .ok (.invokevirtual 241, 3) := dk_182 0 241 (dk_at dksX1_move_2 8 rfl rfl)
theorem dX1_move_59 : decode cX1_move 59 = .ok (.ireturn, 1) := dk_172 (dk_at dksX1_move_2 11 rfl rfl)
abbrev cX1_dispatch : ByteArray := prog_1_method_42_code
def yX1_dispatch : MethodName := ⟨RX1, "dispatch", "(I)I"⟩
def dkwX1_dispatch_0 : List UInt8 := [27, 3, 6, 184, 0, 3, 184, 0, 80, 42, 27, 3, 182, 1, 0, 172]
abbrev dktX1_dispatch_0 : List UInt8 := dkwX1_dispatch_0 ++ []
theorem dksX1_dispatch_0 : cX1_dispatch.data.toList.drop 0 = dktX1_dispatch_0 := by decide +kernel
theorem dX1_dispatch_0 : decode cX1_dispatch 0 = .ok (.iload_n 1, 1) := dk_27 (dk_at dksX1_dispatch_0 0 rfl rfl)
theorem dX1_dispatch_1 : decode cX1_dispatch 1 = .ok (.iconst 0, 1) := dk_3 (dk_at dksX1_dispatch_0 1 rfl rfl)
theorem dX1_dispatch_2 : decode cX1_dispatch 2 = .ok (.iconst 3, 1) := dk_6 (dk_at dksX1_dispatch_0 2 rfl rfl)
theorem dX1_dispatch_3 : decode cX1_dispatch 3 = .ok (.invokestatic 3, 3) := dk_184 0 3 (dk_at dksX1_dispatch_0 3 rfl rfl)
theorem dX1_dispatch_6 : decode cX1_dispatch 6 = .ok (.invokestatic 80, 3) := dk_184 0 80 (dk_at dksX1_dispatch_0 6 rfl rfl)
theorem dX1_dispatch_9 : decode cX1_dispatch 9 = .ok (.aload_n 0, 1) := dk_42 (dk_at dksX1_dispatch_0 9 rfl rfl)
theorem dX1_dispatch_10 : decode cX1_dispatch 10 = .ok (.iload_n 1, 1) := dk_27 (dk_at dksX1_dispatch_0 10 rfl rfl)
theorem dX1_dispatch_11 : decode cX1_dispatch 11 = .ok (.iconst 0, 1) := dk_3 (dk_at dksX1_dispatch_0 11 rfl rfl)
theorem dX1_dispatch_12 : decode cX1_dispatch 12 = .ok (.invokevirtual 256, 3) := dk_182 1 0 (dk_at dksX1_dispatch_0 12 rfl rfl)
theorem dX1_dispatch_15 : decode cX1_dispatch 15 = .ok (.ireturn, 1) := dk_172 (dk_at dksX1_dispatch_0 15 rfl rfl)
abbrev cX1_dispatched : ByteArray := prog_1_method_41_code
def yX1_dispatched : MethodName := ⟨RX1, "dispatched", "(II)I"⟩
def dkwX1_dispatched_1 : List UInt8 := [182, 0, 158, 172]
abbrev dktX1_dispatched_1 : List UInt8 := dkwX1_dispatched_1 ++ []
def dkwX1_dispatched_0 : List UInt8 := [42, 182, 0, 158, 87, 187, 0, 248, 89, 42, 180, 0, 16, 27, 28, 183, 0, 250, 182, 0, 253, 42]
abbrev dktX1_dispatched_0 : List UInt8 := dkwX1_dispatched_0 ++ dktX1_dispatched_1
theorem dksX1_dispatched_0 : cX1_dispatched.data.toList.drop 0 = dktX1_dispatched_0 := by decide +kernel
theorem dksX1_dispatched_1 : cX1_dispatched.data.toList.drop 22 = dktX1_dispatched_1 := dk_seg dksX1_dispatched_0 22 rfl rfl
theorem dX1_dispatched_0 : decode cX1_dispatched 0 = .ok (.aload_n 0, 1) := dk_42 (dk_at dksX1_dispatched_0 0 rfl rfl)
theorem dX1_dispatched_1 : decode cX1_dispatched 1 = .ok (.invokevirtual 158, 3) := dk_182 0 158 (dk_at dksX1_dispatched_0 1 rfl rfl)
theorem dX1_dispatched_4 : decode cX1_dispatched 4 = .ok (.pop, 1) := dk_87 (dk_at dksX1_dispatched_0 4 rfl rfl)
theorem dX1_dispatched_5 : decode cX1_dispatched 5 = .ok (.new 248, 3) := dk_187 0 248 (dk_at dksX1_dispatched_0 5 rfl rfl)
theorem dX1_dispatched_8 : decode cX1_dispatched 8 = .ok (.dup, 1) := dk_89 (dk_at dksX1_dispatched_0 8 rfl rfl)
theorem dX1_dispatched_9 : decode cX1_dispatched 9 = .ok (.aload_n 0, 1) := dk_42 (dk_at dksX1_dispatched_0 9 rfl rfl)
theorem dX1_dispatched_10 : decode cX1_dispatched 10 = .ok (.getfield 16, 3) := dk_180 0 16 (dk_at dksX1_dispatched_0 10 rfl rfl)
theorem dX1_dispatched_13 : decode cX1_dispatched 13 = .ok (.iload_n 1, 1) := dk_27 (dk_at dksX1_dispatched_0 13 rfl rfl)
theorem dX1_dispatched_14 : decode cX1_dispatched 14 = .ok (.iload_n 2, 1) := dk_28 (dk_at dksX1_dispatched_0 14 rfl rfl)
theorem dX1_dispatched_15 : decode cX1_dispatched 15 = .ok (.invokespecial 250, 3) := dk_183 0 250 (dk_at dksX1_dispatched_0 15 rfl rfl)
theorem dX1_dispatched_18 : decode cX1_dispatched 18 = .ok (.invokevirtual 253, 3) := dk_182 0 253 (dk_at dksX1_dispatched_0 18 rfl rfl)
theorem dX1_dispatched_21 : decode cX1_dispatched 21 = .ok (.aload_n 0, 1) := dk_42 (dk_at dksX1_dispatched_0 21 rfl rfl)
theorem dX1_dispatched_22 : decode cX1_dispatched 22 = .ok (.invokevirtual 158, 3) := dk_182 0 158 (dk_at dksX1_dispatched_1 0 rfl rfl)
theorem dX1_dispatched_25 : decode cX1_dispatched 25 = .ok (.ireturn, 1) := dk_172 (dk_at dksX1_dispatched_1 3 rfl rfl)
abbrev cX1_repair : ByteArray := prog_1_method_43_code
def yX1_repair : MethodName := ⟨RX1, "repair", "(II)I"⟩
def dkwX1_repair_1 : List UInt8 := [3, 184, 0, 80, 42, 28, 27, 182, 1, 0, 172]
abbrev dktX1_repair_1 : List UInt8 := dkwX1_repair_1 ++ []
def dkwX1_repair_0 : List UInt8 := [27, 3, 17, 3, 231, 184, 0, 3, 153, 0, 16, 28, 3, 6, 184, 0, 3, 153, 0, 7, 4, 167, 0, 4]
abbrev dktX1_repair_0 : List UInt8 := dkwX1_repair_0 ++ dktX1_repair_1
theorem dksX1_repair_0 : cX1_repair.data.toList.drop 0 = dktX1_repair_0 := by decide +kernel
theorem dksX1_repair_1 : cX1_repair.data.toList.drop 24 = dktX1_repair_1 := dk_seg dksX1_repair_0 24 rfl rfl
theorem dX1_repair_0 : decode cX1_repair 0 = .ok (.iload_n 1, 1) := dk_27 (dk_at dksX1_repair_0 0 rfl rfl)
theorem dX1_repair_1 : decode cX1_repair 1 = .ok (.iconst 0, 1) := dk_3 (dk_at dksX1_repair_0 1 rfl rfl)
theorem dX1_repair_2 : decode cX1_repair 2 = .ok (.sipush 999, 3) := dk_17 3 231 (dk_at dksX1_repair_0 2 rfl rfl)
theorem dX1_repair_5 : decode cX1_repair 5 = .ok (.invokestatic 3, 3) := dk_184 0 3 (dk_at dksX1_repair_0 5 rfl rfl)
theorem dX1_repair_8 : decode cX1_repair 8 = .ok (.ifCond .eq 16, 3) := dk_153 0 16 (dk_at dksX1_repair_0 8 rfl rfl)
theorem dX1_repair_11 : decode cX1_repair 11 = .ok (.iload_n 2, 1) := dk_28 (dk_at dksX1_repair_0 11 rfl rfl)
theorem dX1_repair_12 : decode cX1_repair 12 = .ok (.iconst 0, 1) := dk_3 (dk_at dksX1_repair_0 12 rfl rfl)
theorem dX1_repair_13 : decode cX1_repair 13 = .ok (.iconst 3, 1) := dk_6 (dk_at dksX1_repair_0 13 rfl rfl)
theorem dX1_repair_14 : decode cX1_repair 14 = .ok (.invokestatic 3, 3) := dk_184 0 3 (dk_at dksX1_repair_0 14 rfl rfl)
theorem dX1_repair_17 : decode cX1_repair 17 = .ok (.ifCond .eq 7, 3) := dk_153 0 7 (dk_at dksX1_repair_0 17 rfl rfl)
theorem dX1_repair_20 : decode cX1_repair 20 = .ok (.iconst 1, 1) := dk_4 (dk_at dksX1_repair_0 20 rfl rfl)
theorem dX1_repair_21 : decode cX1_repair 21 = .ok (.goto 4, 3) := dk_167 0 4 (dk_at dksX1_repair_0 21 rfl rfl)
theorem dX1_repair_24 : decode cX1_repair 24 = .ok (.iconst 0, 1) := dk_3 (dk_at dksX1_repair_1 0 rfl rfl)
theorem dX1_repair_25 : decode cX1_repair 25 = .ok (.invokestatic 80, 3) := dk_184 0 80 (dk_at dksX1_repair_1 1 rfl rfl)
theorem dX1_repair_28 : decode cX1_repair 28 = .ok (.aload_n 0, 1) := dk_42 (dk_at dksX1_repair_1 4 rfl rfl)
theorem dX1_repair_29 : decode cX1_repair 29 = .ok (.iload_n 2, 1) := dk_28 (dk_at dksX1_repair_1 5 rfl rfl)
theorem dX1_repair_30 : decode cX1_repair 30 = .ok (.iload_n 1, 1) := dk_27 (dk_at dksX1_repair_1 6 rfl rfl)
theorem dX1_repair_31 : decode cX1_repair 31 = .ok (.invokevirtual 256, 3) := dk_182 1 0 (dk_at dksX1_repair_1 7 rfl rfl)
theorem dX1_repair_34 : decode cX1_repair 34 = .ok (.ireturn, 1) := dk_172 (dk_at dksX1_repair_1 10 rfl rfl)
abbrev cX1_best : ByteArray := prog_1_method_44_code
def yX1_best : MethodName := ⟨RX1, "best", "(I)I"⟩
def dkwX1_best_0 : List UInt8 := [42, 27, 182, 0, 146, 87, 42, 180, 0, 16, 27, 3, 182, 1, 3, 172]
abbrev dktX1_best_0 : List UInt8 := dkwX1_best_0 ++ []
theorem dksX1_best_0 : cX1_best.data.toList.drop 0 = dktX1_best_0 := by decide +kernel
theorem dX1_best_0 : decode cX1_best 0 = .ok (.aload_n 0, 1) := dk_42 (dk_at dksX1_best_0 0 rfl rfl)
theorem dX1_best_1 : decode cX1_best 1 = .ok (.iload_n 1, 1) := dk_27 (dk_at dksX1_best_0 1 rfl rfl)
theorem dX1_best_2 : decode cX1_best 2 = .ok (.invokevirtual 146, 3) := dk_182 0 146 (dk_at dksX1_best_0 2 rfl rfl)
theorem dX1_best_5 : decode cX1_best 5 = .ok (.pop, 1) := dk_87 (dk_at dksX1_best_0 5 rfl rfl)
theorem dX1_best_6 : decode cX1_best 6 = .ok (.aload_n 0, 1) := dk_42 (dk_at dksX1_best_0 6 rfl rfl)
theorem dX1_best_7 : decode cX1_best 7 = .ok (.getfield 16, 3) := dk_180 0 16 (dk_at dksX1_best_0 7 rfl rfl)
theorem dX1_best_10 : decode cX1_best 10 = .ok (.iload_n 1, 1) := dk_27 (dk_at dksX1_best_0 10 rfl rfl)
theorem dX1_best_11 : decode cX1_best 11 = .ok (.iconst 0, 1) := dk_3 (dk_at dksX1_best_0 11 rfl rfl)
theorem dX1_best_12 : decode cX1_best 12 = .ok (.invokevirtual 259, 3) := dk_182 1 3 (dk_at dksX1_best_0 12 rfl rfl)
theorem dX1_best_15 : decode cX1_best 15 = .ok (.ireturn, 1) := dk_172 (dk_at dksX1_best_0 15 rfl rfl)
abbrev cX1_reoptimize : ByteArray := prog_1_method_45_code
def yX1_reoptimize : MethodName := ⟨RX1, "reoptimize", "(I)I"⟩
def dkwX1_reoptimize_1 : List UInt8 := [182, 1, 9, 172]
abbrev dktX1_reoptimize_1 : List UInt8 := dkwX1_reoptimize_1 ++ []
def dkwX1_reoptimize_0 : List UInt8 := [42, 27, 182, 0, 146, 77, 44, 184, 0, 233, 78, 42, 180, 0, 16, 27, 3, 182, 1, 6, 87, 44, 45]
abbrev dktX1_reoptimize_0 : List UInt8 := dkwX1_reoptimize_0 ++ dktX1_reoptimize_1
theorem dksX1_reoptimize_0 : cX1_reoptimize.data.toList.drop 0 = dktX1_reoptimize_0 := by decide +kernel
theorem dksX1_reoptimize_1 : cX1_reoptimize.data.toList.drop 23 = dktX1_reoptimize_1 := dk_seg dksX1_reoptimize_0 23 rfl rfl
theorem dX1_reoptimize_0 : decode cX1_reoptimize 0 = .ok (.aload_n 0, 1) := dk_42 (dk_at dksX1_reoptimize_0 0 rfl rfl)
theorem dX1_reoptimize_1 : decode cX1_reoptimize 1 = .ok (.iload_n 1, 1) := dk_27 (dk_at dksX1_reoptimize_0 1 rfl rfl)
theorem dX1_reoptimize_2 : decode cX1_reoptimize 2 = .ok (.invokevirtual 146, 3) := dk_182 0 146 (dk_at dksX1_reoptimize_0 2 rfl rfl)
theorem dX1_reoptimize_5 : decode cX1_reoptimize 5 = .ok (.astore_n 2, 1) := dk_77 (dk_at dksX1_reoptimize_0 5 rfl rfl)
theorem dX1_reoptimize_6 : decode cX1_reoptimize 6 = .ok (.aload_n 2, 1) := dk_44 (dk_at dksX1_reoptimize_0 6 rfl rfl)
theorem dX1_reoptimize_7 : decode cX1_reoptimize 7 = .ok (.invokestatic 233, 3) := dk_184 0 233 (dk_at dksX1_reoptimize_0 7 rfl rfl)
theorem dX1_reoptimize_10 : decode cX1_reoptimize 10 = .ok (.astore_n 3, 1) := dk_78 (dk_at dksX1_reoptimize_0 10 rfl rfl)
theorem dX1_reoptimize_11 : decode cX1_reoptimize 11 = .ok (.aload_n 0, 1) := dk_42 (dk_at dksX1_reoptimize_0 11 rfl rfl)
theorem dX1_reoptimize_12 : decode cX1_reoptimize 12 = .ok (.getfield 16, 3) := dk_180 0 16 (dk_at dksX1_reoptimize_0 12 rfl rfl)
theorem dX1_reoptimize_15 : decode cX1_reoptimize 15 = .ok (.iload_n 1, 1) := dk_27 (dk_at dksX1_reoptimize_0 15 rfl rfl)
theorem dX1_reoptimize_16 : decode cX1_reoptimize 16 = .ok (.iconst 0, 1) := dk_3 (dk_at dksX1_reoptimize_0 16 rfl rfl)
theorem dX1_reoptimize_17 : decode cX1_reoptimize 17 = .ok (.invokevirtual 262, 3) := dk_182 1 6 (dk_at dksX1_reoptimize_0 17 rfl rfl)
theorem dX1_reoptimize_20 : decode cX1_reoptimize 20 = .ok (.pop, 1) := dk_87 (dk_at dksX1_reoptimize_0 20 rfl rfl)
theorem dX1_reoptimize_21 : decode cX1_reoptimize 21 = .ok (.aload_n 2, 1) := dk_44 (dk_at dksX1_reoptimize_0 21 rfl rfl)
theorem dX1_reoptimize_22 : decode cX1_reoptimize 22 = .ok (.aload_n 3, 1) := dk_45 (dk_at dksX1_reoptimize_0 22 rfl rfl)
theorem dX1_reoptimize_23 : decode cX1_reoptimize 23 = .ok (.invokevirtual 265, 3) := dk_182 1 9 (dk_at dksX1_reoptimize_1 0 rfl rfl)
theorem dX1_reoptimize_26 : decode cX1_reoptimize 26 = .ok (.ireturn, 1) := dk_172 (dk_at dksX1_reoptimize_1 3 rfl rfl)
abbrev cX1_bottleneck : ByteArray := prog_1_method_47_code
def yX1_bottleneck : MethodName := ⟨RX1, "bottleneck", "(I)I"⟩
def dkwX1_bottleneck_1 : List UInt8 := [42, 180, 1, 17, 27, 46, 172]
abbrev dktX1_bottleneck_1 : List UInt8 := dkwX1_bottleneck_1 ++ []
def dkwX1_bottleneck_0 : List UInt8 := [42, 180, 1, 17, 198, 0, 16, 27, 3, 6, 184, 0, 3, 153, 0, 7, 4, 167, 0, 4, 3, 184, 0, 152]
abbrev dktX1_bottleneck_0 : List UInt8 := dkwX1_bottleneck_0 ++ dktX1_bottleneck_1
theorem dksX1_bottleneck_0 : cX1_bottleneck.data.toList.drop 0 = dktX1_bottleneck_0 := by decide +kernel
theorem dksX1_bottleneck_1 : cX1_bottleneck.data.toList.drop 24 = dktX1_bottleneck_1 := dk_seg dksX1_bottleneck_0 24 rfl rfl
theorem dX1_bottleneck_0 : decode cX1_bottleneck 0 = .ok (.aload_n 0, 1) := dk_42 (dk_at dksX1_bottleneck_0 0 rfl rfl)
theorem dX1_bottleneck_1 : decode cX1_bottleneck 1 = .ok (.getfield 273, 3) := dk_180 1 17 (dk_at dksX1_bottleneck_0 1 rfl rfl)
theorem dX1_bottleneck_4 : decode cX1_bottleneck 4 = .ok (.ifnull 16, 3) := dk_198 0 16 (dk_at dksX1_bottleneck_0 4 rfl rfl)
theorem dX1_bottleneck_7 : decode cX1_bottleneck 7 = .ok (.iload_n 1, 1) := dk_27 (dk_at dksX1_bottleneck_0 7 rfl rfl)
theorem dX1_bottleneck_8 : decode cX1_bottleneck 8 = .ok (.iconst 0, 1) := dk_3 (dk_at dksX1_bottleneck_0 8 rfl rfl)
theorem dX1_bottleneck_9 : decode cX1_bottleneck 9 = .ok (.iconst 3, 1) := dk_6 (dk_at dksX1_bottleneck_0 9 rfl rfl)
theorem dX1_bottleneck_10 : decode cX1_bottleneck 10 = .ok (.invokestatic 3, 3) := dk_184 0 3 (dk_at dksX1_bottleneck_0 10 rfl rfl)
theorem dX1_bottleneck_13 : decode cX1_bottleneck 13 = .ok (.ifCond .eq 7, 3) := dk_153 0 7 (dk_at dksX1_bottleneck_0 13 rfl rfl)
theorem dX1_bottleneck_16 : decode cX1_bottleneck 16 = .ok (.iconst 1, 1) := dk_4 (dk_at dksX1_bottleneck_0 16 rfl rfl)
theorem dX1_bottleneck_17 : decode cX1_bottleneck 17 = .ok (.goto 4, 3) := dk_167 0 4 (dk_at dksX1_bottleneck_0 17 rfl rfl)
theorem dX1_bottleneck_20 : decode cX1_bottleneck 20 = .ok (.iconst 0, 1) := dk_3 (dk_at dksX1_bottleneck_0 20 rfl rfl)
theorem dX1_bottleneck_21 : decode cX1_bottleneck 21 = .ok (.invokestatic 152, 3) := dk_184 0 152 (dk_at dksX1_bottleneck_0 21 rfl rfl)
theorem dX1_bottleneck_24 : decode cX1_bottleneck 24 = .ok (.aload_n 0, 1) := dk_42 (dk_at dksX1_bottleneck_1 0 rfl rfl)
theorem dX1_bottleneck_25 : decode cX1_bottleneck 25 = .ok (.getfield 273, 3) := dk_180 1 17 (dk_at dksX1_bottleneck_1 1 rfl rfl)
theorem dX1_bottleneck_28 : decode cX1_bottleneck 28 = .ok (.iload_n 1, 1) := dk_27 (dk_at dksX1_bottleneck_1 4 rfl rfl)
theorem dX1_bottleneck_29 : decode cX1_bottleneck 29 = .ok (.iaload, 1) := dk_46 (dk_at dksX1_bottleneck_1 5 rfl rfl)
theorem dX1_bottleneck_30 : decode cX1_bottleneck 30 = .ok (.ireturn, 1) := dk_172 (dk_at dksX1_bottleneck_1 6 rfl rfl)
abbrev cX1_tabu : ByteArray := prog_1_method_48_code
def yX1_tabu : MethodName := ⟨RX1, "tabu", "(II)I"⟩
def dkwX1_tabu_2 : List UInt8 := [182, 1, 25, 42, 45, 180, 1, 27, 181, 1, 30, 42, 182, 0, 158, 172]
abbrev dktX1_tabu_2 : List UInt8 := dkwX1_tabu_2 ++ []
def dkwX1_tabu_1 : List UInt8 := [3, 184, 0, 80, 42, 182, 0, 158, 87, 187, 1, 20, 89, 42, 180, 0, 16, 28, 183, 1, 22, 78, 45, 27]
abbrev dktX1_tabu_1 : List UInt8 := dkwX1_tabu_1 ++ dktX1_tabu_2
def dkwX1_tabu_0 : List UInt8 := [27, 3, 16, 20, 184, 0, 3, 153, 0, 17, 28, 3, 16, 9, 184, 0, 3, 153, 0, 7, 4, 167, 0, 4]
abbrev dktX1_tabu_0 : List UInt8 := dkwX1_tabu_0 ++ dktX1_tabu_1
theorem dksX1_tabu_0 : cX1_tabu.data.toList.drop 0 = dktX1_tabu_0 := by decide +kernel
theorem dksX1_tabu_1 : cX1_tabu.data.toList.drop 24 = dktX1_tabu_1 := dk_seg dksX1_tabu_0 24 rfl rfl
theorem dksX1_tabu_2 : cX1_tabu.data.toList.drop 48 = dktX1_tabu_2 := dk_seg dksX1_tabu_1 24 rfl rfl
theorem dX1_tabu_0 : decode cX1_tabu 0 = .ok (.iload_n 1, 1) := dk_27 (dk_at dksX1_tabu_0 0 rfl rfl)
theorem dX1_tabu_1 : decode cX1_tabu 1 = .ok (.iconst 0, 1) := dk_3 (dk_at dksX1_tabu_0 1 rfl rfl)
theorem dX1_tabu_2 : decode cX1_tabu 2 = .ok (.bipush 20, 2) := dk_16 20 (dk_at dksX1_tabu_0 2 rfl rfl)
theorem dX1_tabu_4 : decode cX1_tabu 4 = .ok (.invokestatic 3, 3) := dk_184 0 3 (dk_at dksX1_tabu_0 4 rfl rfl)
theorem dX1_tabu_7 : decode cX1_tabu 7 = .ok (.ifCond .eq 17, 3) := dk_153 0 17 (dk_at dksX1_tabu_0 7 rfl rfl)
theorem dX1_tabu_10 : decode cX1_tabu 10 = .ok (.iload_n 2, 1) := dk_28 (dk_at dksX1_tabu_0 10 rfl rfl)
theorem dX1_tabu_11 : decode cX1_tabu 11 = .ok (.iconst 0, 1) := dk_3 (dk_at dksX1_tabu_0 11 rfl rfl)
theorem dX1_tabu_12 : decode cX1_tabu 12 = .ok (.bipush 9, 2) := dk_16 9 (dk_at dksX1_tabu_0 12 rfl rfl)
theorem dX1_tabu_14 : decode cX1_tabu 14 = .ok (.invokestatic 3, 3) := dk_184 0 3 (dk_at dksX1_tabu_0 14 rfl rfl)
theorem dX1_tabu_17 : decode cX1_tabu 17 = .ok (.ifCond .eq 7, 3) := dk_153 0 7 (dk_at dksX1_tabu_0 17 rfl rfl)
theorem dX1_tabu_20 : decode cX1_tabu 20 = .ok (.iconst 1, 1) := dk_4 (dk_at dksX1_tabu_0 20 rfl rfl)
theorem dX1_tabu_21 : decode cX1_tabu 21 = .ok (.goto 4, 3) := dk_167 0 4 (dk_at dksX1_tabu_0 21 rfl rfl)
theorem dX1_tabu_24 : decode cX1_tabu 24 = .ok (.iconst 0, 1) := dk_3 (dk_at dksX1_tabu_1 0 rfl rfl)
theorem dX1_tabu_25 : decode cX1_tabu 25 = .ok (.invokestatic 80, 3) := dk_184 0 80 (dk_at dksX1_tabu_1 1 rfl rfl)
theorem dX1_tabu_28 : decode cX1_tabu 28 = .ok (.aload_n 0, 1) := dk_42 (dk_at dksX1_tabu_1 4 rfl rfl)
theorem dX1_tabu_29 : decode cX1_tabu 29 = .ok (.invokevirtual 158, 3) := dk_182 0 158 (dk_at dksX1_tabu_1 5 rfl rfl)
theorem dX1_tabu_32 : decode cX1_tabu 32 = .ok (.pop, 1) := dk_87 (dk_at dksX1_tabu_1 8 rfl rfl)
theorem dX1_tabu_33 : decode cX1_tabu 33 = .ok (.new 276, 3) := dk_187 1 20 (dk_at dksX1_tabu_1 9 rfl rfl)
theorem dX1_tabu_36 : decode cX1_tabu 36 = .ok (.dup, 1) := dk_89 (dk_at dksX1_tabu_1 12 rfl rfl)
theorem dX1_tabu_37 : decode cX1_tabu 37 = .ok (.aload_n 0, 1) := dk_42 (dk_at dksX1_tabu_1 13 rfl rfl)
theorem dX1_tabu_38 : decode cX1_tabu 38 = .ok (.getfield 16, 3) := dk_180 0 16 (dk_at dksX1_tabu_1 14 rfl rfl)
theorem dX1_tabu_41 : decode cX1_tabu 41 = .ok (.iload_n 2, 1) := dk_28 (dk_at dksX1_tabu_1 17 rfl rfl)
theorem dX1_tabu_42 : decode cX1_tabu 42 = .ok (.invokespecial 278, 3) := dk_183 1 22 (dk_at dksX1_tabu_1 18 rfl rfl)
theorem dX1_tabu_45 : decode cX1_tabu 45 = .ok (.astore_n 3, 1) := dk_78 (dk_at dksX1_tabu_1 21 rfl rfl)
theorem dX1_tabu_46 : decode cX1_tabu 46 = .ok (.aload_n 3, 1) := dk_45 (dk_at dksX1_tabu_1 22 rfl rfl)
theorem dX1_tabu_47 : decode cX1_tabu 47 = .ok (.iload_n 1, 1) := dk_27 (dk_at dksX1_tabu_1 23 rfl rfl)
theorem dX1_tabu_48 : decode cX1_tabu 48 = .ok (.invokevirtual 281, 3) := dk_182 1 25 (dk_at dksX1_tabu_2 0 rfl rfl)
theorem dX1_tabu_51 : decode cX1_tabu 51 = .ok (.aload_n 0, 1) := dk_42 (dk_at dksX1_tabu_2 3 rfl rfl)
theorem dX1_tabu_52 : decode cX1_tabu 52 = .ok (.aload_n 3, 1) := dk_45 (dk_at dksX1_tabu_2 4 rfl rfl)
theorem dX1_tabu_53 : decode cX1_tabu 53 = .ok (.getfield 283, 3) := dk_180 1 27 (dk_at dksX1_tabu_2 5 rfl rfl)
theorem dX1_tabu_56 : decode cX1_tabu 56 = .ok (.putfield 286, 3) := dk_181 1 30 (dk_at dksX1_tabu_2 8 rfl rfl)
theorem dX1_tabu_59 : decode cX1_tabu 59 = .ok (.aload_n 0, 1) := dk_42 (dk_at dksX1_tabu_2 11 rfl rfl)
theorem dX1_tabu_60 : decode cX1_tabu 60 = .ok (.invokevirtual 158, 3) := dk_182 0 158 (dk_at dksX1_tabu_2 12 rfl rfl)
theorem dX1_tabu_63 : decode cX1_tabu 63 = .ok (.ireturn, 1) := dk_172 (dk_at dksX1_tabu_2 15 rfl rfl)
abbrev cX1_bound : ByteArray := prog_1_method_50_code
def yX1_bound : MethodName := ⟨RX1, "bound", "(I)I"⟩
def dkwX1_bound_0 : List UInt8 := [42, 27, 182, 0, 146, 87, 42, 180, 0, 16, 27, 182, 1, 33, 172]
abbrev dktX1_bound_0 : List UInt8 := dkwX1_bound_0 ++ []
theorem dksX1_bound_0 : cX1_bound.data.toList.drop 0 = dktX1_bound_0 := by decide +kernel
theorem dX1_bound_0 : decode cX1_bound 0 = .ok (.aload_n 0, 1) := dk_42 (dk_at dksX1_bound_0 0 rfl rfl)
theorem dX1_bound_1 : decode cX1_bound 1 = .ok (.iload_n 1, 1) := dk_27 (dk_at dksX1_bound_0 1 rfl rfl)
theorem dX1_bound_2 : decode cX1_bound 2 = .ok (.invokevirtual 146, 3) := dk_182 0 146 (dk_at dksX1_bound_0 2 rfl rfl)
theorem dX1_bound_5 : decode cX1_bound 5 = .ok (.pop, 1) := dk_87 (dk_at dksX1_bound_0 5 rfl rfl)
theorem dX1_bound_6 : decode cX1_bound 6 = .ok (.aload_n 0, 1) := dk_42 (dk_at dksX1_bound_0 6 rfl rfl)
theorem dX1_bound_7 : decode cX1_bound 7 = .ok (.getfield 16, 3) := dk_180 0 16 (dk_at dksX1_bound_0 7 rfl rfl)
theorem dX1_bound_10 : decode cX1_bound 10 = .ok (.iload_n 1, 1) := dk_27 (dk_at dksX1_bound_0 10 rfl rfl)
theorem dX1_bound_11 : decode cX1_bound 11 = .ok (.invokevirtual 289, 3) := dk_182 1 33 (dk_at dksX1_bound_0 11 rfl rfl)
theorem dX1_bound_14 : decode cX1_bound 14 = .ok (.ireturn, 1) := dk_172 (dk_at dksX1_bound_0 14 rfl rfl)
abbrev cX1_append : ByteArray := prog_1_method_52_code
def yX1_append : MethodName := ⟨RX1, "append", "(C)V"⟩
def dkwX1_append_1 : List UInt8 := [27, 182, 1, 42, 87, 177]
abbrev dktX1_append_1 : List UInt8 := dkwX1_append_1 ++ []
def dkwX1_append_0 : List UInt8 := [42, 180, 0, 23, 182, 1, 39, 16, 80, 162, 0, 7, 4, 167, 0, 4, 3, 184, 0, 83, 42, 180, 0, 23]
abbrev dktX1_append_0 : List UInt8 := dkwX1_append_0 ++ dktX1_append_1
theorem dksX1_append_0 : cX1_append.data.toList.drop 0 = dktX1_append_0 := by decide +kernel
theorem dksX1_append_1 : cX1_append.data.toList.drop 24 = dktX1_append_1 := dk_seg dksX1_append_0 24 rfl rfl
theorem dX1_append_0 : decode cX1_append 0 = .ok (.aload_n 0, 1) := dk_42 (dk_at dksX1_append_0 0 rfl rfl)
theorem dX1_append_1 : decode cX1_append 1 = .ok (.getfield 23, 3) := dk_180 0 23 (dk_at dksX1_append_0 1 rfl rfl)
theorem dX1_append_4 : decode cX1_append 4 = .ok (.invokevirtual 295, 3) := dk_182 1 39 (dk_at dksX1_append_0 4 rfl rfl)
theorem dX1_append_7 : decode cX1_append 7 = .ok (.bipush 80, 2) := dk_16 80 (dk_at dksX1_append_0 7 rfl rfl)
theorem dX1_append_9 : decode cX1_append 9 = .ok (.if_icmp .ge 7, 3) := dk_162 0 7 (dk_at dksX1_append_0 9 rfl rfl)
theorem dX1_append_12 : decode cX1_append 12 = .ok (.iconst 1, 1) := dk_4 (dk_at dksX1_append_0 12 rfl rfl)
theorem dX1_append_13 : decode cX1_append 13 = .ok (.goto 4, 3) := dk_167 0 4 (dk_at dksX1_append_0 13 rfl rfl)
theorem dX1_append_16 : decode cX1_append 16 = .ok (.iconst 0, 1) := dk_3 (dk_at dksX1_append_0 16 rfl rfl)
theorem dX1_append_17 : decode cX1_append 17 = .ok (.invokestatic 83, 3) := dk_184 0 83 (dk_at dksX1_append_0 17 rfl rfl)
theorem dX1_append_20 : decode cX1_append 20 = .ok (.aload_n 0, 1) := dk_42 (dk_at dksX1_append_0 20 rfl rfl)
theorem dX1_append_21 : decode cX1_append 21 = .ok (.getfield 23, 3) := dk_180 0 23 (dk_at dksX1_append_0 21 rfl rfl)
theorem dX1_append_24 : decode cX1_append 24 = .ok (.iload_n 1, 1) := dk_27 (dk_at dksX1_append_1 0 rfl rfl)
theorem dX1_append_25 : decode cX1_append 25 = .ok (.invokevirtual 298, 3) := dk_182 1 42 (dk_at dksX1_append_1 1 rfl rfl)
theorem dX1_append_28 : decode cX1_append 28 = .ok (.pop, 1) := dk_87 (dk_at dksX1_append_1 4 rfl rfl)
theorem dX1_append_29 : decode cX1_append 29 = .ok (.return_, 1) := dk_177 (dk_at dksX1_append_1 5 rfl rfl)
abbrev cX1_read : ByteArray := prog_1_method_54_code
def yX1_read : MethodName := ⟨RX1, "read", "()I"⟩
def dkwX1_read_2 : List UInt8 := [89, 183, 0, 38, 191]
abbrev dktX1_read_2 : List UInt8 := dkwX1_read_2 ++ []
def dkwX1_read_1 : List UInt8 := [172, 77, 42, 44, 181, 0, 228, 187, 0, 27, 89, 183, 0, 29, 191, 77, 42, 44, 181, 0, 228, 187, 0, 36]
abbrev dktX1_read_1 : List UInt8 := dkwX1_read_1 ++ dktX1_read_2
def dkwX1_read_0 : List UInt8 := [42, 180, 0, 23, 182, 1, 64, 76, 42, 187, 0, 20, 89, 183, 0, 22, 181, 0, 23, 42, 43, 182, 1, 68]
abbrev dktX1_read_0 : List UInt8 := dkwX1_read_0 ++ dktX1_read_1
theorem dksX1_read_0 : cX1_read.data.toList.drop 0 = dktX1_read_0 := by decide +kernel
theorem dksX1_read_1 : cX1_read.data.toList.drop 24 = dktX1_read_1 := dk_seg dksX1_read_0 24 rfl rfl
theorem dksX1_read_2 : cX1_read.data.toList.drop 48 = dktX1_read_2 := dk_seg dksX1_read_1 24 rfl rfl
theorem dX1_read_0 : decode cX1_read 0 = .ok (.aload_n 0, 1) := dk_42 (dk_at dksX1_read_0 0 rfl rfl)
theorem dX1_read_1 : decode cX1_read 1 = .ok (.getfield 23, 3) := dk_180 0 23 (dk_at dksX1_read_0 1 rfl rfl)
theorem dX1_read_4 : decode cX1_read 4 = .ok (.invokevirtual 320, 3) := dk_182 1 64 (dk_at dksX1_read_0 4 rfl rfl)
theorem dX1_read_7 : decode cX1_read 7 = .ok (.astore_n 1, 1) := dk_76 (dk_at dksX1_read_0 7 rfl rfl)
theorem dX1_read_8 : decode cX1_read 8 = .ok (.aload_n 0, 1) := dk_42 (dk_at dksX1_read_0 8 rfl rfl)
theorem dX1_read_9 : decode cX1_read 9 = .ok (.new 20, 3) := dk_187 0 20 (dk_at dksX1_read_0 9 rfl rfl)
theorem dX1_read_12 : decode cX1_read 12 = .ok (.dup, 1) := dk_89 (dk_at dksX1_read_0 12 rfl rfl)
theorem dX1_read_13 : decode cX1_read 13 = .ok (.invokespecial 22, 3) := dk_183 0 22 (dk_at dksX1_read_0 13 rfl rfl)
theorem dX1_read_16 : decode cX1_read 16 = .ok (.putfield 23, 3) := dk_181 0 23 (dk_at dksX1_read_0 16 rfl rfl)
theorem dX1_read_19 : decode cX1_read 19 = .ok (.aload_n 0, 1) := dk_42 (dk_at dksX1_read_0 19 rfl rfl)
theorem dX1_read_20 : decode cX1_read 20 = .ok (.aload_n 1, 1) := dk_43 (dk_at dksX1_read_0 20 rfl rfl)
theorem dX1_read_21 : decode cX1_read 21 = .ok (.invokevirtual 324, 3) := dk_182 1 68 (dk_at dksX1_read_0 21 rfl rfl)
theorem dX1_read_24 : decode cX1_read 24 = .ok (.ireturn, 1) := dk_172 (dk_at dksX1_read_1 0 rfl rfl)
theorem dX1_read_25 : decode cX1_read 25 = .ok (.astore_n 2, 1) := dk_77 (dk_at dksX1_read_1 1 rfl rfl)
theorem dX1_read_26 : decode cX1_read 26 = .ok (.aload_n 0, 1) := dk_42 (dk_at dksX1_read_1 2 rfl rfl)
theorem dX1_read_27 : decode cX1_read 27 = .ok (.aload_n 2, 1) := dk_44 (dk_at dksX1_read_1 3 rfl rfl)
theorem dX1_read_28 : decode cX1_read 28 = .ok (.putfield 228, 3) := dk_181 0 228 (dk_at dksX1_read_1 4 rfl rfl)
theorem dX1_read_31 : decode cX1_read 31 = .ok (.new 27, 3) := dk_187 0 27 (dk_at dksX1_read_1 7 rfl rfl)
theorem dX1_read_34 : decode cX1_read 34 = .ok (.dup, 1) := dk_89 (dk_at dksX1_read_1 10 rfl rfl)
theorem dX1_read_35 : decode cX1_read 35 = .ok (.invokespecial 29, 3) := dk_183 0 29 (dk_at dksX1_read_1 11 rfl rfl)
theorem dX1_read_38 : decode cX1_read 38 = .ok (.athrow, 1) := dk_191 (dk_at dksX1_read_1 14 rfl rfl)
theorem dX1_read_39 : decode cX1_read 39 = .ok (.astore_n 2, 1) := dk_77 (dk_at dksX1_read_1 15 rfl rfl)
theorem dX1_read_40 : decode cX1_read 40 = .ok (.aload_n 0, 1) := dk_42 (dk_at dksX1_read_1 16 rfl rfl)
theorem dX1_read_41 : decode cX1_read 41 = .ok (.aload_n 2, 1) := dk_44 (dk_at dksX1_read_1 17 rfl rfl)
theorem dX1_read_42 : decode cX1_read 42 = .ok (.putfield 228, 3) := dk_181 0 228 (dk_at dksX1_read_1 18 rfl rfl)
theorem dX1_read_45 : decode cX1_read 45 = .ok (.new 36, 3) := dk_187 0 36 (dk_at dksX1_read_1 21 rfl rfl)
theorem dX1_read_48 : decode cX1_read 48 = .ok (.dup, 1) := dk_89 (dk_at dksX1_read_2 0 rfl rfl)
theorem dX1_read_49 : decode cX1_read 49 = .ok (.invokespecial 38, 3) := dk_183 0 38 (dk_at dksX1_read_2 1 rfl rfl)
theorem dX1_read_52 : decode cX1_read 52 = .ok (.athrow, 1) := dk_191 (dk_at dksX1_read_2 4 rfl rfl)
abbrev cX1_create : ByteArray := prog_1_method_53_code
def yX1_create : MethodName := ⟨RX1, "create", "(Ljava/lang/String;)I"⟩
def dkwX1_create_1 : List UInt8 := [187, 1, 57, 89, 45, 183, 1, 59, 44, 182, 1, 60, 42, 45, 181, 0, 16, 44, 182, 0, 43, 172]
abbrev dktX1_create_1 : List UInt8 := dkwX1_create_1 ++ []
def dkwX1_create_0 : List UInt8 := [187, 1, 46, 89, 43, 183, 1, 48, 182, 1, 51, 77, 187, 0, 13, 89, 42, 180, 0, 16, 183, 1, 54, 78]
abbrev dktX1_create_0 : List UInt8 := dkwX1_create_0 ++ dktX1_create_1
theorem dksX1_create_0 : cX1_create.data.toList.drop 0 = dktX1_create_0 := by decide +kernel
theorem dksX1_create_1 : cX1_create.data.toList.drop 24 = dktX1_create_1 := dk_seg dksX1_create_0 24 rfl rfl
theorem dX1_create_0 : decode cX1_create 0 = .ok (.new 302, 3) := dk_187 1 46 (dk_at dksX1_create_0 0 rfl rfl)
theorem dX1_create_3 : decode cX1_create 3 = .ok (.dup, 1) := dk_89 (dk_at dksX1_create_0 3 rfl rfl)
theorem dX1_create_4 : decode cX1_create 4 = .ok (.aload_n 1, 1) := dk_43 (dk_at dksX1_create_0 4 rfl rfl)
theorem dX1_create_5 : decode cX1_create 5 = .ok (.invokespecial 304, 3) := dk_183 1 48 (dk_at dksX1_create_0 5 rfl rfl)
theorem dX1_create_8 : decode cX1_create 8 = .ok (.invokevirtual 307, 3) := dk_182 1 51 (dk_at dksX1_create_0 8 rfl rfl)
theorem dX1_create_11 : decode cX1_create 11 = .ok (.astore_n 2, 1) := dk_77 (dk_at dksX1_create_0 11 rfl rfl)
theorem dX1_create_12 : decode cX1_create 12 = .ok (.new 13, 3) := dk_187 0 13 (dk_at dksX1_create_0 12 rfl rfl)
theorem dX1_create_15 : decode cX1_create 15 = .ok (.dup, 1) := dk_89 (dk_at dksX1_create_0 15 rfl rfl)
theorem dX1_create_16 : decode cX1_create 16 = .ok (.aload_n 0, 1) := dk_42 (dk_at dksX1_create_0 16 rfl rfl)
theorem dX1_create_17 : decode cX1_create 17 = .ok (.getfield 16, 3) := dk_180 0 16 (dk_at dksX1_create_0 17 rfl rfl)
theorem dX1_create_20 : decode cX1_create 20 = .ok (.invokespecial 310, 3) := dk_183 1 54 (dk_at dksX1_create_0 20 rfl rfl)
theorem dX1_create_23 : decode cX1_create 23 = .ok (.astore_n 3, 1) := dk_78 (dk_at dksX1_create_0 23 rfl rfl)
theorem dX1_create_24 : decode cX1_create 24 = .ok (.new 313, 3) := dk_187 1 57 (dk_at dksX1_create_1 0 rfl rfl)
theorem dX1_create_27 : decode cX1_create 27 = .ok (.dup, 1) := dk_89 (dk_at dksX1_create_1 3 rfl rfl)
theorem dX1_create_28 : decode cX1_create 28 = .ok (.aload_n 3, 1) := dk_45 (dk_at dksX1_create_1 4 rfl rfl)
theorem dX1_create_29 : decode cX1_create 29 = .ok (.invokespecial 315, 3) := dk_183 1 59 (dk_at dksX1_create_1 5 rfl rfl)
theorem dX1_create_32 : decode cX1_create 32 = .ok (.aload_n 2, 1) := dk_44 (dk_at dksX1_create_1 8 rfl rfl)
theorem dX1_create_33 : decode cX1_create 33 = .ok (.invokevirtual 316, 3) := dk_182 1 60 (dk_at dksX1_create_1 9 rfl rfl)
theorem dX1_create_36 : decode cX1_create 36 = .ok (.aload_n 0, 1) := dk_42 (dk_at dksX1_create_1 12 rfl rfl)
theorem dX1_create_37 : decode cX1_create 37 = .ok (.aload_n 3, 1) := dk_45 (dk_at dksX1_create_1 13 rfl rfl)
theorem dX1_create_38 : decode cX1_create 38 = .ok (.putfield 16, 3) := dk_181 0 16 (dk_at dksX1_create_1 14 rfl rfl)
theorem dX1_create_41 : decode cX1_create 41 = .ok (.aload_n 2, 1) := dk_44 (dk_at dksX1_create_1 17 rfl rfl)
theorem dX1_create_42 : decode cX1_create 42 = .ok (.invokevirtual 43, 3) := dk_182 0 43 (dk_at dksX1_create_1 18 rfl rfl)
theorem dX1_create_45 : decode cX1_create 45 = .ok (.ireturn, 1) := dk_172 (dk_at dksX1_create_1 21 rfl rfl)
abbrev cX1_failure : ByteArray := prog_1_method_55_code
def yX1_failure : MethodName := ⟨RX1, "failure", "(I)I"⟩
def dkwX1_failure_3 : List UInt8 := [167, 0, 4, 2, 172]
abbrev dktX1_failure_3 : List UInt8 := dkwX1_failure_3 ++ []
def dkwX1_failure_2 : List UInt8 := [132, 3, 1, 167, 255, 239, 44, 193, 1, 81, 153, 0, 15, 44, 192, 1, 81, 78, 45, 182, 1, 83]
abbrev dktX1_failure_2 : List UInt8 := dkwX1_failure_2 ++ dktX1_failure_3
def dkwX1_failure_1 : List UInt8 := [172, 42, 180, 0, 228, 77, 3, 62, 29, 27, 162, 0, 18, 44, 198, 0, 14, 44, 182, 1, 75, 77]
abbrev dktX1_failure_1 : List UInt8 := dkwX1_failure_1 ++ dktX1_failure_2
def dkwX1_failure_0 : List UInt8 := [27, 155, 0, 7, 4, 167, 0, 4, 3, 184, 0, 80, 42, 180, 0, 228, 199, 0, 9, 27, 154, 0, 5, 3]
abbrev dktX1_failure_0 : List UInt8 := dkwX1_failure_0 ++ dktX1_failure_1
theorem dksX1_failure_0 : cX1_failure.data.toList.drop 0 = dktX1_failure_0 := by decide +kernel
theorem dksX1_failure_1 : cX1_failure.data.toList.drop 24 = dktX1_failure_1 := dk_seg dksX1_failure_0 24 rfl rfl
theorem dksX1_failure_2 : cX1_failure.data.toList.drop 46 = dktX1_failure_2 := dk_seg dksX1_failure_1 22 rfl rfl
theorem dksX1_failure_3 : cX1_failure.data.toList.drop 68 = dktX1_failure_3 := dk_seg dksX1_failure_2 22 rfl rfl
theorem dX1_failure_0 : decode cX1_failure 0 = .ok (.iload_n 1, 1) := dk_27 (dk_at dksX1_failure_0 0 rfl rfl)
theorem dX1_failure_1 : decode cX1_failure 1 = .ok (.ifCond .lt 7, 3) := dk_155 0 7 (dk_at dksX1_failure_0 1 rfl rfl)
theorem dX1_failure_4 : decode cX1_failure 4 = .ok (.iconst 1, 1) := dk_4 (dk_at dksX1_failure_0 4 rfl rfl)
theorem dX1_failure_5 : decode cX1_failure 5 = .ok (.goto 4, 3) := dk_167 0 4 (dk_at dksX1_failure_0 5 rfl rfl)
theorem dX1_failure_8 : decode cX1_failure 8 = .ok (.iconst 0, 1) := dk_3 (dk_at dksX1_failure_0 8 rfl rfl)
theorem dX1_failure_9 : decode cX1_failure 9 = .ok (.invokestatic 80, 3) := dk_184 0 80 (dk_at dksX1_failure_0 9 rfl rfl)
theorem dX1_failure_12 : decode cX1_failure 12 = .ok (.aload_n 0, 1) := dk_42 (dk_at dksX1_failure_0 12 rfl rfl)
theorem dX1_failure_13 : decode cX1_failure 13 = .ok (.getfield 228, 3) := dk_180 0 228 (dk_at dksX1_failure_0 13 rfl rfl)
theorem dX1_failure_16 : decode cX1_failure 16 = .ok (.ifnonnull 9, 3) := dk_199 0 9 (dk_at dksX1_failure_0 16 rfl rfl)
theorem dX1_failure_19 : decode cX1_failure 19 = .ok (.iload_n 1, 1) := dk_27 (dk_at dksX1_failure_0 19 rfl rfl)
theorem dX1_failure_20 : decode cX1_failure 20 = .ok (.ifCond .ne 5, 3) := dk_154 0 5 (dk_at dksX1_failure_0 20 rfl rfl)
theorem dX1_failure_23 : decode cX1_failure 23 = .ok (.iconst 0, 1) := dk_3 (dk_at dksX1_failure_0 23 rfl rfl)
theorem dX1_failure_24 : decode cX1_failure 24 = .ok (.ireturn, 1) := dk_172 (dk_at dksX1_failure_1 0 rfl rfl)
theorem dX1_failure_25 : decode cX1_failure 25 = .ok (.aload_n 0, 1) := dk_42 (dk_at dksX1_failure_1 1 rfl rfl)
theorem dX1_failure_26 : decode cX1_failure 26 = .ok (.getfield 228, 3) := dk_180 0 228 (dk_at dksX1_failure_1 2 rfl rfl)
theorem dX1_failure_29 : decode cX1_failure 29 = .ok (.astore_n 2, 1) := dk_77 (dk_at dksX1_failure_1 5 rfl rfl)
theorem dX1_failure_30 : decode cX1_failure 30 = .ok (.iconst 0, 1) := dk_3 (dk_at dksX1_failure_1 6 rfl rfl)
theorem dX1_failure_31 : decode cX1_failure 31 = .ok (.istore_n 3, 1) := dk_62 (dk_at dksX1_failure_1 7 rfl rfl)
theorem dX1_failure_32 : decode cX1_failure 32 = .ok (.iload_n 3, 1) := dk_29 (dk_at dksX1_failure_1 8 rfl rfl)
theorem dX1_failure_33 : decode cX1_failure 33 = .ok (.iload_n 1, 1) := dk_27 (dk_at dksX1_failure_1 9 rfl rfl)
theorem dX1_failure_34 : decode cX1_failure 34 = .ok (.if_icmp .ge 18, 3) := dk_162 0 18 (dk_at dksX1_failure_1 10 rfl rfl)
theorem dX1_failure_37 : decode cX1_failure 37 = .ok (.aload_n 2, 1) := dk_44 (dk_at dksX1_failure_1 13 rfl rfl)
theorem dX1_failure_38 : decode cX1_failure 38 = .ok (.ifnull 14, 3) := dk_198 0 14 (dk_at dksX1_failure_1 14 rfl rfl)
theorem dX1_failure_41 : decode cX1_failure 41 = .ok (.aload_n 2, 1) := dk_44 (dk_at dksX1_failure_1 17 rfl rfl)
theorem dX1_failure_42 : decode cX1_failure 42 = .ok (.invokevirtual 331, 3) := dk_182 1 75 (dk_at dksX1_failure_1 18 rfl rfl)
theorem dX1_failure_45 : decode cX1_failure 45 = .ok (.astore_n 2, 1) := dk_77 (dk_at dksX1_failure_1 21 rfl rfl)
theorem dX1_failure_46 : decode cX1_failure 46 = .ok (.iinc 3 1, 3) := dk_132 3 1 (dk_at dksX1_failure_2 0 rfl rfl)
theorem dX1_failure_49 : decode cX1_failure 49 = .ok (.goto (-17), 3) := dk_167 255 239 (dk_at dksX1_failure_2 3 rfl rfl)
theorem dX1_failure_52 : decode cX1_failure 52 = .ok (.aload_n 2, 1) := dk_44 (dk_at dksX1_failure_2 6 rfl rfl)
theorem dX1_failure_53 : decode cX1_failure 53 = .ok (.instanceof 337, 3) := dk_193 1 81 (dk_at dksX1_failure_2 7 rfl rfl)
theorem dX1_failure_56 : decode cX1_failure 56 = .ok (.ifCond .eq 15, 3) := dk_153 0 15 (dk_at dksX1_failure_2 10 rfl rfl)
theorem dX1_failure_59 : decode cX1_failure 59 = .ok (.aload_n 2, 1) := dk_44 (dk_at dksX1_failure_2 13 rfl rfl)
theorem dX1_failure_60 : decode cX1_failure 60 = .ok (.checkcast 337, 3) := dk_192 1 81 (dk_at dksX1_failure_2 14 rfl rfl)
theorem dX1_failure_63 : decode cX1_failure 63 = .ok (.astore_n 3, 1) := dk_78 (dk_at dksX1_failure_2 17 rfl rfl)
theorem dX1_failure_64 : decode cX1_failure 64 = .ok (.aload_n 3, 1) := dk_45 (dk_at dksX1_failure_2 18 rfl rfl)
theorem dX1_failure_65 : decode cX1_failure 65 = .ok (.invokevirtual 339, 3) := dk_182 1 83 (dk_at dksX1_failure_2 19 rfl rfl)
theorem dX1_failure_68 : decode cX1_failure 68 = .ok (.goto 4, 3) := dk_167 0 4 (dk_at dksX1_failure_3 0 rfl rfl)
theorem dX1_failure_71 : decode cX1_failure 71 = .ok (.iconst (-1), 1) := dk_2 (dk_at dksX1_failure_3 3 rfl rfl)
theorem dX1_failure_72 : decode cX1_failure 72 = .ok (.ireturn, 1) := dk_172 (dk_at dksX1_failure_3 4 rfl rfl)
abbrev cX1_restore : ByteArray := prog_1_method_57_code
def yX1_restore : MethodName := ⟨RX1, "restore", "()V"⟩
def dkwX1_restore_1 : List UInt8 := [183, 1, 54, 181, 0, 16, 177]
abbrev dktX1_restore_1 : List UInt8 := dkwX1_restore_1 ++ []
def dkwX1_restore_0 : List UInt8 := [42, 180, 1, 86, 198, 0, 7, 4, 167, 0, 4, 3, 184, 0, 83, 42, 187, 0, 13, 89, 42, 180, 1, 86]
abbrev dktX1_restore_0 : List UInt8 := dkwX1_restore_0 ++ dktX1_restore_1
theorem dksX1_restore_0 : cX1_restore.data.toList.drop 0 = dktX1_restore_0 := by decide +kernel
theorem dksX1_restore_1 : cX1_restore.data.toList.drop 24 = dktX1_restore_1 := dk_seg dksX1_restore_0 24 rfl rfl
theorem dX1_restore_0 : decode cX1_restore 0 = .ok (.aload_n 0, 1) := dk_42 (dk_at dksX1_restore_0 0 rfl rfl)
theorem dX1_restore_1 : decode cX1_restore 1 = .ok (.getfield 342, 3) := dk_180 1 86 (dk_at dksX1_restore_0 1 rfl rfl)
theorem dX1_restore_4 : decode cX1_restore 4 = .ok (.ifnull 7, 3) := dk_198 0 7 (dk_at dksX1_restore_0 4 rfl rfl)
theorem dX1_restore_7 : decode cX1_restore 7 = .ok (.iconst 1, 1) := dk_4 (dk_at dksX1_restore_0 7 rfl rfl)
theorem dX1_restore_8 : decode cX1_restore 8 = .ok (.goto 4, 3) := dk_167 0 4 (dk_at dksX1_restore_0 8 rfl rfl)
theorem dX1_restore_11 : decode cX1_restore 11 = .ok (.iconst 0, 1) := dk_3 (dk_at dksX1_restore_0 11 rfl rfl)
theorem dX1_restore_12 : decode cX1_restore 12 = .ok (.invokestatic 83, 3) := dk_184 0 83 (dk_at dksX1_restore_0 12 rfl rfl)
theorem dX1_restore_15 : decode cX1_restore 15 = .ok (.aload_n 0, 1) := dk_42 (dk_at dksX1_restore_0 15 rfl rfl)
theorem dX1_restore_16 : decode cX1_restore 16 = .ok (.new 13, 3) := dk_187 0 13 (dk_at dksX1_restore_0 16 rfl rfl)
theorem dX1_restore_19 : decode cX1_restore 19 = .ok (.dup, 1) := dk_89 (dk_at dksX1_restore_0 19 rfl rfl)
theorem dX1_restore_20 : decode cX1_restore 20 = .ok (.aload_n 0, 1) := dk_42 (dk_at dksX1_restore_0 20 rfl rfl)
theorem dX1_restore_21 : decode cX1_restore 21 = .ok (.getfield 342, 3) := dk_180 1 86 (dk_at dksX1_restore_0 21 rfl rfl)
theorem dX1_restore_24 : decode cX1_restore 24 = .ok (.invokespecial 310, 3) := dk_183 1 54 (dk_at dksX1_restore_1 0 rfl rfl)
theorem dX1_restore_27 : decode cX1_restore 27 = .ok (.putfield 16, 3) := dk_181 0 16 (dk_at dksX1_restore_1 3 rfl rfl)
theorem dX1_restore_30 : decode cX1_restore 30 = .ok (.return_, 1) := dk_177 (dk_at dksX1_restore_1 6 rfl rfl)
theorem q89 : (Jvm.Cond.initialized "SetupJobShop") ∈ lw_all := lw_g (lw_at lw_m1 1 rfl) rfl
theorem q133 : (Jvm.Cond.instantiable "SetupJobShop" (6 : Nat)) ∈ lw_all := lw_g (lw_at lw_m1 45 rfl) rfl
theorem q135 : (Jvm.Cond.instanceMethod ({ cls := "SetupJobShop", name := "<init>", desc := "()V" } : Jvm.MethodName)) ∈ lw_all := lw_g (lw_at lw_m1 47 rfl) rfl
theorem q136 : (Jvm.Cond.code ({ cls := "SetupJobShop", name := "<init>", desc := "()V" } : Jvm.MethodName) prog_1_method_3_code (1 : Nat) (Option.none : Option Jvm.ClassFile.FieldType)) ∈ lw_all := lw_g (lw_at lw_m1 48 rfl) rfl
theorem q137 : (Jvm.Cond.methodLink "SetupJobShop" (7 : Nat) ({ cls := "java/lang/Object", name := "<init>", desc := "()V" } : Jvm.MethodName)) ∈ lw_all := lw_g (lw_at lw_m1 49 rfl) rfl
theorem q140 : (Jvm.Cond.classLink "SetupJobShop" (13 : Nat) "SetupJobShop$Shop") ∈ lw_all := lw_g (lw_at lw_m1 52 rfl) rfl
theorem q142 : (Jvm.Cond.methodLink "SetupJobShop" (15 : Nat) ({ cls := "SetupJobShop$Shop", name := "<init>", desc := "()V" } : Jvm.MethodName)) ∈ lw_all := lw_g (lw_at lw_m1 54 rfl) rfl
theorem q204 : (Jvm.Cond.selects "SetupJobShop" ({ cls := "java/lang/Object", name := "getClass", desc := "()Ljava/lang/Class;" } : Jvm.MethodName) ({ cls := "java/lang/Object", name := "getClass", desc := "()Ljava/lang/Class;" } : Jvm.MethodName)) ∈ lw_all := lw_g (lw_at lw_m1 116 rfl) rfl
theorem q256 : (Jvm.Cond.fieldLinkNest "SetupJobShop" (155 : Nat) "SetupJobShop$Order" "row" "[I" "SetupJobShop") ∈ lw_tbl := lw_at lw_m1 168 rfl
theorem q260 : (Jvm.Cond.fieldLinkNest "SetupJobShop" (150 : Nat) "SetupJobShop$Order" "size" "I" "SetupJobShop") ∈ lw_tbl := lw_at lw_m1 172 rfl
theorem q270 : (Jvm.Cond.fieldLinkNest "SetupJobShop" (39 : Nat) "SetupJobShop$Shop" "jobs" "Ljava/util/ArrayList;" "SetupJobShop") ∈ lw_tbl := lw_at lw_m1 182 rfl
theorem q273 : (Jvm.Cond.fieldLinkNest "SetupJobShop" (59 : Nat) "SetupJobShop$Shop" "operations" "Ljava/util/ArrayList;" "SetupJobShop") ∈ lw_tbl := lw_at lw_m1 185 rfl
theorem q275 : (Jvm.Cond.fieldLinkNest "SetupJobShop" (116 : Nat) "SetupJobShop$Shop" "setups" "[I" "SetupJobShop") ∈ lw_tbl := lw_at lw_m1 187 rfl
theorem q277 : (Jvm.Cond.fieldLinkNest "SetupJobShop" (119 : Nat) "SetupJobShop$Shop" "breakdowns" "Ljava/util/ArrayList;" "SetupJobShop") ∈ lw_tbl := lw_at lw_m1 189 rfl
theorem q281 : (Jvm.Cond.fieldLinkNest "SetupJobShop" (64 : Nat) "SetupJobShop$Shop" "orders" "Ljava/util/ArrayList;" "SetupJobShop") ∈ lw_tbl := lw_at lw_m1 193 rfl
theorem q284 : (Jvm.Cond.fieldLinkNest "SetupJobShop" (161 : Nat) "SetupJobShop$Shop" "ready" "[I" "SetupJobShop") ∈ lw_tbl := lw_at lw_m1 196 rfl
theorem q287 : (Jvm.Cond.fieldLinkNest "SetupJobShop" (164 : Nat) "SetupJobShop$Shop" "start" "[I" "SetupJobShop") ∈ lw_tbl := lw_at lw_m1 199 rfl
theorem q289 : (Jvm.Cond.fieldLinkNest "SetupJobShop" (167 : Nat) "SetupJobShop$Shop" "end" "[I" "SetupJobShop") ∈ lw_tbl := lw_at lw_m1 201 rfl
theorem q292 : (Jvm.Cond.fieldLinkNest "SetupJobShop" (73 : Nat) "SetupJobShop$Shop" "makespan" "I" "SetupJobShop") ∈ lw_tbl := lw_at lw_m1 204 rfl
theorem q323 : (Jvm.Cond.classLink "SetupJobShop" (20 : Nat) "java/lang/StringBuilder") ∈ lw_all := lw_g (lw_at lw_m1 235 rfl) rfl
theorem q325 : (Jvm.Cond.methodLink "SetupJobShop" (22 : Nat) ({ cls := "java/lang/StringBuilder", name := "<init>", desc := "()V" } : Jvm.MethodName)) ∈ lw_all := lw_g (lw_at lw_m1 237 rfl) rfl
theorem q355 : (Jvm.Cond.fieldLink "SetupJobShop" (16 : Nat) "SetupJobShop" "shop" "LSetupJobShop$Shop;") ∈ lw_all := lw_g (lw_at lw_m2 27 rfl) rfl
theorem q356 : (Jvm.Cond.fieldLink "SetupJobShop" (342 : Nat) "SetupJobShop" "saved" "LSetupJobShop$Shop;") ∈ lw_all := lw_g (lw_at lw_m2 28 rfl) rfl
theorem q357 : (Jvm.Cond.fieldLink "SetupJobShop" (23 : Nat) "SetupJobShop" "text" "Ljava/lang/StringBuilder;") ∈ lw_all := lw_g (lw_at lw_m2 29 rfl) rfl
theorem q358 : (Jvm.Cond.fieldLink "SetupJobShop" (228 : Nat) "SetupJobShop" "failure" "LSetupJobShop$Failure;") ∈ lw_all := lw_g (lw_at lw_m2 30 rfl) rfl
theorem q359 : (Jvm.Cond.fieldLink "SetupJobShop" (273 : Nat) "SetupJobShop" "closed" "[I") ∈ lw_all := lw_g (lw_at lw_m2 31 rfl) rfl
theorem q360 : (Jvm.Cond.fieldLink "SetupJobShop" (286 : Nat) "SetupJobShop" "stepsMade" "I") ∈ lw_all := lw_g (lw_at lw_m2 32 rfl) rfl
theorem q361 : (Jvm.Cond.lays "SetupJobShop" "SetupJobShop" "shop" "LSetupJobShop$Shop;") ∈ lw_all := lw_g (lw_at lw_m2 33 rfl) rfl
theorem q362 : (Jvm.Cond.soleField "SetupJobShop" "shop") ∈ lw_all := lw_g (lw_at lw_m2 34 rfl) rfl
theorem q363 : (Jvm.Cond.lays "SetupJobShop" "SetupJobShop" "saved" "LSetupJobShop$Shop;") ∈ lw_all := lw_g (lw_at lw_m2 35 rfl) rfl
theorem q364 : (Jvm.Cond.soleField "SetupJobShop" "saved") ∈ lw_all := lw_g (lw_at lw_m2 36 rfl) rfl
theorem q365 : (Jvm.Cond.lays "SetupJobShop" "SetupJobShop" "text" "Ljava/lang/StringBuilder;") ∈ lw_all := lw_g (lw_at lw_m2 37 rfl) rfl
theorem q366 : (Jvm.Cond.soleField "SetupJobShop" "text") ∈ lw_all := lw_g (lw_at lw_m2 38 rfl) rfl
theorem q367 : (Jvm.Cond.lays "SetupJobShop" "SetupJobShop" "failure" "LSetupJobShop$Failure;") ∈ lw_all := lw_g (lw_at lw_m2 39 rfl) rfl
theorem q368 : (Jvm.Cond.soleField "SetupJobShop" "failure") ∈ lw_all := lw_g (lw_at lw_m2 40 rfl) rfl
theorem q369 : (Jvm.Cond.lays "SetupJobShop" "SetupJobShop" "closed" "[I") ∈ lw_all := lw_g (lw_at lw_m2 41 rfl) rfl
theorem q370 : (Jvm.Cond.soleField "SetupJobShop" "closed") ∈ lw_all := lw_g (lw_at lw_m2 42 rfl) rfl
theorem q371 : (Jvm.Cond.lays "SetupJobShop" "SetupJobShop" "stepsMade" "I") ∈ lw_all := lw_g (lw_at lw_m2 43 rfl) rfl
theorem q372 : (Jvm.Cond.soleField "SetupJobShop" "stepsMade") ∈ lw_all := lw_g (lw_at lw_m2 44 rfl) rfl
theorem q373 : (Jvm.Cond.superclass "SetupJobShop" "java/lang/Object") ∈ lw_all := lw_g (lw_at lw_m2 45 rfl) rfl
theorem q375 : (Jvm.Cond.instanceMethod ({ cls := "SetupJobShop", name := "makespan", desc := "()I" } : Jvm.MethodName)) ∈ lw_all := lw_g (lw_at lw_m2 47 rfl) rfl
theorem q376 : (Jvm.Cond.selects "SetupJobShop" ({ cls := "SetupJobShop", name := "makespan", desc := "()I" } : Jvm.MethodName) ({ cls := "SetupJobShop", name := "makespan", desc := "()I" } : Jvm.MethodName)) ∈ lw_all := lw_g (lw_at lw_m2 48 rfl) rfl
theorem q377 : (Jvm.Cond.code ({ cls := "SetupJobShop", name := "makespan", desc := "()I" } : Jvm.MethodName) prog_1_method_23_code (1 : Nat) (Option.some Jvm.ClassFile.FieldType.int)) ∈ lw_all := lw_g (lw_at lw_m2 49 rfl) rfl
theorem q378 : (Jvm.Cond.methodLink "SetupJobShop" (158 : Nat) ({ cls := "SetupJobShop", name := "compute", desc := "()I" } : Jvm.MethodName)) ∈ lw_all := lw_g (lw_at lw_m2 50 rfl) rfl
theorem q379 : (Jvm.Cond.privateMethod ({ cls := "SetupJobShop", name := "compute", desc := "()I" } : Jvm.MethodName)) ∈ lw_tbl := lw_at lw_m2 51 rfl
theorem q380 : (Jvm.Cond.instanceMethod ({ cls := "SetupJobShop", name := "compute", desc := "()I" } : Jvm.MethodName)) ∈ lw_all := lw_g (lw_at lw_m2 52 rfl) rfl
theorem q381 : (Jvm.Cond.code ({ cls := "SetupJobShop", name := "compute", desc := "()I" } : Jvm.MethodName) prog_1_method_11_code (2 : Nat) (Option.some Jvm.ClassFile.FieldType.int)) ∈ lw_all := lw_g (lw_at lw_m2 53 rfl) rfl
theorem q382 : (Jvm.Cond.methodLink "SetupJobShop" (69 : Nat) ({ cls := "SetupJobShop$Shop", name := "isScheduled", desc := "(I)Z" } : Jvm.MethodName)) ∈ lw_all := lw_g (lw_at lw_m2 54 rfl) rfl
theorem q441 : (Jvm.Cond.instanceMethod ({ cls := "SetupJobShop", name := "pathLength", desc := "()I" } : Jvm.MethodName)) ∈ lw_all := lw_g (lw_at lw_m2 113 rfl) rfl
theorem q442 : (Jvm.Cond.selects "SetupJobShop" ({ cls := "SetupJobShop", name := "pathLength", desc := "()I" } : Jvm.MethodName) ({ cls := "SetupJobShop", name := "pathLength", desc := "()I" } : Jvm.MethodName)) ∈ lw_all := lw_g (lw_at lw_m2 114 rfl) rfl
theorem q443 : (Jvm.Cond.code ({ cls := "SetupJobShop", name := "pathLength", desc := "()I" } : Jvm.MethodName) prog_1_method_31_code (1 : Nat) (Option.some Jvm.ClassFile.FieldType.int)) ∈ lw_all := lw_g (lw_at lw_m2 115 rfl) rfl
theorem q444 : (Jvm.Cond.methodLink "SetupJobShop" (196 : Nat) ({ cls := "SetupJobShop", name := "criticalPath", desc := "()Ljava/util/ArrayList;" } : Jvm.MethodName)) ∈ lw_all := lw_g (lw_at lw_m2 116 rfl) rfl
theorem q445 : (Jvm.Cond.privateMethod ({ cls := "SetupJobShop", name := "criticalPath", desc := "()Ljava/util/ArrayList;" } : Jvm.MethodName)) ∈ lw_tbl := lw_at lw_m2 117 rfl
theorem q446 : (Jvm.Cond.instanceMethod ({ cls := "SetupJobShop", name := "criticalPath", desc := "()Ljava/util/ArrayList;" } : Jvm.MethodName)) ∈ lw_all := lw_g (lw_at lw_m2 118 rfl) rfl
theorem q447 : (Jvm.Cond.code ({ cls := "SetupJobShop", name := "criticalPath", desc := "()Ljava/util/ArrayList;" } : Jvm.MethodName) prog_1_method_30_code (1 : Nat) (Option.some (Jvm.ClassFile.FieldType.object "java/util/ArrayList"))) ∈ lw_all := lw_g (lw_at lw_m2 119 rfl) rfl
theorem q448 : (Jvm.Cond.methodLink "SetupJobShop" (192 : Nat) ({ cls := "SetupJobShop$Shop", name := "path", desc := "()Ljava/util/ArrayList;" } : Jvm.MethodName)) ∈ lw_all := lw_g (lw_at lw_m2 120 rfl) rfl
theorem q456 : (Jvm.Cond.methodLink "SetupJobShop" (43 : Nat) ({ cls := "java/util/ArrayList", name := "size", desc := "()I" } : Jvm.MethodName)) ∈ lw_all := lw_g (lw_at lw_m2 128 rfl) rfl
theorem q458 : (Jvm.Cond.instanceMethod ({ cls := "SetupJobShop", name := "blocks", desc := "()I" } : Jvm.MethodName)) ∈ lw_all := lw_g (lw_at lw_m2 130 rfl) rfl
theorem q459 : (Jvm.Cond.selects "SetupJobShop" ({ cls := "SetupJobShop", name := "blocks", desc := "()I" } : Jvm.MethodName) ({ cls := "SetupJobShop", name := "blocks", desc := "()I" } : Jvm.MethodName)) ∈ lw_all := lw_g (lw_at lw_m2 131 rfl) rfl
theorem q460 : (Jvm.Cond.code ({ cls := "SetupJobShop", name := "blocks", desc := "()I" } : Jvm.MethodName) prog_1_method_34_code (1 : Nat) (Option.some Jvm.ClassFile.FieldType.int)) ∈ lw_all := lw_g (lw_at lw_m2 132 rfl) rfl
theorem q461 : (Jvm.Cond.methodLink "SetupJobShop" (209 : Nat) ({ cls := "SetupJobShop", name := "blockLengths", desc := "()Ljava/util/ArrayList;" } : Jvm.MethodName)) ∈ lw_all := lw_g (lw_at lw_m2 133 rfl) rfl
theorem q462 : (Jvm.Cond.privateMethod ({ cls := "SetupJobShop", name := "blockLengths", desc := "()Ljava/util/ArrayList;" } : Jvm.MethodName)) ∈ lw_tbl := lw_at lw_m2 134 rfl
theorem q463 : (Jvm.Cond.instanceMethod ({ cls := "SetupJobShop", name := "blockLengths", desc := "()Ljava/util/ArrayList;" } : Jvm.MethodName)) ∈ lw_all := lw_g (lw_at lw_m2 135 rfl) rfl
theorem q464 : (Jvm.Cond.code ({ cls := "SetupJobShop", name := "blockLengths", desc := "()Ljava/util/ArrayList;" } : Jvm.MethodName) prog_1_method_33_code (5 : Nat) (Option.some (Jvm.ClassFile.FieldType.object "java/util/ArrayList"))) ∈ lw_all := lw_g (lw_at lw_m2 136 rfl) rfl
theorem q465 : (Jvm.Cond.classLink "SetupJobShop" (44 : Nat) "java/util/ArrayList") ∈ lw_all := lw_g (lw_at lw_m2 137 rfl) rfl
theorem q466 : (Jvm.Cond.methodLink "SetupJobShop" (202 : Nat) ({ cls := "java/util/ArrayList", name := "<init>", desc := "()V" } : Jvm.MethodName)) ∈ lw_all := lw_g (lw_at lw_m2 138 rfl) rfl
theorem q467 : (Jvm.Cond.methodLink "SetupJobShop" (53 : Nat) ({ cls := "java/util/ArrayList", name := "get", desc := "(I)Ljava/lang/Object;" } : Jvm.MethodName)) ∈ lw_all := lw_g (lw_at lw_m2 139 rfl) rfl
theorem q468 : (Jvm.Cond.classLink "SetupJobShop" (62 : Nat) "SetupJobShop$Operation") ∈ lw_all := lw_g (lw_at lw_m2 140 rfl) rfl
theorem q469 : (Jvm.Cond.methodLink "SetupJobShop" (203 : Nat) ({ cls := "java/lang/Integer", name := "valueOf", desc := "(I)Ljava/lang/Integer;" } : Jvm.MethodName)) ∈ lw_all := lw_g (lw_at lw_m2 141 rfl) rfl
theorem q489 : (Jvm.Cond.methodLink "SetupJobShop" (89 : Nat) ({ cls := "java/util/ArrayList", name := "add", desc := "(Ljava/lang/Object;)Z" } : Jvm.MethodName)) ∈ lw_all := lw_g (lw_at lw_m2 161 rfl) rfl
theorem q491 : (Jvm.Cond.instanceMethod ({ cls := "SetupJobShop", name := "shiftBottlenecks", desc := "()I" } : Jvm.MethodName)) ∈ lw_all := lw_g (lw_at lw_m2 163 rfl) rfl
theorem q492 : (Jvm.Cond.selects "SetupJobShop" ({ cls := "SetupJobShop", name := "shiftBottlenecks", desc := "()I" } : Jvm.MethodName) ({ cls := "SetupJobShop", name := "shiftBottlenecks", desc := "()I" } : Jvm.MethodName)) ∈ lw_all := lw_g (lw_at lw_m2 164 rfl) rfl
theorem q493 : (Jvm.Cond.code ({ cls := "SetupJobShop", name := "shiftBottlenecks", desc := "()I" } : Jvm.MethodName) prog_1_method_46_code (1 : Nat) (Option.some Jvm.ClassFile.FieldType.int)) ∈ lw_all := lw_g (lw_at lw_m2 165 rfl) rfl
theorem q494 : (Jvm.Cond.methodLink "SetupJobShop" (269 : Nat) ({ cls := "SetupJobShop$Shop", name := "shift", desc := "()[I" } : Jvm.MethodName)) ∈ lw_all := lw_g (lw_at lw_m2 166 rfl) rfl
theorem q525 : (Jvm.Cond.instanceMethod ({ cls := "SetupJobShop", name := "tabuSteps", desc := "()I" } : Jvm.MethodName)) ∈ lw_all := lw_g (lw_at lw_m2 197 rfl) rfl
theorem q526 : (Jvm.Cond.selects "SetupJobShop" ({ cls := "SetupJobShop", name := "tabuSteps", desc := "()I" } : Jvm.MethodName) ({ cls := "SetupJobShop", name := "tabuSteps", desc := "()I" } : Jvm.MethodName)) ∈ lw_all := lw_g (lw_at lw_m2 198 rfl) rfl
theorem q527 : (Jvm.Cond.code ({ cls := "SetupJobShop", name := "tabuSteps", desc := "()I" } : Jvm.MethodName) prog_1_method_49_code (1 : Nat) (Option.some Jvm.ClassFile.FieldType.int)) ∈ lw_all := lw_g (lw_at lw_m2 199 rfl) rfl
theorem q529 : (Jvm.Cond.instanceMethod ({ cls := "SetupJobShop", name := "lowerBound", desc := "()I" } : Jvm.MethodName)) ∈ lw_all := lw_g (lw_at lw_m2 201 rfl) rfl
theorem q530 : (Jvm.Cond.selects "SetupJobShop" ({ cls := "SetupJobShop", name := "lowerBound", desc := "()I" } : Jvm.MethodName) ({ cls := "SetupJobShop", name := "lowerBound", desc := "()I" } : Jvm.MethodName)) ∈ lw_all := lw_g (lw_at lw_m2 202 rfl) rfl
theorem q531 : (Jvm.Cond.code ({ cls := "SetupJobShop", name := "lowerBound", desc := "()I" } : Jvm.MethodName) prog_1_method_51_code (1 : Nat) (Option.some Jvm.ClassFile.FieldType.int)) ∈ lw_all := lw_g (lw_at lw_m2 203 rfl) rfl
theorem q532 : (Jvm.Cond.methodLink "SetupJobShop" (292 : Nat) ({ cls := "SetupJobShop$Shop", name := "lowerBound", desc := "()I" } : Jvm.MethodName)) ∈ lw_all := lw_g (lw_at lw_m2 204 rfl) rfl
theorem q564 : (Jvm.Cond.instanceMethod ({ cls := "SetupJobShop", name := "save", desc := "()V" } : Jvm.MethodName)) ∈ lw_all := lw_g (lw_at lw_m2 236 rfl) rfl
theorem q565 : (Jvm.Cond.selects "SetupJobShop" ({ cls := "SetupJobShop", name := "save", desc := "()V" } : Jvm.MethodName) ({ cls := "SetupJobShop", name := "save", desc := "()V" } : Jvm.MethodName)) ∈ lw_all := lw_g (lw_at lw_m2 237 rfl) rfl
theorem q566 : (Jvm.Cond.code ({ cls := "SetupJobShop", name := "save", desc := "()V" } : Jvm.MethodName) prog_1_method_56_code (1 : Nat) (Option.none : Option Jvm.ClassFile.FieldType)) ∈ lw_all := lw_g (lw_at lw_m2 238 rfl) rfl
theorem q567 : (Jvm.Cond.methodLink "SetupJobShop" (310 : Nat) ({ cls := "SetupJobShop$Shop", name := "<init>", desc := "(LSetupJobShop$Shop;)V" } : Jvm.MethodName)) ∈ lw_all := lw_g (lw_at lw_m2 239 rfl) rfl
theorem q587 : (Jvm.Cond.fieldLinkNest "SetupJobShop" (105 : Nat) "SetupJobShop$Job" "values" "[I" "SetupJobShop") ∈ lw_tbl := lw_at lw_m3 19 rfl
theorem q609 : (Jvm.Cond.fieldLinkNest "SetupJobShop" (199 : Nat) "SetupJobShop$Operation" "number" "I" "SetupJobShop") ∈ lw_tbl := lw_at lw_m3 41 rfl
theorem q613 : (Jvm.Cond.fieldLinkNest "SetupJobShop" (130 : Nat) "SetupJobShop$Operation" "job" "I" "SetupJobShop") ∈ lw_tbl := lw_at lw_m3 45 rfl
theorem q619 : (Jvm.Cond.fieldLinkNest "SetupJobShop" (133 : Nat) "SetupJobShop$Operation" "machine" "I" "SetupJobShop") ∈ lw_tbl := lw_at lw_m3 51 rfl
theorem q622 : (Jvm.Cond.fieldLinkNest "SetupJobShop" (136 : Nat) "SetupJobShop$Operation" "family" "I" "SetupJobShop") ∈ lw_tbl := lw_at lw_m3 54 rfl
theorem q626 : (Jvm.Cond.fieldLinkNest "SetupJobShop" (139 : Nat) "SetupJobShop$Operation" "index" "I" "SetupJobShop") ∈ lw_tbl := lw_at lw_m3 58 rfl
theorem q631 : (Jvm.Cond.fieldLinkNest "SetupJobShop" (113 : Nat) "SetupJobShop$Operation" "duration" "I" "SetupJobShop") ∈ lw_tbl := lw_at lw_m3 63 rfl
theorem q672 : (Jvm.Cond.instanceMethod ({ cls := "SetupJobShop", name := "addJob", desc := "(III)I" } : Jvm.MethodName)) ∈ lw_all := lw_g (lw_at lw_m3 104 rfl) rfl
theorem q673 : (Jvm.Cond.selects "SetupJobShop" ({ cls := "SetupJobShop", name := "addJob", desc := "(III)I" } : Jvm.MethodName) ({ cls := "SetupJobShop", name := "addJob", desc := "(III)I" } : Jvm.MethodName)) ∈ lw_all := lw_g (lw_at lw_m3 105 rfl) rfl
theorem q674 : (Jvm.Cond.code ({ cls := "SetupJobShop", name := "addJob", desc := "(III)I" } : Jvm.MethodName) prog_1_method_12_code (4 : Nat) (Option.some Jvm.ClassFile.FieldType.int)) ∈ lw_all := lw_g (lw_at lw_m3 106 rfl) rfl
theorem q675 : (Jvm.Cond.methodLink "SetupJobShop" (77 : Nat) ({ cls := "SetupJobShop", name := "areJobValues", desc := "(III)Z" } : Jvm.MethodName)) ∈ lw_all := lw_g (lw_at lw_m3 107 rfl) rfl
theorem q676 : (Jvm.Cond.static ({ cls := "SetupJobShop", name := "areJobValues", desc := "(III)Z" } : Jvm.MethodName)) ∈ lw_all := lw_g (lw_at lw_m3 108 rfl) rfl
theorem q677 : (Jvm.Cond.code ({ cls := "SetupJobShop", name := "areJobValues", desc := "(III)Z" } : Jvm.MethodName) prog_1_method_2_code (3 : Nat) (Option.some Jvm.ClassFile.FieldType.boolean)) ∈ lw_all := lw_g (lw_at lw_m3 109 rfl) rfl
theorem q678 : (Jvm.Cond.methodLink "SetupJobShop" (3 : Nat) ({ cls := "SetupJobShop", name := "in", desc := "(III)Z" } : Jvm.MethodName)) ∈ lw_all := lw_g (lw_at lw_m3 110 rfl) rfl
theorem q679 : (Jvm.Cond.static ({ cls := "SetupJobShop", name := "in", desc := "(III)Z" } : Jvm.MethodName)) ∈ lw_all := lw_g (lw_at lw_m3 111 rfl) rfl
theorem q680 : (Jvm.Cond.code ({ cls := "SetupJobShop", name := "in", desc := "(III)Z" } : Jvm.MethodName) prog_1_method_1_code (3 : Nat) (Option.some Jvm.ClassFile.FieldType.boolean)) ∈ lw_all := lw_g (lw_at lw_m3 112 rfl) rfl
theorem q681 : (Jvm.Cond.methodLink "SetupJobShop" (80 : Nat) ({ cls := "SetupJobShop", name := "check", desc := "(Z)V" } : Jvm.MethodName)) ∈ lw_all := lw_g (lw_at lw_m3 113 rfl) rfl
theorem q682 : (Jvm.Cond.static ({ cls := "SetupJobShop", name := "check", desc := "(Z)V" } : Jvm.MethodName)) ∈ lw_all := lw_g (lw_at lw_m3 114 rfl) rfl
theorem q683 : (Jvm.Cond.code ({ cls := "SetupJobShop", name := "check", desc := "(Z)V" } : Jvm.MethodName) prog_1_method_4_code (1 : Nat) (Option.none : Option Jvm.ClassFile.FieldType)) ∈ lw_all := lw_g (lw_at lw_m3 115 rfl) rfl
theorem q684 : (Jvm.Cond.classLink "SetupJobShop" (27 : Nat) "java/lang/IllegalArgumentException") ∈ lw_all := lw_g (lw_at lw_m3 116 rfl) rfl
theorem q732 : (Jvm.Cond.methodLink "SetupJobShop" (29 : Nat) ({ cls := "java/lang/IllegalArgumentException", name := "<init>", desc := "()V" } : Jvm.MethodName)) ∈ lw_all := lw_g (lw_at lw_m3 164 rfl) rfl
theorem q755 : (Jvm.Cond.methodLink "SetupJobShop" (83 : Nat) ({ cls := "SetupJobShop", name := "checkState", desc := "(Z)V" } : Jvm.MethodName)) ∈ lw_all := lw_g (lw_at lw_m3 187 rfl) rfl
theorem q756 : (Jvm.Cond.static ({ cls := "SetupJobShop", name := "checkState", desc := "(Z)V" } : Jvm.MethodName)) ∈ lw_all := lw_g (lw_at lw_m3 188 rfl) rfl
theorem q757 : (Jvm.Cond.code ({ cls := "SetupJobShop", name := "checkState", desc := "(Z)V" } : Jvm.MethodName) prog_1_method_7_code (1 : Nat) (Option.none : Option Jvm.ClassFile.FieldType)) ∈ lw_all := lw_g (lw_at lw_m3 189 rfl) rfl
theorem q758 : (Jvm.Cond.classLink "SetupJobShop" (36 : Nat) "java/lang/IllegalStateException") ∈ lw_all := lw_g (lw_at lw_m3 190 rfl) rfl
theorem q767 : (Jvm.Cond.methodLink "SetupJobShop" (38 : Nat) ({ cls := "java/lang/IllegalStateException", name := "<init>", desc := "()V" } : Jvm.MethodName)) ∈ lw_all := lw_g (lw_at lw_m3 199 rfl) rfl
theorem q773 : (Jvm.Cond.classLink "SetupJobShop" (57 : Nat) "SetupJobShop$Job") ∈ lw_all := lw_g (lw_at lw_m3 205 rfl) rfl
theorem q774 : (Jvm.Cond.methodLink "SetupJobShop" (86 : Nat) ({ cls := "SetupJobShop$Job", name := "<init>", desc := "(III)V" } : Jvm.MethodName)) ∈ lw_all := lw_g (lw_at lw_m3 206 rfl) rfl
theorem q811 : (Jvm.Cond.instanceMethod ({ cls := "SetupJobShop", name := "addOperation", desc := "(IIII)I" } : Jvm.MethodName)) ∈ lw_all := lw_g (lw_at lw_m4 3 rfl) rfl
theorem q812 : (Jvm.Cond.selects "SetupJobShop" ({ cls := "SetupJobShop", name := "addOperation", desc := "(IIII)I" } : Jvm.MethodName) ({ cls := "SetupJobShop", name := "addOperation", desc := "(IIII)I" } : Jvm.MethodName)) ∈ lw_all := lw_g (lw_at lw_m4 4 rfl) rfl
theorem q813 : (Jvm.Cond.code ({ cls := "SetupJobShop", name := "addOperation", desc := "(IIII)I" } : Jvm.MethodName) prog_1_method_13_code (5 : Nat) (Option.some Jvm.ClassFile.FieldType.int)) ∈ lw_all := lw_g (lw_at lw_m4 5 rfl) rfl
theorem q814 : (Jvm.Cond.methodLink "SetupJobShop" (49 : Nat) ({ cls := "SetupJobShop", name := "checkIndex", desc := "(Z)V" } : Jvm.MethodName)) ∈ lw_all := lw_g (lw_at lw_m4 6 rfl) rfl
theorem q815 : (Jvm.Cond.static ({ cls := "SetupJobShop", name := "checkIndex", desc := "(Z)V" } : Jvm.MethodName)) ∈ lw_all := lw_g (lw_at lw_m4 7 rfl) rfl
theorem q816 : (Jvm.Cond.code ({ cls := "SetupJobShop", name := "checkIndex", desc := "(Z)V" } : Jvm.MethodName) prog_1_method_5_code (1 : Nat) (Option.none : Option Jvm.ClassFile.FieldType)) ∈ lw_all := lw_g (lw_at lw_m4 8 rfl) rfl
theorem q817 : (Jvm.Cond.classLink "SetupJobShop" (30 : Nat) "java/lang/IndexOutOfBoundsException") ∈ lw_all := lw_g (lw_at lw_m4 9 rfl) rfl
theorem q826 : (Jvm.Cond.methodLink "SetupJobShop" (32 : Nat) ({ cls := "java/lang/IndexOutOfBoundsException", name := "<init>", desc := "()V" } : Jvm.MethodName)) ∈ lw_all := lw_g (lw_at lw_m4 18 rfl) rfl
theorem q832 : (Jvm.Cond.methodLink "SetupJobShop" (93 : Nat) ({ cls := "SetupJobShop$Shop", name := "canAdd", desc := "(II)Z" } : Jvm.MethodName)) ∈ lw_all := lw_g (lw_at lw_m4 24 rfl) rfl
theorem q840 : (Jvm.Cond.methodLink "SetupJobShop" (97 : Nat) ({ cls := "SetupJobShop$Shop", name := "addOperation", desc := "(IIII)I" } : Jvm.MethodName)) ∈ lw_all := lw_g (lw_at lw_m4 32 rfl) rfl
theorem q845 : (Jvm.Cond.instanceMethod ({ cls := "SetupJobShop", name := "setJob", desc := "(III)I" } : Jvm.MethodName)) ∈ lw_all := lw_g (lw_at lw_m4 37 rfl) rfl
theorem q846 : (Jvm.Cond.selects "SetupJobShop" ({ cls := "SetupJobShop", name := "setJob", desc := "(III)I" } : Jvm.MethodName) ({ cls := "SetupJobShop", name := "setJob", desc := "(III)I" } : Jvm.MethodName)) ∈ lw_all := lw_g (lw_at lw_m4 38 rfl) rfl
theorem q847 : (Jvm.Cond.code ({ cls := "SetupJobShop", name := "setJob", desc := "(III)I" } : Jvm.MethodName) prog_1_method_14_code (6 : Nat) (Option.some Jvm.ClassFile.FieldType.int)) ∈ lw_all := lw_g (lw_at lw_m4 39 rfl) rfl
theorem q848 : (Jvm.Cond.methodLink "SetupJobShop" (101 : Nat) ({ cls := "SetupJobShop", name := "jobAt", desc := "(I)LSetupJobShop$Job;" } : Jvm.MethodName)) ∈ lw_all := lw_g (lw_at lw_m4 40 rfl) rfl
theorem q849 : (Jvm.Cond.privateMethod ({ cls := "SetupJobShop", name := "jobAt", desc := "(I)LSetupJobShop$Job;" } : Jvm.MethodName)) ∈ lw_tbl := lw_at lw_m4 41 rfl
theorem q850 : (Jvm.Cond.instanceMethod ({ cls := "SetupJobShop", name := "jobAt", desc := "(I)LSetupJobShop$Job;" } : Jvm.MethodName)) ∈ lw_all := lw_g (lw_at lw_m4 42 rfl) rfl
theorem q851 : (Jvm.Cond.code ({ cls := "SetupJobShop", name := "jobAt", desc := "(I)LSetupJobShop$Job;" } : Jvm.MethodName) prog_1_method_8_code (2 : Nat) (Option.some (Jvm.ClassFile.FieldType.object "SetupJobShop$Job"))) ∈ lw_all := lw_g (lw_at lw_m4 43 rfl) rfl
theorem q856 : (Jvm.Cond.instanceMethod ({ cls := "SetupJobShop", name := "setDuration", desc := "(II)I" } : Jvm.MethodName)) ∈ lw_all := lw_g (lw_at lw_m4 48 rfl) rfl
theorem q857 : (Jvm.Cond.selects "SetupJobShop" ({ cls := "SetupJobShop", name := "setDuration", desc := "(II)I" } : Jvm.MethodName) ({ cls := "SetupJobShop", name := "setDuration", desc := "(II)I" } : Jvm.MethodName)) ∈ lw_all := lw_g (lw_at lw_m4 49 rfl) rfl
theorem q858 : (Jvm.Cond.code ({ cls := "SetupJobShop", name := "setDuration", desc := "(II)I" } : Jvm.MethodName) prog_1_method_15_code (5 : Nat) (Option.some Jvm.ClassFile.FieldType.int)) ∈ lw_all := lw_g (lw_at lw_m4 50 rfl) rfl
theorem q859 : (Jvm.Cond.methodLink "SetupJobShop" (109 : Nat) ({ cls := "SetupJobShop", name := "operationAt", desc := "(I)LSetupJobShop$Operation;" } : Jvm.MethodName)) ∈ lw_all := lw_g (lw_at lw_m4 51 rfl) rfl
theorem q860 : (Jvm.Cond.privateMethod ({ cls := "SetupJobShop", name := "operationAt", desc := "(I)LSetupJobShop$Operation;" } : Jvm.MethodName)) ∈ lw_tbl := lw_at lw_m4 52 rfl
theorem q861 : (Jvm.Cond.instanceMethod ({ cls := "SetupJobShop", name := "operationAt", desc := "(I)LSetupJobShop$Operation;" } : Jvm.MethodName)) ∈ lw_all := lw_g (lw_at lw_m4 53 rfl) rfl
theorem q862 : (Jvm.Cond.code ({ cls := "SetupJobShop", name := "operationAt", desc := "(I)LSetupJobShop$Operation;" } : Jvm.MethodName) prog_1_method_9_code (2 : Nat) (Option.some (Jvm.ClassFile.FieldType.object "SetupJobShop$Operation"))) ∈ lw_all := lw_g (lw_at lw_m4 54 rfl) rfl
theorem q867 : (Jvm.Cond.instanceMethod ({ cls := "SetupJobShop", name := "setSetup", desc := "(III)I" } : Jvm.MethodName)) ∈ lw_all := lw_g (lw_at lw_m4 59 rfl) rfl
theorem q868 : (Jvm.Cond.selects "SetupJobShop" ({ cls := "SetupJobShop", name := "setSetup", desc := "(III)I" } : Jvm.MethodName) ({ cls := "SetupJobShop", name := "setSetup", desc := "(III)I" } : Jvm.MethodName)) ∈ lw_all := lw_g (lw_at lw_m4 60 rfl) rfl
theorem q869 : (Jvm.Cond.code ({ cls := "SetupJobShop", name := "setSetup", desc := "(III)I" } : Jvm.MethodName) prog_1_method_16_code (5 : Nat) (Option.some Jvm.ClassFile.FieldType.int)) ∈ lw_all := lw_g (lw_at lw_m4 61 rfl) rfl
theorem q874 : (Jvm.Cond.instanceMethod ({ cls := "SetupJobShop", name := "addBreakdown", desc := "(III)I" } : Jvm.MethodName)) ∈ lw_all := lw_g (lw_at lw_m4 66 rfl) rfl
theorem q875 : (Jvm.Cond.selects "SetupJobShop" ({ cls := "SetupJobShop", name := "addBreakdown", desc := "(III)I" } : Jvm.MethodName) ({ cls := "SetupJobShop", name := "addBreakdown", desc := "(III)I" } : Jvm.MethodName)) ∈ lw_all := lw_g (lw_at lw_m4 67 rfl) rfl
theorem q876 : (Jvm.Cond.code ({ cls := "SetupJobShop", name := "addBreakdown", desc := "(III)I" } : Jvm.MethodName) prog_1_method_17_code (5 : Nat) (Option.some Jvm.ClassFile.FieldType.int)) ∈ lw_all := lw_g (lw_at lw_m4 68 rfl) rfl
theorem q877 : (Jvm.Cond.classLink "SetupJobShop" (122 : Nat) "SetupJobShop$Breakdown") ∈ lw_all := lw_g (lw_at lw_m4 69 rfl) rfl
theorem q879 : (Jvm.Cond.methodLink "SetupJobShop" (124 : Nat) ({ cls := "SetupJobShop$Breakdown", name := "<init>", desc := "(II)V" } : Jvm.MethodName)) ∈ lw_all := lw_g (lw_at lw_m4 71 rfl) rfl
theorem q896 : (Jvm.Cond.instanceMethod ({ cls := "SetupJobShop", name := "clearBreakdowns", desc := "(I)I" } : Jvm.MethodName)) ∈ lw_all := lw_g (lw_at lw_m4 88 rfl) rfl
theorem q897 : (Jvm.Cond.selects "SetupJobShop" ({ cls := "SetupJobShop", name := "clearBreakdowns", desc := "(I)I" } : Jvm.MethodName) ({ cls := "SetupJobShop", name := "clearBreakdowns", desc := "(I)I" } : Jvm.MethodName)) ∈ lw_all := lw_g (lw_at lw_m4 89 rfl) rfl
theorem q898 : (Jvm.Cond.code ({ cls := "SetupJobShop", name := "clearBreakdowns", desc := "(I)I" } : Jvm.MethodName) prog_1_method_18_code (3 : Nat) (Option.some Jvm.ClassFile.FieldType.int)) ∈ lw_all := lw_g (lw_at lw_m4 90 rfl) rfl
theorem q899 : (Jvm.Cond.methodLink "SetupJobShop" (127 : Nat) ({ cls := "java/util/ArrayList", name := "clear", desc := "()V" } : Jvm.MethodName)) ∈ lw_all := lw_g (lw_at lw_m4 91 rfl) rfl
theorem q907 : (Jvm.Cond.instanceMethod ({ cls := "SetupJobShop", name := "count", desc := "(I)I" } : Jvm.MethodName)) ∈ lw_all := lw_g (lw_at lw_m4 99 rfl) rfl
theorem q908 : (Jvm.Cond.selects "SetupJobShop" ({ cls := "SetupJobShop", name := "count", desc := "(I)I" } : Jvm.MethodName) ({ cls := "SetupJobShop", name := "count", desc := "(I)I" } : Jvm.MethodName)) ∈ lw_all := lw_g (lw_at lw_m4 100 rfl) rfl
theorem q909 : (Jvm.Cond.code ({ cls := "SetupJobShop", name := "count", desc := "(I)I" } : Jvm.MethodName) prog_1_method_19_code (2 : Nat) (Option.some Jvm.ClassFile.FieldType.int)) ∈ lw_all := lw_g (lw_at lw_m4 101 rfl) rfl
theorem q914 : (Jvm.Cond.instanceMethod ({ cls := "SetupJobShop", name := "property", desc := "(II)I" } : Jvm.MethodName)) ∈ lw_all := lw_g (lw_at lw_m4 106 rfl) rfl
theorem q915 : (Jvm.Cond.selects "SetupJobShop" ({ cls := "SetupJobShop", name := "property", desc := "(II)I" } : Jvm.MethodName) ({ cls := "SetupJobShop", name := "property", desc := "(II)I" } : Jvm.MethodName)) ∈ lw_all := lw_g (lw_at lw_m4 107 rfl) rfl
theorem q916 : (Jvm.Cond.code ({ cls := "SetupJobShop", name := "property", desc := "(II)I" } : Jvm.MethodName) prog_1_method_20_code (4 : Nat) (Option.some Jvm.ClassFile.FieldType.int)) ∈ lw_all := lw_g (lw_at lw_m4 108 rfl) rfl
theorem q917 : (Jvm.Cond.classLink "SetupJobShop" (67 : Nat) "SetupJobShop$Order") ∈ lw_all := lw_g (lw_at lw_m4 109 rfl) rfl
theorem q918 : (Jvm.Cond.methodLink "SetupJobShop" (142 : Nat) ({ cls := "SetupJobShop$Order", name := "positionOf", desc := "(I)I" } : Jvm.MethodName)) ∈ lw_all := lw_g (lw_at lw_m4 110 rfl) rfl
theorem q927 : (Jvm.Cond.instanceMethod ({ cls := "SetupJobShop", name := "order", desc := "(II)I" } : Jvm.MethodName)) ∈ lw_all := lw_g (lw_at lw_m4 119 rfl) rfl
theorem q928 : (Jvm.Cond.selects "SetupJobShop" ({ cls := "SetupJobShop", name := "order", desc := "(II)I" } : Jvm.MethodName) ({ cls := "SetupJobShop", name := "order", desc := "(II)I" } : Jvm.MethodName)) ∈ lw_all := lw_g (lw_at lw_m4 120 rfl) rfl
theorem q929 : (Jvm.Cond.code ({ cls := "SetupJobShop", name := "order", desc := "(II)I" } : Jvm.MethodName) prog_1_method_21_code (4 : Nat) (Option.some Jvm.ClassFile.FieldType.int)) ∈ lw_all := lw_g (lw_at lw_m4 121 rfl) rfl
theorem q930 : (Jvm.Cond.methodLink "SetupJobShop" (146 : Nat) ({ cls := "SetupJobShop", name := "orderOf", desc := "(I)LSetupJobShop$Order;" } : Jvm.MethodName)) ∈ lw_all := lw_g (lw_at lw_m4 122 rfl) rfl
theorem q931 : (Jvm.Cond.privateMethod ({ cls := "SetupJobShop", name := "orderOf", desc := "(I)LSetupJobShop$Order;" } : Jvm.MethodName)) ∈ lw_tbl := lw_at lw_m4 123 rfl
theorem q932 : (Jvm.Cond.instanceMethod ({ cls := "SetupJobShop", name := "orderOf", desc := "(I)LSetupJobShop$Order;" } : Jvm.MethodName)) ∈ lw_all := lw_g (lw_at lw_m4 124 rfl) rfl
theorem q933 : (Jvm.Cond.code ({ cls := "SetupJobShop", name := "orderOf", desc := "(I)LSetupJobShop$Order;" } : Jvm.MethodName) prog_1_method_10_code (2 : Nat) (Option.some (Jvm.ClassFile.FieldType.object "SetupJobShop$Order"))) ∈ lw_all := lw_g (lw_at lw_m4 125 rfl) rfl
theorem q934 : (Jvm.Cond.methodLink "SetupJobShop" (152 : Nat) ({ cls := "SetupJobShop", name := "checkElement", desc := "(Z)V" } : Jvm.MethodName)) ∈ lw_all := lw_g (lw_at lw_m4 126 rfl) rfl
theorem q935 : (Jvm.Cond.static ({ cls := "SetupJobShop", name := "checkElement", desc := "(Z)V" } : Jvm.MethodName)) ∈ lw_all := lw_g (lw_at lw_m4 127 rfl) rfl
theorem q936 : (Jvm.Cond.code ({ cls := "SetupJobShop", name := "checkElement", desc := "(Z)V" } : Jvm.MethodName) prog_1_method_6_code (1 : Nat) (Option.none : Option Jvm.ClassFile.FieldType)) ∈ lw_all := lw_g (lw_at lw_m4 128 rfl) rfl
theorem q937 : (Jvm.Cond.classLink "SetupJobShop" (33 : Nat) "java/util/NoSuchElementException") ∈ lw_all := lw_g (lw_at lw_m4 129 rfl) rfl
theorem q946 : (Jvm.Cond.methodLink "SetupJobShop" (35 : Nat) ({ cls := "java/util/NoSuchElementException", name := "<init>", desc := "()V" } : Jvm.MethodName)) ∈ lw_all := lw_g (lw_at lw_m4 138 rfl) rfl
theorem q956 : (Jvm.Cond.instanceMethod ({ cls := "SetupJobShop", name := "time", desc := "(II)I" } : Jvm.MethodName)) ∈ lw_all := lw_g (lw_at lw_m4 148 rfl) rfl
theorem q957 : (Jvm.Cond.selects "SetupJobShop" ({ cls := "SetupJobShop", name := "time", desc := "(II)I" } : Jvm.MethodName) ({ cls := "SetupJobShop", name := "time", desc := "(II)I" } : Jvm.MethodName)) ∈ lw_all := lw_g (lw_at lw_m4 149 rfl) rfl
theorem q958 : (Jvm.Cond.code ({ cls := "SetupJobShop", name := "time", desc := "(II)I" } : Jvm.MethodName) prog_1_method_22_code (3 : Nat) (Option.some Jvm.ClassFile.FieldType.int)) ∈ lw_all := lw_g (lw_at lw_m4 150 rfl) rfl
theorem q963 : (Jvm.Cond.instanceMethod ({ cls := "SetupJobShop", name := "slack", desc := "(I)I" } : Jvm.MethodName)) ∈ lw_all := lw_g (lw_at lw_m4 155 rfl) rfl
theorem q964 : (Jvm.Cond.selects "SetupJobShop" ({ cls := "SetupJobShop", name := "slack", desc := "(I)I" } : Jvm.MethodName) ({ cls := "SetupJobShop", name := "slack", desc := "(I)I" } : Jvm.MethodName)) ∈ lw_all := lw_g (lw_at lw_m4 156 rfl) rfl
theorem q965 : (Jvm.Cond.code ({ cls := "SetupJobShop", name := "slack", desc := "(I)I" } : Jvm.MethodName) prog_1_method_24_code (5 : Nat) (Option.some Jvm.ClassFile.FieldType.int)) ∈ lw_all := lw_g (lw_at lw_m4 157 rfl) rfl
theorem q966 : (Jvm.Cond.methodLink "SetupJobShop" (170 : Nat) ({ cls := "SetupJobShop$Shop", name := "makespanWith", desc := "(II)I" } : Jvm.MethodName)) ∈ lw_all := lw_g (lw_at lw_m4 158 rfl) rfl
theorem q974 : (Jvm.Cond.instanceMethod ({ cls := "SetupJobShop", name := "completion", desc := "(I)I" } : Jvm.MethodName)) ∈ lw_all := lw_g (lw_at lw_m4 166 rfl) rfl
theorem q975 : (Jvm.Cond.selects "SetupJobShop" ({ cls := "SetupJobShop", name := "completion", desc := "(I)I" } : Jvm.MethodName) ({ cls := "SetupJobShop", name := "completion", desc := "(I)I" } : Jvm.MethodName)) ∈ lw_all := lw_g (lw_at lw_m4 167 rfl) rfl
theorem q976 : (Jvm.Cond.code ({ cls := "SetupJobShop", name := "completion", desc := "(I)I" } : Jvm.MethodName) prog_1_method_25_code (2 : Nat) (Option.some Jvm.ClassFile.FieldType.int)) ∈ lw_all := lw_g (lw_at lw_m4 168 rfl) rfl
theorem q977 : (Jvm.Cond.methodLink "SetupJobShop" (174 : Nat) ({ cls := "SetupJobShop$Shop", name := "completion", desc := "(I)I" } : Jvm.MethodName)) ∈ lw_all := lw_g (lw_at lw_m4 169 rfl) rfl
theorem q985 : (Jvm.Cond.instanceMethod ({ cls := "SetupJobShop", name := "objective", desc := "(I)I" } : Jvm.MethodName)) ∈ lw_all := lw_g (lw_at lw_m4 177 rfl) rfl
theorem q986 : (Jvm.Cond.selects "SetupJobShop" ({ cls := "SetupJobShop", name := "objective", desc := "(I)I" } : Jvm.MethodName) ({ cls := "SetupJobShop", name := "objective", desc := "(I)I" } : Jvm.MethodName)) ∈ lw_all := lw_g (lw_at lw_m4 178 rfl) rfl
theorem q987 : (Jvm.Cond.code ({ cls := "SetupJobShop", name := "objective", desc := "(I)I" } : Jvm.MethodName) prog_1_method_28_code (2 : Nat) (Option.some Jvm.ClassFile.FieldType.int)) ∈ lw_all := lw_g (lw_at lw_m4 179 rfl) rfl
theorem q988 : (Jvm.Cond.methodLink "SetupJobShop" (183 : Nat) ({ cls := "SetupJobShop", name := "ofJobs", desc := "(I)I" } : Jvm.MethodName)) ∈ lw_all := lw_g (lw_at lw_m4 180 rfl) rfl
theorem q989 : (Jvm.Cond.privateMethod ({ cls := "SetupJobShop", name := "ofJobs", desc := "(I)I" } : Jvm.MethodName)) ∈ lw_tbl := lw_at lw_m4 181 rfl
theorem q990 : (Jvm.Cond.instanceMethod ({ cls := "SetupJobShop", name := "ofJobs", desc := "(I)I" } : Jvm.MethodName)) ∈ lw_all := lw_g (lw_at lw_m4 182 rfl) rfl
theorem q991 : (Jvm.Cond.code ({ cls := "SetupJobShop", name := "ofJobs", desc := "(I)I" } : Jvm.MethodName) prog_1_method_26_code (5 : Nat) (Option.some Jvm.ClassFile.FieldType.int)) ∈ lw_all := lw_g (lw_at lw_m4 183 rfl) rfl
theorem q992 : (Jvm.Cond.methodLink "SetupJobShop" (177 : Nat) ({ cls := "SetupJobShop$Shop", name := "tardiness", desc := "(I)I" } : Jvm.MethodName)) ∈ lw_all := lw_g (lw_at lw_m4 184 rfl) rfl
theorem q997 : (Jvm.Cond.methodLink "SetupJobShop" (180 : Nat) ({ cls := "SetupJobShop$Job", name := "weight", desc := "()I" } : Jvm.MethodName)) ∈ lw_all := lw_g (lw_at lw_m4 189 rfl) rfl
theorem q998 : (Jvm.Cond.methodLink "SetupJobShop" (186 : Nat) ({ cls := "SetupJobShop$Shop", name := "allSetups", desc := "()I" } : Jvm.MethodName)) ∈ lw_all := lw_g (lw_at lw_m4 190 rfl) rfl
theorem q1002 : (Jvm.Cond.methodLink "SetupJobShop" (189 : Nat) ({ cls := "SetupJobShop", name := "allWaiting", desc := "()I" } : Jvm.MethodName)) ∈ lw_all := lw_g (lw_at lw_m4 194 rfl) rfl
theorem q1003 : (Jvm.Cond.privateMethod ({ cls := "SetupJobShop", name := "allWaiting", desc := "()I" } : Jvm.MethodName)) ∈ lw_tbl := lw_at lw_m4 195 rfl
theorem q1004 : (Jvm.Cond.instanceMethod ({ cls := "SetupJobShop", name := "allWaiting", desc := "()I" } : Jvm.MethodName)) ∈ lw_all := lw_g (lw_at lw_m4 196 rfl) rfl
theorem q1005 : (Jvm.Cond.code ({ cls := "SetupJobShop", name := "allWaiting", desc := "()I" } : Jvm.MethodName) prog_1_method_27_code (3 : Nat) (Option.some Jvm.ClassFile.FieldType.int)) ∈ lw_all := lw_g (lw_at lw_m4 197 rfl) rfl
theorem q1010 : (Jvm.Cond.instanceMethod ({ cls := "SetupJobShop", name := "utilization", desc := "(I)D" } : Jvm.MethodName)) ∈ lw_all := lw_g (lw_at lw_m4 202 rfl) rfl
theorem q1011 : (Jvm.Cond.selects "SetupJobShop" ({ cls := "SetupJobShop", name := "utilization", desc := "(I)D" } : Jvm.MethodName) ({ cls := "SetupJobShop", name := "utilization", desc := "(I)D" } : Jvm.MethodName)) ∈ lw_all := lw_g (lw_at lw_m4 203 rfl) rfl
theorem q1012 : (Jvm.Cond.code ({ cls := "SetupJobShop", name := "utilization", desc := "(I)D" } : Jvm.MethodName) prog_1_method_29_code (6 : Nat) (Option.some Jvm.ClassFile.FieldType.double)) ∈ lw_all := lw_g (lw_at lw_m4 204 rfl) rfl
theorem q1017 : (Jvm.Cond.instanceMethod ({ cls := "SetupJobShop", name := "path", desc := "(I)I" } : Jvm.MethodName)) ∈ lw_all := lw_g (lw_at lw_m4 209 rfl) rfl
theorem q1018 : (Jvm.Cond.selects "SetupJobShop" ({ cls := "SetupJobShop", name := "path", desc := "(I)I" } : Jvm.MethodName) ({ cls := "SetupJobShop", name := "path", desc := "(I)I" } : Jvm.MethodName)) ∈ lw_all := lw_g (lw_at lw_m4 210 rfl) rfl
theorem q1019 : (Jvm.Cond.code ({ cls := "SetupJobShop", name := "path", desc := "(I)I" } : Jvm.MethodName) prog_1_method_32_code (3 : Nat) (Option.some Jvm.ClassFile.FieldType.int)) ∈ lw_all := lw_g (lw_at lw_m4 211 rfl) rfl
theorem q1024 : (Jvm.Cond.instanceMethod ({ cls := "SetupJobShop", name := "blockLength", desc := "(I)I" } : Jvm.MethodName)) ∈ lw_all := lw_g (lw_at lw_m4 216 rfl) rfl
theorem q1025 : (Jvm.Cond.selects "SetupJobShop" ({ cls := "SetupJobShop", name := "blockLength", desc := "(I)I" } : Jvm.MethodName) ({ cls := "SetupJobShop", name := "blockLength", desc := "(I)I" } : Jvm.MethodName)) ∈ lw_all := lw_g (lw_at lw_m4 217 rfl) rfl
theorem q1026 : (Jvm.Cond.code ({ cls := "SetupJobShop", name := "blockLength", desc := "(I)I" } : Jvm.MethodName) prog_1_method_35_code (3 : Nat) (Option.some Jvm.ClassFile.FieldType.int)) ∈ lw_all := lw_g (lw_at lw_m4 218 rfl) rfl
theorem q1027 : (Jvm.Cond.classLink "SetupJobShop" (204 : Nat) "java/lang/Integer") ∈ lw_all := lw_g (lw_at lw_m4 219 rfl) rfl
theorem q1028 : (Jvm.Cond.methodLink "SetupJobShop" (212 : Nat) ({ cls := "java/lang/Integer", name := "intValue", desc := "()I" } : Jvm.MethodName)) ∈ lw_all := lw_g (lw_at lw_m4 220 rfl) rfl
theorem q1036 : (Jvm.Cond.instanceMethod ({ cls := "SetupJobShop", name := "swap", desc := "(II)I" } : Jvm.MethodName)) ∈ lw_all := lw_g (lw_at lw_m4 228 rfl) rfl
theorem q1037 : (Jvm.Cond.selects "SetupJobShop" ({ cls := "SetupJobShop", name := "swap", desc := "(II)I" } : Jvm.MethodName) ({ cls := "SetupJobShop", name := "swap", desc := "(II)I" } : Jvm.MethodName)) ∈ lw_all := lw_g (lw_at lw_m4 229 rfl) rfl
theorem q1038 : (Jvm.Cond.code ({ cls := "SetupJobShop", name := "swap", desc := "(II)I" } : Jvm.MethodName) prog_1_method_39_code (5 : Nat) (Option.some Jvm.ClassFile.FieldType.int)) ∈ lw_all := lw_g (lw_at lw_m4 230 rfl) rfl
theorem q1039 : (Jvm.Cond.methodLink "SetupJobShop" (233 : Nat) ({ cls := "SetupJobShop", name := "copy", desc := "(LSetupJobShop$Order;)LSetupJobShop$Order;" } : Jvm.MethodName)) ∈ lw_all := lw_g (lw_at lw_m4 231 rfl) rfl
theorem q1040 : (Jvm.Cond.static ({ cls := "SetupJobShop", name := "copy", desc := "(LSetupJobShop$Order;)LSetupJobShop$Order;" } : Jvm.MethodName)) ∈ lw_all := lw_g (lw_at lw_m4 232 rfl) rfl
theorem q1041 : (Jvm.Cond.code ({ cls := "SetupJobShop", name := "copy", desc := "(LSetupJobShop$Order;)LSetupJobShop$Order;" } : Jvm.MethodName) prog_1_method_38_code (2 : Nat) (Option.some (Jvm.ClassFile.FieldType.object "SetupJobShop$Order"))) ∈ lw_all := lw_g (lw_at lw_m4 233 rfl) rfl
theorem q1042 : (Jvm.Cond.methodLinkNest "SetupJobShop" (232 : Nat) ({ cls := "SetupJobShop$Order", name := "<init>", desc := "()V" } : Jvm.MethodName) "SetupJobShop") ∈ lw_tbl := lw_at lw_m4 234 rfl
theorem q1043 : (Jvm.Cond.methodLink "SetupJobShop" (220 : Nat) ({ cls := "SetupJobShop$Order", name := "take", desc := "(LSetupJobShop$Order;)V" } : Jvm.MethodName)) ∈ lw_all := lw_g (lw_at lw_m4 235 rfl) rfl
theorem q1044 : (Jvm.Cond.methodLink "SetupJobShop" (237 : Nat) ({ cls := "SetupJobShop$Order", name := "swap", desc := "(I)V" } : Jvm.MethodName)) ∈ lw_all := lw_g (lw_at lw_m4 236 rfl) rfl
theorem q1045 : (Jvm.Cond.methodLink "SetupJobShop" (241 : Nat) ({ cls := "SetupJobShop", name := "settled", desc := "(LSetupJobShop$Order;LSetupJobShop$Order;)I" } : Jvm.MethodName)) ∈ lw_all := lw_g (lw_at lw_m4 237 rfl) rfl
theorem q1046 : (Jvm.Cond.privateMethod ({ cls := "SetupJobShop", name := "settled", desc := "(LSetupJobShop$Order;LSetupJobShop$Order;)I" } : Jvm.MethodName)) ∈ lw_tbl := lw_at lw_m4 238 rfl
theorem q1047 : (Jvm.Cond.instanceMethod ({ cls := "SetupJobShop", name := "settled", desc := "(LSetupJobShop$Order;LSetupJobShop$Order;)I" } : Jvm.MethodName)) ∈ lw_all := lw_g (lw_at lw_m4 239 rfl) rfl
theorem q1048 : (Jvm.Cond.codeWith ({ cls := "SetupJobShop", name := "settled", desc := "(LSetupJobShop$Order;LSetupJobShop$Order;)I" } : Jvm.MethodName) prog_1_method_37_code (4 : Nat) (Option.some Jvm.ClassFile.FieldType.int) [((0 : Nat), (6 : Nat), (9 : Nat), (218 : Nat))]) ∈ lw_all := lw_g (lw_at lw_m5 0 rfl) rfl
theorem q1049 : (Jvm.Cond.classLink "SetupJobShop" (218 : Nat) "SetupJobShop$Cycle") ∈ lw_all := lw_g (lw_at lw_m5 1 rfl) rfl
theorem q1050 : (Jvm.Cond.methodLink "SetupJobShop" (224 : Nat) ({ cls := "SetupJobShop", name := "settle", desc := "(LSetupJobShop$Order;LSetupJobShop$Order;)V" } : Jvm.MethodName)) ∈ lw_all := lw_g (lw_at lw_m5 2 rfl) rfl
theorem q1051 : (Jvm.Cond.privateMethod ({ cls := "SetupJobShop", name := "settle", desc := "(LSetupJobShop$Order;LSetupJobShop$Order;)V" } : Jvm.MethodName)) ∈ lw_tbl := lw_at lw_m5 3 rfl
theorem q1052 : (Jvm.Cond.instanceMethod ({ cls := "SetupJobShop", name := "settle", desc := "(LSetupJobShop$Order;LSetupJobShop$Order;)V" } : Jvm.MethodName)) ∈ lw_all := lw_g (lw_at lw_m5 4 rfl) rfl
theorem q1053 : (Jvm.Cond.codeWith ({ cls := "SetupJobShop", name := "settle", desc := "(LSetupJobShop$Order;LSetupJobShop$Order;)V" } : Jvm.MethodName) prog_1_method_36_code (4 : Nat) (Option.none : Option Jvm.ClassFile.FieldType) [((0 : Nat), (7 : Nat), (10 : Nat), (218 : Nat))]) ∈ lw_all := lw_g (lw_at lw_m5 5 rfl) rfl
theorem q1054 : (Jvm.Cond.methodLink "SetupJobShop" (215 : Nat) ({ cls := "SetupJobShop$Shop", name := "schedule", desc := "()V" } : Jvm.MethodName)) ∈ lw_all := lw_g (lw_at lw_m5 6 rfl) rfl
theorem q1114 : (Jvm.Cond.instanceMethod ({ cls := "SetupJobShop", name := "move", desc := "(II)I" } : Jvm.MethodName)) ∈ lw_all := lw_g (lw_at lw_m5 66 rfl) rfl
theorem q1115 : (Jvm.Cond.selects "SetupJobShop" ({ cls := "SetupJobShop", name := "move", desc := "(II)I" } : Jvm.MethodName) ({ cls := "SetupJobShop", name := "move", desc := "(II)I" } : Jvm.MethodName)) ∈ lw_all := lw_g (lw_at lw_m5 67 rfl) rfl
theorem q1116 : (Jvm.Cond.code ({ cls := "SetupJobShop", name := "move", desc := "(II)I" } : Jvm.MethodName) prog_1_method_40_code (5 : Nat) (Option.some Jvm.ClassFile.FieldType.int)) ∈ lw_all := lw_g (lw_at lw_m5 68 rfl) rfl
theorem q1117 : (Jvm.Cond.methodLink "SetupJobShop" (245 : Nat) ({ cls := "SetupJobShop$Order", name := "move", desc := "(II)V" } : Jvm.MethodName)) ∈ lw_all := lw_g (lw_at lw_m5 69 rfl) rfl
theorem q1125 : (Jvm.Cond.instanceMethod ({ cls := "SetupJobShop", name := "dispatch", desc := "(I)I" } : Jvm.MethodName)) ∈ lw_all := lw_g (lw_at lw_m5 77 rfl) rfl
theorem q1126 : (Jvm.Cond.selects "SetupJobShop" ({ cls := "SetupJobShop", name := "dispatch", desc := "(I)I" } : Jvm.MethodName) ({ cls := "SetupJobShop", name := "dispatch", desc := "(I)I" } : Jvm.MethodName)) ∈ lw_all := lw_g (lw_at lw_m5 78 rfl) rfl
theorem q1127 : (Jvm.Cond.code ({ cls := "SetupJobShop", name := "dispatch", desc := "(I)I" } : Jvm.MethodName) prog_1_method_42_code (2 : Nat) (Option.some Jvm.ClassFile.FieldType.int)) ∈ lw_all := lw_g (lw_at lw_m5 79 rfl) rfl
theorem q1128 : (Jvm.Cond.methodLink "SetupJobShop" (256 : Nat) ({ cls := "SetupJobShop", name := "dispatched", desc := "(II)I" } : Jvm.MethodName)) ∈ lw_all := lw_g (lw_at lw_m5 80 rfl) rfl
theorem q1129 : (Jvm.Cond.privateMethod ({ cls := "SetupJobShop", name := "dispatched", desc := "(II)I" } : Jvm.MethodName)) ∈ lw_tbl := lw_at lw_m5 81 rfl
theorem q1130 : (Jvm.Cond.instanceMethod ({ cls := "SetupJobShop", name := "dispatched", desc := "(II)I" } : Jvm.MethodName)) ∈ lw_all := lw_g (lw_at lw_m5 82 rfl) rfl
theorem q1131 : (Jvm.Cond.code ({ cls := "SetupJobShop", name := "dispatched", desc := "(II)I" } : Jvm.MethodName) prog_1_method_41_code (3 : Nat) (Option.some Jvm.ClassFile.FieldType.int)) ∈ lw_all := lw_g (lw_at lw_m5 83 rfl) rfl
theorem q1132 : (Jvm.Cond.classLink "SetupJobShop" (248 : Nat) "SetupJobShop$Dispatcher") ∈ lw_all := lw_g (lw_at lw_m5 84 rfl) rfl
theorem q1134 : (Jvm.Cond.methodLink "SetupJobShop" (250 : Nat) ({ cls := "SetupJobShop$Dispatcher", name := "<init>", desc := "(LSetupJobShop$Shop;II)V" } : Jvm.MethodName)) ∈ lw_all := lw_g (lw_at lw_m5 86 rfl) rfl
theorem q1154 : (Jvm.Cond.methodLink "SetupJobShop" (253 : Nat) ({ cls := "SetupJobShop$Dispatcher", name := "run", desc := "()V" } : Jvm.MethodName)) ∈ lw_all := lw_g (lw_at lw_m5 106 rfl) rfl
theorem q1195 : (Jvm.Cond.instanceMethod ({ cls := "SetupJobShop", name := "repair", desc := "(II)I" } : Jvm.MethodName)) ∈ lw_all := lw_g (lw_at lw_m5 147 rfl) rfl
theorem q1196 : (Jvm.Cond.selects "SetupJobShop" ({ cls := "SetupJobShop", name := "repair", desc := "(II)I" } : Jvm.MethodName) ({ cls := "SetupJobShop", name := "repair", desc := "(II)I" } : Jvm.MethodName)) ∈ lw_all := lw_g (lw_at lw_m5 148 rfl) rfl
theorem q1197 : (Jvm.Cond.code ({ cls := "SetupJobShop", name := "repair", desc := "(II)I" } : Jvm.MethodName) prog_1_method_43_code (3 : Nat) (Option.some Jvm.ClassFile.FieldType.int)) ∈ lw_all := lw_g (lw_at lw_m5 149 rfl) rfl
theorem q1202 : (Jvm.Cond.instanceMethod ({ cls := "SetupJobShop", name := "best", desc := "(I)I" } : Jvm.MethodName)) ∈ lw_all := lw_g (lw_at lw_m5 154 rfl) rfl
theorem q1203 : (Jvm.Cond.selects "SetupJobShop" ({ cls := "SetupJobShop", name := "best", desc := "(I)I" } : Jvm.MethodName) ({ cls := "SetupJobShop", name := "best", desc := "(I)I" } : Jvm.MethodName)) ∈ lw_all := lw_g (lw_at lw_m5 155 rfl) rfl
theorem q1204 : (Jvm.Cond.code ({ cls := "SetupJobShop", name := "best", desc := "(I)I" } : Jvm.MethodName) prog_1_method_44_code (2 : Nat) (Option.some Jvm.ClassFile.FieldType.int)) ∈ lw_all := lw_g (lw_at lw_m5 156 rfl) rfl
theorem q1205 : (Jvm.Cond.methodLink "SetupJobShop" (259 : Nat) ({ cls := "SetupJobShop$Shop", name := "optimum", desc := "(II)I" } : Jvm.MethodName)) ∈ lw_all := lw_g (lw_at lw_m5 157 rfl) rfl
theorem q1210 : (Jvm.Cond.instanceMethod ({ cls := "SetupJobShop", name := "reoptimize", desc := "(I)I" } : Jvm.MethodName)) ∈ lw_all := lw_g (lw_at lw_m5 162 rfl) rfl
theorem q1211 : (Jvm.Cond.selects "SetupJobShop" ({ cls := "SetupJobShop", name := "reoptimize", desc := "(I)I" } : Jvm.MethodName) ({ cls := "SetupJobShop", name := "reoptimize", desc := "(I)I" } : Jvm.MethodName)) ∈ lw_all := lw_g (lw_at lw_m5 163 rfl) rfl
theorem q1212 : (Jvm.Cond.code ({ cls := "SetupJobShop", name := "reoptimize", desc := "(I)I" } : Jvm.MethodName) prog_1_method_45_code (4 : Nat) (Option.some Jvm.ClassFile.FieldType.int)) ∈ lw_all := lw_g (lw_at lw_m5 164 rfl) rfl
theorem q1213 : (Jvm.Cond.methodLink "SetupJobShop" (262 : Nat) ({ cls := "SetupJobShop$Shop", name := "optimize", desc := "(II)I" } : Jvm.MethodName)) ∈ lw_all := lw_g (lw_at lw_m5 165 rfl) rfl
theorem q1214 : (Jvm.Cond.methodLink "SetupJobShop" (265 : Nat) ({ cls := "SetupJobShop$Order", name := "differences", desc := "(LSetupJobShop$Order;)I" } : Jvm.MethodName)) ∈ lw_all := lw_g (lw_at lw_m5 166 rfl) rfl
theorem q1222 : (Jvm.Cond.instanceMethod ({ cls := "SetupJobShop", name := "bottleneck", desc := "(I)I" } : Jvm.MethodName)) ∈ lw_all := lw_g (lw_at lw_m5 174 rfl) rfl
theorem q1223 : (Jvm.Cond.selects "SetupJobShop" ({ cls := "SetupJobShop", name := "bottleneck", desc := "(I)I" } : Jvm.MethodName) ({ cls := "SetupJobShop", name := "bottleneck", desc := "(I)I" } : Jvm.MethodName)) ∈ lw_all := lw_g (lw_at lw_m5 175 rfl) rfl
theorem q1224 : (Jvm.Cond.code ({ cls := "SetupJobShop", name := "bottleneck", desc := "(I)I" } : Jvm.MethodName) prog_1_method_47_code (2 : Nat) (Option.some Jvm.ClassFile.FieldType.int)) ∈ lw_all := lw_g (lw_at lw_m5 176 rfl) rfl
theorem q1229 : (Jvm.Cond.instanceMethod ({ cls := "SetupJobShop", name := "tabu", desc := "(II)I" } : Jvm.MethodName)) ∈ lw_all := lw_g (lw_at lw_m5 181 rfl) rfl
theorem q1230 : (Jvm.Cond.selects "SetupJobShop" ({ cls := "SetupJobShop", name := "tabu", desc := "(II)I" } : Jvm.MethodName) ({ cls := "SetupJobShop", name := "tabu", desc := "(II)I" } : Jvm.MethodName)) ∈ lw_all := lw_g (lw_at lw_m5 182 rfl) rfl
theorem q1231 : (Jvm.Cond.code ({ cls := "SetupJobShop", name := "tabu", desc := "(II)I" } : Jvm.MethodName) prog_1_method_48_code (4 : Nat) (Option.some Jvm.ClassFile.FieldType.int)) ∈ lw_all := lw_g (lw_at lw_m5 183 rfl) rfl
theorem q1232 : (Jvm.Cond.classLink "SetupJobShop" (276 : Nat) "SetupJobShop$Search") ∈ lw_all := lw_g (lw_at lw_m5 184 rfl) rfl
theorem q1234 : (Jvm.Cond.methodLink "SetupJobShop" (278 : Nat) ({ cls := "SetupJobShop$Search", name := "<init>", desc := "(LSetupJobShop$Shop;I)V" } : Jvm.MethodName)) ∈ lw_all := lw_g (lw_at lw_m5 186 rfl) rfl
theorem q1254 : (Jvm.Cond.fieldLinkNest "SetupJobShop" (283 : Nat) "SetupJobShop$Search" "steps" "I" "SetupJobShop") ∈ lw_tbl := lw_at lw_m5 206 rfl
theorem q1277 : (Jvm.Cond.methodLink "SetupJobShop" (281 : Nat) ({ cls := "SetupJobShop$Search", name := "run", desc := "(I)V" } : Jvm.MethodName)) ∈ lw_all := lw_g (lw_at lw_m5 229 rfl) rfl
theorem q1333 : (Jvm.Cond.instanceMethod ({ cls := "SetupJobShop", name := "bound", desc := "(I)I" } : Jvm.MethodName)) ∈ lw_all := lw_g (lw_at lw_m6 45 rfl) rfl
theorem q1334 : (Jvm.Cond.selects "SetupJobShop" ({ cls := "SetupJobShop", name := "bound", desc := "(I)I" } : Jvm.MethodName) ({ cls := "SetupJobShop", name := "bound", desc := "(I)I" } : Jvm.MethodName)) ∈ lw_all := lw_g (lw_at lw_m6 46 rfl) rfl
theorem q1335 : (Jvm.Cond.code ({ cls := "SetupJobShop", name := "bound", desc := "(I)I" } : Jvm.MethodName) prog_1_method_50_code (2 : Nat) (Option.some Jvm.ClassFile.FieldType.int)) ∈ lw_all := lw_g (lw_at lw_m6 47 rfl) rfl
theorem q1336 : (Jvm.Cond.methodLink "SetupJobShop" (289 : Nat) ({ cls := "SetupJobShop$Shop", name := "bound", desc := "(I)I" } : Jvm.MethodName)) ∈ lw_all := lw_g (lw_at lw_m6 48 rfl) rfl
theorem q1341 : (Jvm.Cond.instanceMethod ({ cls := "SetupJobShop", name := "append", desc := "(C)V" } : Jvm.MethodName)) ∈ lw_all := lw_g (lw_at lw_m6 53 rfl) rfl
theorem q1342 : (Jvm.Cond.selects "SetupJobShop" ({ cls := "SetupJobShop", name := "append", desc := "(C)V" } : Jvm.MethodName) ({ cls := "SetupJobShop", name := "append", desc := "(C)V" } : Jvm.MethodName)) ∈ lw_all := lw_g (lw_at lw_m6 54 rfl) rfl
theorem q1343 : (Jvm.Cond.code ({ cls := "SetupJobShop", name := "append", desc := "(C)V" } : Jvm.MethodName) prog_1_method_52_code (2 : Nat) (Option.none : Option Jvm.ClassFile.FieldType)) ∈ lw_all := lw_g (lw_at lw_m6 55 rfl) rfl
theorem q1344 : (Jvm.Cond.methodLink "SetupJobShop" (295 : Nat) ({ cls := "java/lang/StringBuilder", name := "length", desc := "()I" } : Jvm.MethodName)) ∈ lw_all := lw_g (lw_at lw_m6 56 rfl) rfl
theorem q1351 : (Jvm.Cond.methodLink "SetupJobShop" (298 : Nat) ({ cls := "java/lang/StringBuilder", name := "append", desc := "(C)Ljava/lang/StringBuilder;" } : Jvm.MethodName)) ∈ lw_all := lw_g (lw_at lw_m6 63 rfl) rfl
theorem q1433 : (Jvm.Cond.instanceMethod ({ cls := "SetupJobShop", name := "read", desc := "()I" } : Jvm.MethodName)) ∈ lw_all := lw_g (lw_at lw_m6 145 rfl) rfl
theorem q1434 : (Jvm.Cond.selects "SetupJobShop" ({ cls := "SetupJobShop", name := "read", desc := "()I" } : Jvm.MethodName) ({ cls := "SetupJobShop", name := "read", desc := "()I" } : Jvm.MethodName)) ∈ lw_all := lw_g (lw_at lw_m6 146 rfl) rfl
theorem q1435 : (Jvm.Cond.codeWith ({ cls := "SetupJobShop", name := "read", desc := "()I" } : Jvm.MethodName) prog_1_method_54_code (3 : Nat) (Option.some Jvm.ClassFile.FieldType.int) [((19 : Nat), (24 : Nat), (25 : Nat), (327 : Nat)), ((19 : Nat), (24 : Nat), (39 : Nat), (329 : Nat))]) ∈ lw_all := lw_g (lw_at lw_m6 147 rfl) rfl
theorem q1436 : (Jvm.Cond.classLink "SetupJobShop" (327 : Nat) "SetupJobShop$TextFault") ∈ lw_all := lw_g (lw_at lw_m6 148 rfl) rfl
theorem q1437 : (Jvm.Cond.classLink "SetupJobShop" (329 : Nat) "SetupJobShop$Refused") ∈ lw_all := lw_g (lw_at lw_m6 149 rfl) rfl
theorem q1438 : (Jvm.Cond.methodLink "SetupJobShop" (320 : Nat) ({ cls := "java/lang/StringBuilder", name := "toString", desc := "()Ljava/lang/String;" } : Jvm.MethodName)) ∈ lw_all := lw_g (lw_at lw_m6 150 rfl) rfl
theorem q1567 : (Jvm.Cond.methodLink "SetupJobShop" (324 : Nat) ({ cls := "SetupJobShop", name := "create", desc := "(Ljava/lang/String;)I" } : Jvm.MethodName)) ∈ lw_all := lw_g (lw_at lw_m7 39 rfl) rfl
theorem q1568 : (Jvm.Cond.privateMethod ({ cls := "SetupJobShop", name := "create", desc := "(Ljava/lang/String;)I" } : Jvm.MethodName)) ∈ lw_tbl := lw_at lw_m7 40 rfl
theorem q1569 : (Jvm.Cond.instanceMethod ({ cls := "SetupJobShop", name := "create", desc := "(Ljava/lang/String;)I" } : Jvm.MethodName)) ∈ lw_all := lw_g (lw_at lw_m7 41 rfl) rfl
theorem q1570 : (Jvm.Cond.code ({ cls := "SetupJobShop", name := "create", desc := "(Ljava/lang/String;)I" } : Jvm.MethodName) prog_1_method_53_code (4 : Nat) (Option.some Jvm.ClassFile.FieldType.int)) ∈ lw_all := lw_g (lw_at lw_m7 42 rfl) rfl
theorem q1571 : (Jvm.Cond.classLink "SetupJobShop" (302 : Nat) "SetupJobShop$Reader") ∈ lw_all := lw_g (lw_at lw_m7 43 rfl) rfl
theorem q1573 : (Jvm.Cond.methodLink "SetupJobShop" (304 : Nat) ({ cls := "SetupJobShop$Reader", name := "<init>", desc := "(Ljava/lang/String;)V" } : Jvm.MethodName)) ∈ lw_all := lw_g (lw_at lw_m7 45 rfl) rfl
theorem q1584 : (Jvm.Cond.methodLink "SetupJobShop" (307 : Nat) ({ cls := "SetupJobShop$Reader", name := "read", desc := "()Ljava/util/ArrayList;" } : Jvm.MethodName)) ∈ lw_all := lw_g (lw_at lw_m7 56 rfl) rfl
theorem q1676 : (Jvm.Cond.classLink "SetupJobShop" (313 : Nat) "SetupJobShop$Creator") ∈ lw_all := lw_g (lw_at lw_m7 148 rfl) rfl
theorem q1678 : (Jvm.Cond.methodLink "SetupJobShop" (315 : Nat) ({ cls := "SetupJobShop$Creator", name := "<init>", desc := "(LSetupJobShop$Shop;)V" } : Jvm.MethodName)) ∈ lw_all := lw_g (lw_at lw_m7 150 rfl) rfl
theorem q1686 : (Jvm.Cond.methodLink "SetupJobShop" (316 : Nat) ({ cls := "SetupJobShop$Creator", name := "create", desc := "(Ljava/util/ArrayList;)V" } : Jvm.MethodName)) ∈ lw_all := lw_g (lw_at lw_m7 158 rfl) rfl
theorem q1752 : (Jvm.Cond.instanceMethod ({ cls := "SetupJobShop", name := "failure", desc := "(I)I" } : Jvm.MethodName)) ∈ lw_all := lw_g (lw_at lw_m7 224 rfl) rfl
theorem q1753 : (Jvm.Cond.selects "SetupJobShop" ({ cls := "SetupJobShop", name := "failure", desc := "(I)I" } : Jvm.MethodName) ({ cls := "SetupJobShop", name := "failure", desc := "(I)I" } : Jvm.MethodName)) ∈ lw_all := lw_g (lw_at lw_m7 225 rfl) rfl
theorem q1754 : (Jvm.Cond.code ({ cls := "SetupJobShop", name := "failure", desc := "(I)I" } : Jvm.MethodName) prog_1_method_55_code (4 : Nat) (Option.some Jvm.ClassFile.FieldType.int)) ∈ lw_all := lw_g (lw_at lw_m7 226 rfl) rfl
theorem q1755 : (Jvm.Cond.methodLink "SetupJobShop" (331 : Nat) ({ cls := "java/lang/Throwable", name := "getCause", desc := "()Ljava/lang/Throwable;" } : Jvm.MethodName)) ∈ lw_all := lw_g (lw_at lw_m7 227 rfl) rfl
theorem q1769 : (Jvm.Cond.classLink "SetupJobShop" (337 : Nat) "SetupJobShop$Failure") ∈ lw_all := lw_g (lw_at lw_m8 1 rfl) rfl
theorem q1770 : (Jvm.Cond.methodLink "SetupJobShop" (339 : Nat) ({ cls := "SetupJobShop$Failure", name := "code", desc := "()I" } : Jvm.MethodName)) ∈ lw_all := lw_g (lw_at lw_m8 2 rfl) rfl
theorem q1783 : (Jvm.Cond.instanceMethod ({ cls := "SetupJobShop", name := "restore", desc := "()V" } : Jvm.MethodName)) ∈ lw_all := lw_g (lw_at lw_m8 15 rfl) rfl
theorem q1784 : (Jvm.Cond.selects "SetupJobShop" ({ cls := "SetupJobShop", name := "restore", desc := "()V" } : Jvm.MethodName) ({ cls := "SetupJobShop", name := "restore", desc := "()V" } : Jvm.MethodName)) ∈ lw_all := lw_g (lw_at lw_m8 16 rfl) rfl
theorem q1785 : (Jvm.Cond.code ({ cls := "SetupJobShop", name := "restore", desc := "()V" } : Jvm.MethodName) prog_1_method_57_code (1 : Nat) (Option.none : Option Jvm.ClassFile.FieldType)) ∈ lw_all := lw_g (lw_at lw_m8 17 rfl) rfl
theorem q2288 : (Jvm.Cond.castable "SetupJobShop" "java/lang/Object") ∈ lw_tbl := lw_at lw_m10 40 rfl
theorem in_X1 : ∀ w ∈ wsX10, w ∈ lw_all := lw_in wsX10 [361, 363, 365, 367, 369, 371] (by decide +kernel) (by decide +kernel)
