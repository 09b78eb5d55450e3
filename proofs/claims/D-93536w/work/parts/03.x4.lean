/-! SetupJobShopModel -/
set_option maxRecDepth 100000
def RX4 : String := "SetupJobShopModel"
def TX4 : u_T := fun k => match k with
  | 0 => ("SetupJobShopModel", "s", "[I", true)
  | 1 => ("SetupJobShopModel", "saved", "[I", true)
  | 2 => ("SetupJobShopModel", "isSaved", "Z", false)
  | 3 => ("SetupJobShopModel", "thrown", "I", false)
  | 4 => ("SetupJobShopModel", "text", "[C", true)
  | 5 => ("SetupJobShopModel", "length", "I", false)
  | 6 => ("SetupJobShopModel", "failures", "[I", true)
  | 7 => ("SetupJobShopModel", "failureMany", "I", false)
  | 8 => ("SetupJobShopModel", "closedOrder", "[I", true)
  | 9 => ("SetupJobShopModel", "hasClosed", "Z", false)
  | 10 => ("SetupJobShopModel", "tabuSteps", "I", false)
  | 11 => ("SetupJobShopModel", "ready", "[I", true)
  | 12 => ("SetupJobShopModel", "start", "[I", true)
  | 13 => ("SetupJobShopModel", "isOpen", "[Z", true)
  | 14 => ("SetupJobShopModel", "held", "I", false)
  | 15 => ("SetupJobShopModel", "heldUntil", "I", false)
  | 16 => ("SetupJobShopModel", "path", "[I", true)
  | 17 => ("SetupJobShopModel", "pathMany", "I", false)
  | 18 => ("SetupJobShopModel", "given", "[I", true)
  | 19 => ("SetupJobShopModel", "fixed", "[I", true)
  | 20 => ("SetupJobShopModel", "bestOrder", "[I", true)
  | 21 => ("SetupJobShopModel", "bestMakespan", "I", false)
  | 22 => ("SetupJobShopModel", "isUsed", "[Z", true)
  | 23 => ("SetupJobShopModel", "own", "[I", true)
  | 24 => ("SetupJobShopModel", "madeAt", "[I", true)
  | 25 => ("SetupJobShopModel", "bestState", "[I", true)
  | 26 => ("SetupJobShopModel", "isSwap", "[Z", true)
  | 27 => ("SetupJobShopModel", "heads", "[I", true)
  | 28 => ("SetupJobShopModel", "tails", "[I", true)
  | 29 => ("SetupJobShopModel", "lefts", "[I", true)
  | 30 => ("SetupJobShopModel", "place", "I", false)
  | 31 => ("SetupJobShopModel", "fault", "I", false)
  | 32 => ("SetupJobShopModel", "number", "I", false)
  | 33 => ("SetupJobShopModel", "wrongJob", "I", false)
  | 34 => ("SetupJobShopModel", "wrongWhy", "I", false)
  | 35 => ("SetupJobShopModel", "wrongOperation", "I", false)
  | _ => ("SetupJobShopModel", "beforeText", "[I", true)
def tyX4 : Nat → FieldType := fun k => match k with
  | 0 => .array .int
  | 1 => .array .int
  | 2 => .boolean
  | 3 => .int
  | 4 => .array .char
  | 5 => .int
  | 6 => .array .int
  | 7 => .int
  | 8 => .array .int
  | 9 => .boolean
  | 10 => .int
  | 11 => .array .int
  | 12 => .array .int
  | 13 => .array .boolean
  | 14 => .int
  | 15 => .int
  | 16 => .array .int
  | 17 => .int
  | 18 => .array .int
  | 19 => .array .int
  | 20 => .array .int
  | 21 => .int
  | 22 => .array .boolean
  | 23 => .array .int
  | 24 => .array .int
  | 25 => .array .int
  | 26 => .array .boolean
  | 27 => .array .int
  | 28 => .array .int
  | 29 => .array .int
  | 30 => .int
  | 31 => .int
  | 32 => .int
  | 33 => .int
  | 34 => .int
  | 35 => .int
  | _ => .array .int
abbrev wsX40 : List Cond := u_ws RX4 TX4 37
set_option maxRecDepth 100000 in
theorem nmX4 : ∀ a, a < 37 → ∀ b, b < 37 → a ≠ b → (TX4 a).2.1 ≠ (TX4 b).2.1 := by decide +kernel
set_option maxRecDepth 100000 in
theorem tyX4_ok : ∀ k, k < 37 → parseFieldDescriptor (TX4 k).2.2.1 = some (tyX4 k) := by decide +kernel
abbrev cX4_init : ByteArray := prog_19_method_1_code
def yX4_init : MethodName := ⟨RX4, "<init>", "()V"⟩
def dkwX4_init_7 : List UInt8 := [188, 10, 181, 0, 73, 42, 17, 0, 203, 188, 10, 181, 0, 76, 177]
abbrev dktX4_init_7 : List UInt8 := dkwX4_init_7 ++ []
def dkwX4_init_6 : List UInt8 := [188, 4, 181, 0, 64, 42, 16, 20, 188, 10, 181, 0, 67, 42, 16, 20, 188, 10, 181, 0, 70, 42, 16, 20]
abbrev dktX4_init_6 : List UInt8 := dkwX4_init_6 ++ dktX4_init_7
def dkwX4_init_5 : List UInt8 := [181, 0, 55, 42, 17, 1, 144, 188, 10, 181, 0, 58, 42, 16, 20, 188, 10, 181, 0, 61, 42, 16, 20]
abbrev dktX4_init_5 : List UInt8 := dkwX4_init_5 ++ dktX4_init_6
def dkwX4_init_4 : List UInt8 := [181, 0, 46, 42, 8, 188, 10, 181, 0, 49, 42, 16, 20, 188, 4, 181, 0, 52, 42, 8, 188, 10]
abbrev dktX4_init_4 : List UInt8 := dkwX4_init_4 ++ dktX4_init_5
def dkwX4_init_3 : List UInt8 := [181, 0, 36, 42, 16, 20, 188, 10, 181, 0, 40, 42, 8, 188, 10, 181, 0, 43, 42, 16, 20, 188, 10]
abbrev dktX4_init_3 : List UInt8 := dkwX4_init_3 ++ dktX4_init_4
def dkwX4_init_2 : List UInt8 := [188, 10, 181, 0, 26, 42, 16, 20, 188, 10, 181, 0, 29, 42, 7, 188, 4, 181, 0, 32, 42, 2]
abbrev dktX4_init_2 : List UInt8 := dkwX4_init_2 ++ dktX4_init_3
def dkwX4_init_1 : List UInt8 := [16, 80, 188, 5, 181, 0, 16, 42, 8, 188, 10, 181, 0, 20, 42, 7, 188, 10, 181, 0, 23, 42, 16, 20]
abbrev dktX4_init_1 : List UInt8 := dkwX4_init_1 ++ dktX4_init_2
def dkwX4_init_0 : List UInt8 := [42, 183, 0, 3, 42, 17, 0, 203, 188, 10, 181, 0, 9, 42, 17, 0, 203, 188, 10, 181, 0, 13, 42]
abbrev dktX4_init_0 : List UInt8 := dkwX4_init_0 ++ dktX4_init_1
theorem dksX4_init_0 : cX4_init.data.toList.drop 0 = dktX4_init_0 := by decide +kernel
theorem dksX4_init_1 : cX4_init.data.toList.drop 23 = dktX4_init_1 := dk_seg dksX4_init_0 23 rfl rfl
theorem dksX4_init_2 : cX4_init.data.toList.drop 47 = dktX4_init_2 := dk_seg dksX4_init_1 24 rfl rfl
theorem dksX4_init_3 : cX4_init.data.toList.drop 69 = dktX4_init_3 := dk_seg dksX4_init_2 22 rfl rfl
theorem dksX4_init_4 : cX4_init.data.toList.drop 92 = dktX4_init_4 := dk_seg dksX4_init_3 23 rfl rfl
theorem dksX4_init_5 : cX4_init.data.toList.drop 114 = dktX4_init_5 := dk_seg dksX4_init_4 22 rfl rfl
theorem dksX4_init_6 : cX4_init.data.toList.drop 137 = dktX4_init_6 := dk_seg dksX4_init_5 23 rfl rfl
theorem dksX4_init_7 : cX4_init.data.toList.drop 161 = dktX4_init_7 := dk_seg dksX4_init_6 24 rfl rfl
theorem dX4_init_0 : decode cX4_init 0 = .ok (.aload_n 0, 1) := dk_42 (dk_at dksX4_init_0 0 rfl rfl)
theorem dX4_init_1 : decode cX4_init 1 = .ok (.invokespecial 3, 3) := dk_183 0 3 (dk_at dksX4_init_0 1 rfl rfl)
theorem dX4_init_4 : decode cX4_init 4 = .ok (.aload_n 0, 1) := dk_42 (dk_at dksX4_init_0 4 rfl rfl)
theorem dX4_init_5 : decode cX4_init 5 = .ok (.sipush 203, 3) := dk_17 0 203 (dk_at dksX4_init_0 5 rfl rfl)
theorem dX4_init_8 : decode cX4_init 8 = .ok (.newarray .int, 2) := dk_188_10 (dk_at dksX4_init_0 8 rfl rfl)
theorem dX4_init_10 : decode cX4_init 10 = .ok (.putfield 9, 3) := dk_181 0 9 (dk_at dksX4_init_0 10 rfl rfl)
theorem dX4_init_13 : decode cX4_init 13 = .ok (.aload_n 0, 1) := dk_42 (dk_at dksX4_init_0 13 rfl rfl)
theorem dX4_init_14 : decode cX4_init 14 = .ok (.sipush 203, 3) := dk_17 0 203 (dk_at dksX4_init_0 14 rfl rfl)
theorem dX4_init_17 : decode cX4_init 17 = .ok (.newarray .int, 2) := dk_188_10 (dk_at dksX4_init_0 17 rfl rfl)
theorem dX4_init_19 : decode cX4_init 19 = .ok (.putfield 13, 3) := dk_181 0 13 (dk_at dksX4_init_0 19 rfl rfl)
theorem dX4_init_22 : decode cX4_init 22 = .ok (.aload_n 0, 1) := dk_42 (dk_at dksX4_init_0 22 rfl rfl)
theorem dX4_init_23 : decode cX4_init 23 = .ok (.bipush 80, 2) := dk_16 80 (dk_at dksX4_init_1 0 rfl rfl)
theorem dX4_init_25 : decode cX4_init 25 = .ok (.newarray .char, 2) := dk_188_5 (dk_at dksX4_init_1 2 rfl rfl)
theorem dX4_init_27 : decode cX4_init 27 = .ok (.putfield 16, 3) := dk_181 0 16 (dk_at dksX4_init_1 4 rfl rfl)
theorem dX4_init_30 : decode cX4_init 30 = .ok (.aload_n 0, 1) := dk_42 (dk_at dksX4_init_1 7 rfl rfl)
theorem dX4_init_31 : decode cX4_init 31 = .ok (.iconst 5, 1) := dk_8 (dk_at dksX4_init_1 8 rfl rfl)
theorem dX4_init_32 : decode cX4_init 32 = .ok (.newarray .int, 2) := dk_188_10 (dk_at dksX4_init_1 9 rfl rfl)
theorem dX4_init_34 : decode cX4_init 34 = .ok (.putfield 20, 3) := dk_181 0 20 (dk_at dksX4_init_1 11 rfl rfl)
theorem dX4_init_37 : decode cX4_init 37 = .ok (.aload_n 0, 1) := dk_42 (dk_at dksX4_init_1 14 rfl rfl)
theorem dX4_init_38 : decode cX4_init 38 = .ok (.iconst 4, 1) := dk_7 (dk_at dksX4_init_1 15 rfl rfl)
theorem dX4_init_39 : decode cX4_init 39 = .ok (.newarray .int, 2) := dk_188_10 (dk_at dksX4_init_1 16 rfl rfl)
theorem dX4_init_41 : decode cX4_init 41 = .ok (.putfield 23, 3) := dk_181 0 23 (dk_at dksX4_init_1 18 rfl rfl)
theorem dX4_init_44 : decode cX4_init 44 = .ok (.aload_n 0, 1) := dk_42 (dk_at dksX4_init_1 21 rfl rfl)
theorem dX4_init_45 : decode cX4_init 45 = .ok (.bipush 20, 2) := dk_16 20 (dk_at dksX4_init_1 22 rfl rfl)
theorem dX4_init_47 : decode cX4_init 47 = .ok (.newarray .int, 2) := dk_188_10 (dk_at dksX4_init_2 0 rfl rfl)
theorem dX4_init_49 : decode cX4_init 49 = .ok (.putfield 26, 3) := dk_181 0 26 (dk_at dksX4_init_2 2 rfl rfl)
theorem dX4_init_52 : decode cX4_init 52 = .ok (.aload_n 0, 1) := dk_42 (dk_at dksX4_init_2 5 rfl rfl)
theorem dX4_init_53 : decode cX4_init 53 = .ok (.bipush 20, 2) := dk_16 20 (dk_at dksX4_init_2 6 rfl rfl)
theorem dX4_init_55 : decode cX4_init 55 = .ok (.newarray .int, 2) := dk_188_10 (dk_at dksX4_init_2 8 rfl rfl)
theorem dX4_init_57 : decode cX4_init 57 = .ok (.putfield 29, 3) := dk_181 0 29 (dk_at dksX4_init_2 10 rfl rfl)
theorem dX4_init_60 : decode cX4_init 60 = .ok (.aload_n 0, 1) := dk_42 (dk_at dksX4_init_2 13 rfl rfl)
theorem dX4_init_61 : decode cX4_init 61 = .ok (.iconst 4, 1) := dk_7 (dk_at dksX4_init_2 14 rfl rfl)
theorem dX4_init_62 : decode cX4_init 62 = .ok (.newarray .boolean, 2) := dk_188_4 (dk_at dksX4_init_2 15 rfl rfl)
theorem dX4_init_64 : decode cX4_init 64 = .ok (.putfield 32, 3) := dk_181 0 32 (dk_at dksX4_init_2 17 rfl rfl)
theorem dX4_init_67 : decode cX4_init 67 = .ok (.aload_n 0, 1) := dk_42 (dk_at dksX4_init_2 20 rfl rfl)
theorem dX4_init_68 : decode cX4_init 68 = .ok (.iconst (-1), 1) := dk_2 (dk_at dksX4_init_2 21 rfl rfl)
theorem dX4_init_69 : decode cX4_init 69 = .ok (.putfield 36, 3) := dk_181 0 36 (dk_at dksX4_init_3 0 rfl rfl)
theorem dX4_init_72 : decode cX4_init 72 = .ok (.aload_n 0, 1) := dk_42 (dk_at dksX4_init_3 3 rfl rfl)
theorem dX4_init_73 : decode cX4_init 73 = .ok (.bipush 20, 2) := dk_16 20 (dk_at dksX4_init_3 4 rfl rfl)
theorem dX4_init_75 : decode cX4_init 75 = .ok (.newarray .int, 2) := dk_188_10 (dk_at dksX4_init_3 6 rfl rfl)
theorem dX4_init_77 : decode cX4_init 77 = .ok (.putfield 40, 3) := dk_181 0 40 (dk_at dksX4_init_3 8 rfl rfl)
theorem dX4_init_80 : decode cX4_init 80 = .ok (.aload_n 0, 1) := dk_42 (dk_at dksX4_init_3 11 rfl rfl)
theorem dX4_init_81 : decode cX4_init 81 = .ok (.iconst 5, 1) := dk_8 (dk_at dksX4_init_3 12 rfl rfl)
theorem dX4_init_82 : decode cX4_init 82 = .ok (.newarray .int, 2) := dk_188_10 (dk_at dksX4_init_3 13 rfl rfl)
theorem dX4_init_84 : decode cX4_init 84 = .ok (.putfield 43, 3) := dk_181 0 43 (dk_at dksX4_init_3 15 rfl rfl)
theorem dX4_init_87 : decode cX4_init 87 = .ok (.aload_n 0, 1) := dk_42 (dk_at dksX4_init_3 18 rfl rfl)
theorem dX4_init_88 : decode cX4_init 88 = .ok (.bipush 20, 2) := dk_16 20 (dk_at dksX4_init_3 19 rfl rfl)
theorem dX4_init_90 : decode cX4_init 90 = .ok (.newarray .int, 2) := dk_188_10 (dk_at dksX4_init_3 21 rfl rfl)
theorem dX4_init_92 : decode cX4_init 92 = .ok (.putfield 46, 3) := dk_181 0 46 (dk_at dksX4_init_4 0 rfl rfl)
theorem dX4_init_95 : decode cX4_init 95 = .ok (.aload_n 0, 1) := dk_42 (dk_at dksX4_init_4 3 rfl rfl)
theorem dX4_init_96 : decode cX4_init 96 = .ok (.iconst 5, 1) := dk_8 (dk_at dksX4_init_4 4 rfl rfl)
theorem dX4_init_97 : decode cX4_init 97 = .ok (.newarray .int, 2) := dk_188_10 (dk_at dksX4_init_4 5 rfl rfl)
theorem dX4_init_99 : decode cX4_init 99 = .ok (.putfield 49, 3) := dk_181 0 49 (dk_at dksX4_init_4 7 rfl rfl)
theorem dX4_init_102 : decode cX4_init 102 = .ok (.aload_n 0, 1) := dk_42 (dk_at dksX4_init_4 10 rfl rfl)
theorem dX4_init_103 : decode cX4_init 103 = .ok (.bipush 20, 2) := dk_16 20 (dk_at dksX4_init_4 11 rfl rfl)
theorem dX4_init_105 : decode cX4_init 105 = .ok (.newarray .boolean, 2) := dk_188_4 (dk_at dksX4_init_4 13 rfl rfl)
theorem dX4_init_107 : decode cX4_init 107 = .ok (.putfield 52, 3) := dk_181 0 52 (dk_at dksX4_init_4 15 rfl rfl)
theorem dX4_init_110 : decode cX4_init 110 = .ok (.aload_n 0, 1) := dk_42 (dk_at dksX4_init_4 18 rfl rfl)
theorem dX4_init_111 : decode cX4_init 111 = .ok (.iconst 5, 1) := dk_8 (dk_at dksX4_init_4 19 rfl rfl)
theorem dX4_init_112 : decode cX4_init 112 = .ok (.newarray .int, 2) := dk_188_10 (dk_at dksX4_init_4 20 rfl rfl)
theorem dX4_init_114 : decode cX4_init 114 = .ok (.putfield 55, 3) := dk_181 0 55 (dk_at dksX4_init_5 0 rfl rfl)
theorem dX4_init_117 : decode cX4_init 117 = .ok (.aload_n 0, 1) := dk_42 (dk_at dksX4_init_5 3 rfl rfl)
theorem dX4_init_118 : decode cX4_init 118 = .ok (.sipush 400, 3) := dk_17 1 144 (dk_at dksX4_init_5 4 rfl rfl)
theorem dX4_init_121 : decode cX4_init 121 = .ok (.newarray .int, 2) := dk_188_10 (dk_at dksX4_init_5 7 rfl rfl)
theorem dX4_init_123 : decode cX4_init 123 = .ok (.putfield 58, 3) := dk_181 0 58 (dk_at dksX4_init_5 9 rfl rfl)
theorem dX4_init_126 : decode cX4_init 126 = .ok (.aload_n 0, 1) := dk_42 (dk_at dksX4_init_5 12 rfl rfl)
theorem dX4_init_127 : decode cX4_init 127 = .ok (.bipush 20, 2) := dk_16 20 (dk_at dksX4_init_5 13 rfl rfl)
theorem dX4_init_129 : decode cX4_init 129 = .ok (.newarray .int, 2) := dk_188_10 (dk_at dksX4_init_5 15 rfl rfl)
theorem dX4_init_131 : decode cX4_init 131 = .ok (.putfield 61, 3) := dk_181 0 61 (dk_at dksX4_init_5 17 rfl rfl)
theorem dX4_init_134 : decode cX4_init 134 = .ok (.aload_n 0, 1) := dk_42 (dk_at dksX4_init_5 20 rfl rfl)
theorem dX4_init_135 : decode cX4_init 135 = .ok (.bipush 20, 2) := dk_16 20 (dk_at dksX4_init_5 21 rfl rfl)
theorem dX4_init_137 : decode cX4_init 137 = .ok (.newarray .boolean, 2) := dk_188_4 (dk_at dksX4_init_6 0 rfl rfl)
theorem dX4_init_139 : decode cX4_init 139 = .ok (.putfield 64, 3) := dk_181 0 64 (dk_at dksX4_init_6 2 rfl rfl)
theorem dX4_init_142 : decode cX4_init 142 = .ok (.aload_n 0, 1) := dk_42 (dk_at dksX4_init_6 5 rfl rfl)
theorem dX4_init_143 : decode cX4_init 143 = .ok (.bipush 20, 2) := dk_16 20 (dk_at dksX4_init_6 6 rfl rfl)
theorem dX4_init_145 : decode cX4_init 145 = .ok (.newarray .int, 2) := dk_188_10 (dk_at dksX4_init_6 8 rfl rfl)
theorem dX4_init_147 : decode cX4_init 147 = .ok (.putfield 67, 3) := dk_181 0 67 (dk_at dksX4_init_6 10 rfl rfl)
theorem dX4_init_150 : decode cX4_init 150 = .ok (.aload_n 0, 1) := dk_42 (dk_at dksX4_init_6 13 rfl rfl)
theorem dX4_init_151 : decode cX4_init 151 = .ok (.bipush 20, 2) := dk_16 20 (dk_at dksX4_init_6 14 rfl rfl)
theorem dX4_init_153 : decode cX4_init 153 = .ok (.newarray .int, 2) := dk_188_10 (dk_at dksX4_init_6 16 rfl rfl)
theorem dX4_init_155 : decode cX4_init 155 = .ok (.putfield 70, 3) := dk_181 0 70 (dk_at dksX4_init_6 18 rfl rfl)
theorem dX4_init_158 : decode cX4_init 158 = .ok (.aload_n 0, 1) := dk_42 (dk_at dksX4_init_6 21 rfl rfl)
theorem dX4_init_159 : decode cX4_init 159 = .ok (.bipush 20, 2) := dk_16 20 (dk_at dksX4_init_6 22 rfl rfl)
theorem dX4_init_161 : decode cX4_init 161 = .ok (.newarray .int, 2) := dk_188_10 (dk_at dksX4_init_7 0 rfl rfl)
theorem dX4_init_163 : decode cX4_init 163 = .ok (.putfield 73, 3) := dk_181 0 73 (dk_at dksX4_init_7 2 rfl rfl)
theorem dX4_init_166 : decode cX4_init 166 = .ok (.aload_n 0, 1) := dk_42 (dk_at dksX4_init_7 5 rfl rfl)
theorem dX4_init_167 : decode cX4_init 167 = .ok (.sipush 203, 3) := dk_17 0 203 (dk_at dksX4_init_7 6 rfl rfl)
theorem dX4_init_170 : decode cX4_init 170 = .ok (.newarray .int, 2) := dk_188_10 (dk_at dksX4_init_7 9 rfl rfl)
theorem dX4_init_172 : decode cX4_init 172 = .ok (.putfield 76, 3) := dk_181 0 76 (dk_at dksX4_init_7 11 rfl rfl)
theorem dX4_init_175 : decode cX4_init 175 = .ok (.return_, 1) := dk_177 (dk_at dksX4_init_7 14 rfl rfl)
abbrev cX4_thrown : ByteArray := prog_19_method_2_code
def yX4_thrown : MethodName := ⟨RX4, "thrown", "()I"⟩
theorem dX4_thrown_0 : decode cX4_thrown 0 = .ok (.aload_n 0, 1) := by decide +kernel
theorem dX4_thrown_1 : decode cX4_thrown 1 = .ok (.getfield 79, 3) := by decide +kernel
theorem dX4_thrown_4 : decode cX4_thrown 4 = .ok (.ireturn, 1) := by decide +kernel
abbrev cX4_addJob : ByteArray := prog_19_method_14_code
def yX4_addJob : MethodName := ⟨RX4, "addJob", "(III)I"⟩
def dkwX4_addJob_2 : List UInt8 := [182, 0, 102, 172]
abbrev dktX4_addJob_2 : List UInt8 := dkwX4_addJob_2 ++ []
def dkwX4_addJob_1 : List UInt8 := [5, 167, 0, 4, 3, 181, 0, 79, 42, 180, 0, 79, 158, 0, 7, 3, 167, 0, 10, 42, 27, 28, 29]
abbrev dktX4_addJob_1 : List UInt8 := dkwX4_addJob_1 ++ dktX4_addJob_2
def dkwX4_addJob_0 : List UInt8 := [42, 27, 28, 29, 184, 0, 98, 154, 0, 7, 4, 167, 0, 18, 42, 180, 0, 9, 3, 46, 8, 160, 0, 7]
abbrev dktX4_addJob_0 : List UInt8 := dkwX4_addJob_0 ++ dktX4_addJob_1
theorem dksX4_addJob_0 : cX4_addJob.data.toList.drop 0 = dktX4_addJob_0 := by decide +kernel
theorem dksX4_addJob_1 : cX4_addJob.data.toList.drop 24 = dktX4_addJob_1 := dk_seg dksX4_addJob_0 24 rfl rfl
theorem dksX4_addJob_2 : cX4_addJob.data.toList.drop 47 = dktX4_addJob_2 := dk_seg dksX4_addJob_1 23 rfl rfl
theorem dX4_addJob_0 : decode cX4_addJob 0 = .ok (.aload_n 0, 1) := dk_42 (dk_at dksX4_addJob_0 0 rfl rfl)
theorem dX4_addJob_1 : decode cX4_addJob 1 = .ok (.iload_n 1, 1) := dk_27 (dk_at dksX4_addJob_0 1 rfl rfl)
theorem dX4_addJob_2 : decode cX4_addJob 2 = .ok (.iload_n 2, 1) := dk_28 (dk_at dksX4_addJob_0 2 rfl rfl)
theorem dX4_addJob_3 : decode cX4_addJob 3 = .ok (.iload_n 3, 1) := dk_29 (dk_at dksX4_addJob_0 3 rfl rfl)
theorem dX4_addJob_4 : decode cX4_addJob 4 = .ok (.invokestatic 98, 3) := dk_184 0 98 (dk_at dksX4_addJob_0 4 rfl rfl)
theorem dX4_addJob_7 : decode cX4_addJob 7 = .ok (.ifCond .ne 7, 3) := dk_154 0 7 (dk_at dksX4_addJob_0 7 rfl rfl)
theorem dX4_addJob_10 : decode cX4_addJob 10 = .ok (.iconst 1, 1) := dk_4 (dk_at dksX4_addJob_0 10 rfl rfl)
theorem dX4_addJob_11 : decode cX4_addJob 11 = .ok (.goto 18, 3) := dk_167 0 18 (dk_at dksX4_addJob_0 11 rfl rfl)
theorem dX4_addJob_14 : decode cX4_addJob 14 = .ok (.aload_n 0, 1) := dk_42 (dk_at dksX4_addJob_0 14 rfl rfl)
theorem dX4_addJob_15 : decode cX4_addJob 15 = .ok (.getfield 9, 3) := dk_180 0 9 (dk_at dksX4_addJob_0 15 rfl rfl)
theorem dX4_addJob_18 : decode cX4_addJob 18 = .ok (.iconst 0, 1) := dk_3 (dk_at dksX4_addJob_0 18 rfl rfl)
theorem dX4_addJob_19 : decode cX4_addJob 19 = .ok (.iaload, 1) := dk_46 (dk_at dksX4_addJob_0 19 rfl rfl)
theorem dX4_addJob_20 : decode cX4_addJob 20 = .ok (.iconst 5, 1) := dk_8 (dk_at dksX4_addJob_0 20 rfl rfl)
theorem dX4_addJob_21 : decode cX4_addJob 21 = .ok (.if_icmp .ne 7, 3) := dk_160 0 7 (dk_at dksX4_addJob_0 21 rfl rfl)
theorem dX4_addJob_24 : decode cX4_addJob 24 = .ok (.iconst 2, 1) := dk_5 (dk_at dksX4_addJob_1 0 rfl rfl)
theorem dX4_addJob_25 : decode cX4_addJob 25 = .ok (.goto 4, 3) := dk_167 0 4 (dk_at dksX4_addJob_1 1 rfl rfl)
theorem dX4_addJob_28 : decode cX4_addJob 28 = .ok (.iconst 0, 1) := dk_3 (dk_at dksX4_addJob_1 4 rfl rfl)
theorem dX4_addJob_29 : decode cX4_addJob 29 = .ok (.putfield 79, 3) := dk_181 0 79 (dk_at dksX4_addJob_1 5 rfl rfl)
theorem dX4_addJob_32 : decode cX4_addJob 32 = .ok (.aload_n 0, 1) := dk_42 (dk_at dksX4_addJob_1 8 rfl rfl)
theorem dX4_addJob_33 : decode cX4_addJob 33 = .ok (.getfield 79, 3) := dk_180 0 79 (dk_at dksX4_addJob_1 9 rfl rfl)
theorem dX4_addJob_36 : decode cX4_addJob 36 = .ok (.ifCond .le 7, 3) := dk_158 0 7 (dk_at dksX4_addJob_1 12 rfl rfl)
theorem dX4_addJob_39 : decode cX4_addJob 39 = .ok (.iconst 0, 1) := dk_3 (dk_at dksX4_addJob_1 15 rfl rfl)
theorem dX4_addJob_40 : decode cX4_addJob 40 = .ok (.goto 10, 3) := dk_167 0 10 (dk_at dksX4_addJob_1 16 rfl rfl)
theorem dX4_addJob_43 : decode cX4_addJob 43 = .ok (.aload_n 0, 1) := dk_42 (dk_at dksX4_addJob_1 19 rfl rfl)
theorem dX4_addJob_44 : decode cX4_addJob 44 = .ok (.iload_n 1, 1) := dk_27 (dk_at dksX4_addJob_1 20 rfl rfl)
theorem dX4_addJob_45 : decode cX4_addJob 45 = .ok (.iload_n 2, 1) := dk_28 (dk_at dksX4_addJob_1 21 rfl rfl)
theorem dX4_addJob_46 : decode cX4_addJob 46 = .ok (.iload_n 3, 1) := dk_29 (dk_at dksX4_addJob_1 22 rfl rfl)
theorem dX4_addJob_47 : decode cX4_addJob 47 = .ok (.invokevirtual 102, 3) := dk_182 0 102 (dk_at dksX4_addJob_2 0 rfl rfl)
theorem dX4_addJob_50 : decode cX4_addJob 50 = .ok (.ireturn, 1) := dk_172 (dk_at dksX4_addJob_2 3 rfl rfl)
abbrev cX4_areJobProperties : ByteArray := prog_19_method_12_code
def yX4_areJobProperties : MethodName := ⟨RX4, "areJobProperties", "(III)Z"⟩
def dkwX4_areJobProperties_1 : List UInt8 := [4, 167, 0, 4, 3, 172]
abbrev dktX4_areJobProperties_1 : List UInt8 := dkwX4_areJobProperties_1 ++ []
def dkwX4_areJobProperties_0 : List UInt8 := [3, 26, 184, 0, 94, 153, 0, 23, 4, 27, 184, 0, 94, 153, 0, 15, 5, 28, 184, 0, 94, 153, 0, 7]
abbrev dktX4_areJobProperties_0 : List UInt8 := dkwX4_areJobProperties_0 ++ dktX4_areJobProperties_1
theorem dksX4_areJobProperties_0 : cX4_areJobProperties.data.toList.drop 0 = dktX4_areJobProperties_0 := by decide +kernel
theorem dksX4_areJobProperties_1 : cX4_areJobProperties.data.toList.drop 24 = dktX4_areJobProperties_1 := dk_seg dksX4_areJobProperties_0 24 rfl rfl
theorem dX4_areJobProperties_0 : decode cX4_areJobProperties 0 = .ok (.iconst 0, 1) := dk_3 (dk_at dksX4_areJobProperties_0 0 rfl rfl)
theorem dX4_areJobProperties_1 : decode cX4_areJobProperties 1 = .ok (.iload_n 0, 1) := dk_26 (dk_at dksX4_areJobProperties_0 1 rfl rfl)
theorem dX4_areJobProperties_2 : decode cX4_areJobProperties 2 = .ok (.invokestatic 94, 3) := dk_184 0 94 (dk_at dksX4_areJobProperties_0 2 rfl rfl)
theorem dX4_areJobProperties_5 : decode cX4_areJobProperties 5 = .ok (.ifCond .eq 23, 3) := dk_153 0 23 (dk_at dksX4_areJobProperties_0 5 rfl rfl)
theorem dX4_areJobProperties_8 : decode cX4_areJobProperties 8 = .ok (.iconst 1, 1) := dk_4 (dk_at dksX4_areJobProperties_0 8 rfl rfl)
theorem dX4_areJobProperties_9 : decode cX4_areJobProperties 9 = .ok (.iload_n 1, 1) := dk_27 (dk_at dksX4_areJobProperties_0 9 rfl rfl)
theorem dX4_areJobProperties_10 : decode cX4_areJobProperties 10 = .ok (.invokestatic 94, 3) := dk_184 0 94 (dk_at dksX4_areJobProperties_0 10 rfl rfl)
theorem dX4_areJobProperties_13 : decode cX4_areJobProperties 13 = .ok (.ifCond .eq 15, 3) := dk_153 0 15 (dk_at dksX4_areJobProperties_0 13 rfl rfl)
theorem dX4_areJobProperties_16 : decode cX4_areJobProperties 16 = .ok (.iconst 2, 1) := dk_5 (dk_at dksX4_areJobProperties_0 16 rfl rfl)
theorem dX4_areJobProperties_17 : decode cX4_areJobProperties 17 = .ok (.iload_n 2, 1) := dk_28 (dk_at dksX4_areJobProperties_0 17 rfl rfl)
theorem dX4_areJobProperties_18 : decode cX4_areJobProperties 18 = .ok (.invokestatic 94, 3) := dk_184 0 94 (dk_at dksX4_areJobProperties_0 18 rfl rfl)
theorem dX4_areJobProperties_21 : decode cX4_areJobProperties 21 = .ok (.ifCond .eq 7, 3) := dk_153 0 7 (dk_at dksX4_areJobProperties_0 21 rfl rfl)
theorem dX4_areJobProperties_24 : decode cX4_areJobProperties 24 = .ok (.iconst 1, 1) := dk_4 (dk_at dksX4_areJobProperties_1 0 rfl rfl)
theorem dX4_areJobProperties_25 : decode cX4_areJobProperties 25 = .ok (.goto 4, 3) := dk_167 0 4 (dk_at dksX4_areJobProperties_1 1 rfl rfl)
theorem dX4_areJobProperties_28 : decode cX4_areJobProperties 28 = .ok (.iconst 0, 1) := dk_3 (dk_at dksX4_areJobProperties_1 4 rfl rfl)
theorem dX4_areJobProperties_29 : decode cX4_areJobProperties 29 = .ok (.ireturn, 1) := dk_172 (dk_at dksX4_areJobProperties_1 5 rfl rfl)
abbrev cX4_isJobProperty : ByteArray := prog_19_method_11_code
def yX4_isJobProperty : MethodName := ⟨RX4, "isJobProperty", "(II)Z"⟩
def dkwX4_isJobProperty_1 : List UInt8 := [20, 0, 90, 184, 0, 82, 167, 0, 12, 27, 133, 9, 20, 0, 92, 184, 0, 82, 172]
abbrev dktX4_isJobProperty_1 : List UInt8 := dkwX4_isJobProperty_1 ++ []
def dkwX4_isJobProperty_0 : List UInt8 := [26, 154, 0, 15, 27, 133, 9, 20, 0, 88, 184, 0, 82, 167, 0, 29, 26, 4, 160, 0, 15, 27, 133, 9]
abbrev dktX4_isJobProperty_0 : List UInt8 := dkwX4_isJobProperty_0 ++ dktX4_isJobProperty_1
theorem dksX4_isJobProperty_0 : cX4_isJobProperty.data.toList.drop 0 = dktX4_isJobProperty_0 := by decide +kernel
theorem dksX4_isJobProperty_1 : cX4_isJobProperty.data.toList.drop 24 = dktX4_isJobProperty_1 := dk_seg dksX4_isJobProperty_0 24 rfl rfl
theorem dX4_isJobProperty_0 : decode cX4_isJobProperty 0 = .ok (.iload_n 0, 1) := dk_26 (dk_at dksX4_isJobProperty_0 0 rfl rfl)
theorem dX4_isJobProperty_1 : decode cX4_isJobProperty 1 = .ok (.ifCond .ne 15, 3) := dk_154 0 15 (dk_at dksX4_isJobProperty_0 1 rfl rfl)
theorem dX4_isJobProperty_4 : decode cX4_isJobProperty 4 = .ok (.iload_n 1, 1) := dk_27 (dk_at dksX4_isJobProperty_0 4 rfl rfl)
theorem dX4_isJobProperty_5 : decode cX4_isJobProperty 5 = .ok (.i2l, 1) := dk_133 (dk_at dksX4_isJobProperty_0 5 rfl rfl)
theorem dX4_isJobProperty_6 : decode cX4_isJobProperty 6 = .ok (.lconst 0, 1) := dk_9 (dk_at dksX4_isJobProperty_0 6 rfl rfl)
theorem dX4_isJobProperty_7 : decode cX4_isJobProperty 7 = .ok (.ldc2_w 88, 3) := dk_20 0 88 (dk_at dksX4_isJobProperty_0 7 rfl rfl)
theorem dX4_isJobProperty_10 : decode cX4_isJobProperty 10 = .ok (.invokestatic 82, 3) := dk_184 0 82 (dk_at dksX4_isJobProperty_0 10 rfl rfl)
theorem dX4_isJobProperty_13 : decode cX4_isJobProperty 13 = .ok (.goto 29, 3) := dk_167 0 29 (dk_at dksX4_isJobProperty_0 13 rfl rfl)
theorem dX4_isJobProperty_16 : decode cX4_isJobProperty 16 = .ok (.iload_n 0, 1) := dk_26 (dk_at dksX4_isJobProperty_0 16 rfl rfl)
theorem dX4_isJobProperty_17 : decode cX4_isJobProperty 17 = .ok (.iconst 1, 1) := dk_4 (dk_at dksX4_isJobProperty_0 17 rfl rfl)
theorem dX4_isJobProperty_18 : decode cX4_isJobProperty 18 = .ok (.if_icmp .ne 15, 3) := dk_160 0 15 (dk_at dksX4_isJobProperty_0 18 rfl rfl)
theorem dX4_isJobProperty_21 : decode cX4_isJobProperty 21 = .ok (.iload_n 1, 1) := dk_27 (dk_at dksX4_isJobProperty_0 21 rfl rfl)
theorem dX4_isJobProperty_22 : decode cX4_isJobProperty 22 = .ok (.i2l, 1) := dk_133 (dk_at dksX4_isJobProperty_0 22 rfl rfl)
theorem dX4_isJobProperty_23 : decode cX4_isJobProperty 23 = .ok (.lconst 0, 1) := dk_9 (dk_at dksX4_isJobProperty_0 23 rfl rfl)
theorem dX4_isJobProperty_24 : decode cX4_isJobProperty 24 = .ok (.ldc2_w 90, 3) := dk_20 0 90 (dk_at dksX4_isJobProperty_1 0 rfl rfl)
theorem dX4_isJobProperty_27 : decode cX4_isJobProperty 27 = .ok (.invokestatic 82, 3) := dk_184 0 82 (dk_at dksX4_isJobProperty_1 3 rfl rfl)
theorem dX4_isJobProperty_30 : decode cX4_isJobProperty 30 = .ok (.goto 12, 3) := dk_167 0 12 (dk_at dksX4_isJobProperty_1 6 rfl rfl)
theorem dX4_isJobProperty_33 : decode cX4_isJobProperty 33 = .ok (.iload_n 1, 1) := dk_27 (dk_at dksX4_isJobProperty_1 9 rfl rfl)
theorem dX4_isJobProperty_34 : decode cX4_isJobProperty 34 = .ok (.i2l, 1) := dk_133 (dk_at dksX4_isJobProperty_1 10 rfl rfl)
theorem dX4_isJobProperty_35 : decode cX4_isJobProperty 35 = .ok (.lconst 0, 1) := dk_9 (dk_at dksX4_isJobProperty_1 11 rfl rfl)
theorem dX4_isJobProperty_36 : decode cX4_isJobProperty 36 = .ok (.ldc2_w 92, 3) := dk_20 0 92 (dk_at dksX4_isJobProperty_1 12 rfl rfl)
theorem dX4_isJobProperty_39 : decode cX4_isJobProperty 39 = .ok (.invokestatic 82, 3) := dk_184 0 82 (dk_at dksX4_isJobProperty_1 15 rfl rfl)
theorem dX4_isJobProperty_42 : decode cX4_isJobProperty 42 = .ok (.ireturn, 1) := dk_172 (dk_at dksX4_isJobProperty_1 18 rfl rfl)
abbrev cX4_in : ByteArray := prog_19_method_3_code
def yX4_in : MethodName := ⟨RX4, "in", "(JJJ)Z"⟩
def dkwX4_in_0 : List UInt8 := [30, 32, 148, 155, 0, 14, 30, 22, 4, 148, 157, 0, 7, 4, 167, 0, 4, 3, 172]
abbrev dktX4_in_0 : List UInt8 := dkwX4_in_0 ++ []
theorem dksX4_in_0 : cX4_in.data.toList.drop 0 = dktX4_in_0 := by decide +kernel
theorem dX4_in_0 : decode cX4_in 0 = .ok (.lload_n 0, 1) := dk_30 (dk_at dksX4_in_0 0 rfl rfl)
theorem dX4_in_1 : decode cX4_in 1 = .ok (.lload_n 2, 1) := dk_32 (dk_at dksX4_in_0 1 rfl rfl)
theorem dX4_in_2 : decode cX4_in 2 = .ok (.lcmp, 1) := dk_148 (dk_at dksX4_in_0 2 rfl rfl)
theorem dX4_in_3 : decode cX4_in 3 = .ok (.ifCond .lt 14, 3) := dk_155 0 14 (dk_at dksX4_in_0 3 rfl rfl)
theorem dX4_in_6 : decode cX4_in 6 = .ok (.lload_n 0, 1) := dk_30 (dk_at dksX4_in_0 6 rfl rfl)
theorem dX4_in_7 : decode cX4_in 7 = .ok (.lload 4, 2) := dk_22 4 (dk_at dksX4_in_0 7 rfl rfl)
theorem dX4_in_9 : decode cX4_in 9 = .ok (.lcmp, 1) := dk_148 (dk_at dksX4_in_0 9 rfl rfl)
theorem dX4_in_10 : decode cX4_in 10 = .ok (.ifCond .gt 7, 3) := dk_157 0 7 (dk_at dksX4_in_0 10 rfl rfl)
theorem dX4_in_13 : decode cX4_in 13 = .ok (.iconst 1, 1) := dk_4 (dk_at dksX4_in_0 13 rfl rfl)
theorem dX4_in_14 : decode cX4_in 14 = .ok (.goto 4, 3) := dk_167 0 4 (dk_at dksX4_in_0 14 rfl rfl)
theorem dX4_in_17 : decode cX4_in 17 = .ok (.iconst 0, 1) := dk_3 (dk_at dksX4_in_0 17 rfl rfl)
theorem dX4_in_18 : decode cX4_in 18 = .ok (.ireturn, 1) := dk_172 (dk_at dksX4_in_0 18 rfl rfl)
abbrev cX4_createJob : ByteArray := prog_19_method_13_code
def yX4_createJob : MethodName := ⟨RX4, "createJob", "(III)I"⟩
def dkwX4_createJob_2 : List UInt8 := [96, 3, 79, 42, 180, 0, 9, 3, 92, 46, 4, 96, 79, 21, 4, 172]
abbrev dktX4_createJob_2 : List UInt8 := dkwX4_createJob_2 ++ []
def dkwX4_createJob_1 : List UInt8 := [21, 4, 96, 28, 79, 42, 180, 0, 9, 16, 12, 21, 4, 96, 29, 79, 42, 180, 0, 9, 16, 17, 21, 4]
abbrev dktX4_createJob_1 : List UInt8 := dkwX4_createJob_1 ++ dktX4_createJob_2
def dkwX4_createJob_0 : List UInt8 := [42, 180, 0, 9, 3, 46, 54, 4, 42, 180, 0, 9, 5, 21, 4, 96, 27, 79, 42, 180, 0, 9, 16, 7]
abbrev dktX4_createJob_0 : List UInt8 := dkwX4_createJob_0 ++ dktX4_createJob_1
theorem dksX4_createJob_0 : cX4_createJob.data.toList.drop 0 = dktX4_createJob_0 := by decide +kernel
theorem dksX4_createJob_1 : cX4_createJob.data.toList.drop 24 = dktX4_createJob_1 := dk_seg dksX4_createJob_0 24 rfl rfl
theorem dksX4_createJob_2 : cX4_createJob.data.toList.drop 48 = dktX4_createJob_2 := dk_seg dksX4_createJob_1 24 rfl rfl
theorem dX4_createJob_0 : decode cX4_createJob 0 = .ok (.aload_n 0, 1) := dk_42 (dk_at dksX4_createJob_0 0 rfl rfl)
theorem dX4_createJob_1 : decode cX4_createJob 1 = .ok (.getfield 9, 3) := dk_180 0 9 (dk_at dksX4_createJob_0 1 rfl rfl)
theorem dX4_createJob_4 : decode cX4_createJob 4 = .ok (.iconst 0, 1) := dk_3 (dk_at dksX4_createJob_0 4 rfl rfl)
theorem dX4_createJob_5 : decode cX4_createJob 5 = .ok (.iaload, 1) := dk_46 (dk_at dksX4_createJob_0 5 rfl rfl)
theorem dX4_createJob_6 : decode cX4_createJob 6 = .ok (.istore 4, 2) := dk_54 4 (dk_at dksX4_createJob_0 6 rfl rfl)
theorem dX4_createJob_8 : decode cX4_createJob 8 = .ok (.aload_n 0, 1) := dk_42 (dk_at dksX4_createJob_0 8 rfl rfl)
theorem dX4_createJob_9 : decode cX4_createJob 9 = .ok (.getfield 9, 3) := dk_180 0 9 (dk_at dksX4_createJob_0 9 rfl rfl)
theorem dX4_createJob_12 : decode cX4_createJob 12 = .ok (.iconst 2, 1) := dk_5 (dk_at dksX4_createJob_0 12 rfl rfl)
theorem dX4_createJob_13 : decode cX4_createJob 13 = .ok (.iload 4, 2) := dk_21 4 (dk_at dksX4_createJob_0 13 rfl rfl)
theorem dX4_createJob_15 : decode cX4_createJob 15 = .ok (.iadd, 1) := dk_96 (dk_at dksX4_createJob_0 15 rfl rfl)
theorem dX4_createJob_16 : decode cX4_createJob 16 = .ok (.iload_n 1, 1) := dk_27 (dk_at dksX4_createJob_0 16 rfl rfl)
theorem dX4_createJob_17 : decode cX4_createJob 17 = .ok (.iastore, 1) := dk_79 (dk_at dksX4_createJob_0 17 rfl rfl)
theorem dX4_createJob_18 : decode cX4_createJob 18 = .ok (.aload_n 0, 1) := dk_42 (dk_at dksX4_createJob_0 18 rfl rfl)
theorem dX4_createJob_19 : decode cX4_createJob 19 = .ok (.getfield 9, 3) := dk_180 0 9 (dk_at dksX4_createJob_0 19 rfl rfl)
theorem dX4_createJob_22 : decode cX4_createJob 22 = .ok (.bipush 7, 2) := dk_16 7 (dk_at dksX4_createJob_0 22 rfl rfl)
theorem dX4_createJob_24 : decode cX4_createJob 24 = .ok (.iload 4, 2) := dk_21 4 (dk_at dksX4_createJob_1 0 rfl rfl)
theorem dX4_createJob_26 : decode cX4_createJob 26 = .ok (.iadd, 1) := dk_96 (dk_at dksX4_createJob_1 2 rfl rfl)
theorem dX4_createJob_27 : decode cX4_createJob 27 = .ok (.iload_n 2, 1) := dk_28 (dk_at dksX4_createJob_1 3 rfl rfl)
theorem dX4_createJob_28 : decode cX4_createJob 28 = .ok (.iastore, 1) := dk_79 (dk_at dksX4_createJob_1 4 rfl rfl)
theorem dX4_createJob_29 : decode cX4_createJob 29 = .ok (.aload_n 0, 1) := dk_42 (dk_at dksX4_createJob_1 5 rfl rfl)
theorem dX4_createJob_30 : decode cX4_createJob 30 = .ok (.getfield 9, 3) := dk_180 0 9 (dk_at dksX4_createJob_1 6 rfl rfl)
theorem dX4_createJob_33 : decode cX4_createJob 33 = .ok (.bipush 12, 2) := dk_16 12 (dk_at dksX4_createJob_1 9 rfl rfl)
theorem dX4_createJob_35 : decode cX4_createJob 35 = .ok (.iload 4, 2) := dk_21 4 (dk_at dksX4_createJob_1 11 rfl rfl)
theorem dX4_createJob_37 : decode cX4_createJob 37 = .ok (.iadd, 1) := dk_96 (dk_at dksX4_createJob_1 13 rfl rfl)
theorem dX4_createJob_38 : decode cX4_createJob 38 = .ok (.iload_n 3, 1) := dk_29 (dk_at dksX4_createJob_1 14 rfl rfl)
theorem dX4_createJob_39 : decode cX4_createJob 39 = .ok (.iastore, 1) := dk_79 (dk_at dksX4_createJob_1 15 rfl rfl)
theorem dX4_createJob_40 : decode cX4_createJob 40 = .ok (.aload_n 0, 1) := dk_42 (dk_at dksX4_createJob_1 16 rfl rfl)
theorem dX4_createJob_41 : decode cX4_createJob 41 = .ok (.getfield 9, 3) := dk_180 0 9 (dk_at dksX4_createJob_1 17 rfl rfl)
theorem dX4_createJob_44 : decode cX4_createJob 44 = .ok (.bipush 17, 2) := dk_16 17 (dk_at dksX4_createJob_1 20 rfl rfl)
theorem dX4_createJob_46 : decode cX4_createJob 46 = .ok (.iload 4, 2) := dk_21 4 (dk_at dksX4_createJob_1 22 rfl rfl)
theorem dX4_createJob_48 : decode cX4_createJob 48 = .ok (.iadd, 1) := dk_96 (dk_at dksX4_createJob_2 0 rfl rfl)
theorem dX4_createJob_49 : decode cX4_createJob 49 = .ok (.iconst 0, 1) := dk_3 (dk_at dksX4_createJob_2 1 rfl rfl)
theorem dX4_createJob_50 : decode cX4_createJob 50 = .ok (.iastore, 1) := dk_79 (dk_at dksX4_createJob_2 2 rfl rfl)
theorem dX4_createJob_51 : decode cX4_createJob 51 = .ok (.aload_n 0, 1) := dk_42 (dk_at dksX4_createJob_2 3 rfl rfl)
theorem dX4_createJob_52 : decode cX4_createJob 52 = .ok (.getfield 9, 3) := dk_180 0 9 (dk_at dksX4_createJob_2 4 rfl rfl)
theorem dX4_createJob_55 : decode cX4_createJob 55 = .ok (.iconst 0, 1) := dk_3 (dk_at dksX4_createJob_2 7 rfl rfl)
theorem dX4_createJob_56 : decode cX4_createJob 56 = .ok (.dup2, 1) := dk_92 (dk_at dksX4_createJob_2 8 rfl rfl)
theorem dX4_createJob_57 : decode cX4_createJob 57 = .ok (.iaload, 1) := dk_46 (dk_at dksX4_createJob_2 9 rfl rfl)
theorem dX4_createJob_58 : decode cX4_createJob 58 = .ok (.iconst 1, 1) := dk_4 (dk_at dksX4_createJob_2 10 rfl rfl)
theorem dX4_createJob_59 : decode cX4_createJob 59 = .ok (.iadd, 1) := dk_96 (dk_at dksX4_createJob_2 11 rfl rfl)
theorem dX4_createJob_60 : decode cX4_createJob 60 = .ok (.iastore, 1) := dk_79 (dk_at dksX4_createJob_2 12 rfl rfl)
theorem dX4_createJob_61 : decode cX4_createJob 61 = .ok (.iload 4, 2) := dk_21 4 (dk_at dksX4_createJob_2 13 rfl rfl)
theorem dX4_createJob_63 : decode cX4_createJob 63 = .ok (.ireturn, 1) := dk_172 (dk_at dksX4_createJob_2 15 rfl rfl)
abbrev cX4_addOperation : ByteArray := prog_19_method_18_code
def yX4_addOperation : MethodName := ⟨RX4, "addOperation", "(IIII)I"⟩
def dkwX4_addOperation_3 : List UInt8 := [167, 0, 12, 42, 27, 28, 29, 21, 4, 182, 0, 131, 172]
abbrev dktX4_addOperation_3 : List UInt8 := dkwX4_addOperation_3 ++ []
def dkwX4_addOperation_2 : List UInt8 := [27, 28, 182, 0, 128, 153, 0, 7, 6, 167, 0, 4, 3, 181, 0, 79, 42, 180, 0, 79, 158, 0, 7, 3]
abbrev dktX4_addOperation_2 : List UInt8 := dkwX4_addOperation_2 ++ dktX4_addOperation_3
def dkwX4_addOperation_1 : List UInt8 := [184, 0, 125, 154, 0, 7, 5, 167, 0, 30, 42, 180, 0, 9, 16, 17, 27, 96, 46, 7, 159, 0, 12, 42]
abbrev dktX4_addOperation_1 : List UInt8 := dkwX4_addOperation_1 ++ dktX4_addOperation_2
def dkwX4_addOperation_0 : List UInt8 := [42, 42, 27, 182, 0, 118, 153, 0, 10, 28, 184, 0, 122, 154, 0, 7, 4, 167, 0, 43, 29, 21, 4]
abbrev dktX4_addOperation_0 : List UInt8 := dkwX4_addOperation_0 ++ dktX4_addOperation_1
theorem dksX4_addOperation_0 : cX4_addOperation.data.toList.drop 0 = dktX4_addOperation_0 := by decide +kernel
theorem dksX4_addOperation_1 : cX4_addOperation.data.toList.drop 23 = dktX4_addOperation_1 := dk_seg dksX4_addOperation_0 23 rfl rfl
theorem dksX4_addOperation_2 : cX4_addOperation.data.toList.drop 47 = dktX4_addOperation_2 := dk_seg dksX4_addOperation_1 24 rfl rfl
theorem dksX4_addOperation_3 : cX4_addOperation.data.toList.drop 71 = dktX4_addOperation_3 := dk_seg dksX4_addOperation_2 24 rfl rfl
theorem dX4_addOperation_0 : decode cX4_addOperation 0 = .ok (.aload_n 0, 1) := dk_42 (dk_at dksX4_addOperation_0 0 rfl rfl)
theorem dX4_addOperation_1 : decode cX4_addOperation 1 = .ok (.aload_n 0, 1) := dk_42 (dk_at dksX4_addOperation_0 1 rfl rfl)
theorem dX4_addOperation_2 : decode cX4_addOperation 2 = .ok (.iload_n 1, 1) := dk_27 (dk_at dksX4_addOperation_0 2 rfl rfl)
theorem dX4_addOperation_3 : decode cX4_addOperation 3 = .ok (.invokevirtual 118, 3) := dk_182 0 118 (dk_at dksX4_addOperation_0 3 rfl rfl)
theorem dX4_addOperation_6 : decode cX4_addOperation 6 = .ok (.ifCond .eq 10, 3) := dk_153 0 10 (dk_at dksX4_addOperation_0 6 rfl rfl)
theorem dX4_addOperation_9 : decode cX4_addOperation 9 = .ok (.iload_n 2, 1) := dk_28 (dk_at dksX4_addOperation_0 9 rfl rfl)
theorem dX4_addOperation_10 : decode cX4_addOperation 10 = .ok (.invokestatic 122, 3) := dk_184 0 122 (dk_at dksX4_addOperation_0 10 rfl rfl)
theorem dX4_addOperation_13 : decode cX4_addOperation 13 = .ok (.ifCond .ne 7, 3) := dk_154 0 7 (dk_at dksX4_addOperation_0 13 rfl rfl)
theorem dX4_addOperation_16 : decode cX4_addOperation 16 = .ok (.iconst 1, 1) := dk_4 (dk_at dksX4_addOperation_0 16 rfl rfl)
theorem dX4_addOperation_17 : decode cX4_addOperation 17 = .ok (.goto 43, 3) := dk_167 0 43 (dk_at dksX4_addOperation_0 17 rfl rfl)
theorem dX4_addOperation_20 : decode cX4_addOperation 20 = .ok (.iload_n 3, 1) := dk_29 (dk_at dksX4_addOperation_0 20 rfl rfl)
theorem dX4_addOperation_21 : decode cX4_addOperation 21 = .ok (.iload 4, 2) := dk_21 4 (dk_at dksX4_addOperation_0 21 rfl rfl)
theorem dX4_addOperation_23 : decode cX4_addOperation 23 = .ok (.invokestatic 125, 3) := dk_184 0 125 (dk_at dksX4_addOperation_1 0 rfl rfl)
theorem dX4_addOperation_26 : decode cX4_addOperation 26 = .ok (.ifCond .ne 7, 3) := dk_154 0 7 (dk_at dksX4_addOperation_1 3 rfl rfl)
theorem dX4_addOperation_29 : decode cX4_addOperation 29 = .ok (.iconst 2, 1) := dk_5 (dk_at dksX4_addOperation_1 6 rfl rfl)
theorem dX4_addOperation_30 : decode cX4_addOperation 30 = .ok (.goto 30, 3) := dk_167 0 30 (dk_at dksX4_addOperation_1 7 rfl rfl)
theorem dX4_addOperation_33 : decode cX4_addOperation 33 = .ok (.aload_n 0, 1) := dk_42 (dk_at dksX4_addOperation_1 10 rfl rfl)
theorem dX4_addOperation_34 : decode cX4_addOperation 34 = .ok (.getfield 9, 3) := dk_180 0 9 (dk_at dksX4_addOperation_1 11 rfl rfl)
theorem dX4_addOperation_37 : decode cX4_addOperation 37 = .ok (.bipush 17, 2) := dk_16 17 (dk_at dksX4_addOperation_1 14 rfl rfl)
theorem dX4_addOperation_39 : decode cX4_addOperation 39 = .ok (.iload_n 1, 1) := dk_27 (dk_at dksX4_addOperation_1 16 rfl rfl)
theorem dX4_addOperation_40 : decode cX4_addOperation 40 = .ok (.iadd, 1) := dk_96 (dk_at dksX4_addOperation_1 17 rfl rfl)
theorem dX4_addOperation_41 : decode cX4_addOperation 41 = .ok (.iaload, 1) := dk_46 (dk_at dksX4_addOperation_1 18 rfl rfl)
theorem dX4_addOperation_42 : decode cX4_addOperation 42 = .ok (.iconst 4, 1) := dk_7 (dk_at dksX4_addOperation_1 19 rfl rfl)
theorem dX4_addOperation_43 : decode cX4_addOperation 43 = .ok (.if_icmp .eq 12, 3) := dk_159 0 12 (dk_at dksX4_addOperation_1 20 rfl rfl)
theorem dX4_addOperation_46 : decode cX4_addOperation 46 = .ok (.aload_n 0, 1) := dk_42 (dk_at dksX4_addOperation_1 23 rfl rfl)
theorem dX4_addOperation_47 : decode cX4_addOperation 47 = .ok (.iload_n 1, 1) := dk_27 (dk_at dksX4_addOperation_2 0 rfl rfl)
theorem dX4_addOperation_48 : decode cX4_addOperation 48 = .ok (.iload_n 2, 1) := dk_28 (dk_at dksX4_addOperation_2 1 rfl rfl)
theorem dX4_addOperation_49 : decode cX4_addOperation 49 = .ok (.invokevirtual 128, 3) := dk_182 0 128 (dk_at dksX4_addOperation_2 2 rfl rfl)
theorem dX4_addOperation_52 : decode cX4_addOperation 52 = .ok (.ifCond .eq 7, 3) := dk_153 0 7 (dk_at dksX4_addOperation_2 5 rfl rfl)
theorem dX4_addOperation_55 : decode cX4_addOperation 55 = .ok (.iconst 3, 1) := dk_6 (dk_at dksX4_addOperation_2 8 rfl rfl)
theorem dX4_addOperation_56 : decode cX4_addOperation 56 = .ok (.goto 4, 3) := dk_167 0 4 (dk_at dksX4_addOperation_2 9 rfl rfl)
theorem dX4_addOperation_59 : decode cX4_addOperation 59 = .ok (.iconst 0, 1) := dk_3 (dk_at dksX4_addOperation_2 12 rfl rfl)
theorem dX4_addOperation_60 : decode cX4_addOperation 60 = .ok (.putfield 79, 3) := dk_181 0 79 (dk_at dksX4_addOperation_2 13 rfl rfl)
theorem dX4_addOperation_63 : decode cX4_addOperation 63 = .ok (.aload_n 0, 1) := dk_42 (dk_at dksX4_addOperation_2 16 rfl rfl)
theorem dX4_addOperation_64 : decode cX4_addOperation 64 = .ok (.getfield 79, 3) := dk_180 0 79 (dk_at dksX4_addOperation_2 17 rfl rfl)
theorem dX4_addOperation_67 : decode cX4_addOperation 67 = .ok (.ifCond .le 7, 3) := dk_158 0 7 (dk_at dksX4_addOperation_2 20 rfl rfl)
theorem dX4_addOperation_70 : decode cX4_addOperation 70 = .ok (.iconst 0, 1) := dk_3 (dk_at dksX4_addOperation_2 23 rfl rfl)
theorem dX4_addOperation_71 : decode cX4_addOperation 71 = .ok (.goto 12, 3) := dk_167 0 12 (dk_at dksX4_addOperation_3 0 rfl rfl)
theorem dX4_addOperation_74 : decode cX4_addOperation 74 = .ok (.aload_n 0, 1) := dk_42 (dk_at dksX4_addOperation_3 3 rfl rfl)
theorem dX4_addOperation_75 : decode cX4_addOperation 75 = .ok (.iload_n 1, 1) := dk_27 (dk_at dksX4_addOperation_3 4 rfl rfl)
theorem dX4_addOperation_76 : decode cX4_addOperation 76 = .ok (.iload_n 2, 1) := dk_28 (dk_at dksX4_addOperation_3 5 rfl rfl)
theorem dX4_addOperation_77 : decode cX4_addOperation 77 = .ok (.iload_n 3, 1) := dk_29 (dk_at dksX4_addOperation_3 6 rfl rfl)
theorem dX4_addOperation_78 : decode cX4_addOperation 78 = .ok (.iload 4, 2) := dk_21 4 (dk_at dksX4_addOperation_3 7 rfl rfl)
theorem dX4_addOperation_80 : decode cX4_addOperation 80 = .ok (.invokevirtual 131, 3) := dk_182 0 131 (dk_at dksX4_addOperation_3 9 rfl rfl)
theorem dX4_addOperation_83 : decode cX4_addOperation 83 = .ok (.ireturn, 1) := dk_172 (dk_at dksX4_addOperation_3 12 rfl rfl)
abbrev cX4_isJob : ByteArray := prog_19_method_4_code
def yX4_isJob : MethodName := ⟨RX4, "isJob", "(I)Z"⟩
def dkwX4_isJob_0 : List UInt8 := [27, 133, 9, 42, 180, 0, 9, 3, 46, 4, 100, 133, 184, 0, 82, 172]
abbrev dktX4_isJob_0 : List UInt8 := dkwX4_isJob_0 ++ []
theorem dksX4_isJob_0 : cX4_isJob.data.toList.drop 0 = dktX4_isJob_0 := by decide +kernel
theorem dX4_isJob_0 : decode cX4_isJob 0 = .ok (.iload_n 1, 1) := dk_27 (dk_at dksX4_isJob_0 0 rfl rfl)
theorem dX4_isJob_1 : decode cX4_isJob 1 = .ok (.i2l, 1) := dk_133 (dk_at dksX4_isJob_0 1 rfl rfl)
theorem dX4_isJob_2 : decode cX4_isJob 2 = .ok (.lconst 0, 1) := dk_9 (dk_at dksX4_isJob_0 2 rfl rfl)
theorem dX4_isJob_3 : decode cX4_isJob 3 = .ok (.aload_n 0, 1) := dk_42 (dk_at dksX4_isJob_0 3 rfl rfl)
theorem dX4_isJob_4 : decode cX4_isJob 4 = .ok (.getfield 9, 3) := dk_180 0 9 (dk_at dksX4_isJob_0 4 rfl rfl)
theorem dX4_isJob_7 : decode cX4_isJob 7 = .ok (.iconst 0, 1) := dk_3 (dk_at dksX4_isJob_0 7 rfl rfl)
theorem dX4_isJob_8 : decode cX4_isJob 8 = .ok (.iaload, 1) := dk_46 (dk_at dksX4_isJob_0 8 rfl rfl)
theorem dX4_isJob_9 : decode cX4_isJob 9 = .ok (.iconst 1, 1) := dk_4 (dk_at dksX4_isJob_0 9 rfl rfl)
theorem dX4_isJob_10 : decode cX4_isJob 10 = .ok (.isub, 1) := dk_100 (dk_at dksX4_isJob_0 10 rfl rfl)
theorem dX4_isJob_11 : decode cX4_isJob 11 = .ok (.i2l, 1) := dk_133 (dk_at dksX4_isJob_0 11 rfl rfl)
theorem dX4_isJob_12 : decode cX4_isJob 12 = .ok (.invokestatic 82, 3) := dk_184 0 82 (dk_at dksX4_isJob_0 12 rfl rfl)
theorem dX4_isJob_15 : decode cX4_isJob 15 = .ok (.ireturn, 1) := dk_172 (dk_at dksX4_isJob_0 15 rfl rfl)
abbrev cX4_isMachine : ByteArray := prog_19_method_6_code
def yX4_isMachine : MethodName := ⟨RX4, "isMachine", "(I)Z"⟩
def dkwX4_isMachine_0 : List UInt8 := [26, 133, 9, 20, 0, 86, 184, 0, 82, 172]
abbrev dktX4_isMachine_0 : List UInt8 := dkwX4_isMachine_0 ++ []
theorem dksX4_isMachine_0 : cX4_isMachine.data.toList.drop 0 = dktX4_isMachine_0 := by decide +kernel
theorem dX4_isMachine_0 : decode cX4_isMachine 0 = .ok (.iload_n 0, 1) := dk_26 (dk_at dksX4_isMachine_0 0 rfl rfl)
theorem dX4_isMachine_1 : decode cX4_isMachine 1 = .ok (.i2l, 1) := dk_133 (dk_at dksX4_isMachine_0 1 rfl rfl)
theorem dX4_isMachine_2 : decode cX4_isMachine 2 = .ok (.lconst 0, 1) := dk_9 (dk_at dksX4_isMachine_0 2 rfl rfl)
theorem dX4_isMachine_3 : decode cX4_isMachine 3 = .ok (.ldc2_w 86, 3) := dk_20 0 86 (dk_at dksX4_isMachine_0 3 rfl rfl)
theorem dX4_isMachine_6 : decode cX4_isMachine 6 = .ok (.invokestatic 82, 3) := dk_184 0 82 (dk_at dksX4_isMachine_0 6 rfl rfl)
theorem dX4_isMachine_9 : decode cX4_isMachine 9 = .ok (.ireturn, 1) := dk_172 (dk_at dksX4_isMachine_0 9 rfl rfl)
abbrev cX4_areProperties : ByteArray := prog_19_method_15_code
def yX4_areProperties : MethodName := ⟨RX4, "areProperties", "(II)Z"⟩
def dkwX4_areProperties_1 : List UInt8 := [4, 167, 0, 4, 3, 172]
abbrev dktX4_areProperties_1 : List UInt8 := dkwX4_areProperties_1 ++ []
def dkwX4_areProperties_0 : List UInt8 := [26, 133, 10, 20, 0, 106, 184, 0, 82, 153, 0, 19, 27, 133, 9, 20, 0, 108, 184, 0, 82, 153, 0, 7]
abbrev dktX4_areProperties_0 : List UInt8 := dkwX4_areProperties_0 ++ dktX4_areProperties_1
theorem dksX4_areProperties_0 : cX4_areProperties.data.toList.drop 0 = dktX4_areProperties_0 := by decide +kernel
theorem dksX4_areProperties_1 : cX4_areProperties.data.toList.drop 24 = dktX4_areProperties_1 := dk_seg dksX4_areProperties_0 24 rfl rfl
theorem dX4_areProperties_0 : decode cX4_areProperties 0 = .ok (.iload_n 0, 1) := dk_26 (dk_at dksX4_areProperties_0 0 rfl rfl)
theorem dX4_areProperties_1 : decode cX4_areProperties 1 = .ok (.i2l, 1) := dk_133 (dk_at dksX4_areProperties_0 1 rfl rfl)
theorem dX4_areProperties_2 : decode cX4_areProperties 2 = .ok (.lconst 1, 1) := dk_10 (dk_at dksX4_areProperties_0 2 rfl rfl)
theorem dX4_areProperties_3 : decode cX4_areProperties 3 = .ok (.ldc2_w 106, 3) := dk_20 0 106 (dk_at dksX4_areProperties_0 3 rfl rfl)
theorem dX4_areProperties_6 : decode cX4_areProperties 6 = .ok (.invokestatic 82, 3) := dk_184 0 82 (dk_at dksX4_areProperties_0 6 rfl rfl)
theorem dX4_areProperties_9 : decode cX4_areProperties 9 = .ok (.ifCond .eq 19, 3) := dk_153 0 19 (dk_at dksX4_areProperties_0 9 rfl rfl)
theorem dX4_areProperties_12 : decode cX4_areProperties 12 = .ok (.iload_n 1, 1) := dk_27 (dk_at dksX4_areProperties_0 12 rfl rfl)
theorem dX4_areProperties_13 : decode cX4_areProperties 13 = .ok (.i2l, 1) := dk_133 (dk_at dksX4_areProperties_0 13 rfl rfl)
theorem dX4_areProperties_14 : decode cX4_areProperties 14 = .ok (.lconst 0, 1) := dk_9 (dk_at dksX4_areProperties_0 14 rfl rfl)
theorem dX4_areProperties_15 : decode cX4_areProperties 15 = .ok (.ldc2_w 108, 3) := dk_20 0 108 (dk_at dksX4_areProperties_0 15 rfl rfl)
theorem dX4_areProperties_18 : decode cX4_areProperties 18 = .ok (.invokestatic 82, 3) := dk_184 0 82 (dk_at dksX4_areProperties_0 18 rfl rfl)
theorem dX4_areProperties_21 : decode cX4_areProperties 21 = .ok (.ifCond .eq 7, 3) := dk_153 0 7 (dk_at dksX4_areProperties_0 21 rfl rfl)
theorem dX4_areProperties_24 : decode cX4_areProperties 24 = .ok (.iconst 1, 1) := dk_4 (dk_at dksX4_areProperties_1 0 rfl rfl)
theorem dX4_areProperties_25 : decode cX4_areProperties 25 = .ok (.goto 4, 3) := dk_167 0 4 (dk_at dksX4_areProperties_1 1 rfl rfl)
theorem dX4_areProperties_28 : decode cX4_areProperties 28 = .ok (.iconst 0, 1) := dk_3 (dk_at dksX4_areProperties_1 4 rfl rfl)
theorem dX4_areProperties_29 : decode cX4_areProperties 29 = .ok (.ireturn, 1) := dk_172 (dk_at dksX4_areProperties_1 5 rfl rfl)
abbrev cX4_hasMachine : ByteArray := prog_19_method_16_code
def yX4_hasMachine : MethodName := ⟨RX4, "hasMachine", "(II)Z"⟩
def dkwX4_hasMachine_2 : List UInt8 := [132, 4, 1, 167, 255, 210, 29, 172]
abbrev dktX4_hasMachine_2 : List UInt8 := dkwX4_hasMachine_2 ++ []
def dkwX4_hasMachine_1 : List UInt8 := [180, 0, 9, 16, 62, 42, 27, 21, 4, 182, 0, 110, 96, 46, 28, 160, 0, 7, 4, 167, 0, 4, 3, 62]
abbrev dktX4_hasMachine_1 : List UInt8 := dkwX4_hasMachine_1 ++ dktX4_hasMachine_2
def dkwX4_hasMachine_0 : List UInt8 := [3, 62, 3, 54, 4, 21, 4, 42, 180, 0, 9, 16, 17, 27, 96, 46, 162, 0, 38, 29, 154, 0, 22, 42]
abbrev dktX4_hasMachine_0 : List UInt8 := dkwX4_hasMachine_0 ++ dktX4_hasMachine_1
theorem dksX4_hasMachine_0 : cX4_hasMachine.data.toList.drop 0 = dktX4_hasMachine_0 := by decide +kernel
theorem dksX4_hasMachine_1 : cX4_hasMachine.data.toList.drop 24 = dktX4_hasMachine_1 := dk_seg dksX4_hasMachine_0 24 rfl rfl
theorem dksX4_hasMachine_2 : cX4_hasMachine.data.toList.drop 48 = dktX4_hasMachine_2 := dk_seg dksX4_hasMachine_1 24 rfl rfl
theorem dX4_hasMachine_0 : decode cX4_hasMachine 0 = .ok (.iconst 0, 1) := dk_3 (dk_at dksX4_hasMachine_0 0 rfl rfl)
theorem dX4_hasMachine_1 : decode cX4_hasMachine 1 = .ok (.istore_n 3, 1) := dk_62 (dk_at dksX4_hasMachine_0 1 rfl rfl)
theorem dX4_hasMachine_2 : decode cX4_hasMachine 2 = .ok (.iconst 0, 1) := dk_3 (dk_at dksX4_hasMachine_0 2 rfl rfl)
theorem dX4_hasMachine_3 : decode cX4_hasMachine 3 = .ok (.istore 4, 2) := dk_54 4 (dk_at dksX4_hasMachine_0 3 rfl rfl)
theorem dX4_hasMachine_5 : decode cX4_hasMachine 5 = .ok (.iload 4, 2) := dk_21 4 (dk_at dksX4_hasMachine_0 5 rfl rfl)
theorem dX4_hasMachine_7 : decode cX4_hasMachine 7 = .ok (.aload_n 0, 1) := dk_42 (dk_at dksX4_hasMachine_0 7 rfl rfl)
theorem dX4_hasMachine_8 : decode cX4_hasMachine 8 = .ok (.getfield 9, 3) := dk_180 0 9 (dk_at dksX4_hasMachine_0 8 rfl rfl)
theorem dX4_hasMachine_11 : decode cX4_hasMachine 11 = .ok (.bipush 17, 2) := dk_16 17 (dk_at dksX4_hasMachine_0 11 rfl rfl)
theorem dX4_hasMachine_13 : decode cX4_hasMachine 13 = .ok (.iload_n 1, 1) := dk_27 (dk_at dksX4_hasMachine_0 13 rfl rfl)
theorem dX4_hasMachine_14 : decode cX4_hasMachine 14 = .ok (.iadd, 1) := dk_96 (dk_at dksX4_hasMachine_0 14 rfl rfl)
theorem dX4_hasMachine_15 : decode cX4_hasMachine 15 = .ok (.iaload, 1) := dk_46 (dk_at dksX4_hasMachine_0 15 rfl rfl)
theorem dX4_hasMachine_16 : decode cX4_hasMachine 16 = .ok (.if_icmp .ge 38, 3) := dk_162 0 38 (dk_at dksX4_hasMachine_0 16 rfl rfl)
theorem dX4_hasMachine_19 : decode cX4_hasMachine 19 = .ok (.iload_n 3, 1) := dk_29 (dk_at dksX4_hasMachine_0 19 rfl rfl)
theorem dX4_hasMachine_20 : decode cX4_hasMachine 20 = .ok (.ifCond .ne 22, 3) := dk_154 0 22 (dk_at dksX4_hasMachine_0 20 rfl rfl)
theorem dX4_hasMachine_23 : decode cX4_hasMachine 23 = .ok (.aload_n 0, 1) := dk_42 (dk_at dksX4_hasMachine_0 23 rfl rfl)
theorem dX4_hasMachine_24 : decode cX4_hasMachine 24 = .ok (.getfield 9, 3) := dk_180 0 9 (dk_at dksX4_hasMachine_1 0 rfl rfl)
theorem dX4_hasMachine_27 : decode cX4_hasMachine 27 = .ok (.bipush 62, 2) := dk_16 62 (dk_at dksX4_hasMachine_1 3 rfl rfl)
theorem dX4_hasMachine_29 : decode cX4_hasMachine 29 = .ok (.aload_n 0, 1) := dk_42 (dk_at dksX4_hasMachine_1 5 rfl rfl)
theorem dX4_hasMachine_30 : decode cX4_hasMachine 30 = .ok (.iload_n 1, 1) := dk_27 (dk_at dksX4_hasMachine_1 6 rfl rfl)
theorem dX4_hasMachine_31 : decode cX4_hasMachine 31 = .ok (.iload 4, 2) := dk_21 4 (dk_at dksX4_hasMachine_1 7 rfl rfl)
theorem dX4_hasMachine_33 : decode cX4_hasMachine 33 = .ok (.invokevirtual 110, 3) := dk_182 0 110 (dk_at dksX4_hasMachine_1 9 rfl rfl)
theorem dX4_hasMachine_36 : decode cX4_hasMachine 36 = .ok (.iadd, 1) := dk_96 (dk_at dksX4_hasMachine_1 12 rfl rfl)
theorem dX4_hasMachine_37 : decode cX4_hasMachine 37 = .ok (.iaload, 1) := dk_46 (dk_at dksX4_hasMachine_1 13 rfl rfl)
theorem dX4_hasMachine_38 : decode cX4_hasMachine 38 = .ok (.iload_n 2, 1) := dk_28 (dk_at dksX4_hasMachine_1 14 rfl rfl)
theorem dX4_hasMachine_39 : decode cX4_hasMachine 39 = .ok (.if_icmp .ne 7, 3) := dk_160 0 7 (dk_at dksX4_hasMachine_1 15 rfl rfl)
theorem dX4_hasMachine_42 : decode cX4_hasMachine 42 = .ok (.iconst 1, 1) := dk_4 (dk_at dksX4_hasMachine_1 18 rfl rfl)
theorem dX4_hasMachine_43 : decode cX4_hasMachine 43 = .ok (.goto 4, 3) := dk_167 0 4 (dk_at dksX4_hasMachine_1 19 rfl rfl)
theorem dX4_hasMachine_46 : decode cX4_hasMachine 46 = .ok (.iconst 0, 1) := dk_3 (dk_at dksX4_hasMachine_1 22 rfl rfl)
theorem dX4_hasMachine_47 : decode cX4_hasMachine 47 = .ok (.istore_n 3, 1) := dk_62 (dk_at dksX4_hasMachine_1 23 rfl rfl)
theorem dX4_hasMachine_48 : decode cX4_hasMachine 48 = .ok (.iinc 4 1, 3) := dk_132 4 1 (dk_at dksX4_hasMachine_2 0 rfl rfl)
theorem dX4_hasMachine_51 : decode cX4_hasMachine 51 = .ok (.goto (-46), 3) := dk_167 255 210 (dk_at dksX4_hasMachine_2 3 rfl rfl)
theorem dX4_hasMachine_54 : decode cX4_hasMachine 54 = .ok (.iload_n 3, 1) := dk_29 (dk_at dksX4_hasMachine_2 6 rfl rfl)
theorem dX4_hasMachine_55 : decode cX4_hasMachine 55 = .ok (.ireturn, 1) := dk_172 (dk_at dksX4_hasMachine_2 7 rfl rfl)
abbrev cX4_sequence : ByteArray := prog_19_method_9_code
def yX4_sequence : MethodName := ⟨RX4, "sequence", "(II)I"⟩
def dkwX4_sequence_0 : List UInt8 := [42, 180, 0, 9, 16, 22, 7, 27, 104, 96, 28, 96, 46, 172]
abbrev dktX4_sequence_0 : List UInt8 := dkwX4_sequence_0 ++ []
theorem dksX4_sequence_0 : cX4_sequence.data.toList.drop 0 = dktX4_sequence_0 := by decide +kernel
theorem dX4_sequence_0 : decode cX4_sequence 0 = .ok (.aload_n 0, 1) := dk_42 (dk_at dksX4_sequence_0 0 rfl rfl)
theorem dX4_sequence_1 : decode cX4_sequence 1 = .ok (.getfield 9, 3) := dk_180 0 9 (dk_at dksX4_sequence_0 1 rfl rfl)
theorem dX4_sequence_4 : decode cX4_sequence 4 = .ok (.bipush 22, 2) := dk_16 22 (dk_at dksX4_sequence_0 4 rfl rfl)
theorem dX4_sequence_6 : decode cX4_sequence 6 = .ok (.iconst 4, 1) := dk_7 (dk_at dksX4_sequence_0 6 rfl rfl)
theorem dX4_sequence_7 : decode cX4_sequence 7 = .ok (.iload_n 1, 1) := dk_27 (dk_at dksX4_sequence_0 7 rfl rfl)
theorem dX4_sequence_8 : decode cX4_sequence 8 = .ok (.imul, 1) := dk_104 (dk_at dksX4_sequence_0 8 rfl rfl)
theorem dX4_sequence_9 : decode cX4_sequence 9 = .ok (.iadd, 1) := dk_96 (dk_at dksX4_sequence_0 9 rfl rfl)
theorem dX4_sequence_10 : decode cX4_sequence 10 = .ok (.iload_n 2, 1) := dk_28 (dk_at dksX4_sequence_0 10 rfl rfl)
theorem dX4_sequence_11 : decode cX4_sequence 11 = .ok (.iadd, 1) := dk_96 (dk_at dksX4_sequence_0 11 rfl rfl)
theorem dX4_sequence_12 : decode cX4_sequence 12 = .ok (.iaload, 1) := dk_46 (dk_at dksX4_sequence_0 12 rfl rfl)
theorem dX4_sequence_13 : decode cX4_sequence 13 = .ok (.ireturn, 1) := dk_172 (dk_at dksX4_sequence_0 13 rfl rfl)
abbrev cX4_createOperation : ByteArray := prog_19_method_17_code
def yX4_createOperation : MethodName := ⟨RX4, "createOperation", "(IIII)I"⟩
def dkwX4_createOperation_6 : List UInt8 := [4, 92, 46, 4, 96, 79, 21, 5, 172]
abbrev dktX4_createOperation_6 : List UInt8 := dkwX4_createOperation_6 ++ []
def dkwX4_createOperation_5 : List UInt8 := [46, 21, 5, 182, 0, 114, 42, 180, 0, 9, 17, 0, 179, 28, 96, 92, 46, 4, 96, 79, 42, 180, 0, 9]
abbrev dktX4_createOperation_5 : List UInt8 := dkwX4_createOperation_5 ++ dktX4_createOperation_6
def dkwX4_createOperation_4 : List UInt8 := [42, 180, 0, 9, 16, 17, 27, 96, 92, 46, 4, 96, 79, 42, 28, 42, 180, 0, 9, 17, 0, 179, 28, 96]
abbrev dktX4_createOperation_4 : List UInt8 := dkwX4_createOperation_4 ++ dktX4_createOperation_5
def dkwX4_createOperation_3 : List UInt8 := [79, 42, 180, 0, 9, 16, 22, 7, 27, 104, 96, 42, 180, 0, 9, 16, 17, 27, 96, 46, 96, 21, 5, 79]
abbrev dktX4_createOperation_3 : List UInt8 := dkwX4_createOperation_3 ++ dktX4_createOperation_4
def dkwX4_createOperation_2 : List UInt8 := [21, 5, 96, 21, 4, 79, 42, 180, 0, 9, 16, 122, 21, 5, 96, 42, 180, 0, 9, 16, 17, 27, 96, 46]
abbrev dktX4_createOperation_2 : List UInt8 := dkwX4_createOperation_2 ++ dktX4_createOperation_3
def dkwX4_createOperation_1 : List UInt8 := [16, 62, 21, 5, 96, 28, 79, 42, 180, 0, 9, 16, 82, 21, 5, 96, 29, 79, 42, 180, 0, 9, 16, 102]
abbrev dktX4_createOperation_1 : List UInt8 := dkwX4_createOperation_1 ++ dktX4_createOperation_2
def dkwX4_createOperation_0 : List UInt8 := [42, 180, 0, 9, 4, 46, 54, 5, 42, 180, 0, 9, 16, 42, 21, 5, 96, 27, 79, 42, 180, 0, 9]
abbrev dktX4_createOperation_0 : List UInt8 := dkwX4_createOperation_0 ++ dktX4_createOperation_1
theorem dksX4_createOperation_0 : cX4_createOperation.data.toList.drop 0 = dktX4_createOperation_0 := by decide +kernel
theorem dksX4_createOperation_1 : cX4_createOperation.data.toList.drop 23 = dktX4_createOperation_1 := dk_seg dksX4_createOperation_0 23 rfl rfl
theorem dksX4_createOperation_2 : cX4_createOperation.data.toList.drop 47 = dktX4_createOperation_2 := dk_seg dksX4_createOperation_1 24 rfl rfl
theorem dksX4_createOperation_3 : cX4_createOperation.data.toList.drop 71 = dktX4_createOperation_3 := dk_seg dksX4_createOperation_2 24 rfl rfl
theorem dksX4_createOperation_4 : cX4_createOperation.data.toList.drop 95 = dktX4_createOperation_4 := dk_seg dksX4_createOperation_3 24 rfl rfl
theorem dksX4_createOperation_5 : cX4_createOperation.data.toList.drop 119 = dktX4_createOperation_5 := dk_seg dksX4_createOperation_4 24 rfl rfl
theorem dksX4_createOperation_6 : cX4_createOperation.data.toList.drop 143 = dktX4_createOperation_6 := dk_seg dksX4_createOperation_5 24 rfl rfl
theorem dX4_createOperation_0 : decode cX4_createOperation 0 = .ok (.aload_n 0, 1) := dk_42 (dk_at dksX4_createOperation_0 0 rfl rfl)
theorem dX4_createOperation_1 : decode cX4_createOperation 1 = .ok (.getfield 9, 3) := dk_180 0 9 (dk_at dksX4_createOperation_0 1 rfl rfl)
theorem dX4_createOperation_4 : decode cX4_createOperation 4 = .ok (.iconst 1, 1) := dk_4 (dk_at dksX4_createOperation_0 4 rfl rfl)
theorem dX4_createOperation_5 : decode cX4_createOperation 5 = .ok (.iaload, 1) := dk_46 (dk_at dksX4_createOperation_0 5 rfl rfl)
theorem dX4_createOperation_6 : decode cX4_createOperation 6 = .ok (.istore 5, 2) := dk_54 5 (dk_at dksX4_createOperation_0 6 rfl rfl)
theorem dX4_createOperation_8 : decode cX4_createOperation 8 = .ok (.aload_n 0, 1) := dk_42 (dk_at dksX4_createOperation_0 8 rfl rfl)
theorem dX4_createOperation_9 : decode cX4_createOperation 9 = .ok (.getfield 9, 3) := dk_180 0 9 (dk_at dksX4_createOperation_0 9 rfl rfl)
theorem dX4_createOperation_12 : decode cX4_createOperation 12 = .ok (.bipush 42, 2) := dk_16 42 (dk_at dksX4_createOperation_0 12 rfl rfl)
theorem dX4_createOperation_14 : decode cX4_createOperation 14 = .ok (.iload 5, 2) := dk_21 5 (dk_at dksX4_createOperation_0 14 rfl rfl)
theorem dX4_createOperation_16 : decode cX4_createOperation 16 = .ok (.iadd, 1) := dk_96 (dk_at dksX4_createOperation_0 16 rfl rfl)
theorem dX4_createOperation_17 : decode cX4_createOperation 17 = .ok (.iload_n 1, 1) := dk_27 (dk_at dksX4_createOperation_0 17 rfl rfl)
theorem dX4_createOperation_18 : decode cX4_createOperation 18 = .ok (.iastore, 1) := dk_79 (dk_at dksX4_createOperation_0 18 rfl rfl)
theorem dX4_createOperation_19 : decode cX4_createOperation 19 = .ok (.aload_n 0, 1) := dk_42 (dk_at dksX4_createOperation_0 19 rfl rfl)
theorem dX4_createOperation_20 : decode cX4_createOperation 20 = .ok (.getfield 9, 3) := dk_180 0 9 (dk_at dksX4_createOperation_0 20 rfl rfl)
theorem dX4_createOperation_23 : decode cX4_createOperation 23 = .ok (.bipush 62, 2) := dk_16 62 (dk_at dksX4_createOperation_1 0 rfl rfl)
theorem dX4_createOperation_25 : decode cX4_createOperation 25 = .ok (.iload 5, 2) := dk_21 5 (dk_at dksX4_createOperation_1 2 rfl rfl)
theorem dX4_createOperation_27 : decode cX4_createOperation 27 = .ok (.iadd, 1) := dk_96 (dk_at dksX4_createOperation_1 4 rfl rfl)
theorem dX4_createOperation_28 : decode cX4_createOperation 28 = .ok (.iload_n 2, 1) := dk_28 (dk_at dksX4_createOperation_1 5 rfl rfl)
theorem dX4_createOperation_29 : decode cX4_createOperation 29 = .ok (.iastore, 1) := dk_79 (dk_at dksX4_createOperation_1 6 rfl rfl)
theorem dX4_createOperation_30 : decode cX4_createOperation 30 = .ok (.aload_n 0, 1) := dk_42 (dk_at dksX4_createOperation_1 7 rfl rfl)
theorem dX4_createOperation_31 : decode cX4_createOperation 31 = .ok (.getfield 9, 3) := dk_180 0 9 (dk_at dksX4_createOperation_1 8 rfl rfl)
theorem dX4_createOperation_34 : decode cX4_createOperation 34 = .ok (.bipush 82, 2) := dk_16 82 (dk_at dksX4_createOperation_1 11 rfl rfl)
theorem dX4_createOperation_36 : decode cX4_createOperation 36 = .ok (.iload 5, 2) := dk_21 5 (dk_at dksX4_createOperation_1 13 rfl rfl)
theorem dX4_createOperation_38 : decode cX4_createOperation 38 = .ok (.iadd, 1) := dk_96 (dk_at dksX4_createOperation_1 15 rfl rfl)
theorem dX4_createOperation_39 : decode cX4_createOperation 39 = .ok (.iload_n 3, 1) := dk_29 (dk_at dksX4_createOperation_1 16 rfl rfl)
theorem dX4_createOperation_40 : decode cX4_createOperation 40 = .ok (.iastore, 1) := dk_79 (dk_at dksX4_createOperation_1 17 rfl rfl)
theorem dX4_createOperation_41 : decode cX4_createOperation 41 = .ok (.aload_n 0, 1) := dk_42 (dk_at dksX4_createOperation_1 18 rfl rfl)
theorem dX4_createOperation_42 : decode cX4_createOperation 42 = .ok (.getfield 9, 3) := dk_180 0 9 (dk_at dksX4_createOperation_1 19 rfl rfl)
theorem dX4_createOperation_45 : decode cX4_createOperation 45 = .ok (.bipush 102, 2) := dk_16 102 (dk_at dksX4_createOperation_1 22 rfl rfl)
theorem dX4_createOperation_47 : decode cX4_createOperation 47 = .ok (.iload 5, 2) := dk_21 5 (dk_at dksX4_createOperation_2 0 rfl rfl)
theorem dX4_createOperation_49 : decode cX4_createOperation 49 = .ok (.iadd, 1) := dk_96 (dk_at dksX4_createOperation_2 2 rfl rfl)
theorem dX4_createOperation_50 : decode cX4_createOperation 50 = .ok (.iload 4, 2) := dk_21 4 (dk_at dksX4_createOperation_2 3 rfl rfl)
theorem dX4_createOperation_52 : decode cX4_createOperation 52 = .ok (.iastore, 1) := dk_79 (dk_at dksX4_createOperation_2 5 rfl rfl)
theorem dX4_createOperation_53 : decode cX4_createOperation 53 = .ok (.aload_n 0, 1) := dk_42 (dk_at dksX4_createOperation_2 6 rfl rfl)
theorem dX4_createOperation_54 : decode cX4_createOperation 54 = .ok (.getfield 9, 3) := dk_180 0 9 (dk_at dksX4_createOperation_2 7 rfl rfl)
theorem dX4_createOperation_57 : decode cX4_createOperation 57 = .ok (.bipush 122, 2) := dk_16 122 (dk_at dksX4_createOperation_2 10 rfl rfl)
theorem dX4_createOperation_59 : decode cX4_createOperation 59 = .ok (.iload 5, 2) := dk_21 5 (dk_at dksX4_createOperation_2 12 rfl rfl)
theorem dX4_createOperation_61 : decode cX4_createOperation 61 = .ok (.iadd, 1) := dk_96 (dk_at dksX4_createOperation_2 14 rfl rfl)
theorem dX4_createOperation_62 : decode cX4_createOperation 62 = .ok (.aload_n 0, 1) := dk_42 (dk_at dksX4_createOperation_2 15 rfl rfl)
theorem dX4_createOperation_63 : decode cX4_createOperation 63 = .ok (.getfield 9, 3) := dk_180 0 9 (dk_at dksX4_createOperation_2 16 rfl rfl)
theorem dX4_createOperation_66 : decode cX4_createOperation 66 = .ok (.bipush 17, 2) := dk_16 17 (dk_at dksX4_createOperation_2 19 rfl rfl)
theorem dX4_createOperation_68 : decode cX4_createOperation 68 = .ok (.iload_n 1, 1) := dk_27 (dk_at dksX4_createOperation_2 21 rfl rfl)
theorem dX4_createOperation_69 : decode cX4_createOperation 69 = .ok (.iadd, 1) := dk_96 (dk_at dksX4_createOperation_2 22 rfl rfl)
theorem dX4_createOperation_70 : decode cX4_createOperation 70 = .ok (.iaload, 1) := dk_46 (dk_at dksX4_createOperation_2 23 rfl rfl)
theorem dX4_createOperation_71 : decode cX4_createOperation 71 = .ok (.iastore, 1) := dk_79 (dk_at dksX4_createOperation_3 0 rfl rfl)
theorem dX4_createOperation_72 : decode cX4_createOperation 72 = .ok (.aload_n 0, 1) := dk_42 (dk_at dksX4_createOperation_3 1 rfl rfl)
theorem dX4_createOperation_73 : decode cX4_createOperation 73 = .ok (.getfield 9, 3) := dk_180 0 9 (dk_at dksX4_createOperation_3 2 rfl rfl)
theorem dX4_createOperation_76 : decode cX4_createOperation 76 = .ok (.bipush 22, 2) := dk_16 22 (dk_at dksX4_createOperation_3 5 rfl rfl)
theorem dX4_createOperation_78 : decode cX4_createOperation 78 = .ok (.iconst 4, 1) := dk_7 (dk_at dksX4_createOperation_3 7 rfl rfl)
theorem dX4_createOperation_79 : decode cX4_createOperation 79 = .ok (.iload_n 1, 1) := dk_27 (dk_at dksX4_createOperation_3 8 rfl rfl)
theorem dX4_createOperation_80 : decode cX4_createOperation 80 = .ok (.imul, 1) := dk_104 (dk_at dksX4_createOperation_3 9 rfl rfl)
theorem dX4_createOperation_81 : decode cX4_createOperation 81 = .ok (.iadd, 1) := dk_96 (dk_at dksX4_createOperation_3 10 rfl rfl)
theorem dX4_createOperation_82 : decode cX4_createOperation 82 = .ok (.aload_n 0, 1) := dk_42 (dk_at dksX4_createOperation_3 11 rfl rfl)
theorem dX4_createOperation_83 : decode cX4_createOperation 83 = .ok (.getfield 9, 3) := dk_180 0 9 (dk_at dksX4_createOperation_3 12 rfl rfl)
theorem dX4_createOperation_86 : decode cX4_createOperation 86 = .ok (.bipush 17, 2) := dk_16 17 (dk_at dksX4_createOperation_3 15 rfl rfl)
theorem dX4_createOperation_88 : decode cX4_createOperation 88 = .ok (.iload_n 1, 1) := dk_27 (dk_at dksX4_createOperation_3 17 rfl rfl)
theorem dX4_createOperation_89 : decode cX4_createOperation 89 = .ok (.iadd, 1) := dk_96 (dk_at dksX4_createOperation_3 18 rfl rfl)
theorem dX4_createOperation_90 : decode cX4_createOperation 90 = .ok (.iaload, 1) := dk_46 (dk_at dksX4_createOperation_3 19 rfl rfl)
theorem dX4_createOperation_91 : decode cX4_createOperation 91 = .ok (.iadd, 1) := dk_96 (dk_at dksX4_createOperation_3 20 rfl rfl)
theorem dX4_createOperation_92 : decode cX4_createOperation 92 = .ok (.iload 5, 2) := dk_21 5 (dk_at dksX4_createOperation_3 21 rfl rfl)
theorem dX4_createOperation_94 : decode cX4_createOperation 94 = .ok (.iastore, 1) := dk_79 (dk_at dksX4_createOperation_3 23 rfl rfl)
theorem dX4_createOperation_95 : decode cX4_createOperation 95 = .ok (.aload_n 0, 1) := dk_42 (dk_at dksX4_createOperation_4 0 rfl rfl)
theorem dX4_createOperation_96 : decode cX4_createOperation 96 = .ok (.getfield 9, 3) := dk_180 0 9 (dk_at dksX4_createOperation_4 1 rfl rfl)
theorem dX4_createOperation_99 : decode cX4_createOperation 99 = .ok (.bipush 17, 2) := dk_16 17 (dk_at dksX4_createOperation_4 4 rfl rfl)
theorem dX4_createOperation_101 : decode cX4_createOperation 101 = .ok (.iload_n 1, 1) := dk_27 (dk_at dksX4_createOperation_4 6 rfl rfl)
theorem dX4_createOperation_102 : decode cX4_createOperation 102 = .ok (.iadd, 1) := dk_96 (dk_at dksX4_createOperation_4 7 rfl rfl)
theorem dX4_createOperation_103 : decode cX4_createOperation 103 = .ok (.dup2, 1) := dk_92 (dk_at dksX4_createOperation_4 8 rfl rfl)
theorem dX4_createOperation_104 : decode cX4_createOperation 104 = .ok (.iaload, 1) := dk_46 (dk_at dksX4_createOperation_4 9 rfl rfl)
theorem dX4_createOperation_105 : decode cX4_createOperation 105 = .ok (.iconst 1, 1) := dk_4 (dk_at dksX4_createOperation_4 10 rfl rfl)
theorem dX4_createOperation_106 : decode cX4_createOperation 106 = .ok (.iadd, 1) := dk_96 (dk_at dksX4_createOperation_4 11 rfl rfl)
theorem dX4_createOperation_107 : decode cX4_createOperation 107 = .ok (.iastore, 1) := dk_79 (dk_at dksX4_createOperation_4 12 rfl rfl)
theorem dX4_createOperation_108 : decode cX4_createOperation 108 = .ok (.aload_n 0, 1) := dk_42 (dk_at dksX4_createOperation_4 13 rfl rfl)
theorem dX4_createOperation_109 : decode cX4_createOperation 109 = .ok (.iload_n 2, 1) := dk_28 (dk_at dksX4_createOperation_4 14 rfl rfl)
theorem dX4_createOperation_110 : decode cX4_createOperation 110 = .ok (.aload_n 0, 1) := dk_42 (dk_at dksX4_createOperation_4 15 rfl rfl)
theorem dX4_createOperation_111 : decode cX4_createOperation 111 = .ok (.getfield 9, 3) := dk_180 0 9 (dk_at dksX4_createOperation_4 16 rfl rfl)
theorem dX4_createOperation_114 : decode cX4_createOperation 114 = .ok (.sipush 179, 3) := dk_17 0 179 (dk_at dksX4_createOperation_4 19 rfl rfl)
theorem dX4_createOperation_117 : decode cX4_createOperation 117 = .ok (.iload_n 2, 1) := dk_28 (dk_at dksX4_createOperation_4 22 rfl rfl)
theorem dX4_createOperation_118 : decode cX4_createOperation 118 = .ok (.iadd, 1) := dk_96 (dk_at dksX4_createOperation_4 23 rfl rfl)
theorem dX4_createOperation_119 : decode cX4_createOperation 119 = .ok (.iaload, 1) := dk_46 (dk_at dksX4_createOperation_5 0 rfl rfl)
theorem dX4_createOperation_120 : decode cX4_createOperation 120 = .ok (.iload 5, 2) := dk_21 5 (dk_at dksX4_createOperation_5 1 rfl rfl)
theorem dX4_createOperation_122 : decode cX4_createOperation 122 = .ok (.invokevirtual 114, 3) := dk_182 0 114 (dk_at dksX4_createOperation_5 3 rfl rfl)
theorem dX4_createOperation_125 : decode cX4_createOperation 125 = .ok (.aload_n 0, 1) := dk_42 (dk_at dksX4_createOperation_5 6 rfl rfl)
theorem dX4_createOperation_126 : decode cX4_createOperation 126 = .ok (.getfield 9, 3) := dk_180 0 9 (dk_at dksX4_createOperation_5 7 rfl rfl)
theorem dX4_createOperation_129 : decode cX4_createOperation 129 = .ok (.sipush 179, 3) := dk_17 0 179 (dk_at dksX4_createOperation_5 10 rfl rfl)
theorem dX4_createOperation_132 : decode cX4_createOperation 132 = .ok (.iload_n 2, 1) := dk_28 (dk_at dksX4_createOperation_5 13 rfl rfl)
theorem dX4_createOperation_133 : decode cX4_createOperation 133 = .ok (.iadd, 1) := dk_96 (dk_at dksX4_createOperation_5 14 rfl rfl)
theorem dX4_createOperation_134 : decode cX4_createOperation 134 = .ok (.dup2, 1) := dk_92 (dk_at dksX4_createOperation_5 15 rfl rfl)
theorem dX4_createOperation_135 : decode cX4_createOperation 135 = .ok (.iaload, 1) := dk_46 (dk_at dksX4_createOperation_5 16 rfl rfl)
theorem dX4_createOperation_136 : decode cX4_createOperation 136 = .ok (.iconst 1, 1) := dk_4 (dk_at dksX4_createOperation_5 17 rfl rfl)
theorem dX4_createOperation_137 : decode cX4_createOperation 137 = .ok (.iadd, 1) := dk_96 (dk_at dksX4_createOperation_5 18 rfl rfl)
theorem dX4_createOperation_138 : decode cX4_createOperation 138 = .ok (.iastore, 1) := dk_79 (dk_at dksX4_createOperation_5 19 rfl rfl)
theorem dX4_createOperation_139 : decode cX4_createOperation 139 = .ok (.aload_n 0, 1) := dk_42 (dk_at dksX4_createOperation_5 20 rfl rfl)
theorem dX4_createOperation_140 : decode cX4_createOperation 140 = .ok (.getfield 9, 3) := dk_180 0 9 (dk_at dksX4_createOperation_5 21 rfl rfl)
theorem dX4_createOperation_143 : decode cX4_createOperation 143 = .ok (.iconst 1, 1) := dk_4 (dk_at dksX4_createOperation_6 0 rfl rfl)
theorem dX4_createOperation_144 : decode cX4_createOperation 144 = .ok (.dup2, 1) := dk_92 (dk_at dksX4_createOperation_6 1 rfl rfl)
theorem dX4_createOperation_145 : decode cX4_createOperation 145 = .ok (.iaload, 1) := dk_46 (dk_at dksX4_createOperation_6 2 rfl rfl)
theorem dX4_createOperation_146 : decode cX4_createOperation 146 = .ok (.iconst 1, 1) := dk_4 (dk_at dksX4_createOperation_6 3 rfl rfl)
theorem dX4_createOperation_147 : decode cX4_createOperation 147 = .ok (.iadd, 1) := dk_96 (dk_at dksX4_createOperation_6 4 rfl rfl)
theorem dX4_createOperation_148 : decode cX4_createOperation 148 = .ok (.iastore, 1) := dk_79 (dk_at dksX4_createOperation_6 5 rfl rfl)
theorem dX4_createOperation_149 : decode cX4_createOperation 149 = .ok (.iload 5, 2) := dk_21 5 (dk_at dksX4_createOperation_6 6 rfl rfl)
theorem dX4_createOperation_151 : decode cX4_createOperation 151 = .ok (.ireturn, 1) := dk_172 (dk_at dksX4_createOperation_6 8 rfl rfl)
abbrev cX4_setOrdered : ByteArray := prog_19_method_8_code
def yX4_setOrdered : MethodName := ⟨RX4, "setOrdered", "(III)V"⟩
def dkwX4_setOrdered_0 : List UInt8 := [42, 180, 0, 9, 17, 0, 183, 8, 27, 104, 96, 28, 96, 29, 79, 177]
abbrev dktX4_setOrdered_0 : List UInt8 := dkwX4_setOrdered_0 ++ []
theorem dksX4_setOrdered_0 : cX4_setOrdered.data.toList.drop 0 = dktX4_setOrdered_0 := by decide +kernel
theorem dX4_setOrdered_0 : decode cX4_setOrdered 0 = .ok (.aload_n 0, 1) := dk_42 (dk_at dksX4_setOrdered_0 0 rfl rfl)
theorem dX4_setOrdered_1 : decode cX4_setOrdered 1 = .ok (.getfield 9, 3) := dk_180 0 9 (dk_at dksX4_setOrdered_0 1 rfl rfl)
theorem dX4_setOrdered_4 : decode cX4_setOrdered 4 = .ok (.sipush 183, 3) := dk_17 0 183 (dk_at dksX4_setOrdered_0 4 rfl rfl)
theorem dX4_setOrdered_7 : decode cX4_setOrdered 7 = .ok (.iconst 5, 1) := dk_8 (dk_at dksX4_setOrdered_0 7 rfl rfl)
theorem dX4_setOrdered_8 : decode cX4_setOrdered 8 = .ok (.iload_n 1, 1) := dk_27 (dk_at dksX4_setOrdered_0 8 rfl rfl)
theorem dX4_setOrdered_9 : decode cX4_setOrdered 9 = .ok (.imul, 1) := dk_104 (dk_at dksX4_setOrdered_0 9 rfl rfl)
theorem dX4_setOrdered_10 : decode cX4_setOrdered 10 = .ok (.iadd, 1) := dk_96 (dk_at dksX4_setOrdered_0 10 rfl rfl)
theorem dX4_setOrdered_11 : decode cX4_setOrdered 11 = .ok (.iload_n 2, 1) := dk_28 (dk_at dksX4_setOrdered_0 11 rfl rfl)
theorem dX4_setOrdered_12 : decode cX4_setOrdered 12 = .ok (.iadd, 1) := dk_96 (dk_at dksX4_setOrdered_0 12 rfl rfl)
theorem dX4_setOrdered_13 : decode cX4_setOrdered 13 = .ok (.iload_n 3, 1) := dk_29 (dk_at dksX4_setOrdered_0 13 rfl rfl)
theorem dX4_setOrdered_14 : decode cX4_setOrdered 14 = .ok (.iastore, 1) := dk_79 (dk_at dksX4_setOrdered_0 14 rfl rfl)
theorem dX4_setOrdered_15 : decode cX4_setOrdered 15 = .ok (.return_, 1) := dk_177 (dk_at dksX4_setOrdered_0 15 rfl rfl)
abbrev cX4_setJob : ByteArray := prog_19_method_19_code
def yX4_setJob : MethodName := ⟨RX4, "setJob", "(III)I"⟩
def dkwX4_setJob_3 : List UInt8 := [180, 0, 9, 21, 4, 29, 79, 21, 5, 172]
abbrev dktX4_setJob_3 : List UInt8 := dkwX4_setJob_3 ++ []
def dkwX4_setJob_2 : List UInt8 := [158, 0, 5, 3, 172, 5, 8, 28, 104, 96, 27, 96, 54, 4, 42, 180, 0, 9, 21, 4, 46, 54, 5, 42]
abbrev dktX4_setJob_2 : List UInt8 := dkwX4_setJob_2 ++ dktX4_setJob_3
def dkwX4_setJob_1 : List UInt8 := [153, 0, 11, 28, 29, 184, 0, 94, 154, 0, 7, 5, 167, 0, 4, 3, 181, 0, 79, 42, 180, 0, 79]
abbrev dktX4_setJob_1 : List UInt8 := dkwX4_setJob_1 ++ dktX4_setJob_2
def dkwX4_setJob_0 : List UInt8 := [42, 42, 27, 182, 0, 118, 154, 0, 7, 4, 167, 0, 28, 28, 133, 9, 20, 0, 108, 184, 0, 82]
abbrev dktX4_setJob_0 : List UInt8 := dkwX4_setJob_0 ++ dktX4_setJob_1
theorem dksX4_setJob_0 : cX4_setJob.data.toList.drop 0 = dktX4_setJob_0 := by decide +kernel
theorem dksX4_setJob_1 : cX4_setJob.data.toList.drop 22 = dktX4_setJob_1 := dk_seg dksX4_setJob_0 22 rfl rfl
theorem dksX4_setJob_2 : cX4_setJob.data.toList.drop 45 = dktX4_setJob_2 := dk_seg dksX4_setJob_1 23 rfl rfl
theorem dksX4_setJob_3 : cX4_setJob.data.toList.drop 69 = dktX4_setJob_3 := dk_seg dksX4_setJob_2 24 rfl rfl
theorem dX4_setJob_0 : decode cX4_setJob 0 = .ok (.aload_n 0, 1) := dk_42 (dk_at dksX4_setJob_0 0 rfl rfl)
theorem dX4_setJob_1 : decode cX4_setJob 1 = .ok (.aload_n 0, 1) := dk_42 (dk_at dksX4_setJob_0 1 rfl rfl)
theorem dX4_setJob_2 : decode cX4_setJob 2 = .ok (.iload_n 1, 1) := dk_27 (dk_at dksX4_setJob_0 2 rfl rfl)
theorem dX4_setJob_3 : decode cX4_setJob 3 = .ok (.invokevirtual 118, 3) := dk_182 0 118 (dk_at dksX4_setJob_0 3 rfl rfl)
theorem dX4_setJob_6 : decode cX4_setJob 6 = .ok (.ifCond .ne 7, 3) := dk_154 0 7 (dk_at dksX4_setJob_0 6 rfl rfl)
theorem dX4_setJob_9 : decode cX4_setJob 9 = .ok (.iconst 1, 1) := dk_4 (dk_at dksX4_setJob_0 9 rfl rfl)
theorem dX4_setJob_10 : decode cX4_setJob 10 = .ok (.goto 28, 3) := dk_167 0 28 (dk_at dksX4_setJob_0 10 rfl rfl)
theorem dX4_setJob_13 : decode cX4_setJob 13 = .ok (.iload_n 2, 1) := dk_28 (dk_at dksX4_setJob_0 13 rfl rfl)
theorem dX4_setJob_14 : decode cX4_setJob 14 = .ok (.i2l, 1) := dk_133 (dk_at dksX4_setJob_0 14 rfl rfl)
theorem dX4_setJob_15 : decode cX4_setJob 15 = .ok (.lconst 0, 1) := dk_9 (dk_at dksX4_setJob_0 15 rfl rfl)
theorem dX4_setJob_16 : decode cX4_setJob 16 = .ok (.ldc2_w 108, 3) := dk_20 0 108 (dk_at dksX4_setJob_0 16 rfl rfl)
theorem dX4_setJob_19 : decode cX4_setJob 19 = .ok (.invokestatic 82, 3) := dk_184 0 82 (dk_at dksX4_setJob_0 19 rfl rfl)
theorem dX4_setJob_22 : decode cX4_setJob 22 = .ok (.ifCond .eq 11, 3) := dk_153 0 11 (dk_at dksX4_setJob_1 0 rfl rfl)
theorem dX4_setJob_25 : decode cX4_setJob 25 = .ok (.iload_n 2, 1) := dk_28 (dk_at dksX4_setJob_1 3 rfl rfl)
theorem dX4_setJob_26 : decode cX4_setJob 26 = .ok (.iload_n 3, 1) := dk_29 (dk_at dksX4_setJob_1 4 rfl rfl)
theorem dX4_setJob_27 : decode cX4_setJob 27 = .ok (.invokestatic 94, 3) := dk_184 0 94 (dk_at dksX4_setJob_1 5 rfl rfl)
theorem dX4_setJob_30 : decode cX4_setJob 30 = .ok (.ifCond .ne 7, 3) := dk_154 0 7 (dk_at dksX4_setJob_1 8 rfl rfl)
theorem dX4_setJob_33 : decode cX4_setJob 33 = .ok (.iconst 2, 1) := dk_5 (dk_at dksX4_setJob_1 11 rfl rfl)
theorem dX4_setJob_34 : decode cX4_setJob 34 = .ok (.goto 4, 3) := dk_167 0 4 (dk_at dksX4_setJob_1 12 rfl rfl)
theorem dX4_setJob_37 : decode cX4_setJob 37 = .ok (.iconst 0, 1) := dk_3 (dk_at dksX4_setJob_1 15 rfl rfl)
theorem dX4_setJob_38 : decode cX4_setJob 38 = .ok (.putfield 79, 3) := dk_181 0 79 (dk_at dksX4_setJob_1 16 rfl rfl)
theorem dX4_setJob_41 : decode cX4_setJob 41 = .ok (.aload_n 0, 1) := dk_42 (dk_at dksX4_setJob_1 19 rfl rfl)
theorem dX4_setJob_42 : decode cX4_setJob 42 = .ok (.getfield 79, 3) := dk_180 0 79 (dk_at dksX4_setJob_1 20 rfl rfl)
theorem dX4_setJob_45 : decode cX4_setJob 45 = .ok (.ifCond .le 5, 3) := dk_158 0 5 (dk_at dksX4_setJob_2 0 rfl rfl)
theorem dX4_setJob_48 : decode cX4_setJob 48 = .ok (.iconst 0, 1) := dk_3 (dk_at dksX4_setJob_2 3 rfl rfl)
theorem dX4_setJob_49 : decode cX4_setJob 49 = .ok (.ireturn, 1) := dk_172 (dk_at dksX4_setJob_2 4 rfl rfl)
theorem dX4_setJob_50 : decode cX4_setJob 50 = .ok (.iconst 2, 1) := dk_5 (dk_at dksX4_setJob_2 5 rfl rfl)
theorem dX4_setJob_51 : decode cX4_setJob 51 = .ok (.iconst 5, 1) := dk_8 (dk_at dksX4_setJob_2 6 rfl rfl)
theorem dX4_setJob_52 : decode cX4_setJob 52 = .ok (.iload_n 2, 1) := dk_28 (dk_at dksX4_setJob_2 7 rfl rfl)
theorem dX4_setJob_53 : decode cX4_setJob 53 = .ok (.imul, 1) := dk_104 (dk_at dksX4_setJob_2 8 rfl rfl)
theorem dX4_setJob_54 : decode cX4_setJob 54 = .ok (.iadd, 1) := dk_96 (dk_at dksX4_setJob_2 9 rfl rfl)
theorem dX4_setJob_55 : decode cX4_setJob 55 = .ok (.iload_n 1, 1) := dk_27 (dk_at dksX4_setJob_2 10 rfl rfl)
theorem dX4_setJob_56 : decode cX4_setJob 56 = .ok (.iadd, 1) := dk_96 (dk_at dksX4_setJob_2 11 rfl rfl)
theorem dX4_setJob_57 : decode cX4_setJob 57 = .ok (.istore 4, 2) := dk_54 4 (dk_at dksX4_setJob_2 12 rfl rfl)
theorem dX4_setJob_59 : decode cX4_setJob 59 = .ok (.aload_n 0, 1) := dk_42 (dk_at dksX4_setJob_2 14 rfl rfl)
theorem dX4_setJob_60 : decode cX4_setJob 60 = .ok (.getfield 9, 3) := dk_180 0 9 (dk_at dksX4_setJob_2 15 rfl rfl)
theorem dX4_setJob_63 : decode cX4_setJob 63 = .ok (.iload 4, 2) := dk_21 4 (dk_at dksX4_setJob_2 18 rfl rfl)
theorem dX4_setJob_65 : decode cX4_setJob 65 = .ok (.iaload, 1) := dk_46 (dk_at dksX4_setJob_2 20 rfl rfl)
theorem dX4_setJob_66 : decode cX4_setJob 66 = .ok (.istore 5, 2) := dk_54 5 (dk_at dksX4_setJob_2 21 rfl rfl)
theorem dX4_setJob_68 : decode cX4_setJob 68 = .ok (.aload_n 0, 1) := dk_42 (dk_at dksX4_setJob_2 23 rfl rfl)
theorem dX4_setJob_69 : decode cX4_setJob 69 = .ok (.getfield 9, 3) := dk_180 0 9 (dk_at dksX4_setJob_3 0 rfl rfl)
theorem dX4_setJob_72 : decode cX4_setJob 72 = .ok (.iload 4, 2) := dk_21 4 (dk_at dksX4_setJob_3 3 rfl rfl)
theorem dX4_setJob_74 : decode cX4_setJob 74 = .ok (.iload_n 3, 1) := dk_29 (dk_at dksX4_setJob_3 5 rfl rfl)
theorem dX4_setJob_75 : decode cX4_setJob 75 = .ok (.iastore, 1) := dk_79 (dk_at dksX4_setJob_3 6 rfl rfl)
theorem dX4_setJob_76 : decode cX4_setJob 76 = .ok (.iload 5, 2) := dk_21 5 (dk_at dksX4_setJob_3 7 rfl rfl)
theorem dX4_setJob_78 : decode cX4_setJob 78 = .ok (.ireturn, 1) := dk_172 (dk_at dksX4_setJob_3 9 rfl rfl)
abbrev cX4_setDuration : ByteArray := prog_19_method_20_code
def yX4_setDuration : MethodName := ⟨RX4, "setDuration", "(II)I"⟩
def dkwX4_setDuration_2 : List UInt8 := [16, 82, 27, 96, 46, 62, 42, 180, 0, 9, 16, 82, 27, 96, 28, 79, 29, 172]
abbrev dktX4_setDuration_2 : List UInt8 := dkwX4_setDuration_2 ++ []
def dkwX4_setDuration_1 : List UInt8 := [154, 0, 7, 5, 167, 0, 4, 3, 181, 0, 79, 42, 180, 0, 79, 158, 0, 5, 3, 172, 42, 180, 0, 9]
abbrev dktX4_setDuration_1 : List UInt8 := dkwX4_setDuration_1 ++ dktX4_setDuration_2
def dkwX4_setDuration_0 : List UInt8 := [42, 42, 27, 182, 0, 135, 154, 0, 7, 4, 167, 0, 20, 28, 133, 10, 20, 0, 106, 184, 0, 82]
abbrev dktX4_setDuration_0 : List UInt8 := dkwX4_setDuration_0 ++ dktX4_setDuration_1
theorem dksX4_setDuration_0 : cX4_setDuration.data.toList.drop 0 = dktX4_setDuration_0 := by decide +kernel
theorem dksX4_setDuration_1 : cX4_setDuration.data.toList.drop 22 = dktX4_setDuration_1 := dk_seg dksX4_setDuration_0 22 rfl rfl
theorem dksX4_setDuration_2 : cX4_setDuration.data.toList.drop 46 = dktX4_setDuration_2 := dk_seg dksX4_setDuration_1 24 rfl rfl
theorem dX4_setDuration_0 : decode cX4_setDuration 0 = .ok (.aload_n 0, 1) := dk_42 (dk_at dksX4_setDuration_0 0 rfl rfl)
theorem dX4_setDuration_1 : decode cX4_setDuration 1 = .ok (.aload_n 0, 1) := dk_42 (dk_at dksX4_setDuration_0 1 rfl rfl)
theorem dX4_setDuration_2 : decode cX4_setDuration 2 = .ok (.iload_n 1, 1) := dk_27 (dk_at dksX4_setDuration_0 2 rfl rfl)
theorem dX4_setDuration_3 : decode cX4_setDuration 3 = .ok (.invokevirtual 135, 3) := dk_182 0 135 (dk_at dksX4_setDuration_0 3 rfl rfl)
theorem dX4_setDuration_6 : decode cX4_setDuration 6 = .ok (.ifCond .ne 7, 3) := dk_154 0 7 (dk_at dksX4_setDuration_0 6 rfl rfl)
theorem dX4_setDuration_9 : decode cX4_setDuration 9 = .ok (.iconst 1, 1) := dk_4 (dk_at dksX4_setDuration_0 9 rfl rfl)
theorem dX4_setDuration_10 : decode cX4_setDuration 10 = .ok (.goto 20, 3) := dk_167 0 20 (dk_at dksX4_setDuration_0 10 rfl rfl)
theorem dX4_setDuration_13 : decode cX4_setDuration 13 = .ok (.iload_n 2, 1) := dk_28 (dk_at dksX4_setDuration_0 13 rfl rfl)
theorem dX4_setDuration_14 : decode cX4_setDuration 14 = .ok (.i2l, 1) := dk_133 (dk_at dksX4_setDuration_0 14 rfl rfl)
theorem dX4_setDuration_15 : decode cX4_setDuration 15 = .ok (.lconst 1, 1) := dk_10 (dk_at dksX4_setDuration_0 15 rfl rfl)
theorem dX4_setDuration_16 : decode cX4_setDuration 16 = .ok (.ldc2_w 106, 3) := dk_20 0 106 (dk_at dksX4_setDuration_0 16 rfl rfl)
theorem dX4_setDuration_19 : decode cX4_setDuration 19 = .ok (.invokestatic 82, 3) := dk_184 0 82 (dk_at dksX4_setDuration_0 19 rfl rfl)
theorem dX4_setDuration_22 : decode cX4_setDuration 22 = .ok (.ifCond .ne 7, 3) := dk_154 0 7 (dk_at dksX4_setDuration_1 0 rfl rfl)
theorem dX4_setDuration_25 : decode cX4_setDuration 25 = .ok (.iconst 2, 1) := dk_5 (dk_at dksX4_setDuration_1 3 rfl rfl)
theorem dX4_setDuration_26 : decode cX4_setDuration 26 = .ok (.goto 4, 3) := dk_167 0 4 (dk_at dksX4_setDuration_1 4 rfl rfl)
theorem dX4_setDuration_29 : decode cX4_setDuration 29 = .ok (.iconst 0, 1) := dk_3 (dk_at dksX4_setDuration_1 7 rfl rfl)
theorem dX4_setDuration_30 : decode cX4_setDuration 30 = .ok (.putfield 79, 3) := dk_181 0 79 (dk_at dksX4_setDuration_1 8 rfl rfl)
theorem dX4_setDuration_33 : decode cX4_setDuration 33 = .ok (.aload_n 0, 1) := dk_42 (dk_at dksX4_setDuration_1 11 rfl rfl)
theorem dX4_setDuration_34 : decode cX4_setDuration 34 = .ok (.getfield 79, 3) := dk_180 0 79 (dk_at dksX4_setDuration_1 12 rfl rfl)
theorem dX4_setDuration_37 : decode cX4_setDuration 37 = .ok (.ifCond .le 5, 3) := dk_158 0 5 (dk_at dksX4_setDuration_1 15 rfl rfl)
theorem dX4_setDuration_40 : decode cX4_setDuration 40 = .ok (.iconst 0, 1) := dk_3 (dk_at dksX4_setDuration_1 18 rfl rfl)
theorem dX4_setDuration_41 : decode cX4_setDuration 41 = .ok (.ireturn, 1) := dk_172 (dk_at dksX4_setDuration_1 19 rfl rfl)
theorem dX4_setDuration_42 : decode cX4_setDuration 42 = .ok (.aload_n 0, 1) := dk_42 (dk_at dksX4_setDuration_1 20 rfl rfl)
theorem dX4_setDuration_43 : decode cX4_setDuration 43 = .ok (.getfield 9, 3) := dk_180 0 9 (dk_at dksX4_setDuration_1 21 rfl rfl)
theorem dX4_setDuration_46 : decode cX4_setDuration 46 = .ok (.bipush 82, 2) := dk_16 82 (dk_at dksX4_setDuration_2 0 rfl rfl)
theorem dX4_setDuration_48 : decode cX4_setDuration 48 = .ok (.iload_n 1, 1) := dk_27 (dk_at dksX4_setDuration_2 2 rfl rfl)
theorem dX4_setDuration_49 : decode cX4_setDuration 49 = .ok (.iadd, 1) := dk_96 (dk_at dksX4_setDuration_2 3 rfl rfl)
theorem dX4_setDuration_50 : decode cX4_setDuration 50 = .ok (.iaload, 1) := dk_46 (dk_at dksX4_setDuration_2 4 rfl rfl)
theorem dX4_setDuration_51 : decode cX4_setDuration 51 = .ok (.istore_n 3, 1) := dk_62 (dk_at dksX4_setDuration_2 5 rfl rfl)
theorem dX4_setDuration_52 : decode cX4_setDuration 52 = .ok (.aload_n 0, 1) := dk_42 (dk_at dksX4_setDuration_2 6 rfl rfl)
theorem dX4_setDuration_53 : decode cX4_setDuration 53 = .ok (.getfield 9, 3) := dk_180 0 9 (dk_at dksX4_setDuration_2 7 rfl rfl)
theorem dX4_setDuration_56 : decode cX4_setDuration 56 = .ok (.bipush 82, 2) := dk_16 82 (dk_at dksX4_setDuration_2 10 rfl rfl)
theorem dX4_setDuration_58 : decode cX4_setDuration 58 = .ok (.iload_n 1, 1) := dk_27 (dk_at dksX4_setDuration_2 12 rfl rfl)
theorem dX4_setDuration_59 : decode cX4_setDuration 59 = .ok (.iadd, 1) := dk_96 (dk_at dksX4_setDuration_2 13 rfl rfl)
theorem dX4_setDuration_60 : decode cX4_setDuration 60 = .ok (.iload_n 2, 1) := dk_28 (dk_at dksX4_setDuration_2 14 rfl rfl)
theorem dX4_setDuration_61 : decode cX4_setDuration 61 = .ok (.iastore, 1) := dk_79 (dk_at dksX4_setDuration_2 15 rfl rfl)
theorem dX4_setDuration_62 : decode cX4_setDuration 62 = .ok (.iload_n 3, 1) := dk_29 (dk_at dksX4_setDuration_2 16 rfl rfl)
theorem dX4_setDuration_63 : decode cX4_setDuration 63 = .ok (.ireturn, 1) := dk_172 (dk_at dksX4_setDuration_2 17 rfl rfl)
abbrev cX4_isOperation : ByteArray := prog_19_method_5_code
def yX4_isOperation : MethodName := ⟨RX4, "isOperation", "(I)Z"⟩
def dkwX4_isOperation_0 : List UInt8 := [27, 133, 9, 42, 180, 0, 9, 4, 46, 4, 100, 133, 184, 0, 82, 172]
abbrev dktX4_isOperation_0 : List UInt8 := dkwX4_isOperation_0 ++ []
theorem dksX4_isOperation_0 : cX4_isOperation.data.toList.drop 0 = dktX4_isOperation_0 := by decide +kernel
theorem dX4_isOperation_0 : decode cX4_isOperation 0 = .ok (.iload_n 1, 1) := dk_27 (dk_at dksX4_isOperation_0 0 rfl rfl)
theorem dX4_isOperation_1 : decode cX4_isOperation 1 = .ok (.i2l, 1) := dk_133 (dk_at dksX4_isOperation_0 1 rfl rfl)
theorem dX4_isOperation_2 : decode cX4_isOperation 2 = .ok (.lconst 0, 1) := dk_9 (dk_at dksX4_isOperation_0 2 rfl rfl)
theorem dX4_isOperation_3 : decode cX4_isOperation 3 = .ok (.aload_n 0, 1) := dk_42 (dk_at dksX4_isOperation_0 3 rfl rfl)
theorem dX4_isOperation_4 : decode cX4_isOperation 4 = .ok (.getfield 9, 3) := dk_180 0 9 (dk_at dksX4_isOperation_0 4 rfl rfl)
theorem dX4_isOperation_7 : decode cX4_isOperation 7 = .ok (.iconst 1, 1) := dk_4 (dk_at dksX4_isOperation_0 7 rfl rfl)
theorem dX4_isOperation_8 : decode cX4_isOperation 8 = .ok (.iaload, 1) := dk_46 (dk_at dksX4_isOperation_0 8 rfl rfl)
theorem dX4_isOperation_9 : decode cX4_isOperation 9 = .ok (.iconst 1, 1) := dk_4 (dk_at dksX4_isOperation_0 9 rfl rfl)
theorem dX4_isOperation_10 : decode cX4_isOperation 10 = .ok (.isub, 1) := dk_100 (dk_at dksX4_isOperation_0 10 rfl rfl)
theorem dX4_isOperation_11 : decode cX4_isOperation 11 = .ok (.i2l, 1) := dk_133 (dk_at dksX4_isOperation_0 11 rfl rfl)
theorem dX4_isOperation_12 : decode cX4_isOperation 12 = .ok (.invokestatic 82, 3) := dk_184 0 82 (dk_at dksX4_isOperation_0 12 rfl rfl)
theorem dX4_isOperation_15 : decode cX4_isOperation 15 = .ok (.ireturn, 1) := dk_172 (dk_at dksX4_isOperation_0 15 rfl rfl)
abbrev cX4_setSetup : ByteArray := prog_19_method_21_code
def yX4_setSetup : MethodName := ⟨RX4, "setSetup", "(III)I"⟩
def dkwX4_setSetup_3 : List UInt8 := [180, 0, 9, 21, 4, 46, 54, 5, 42, 180, 0, 9, 21, 4, 29, 79, 21, 5, 172]
abbrev dktX4_setSetup_3 : List UInt8 := dkwX4_setSetup_3 ++ []
def dkwX4_setSetup_2 : List UInt8 := [181, 0, 79, 42, 180, 0, 79, 158, 0, 5, 3, 172, 17, 0, 142, 6, 27, 104, 96, 28, 96, 54, 4, 42]
abbrev dktX4_setSetup_2 : List UInt8 := dkwX4_setSetup_2 ++ dktX4_setSetup_3
def dkwX4_setSetup_1 : List UInt8 := [154, 0, 7, 4, 167, 0, 20, 29, 133, 9, 20, 0, 92, 184, 0, 82, 154, 0, 7, 5, 167, 0, 4, 3]
abbrev dktX4_setSetup_1 : List UInt8 := dkwX4_setSetup_1 ++ dktX4_setSetup_2
def dkwX4_setSetup_0 : List UInt8 := [42, 27, 133, 9, 20, 0, 108, 184, 0, 82, 153, 0, 15, 28, 133, 9, 20, 0, 108, 184, 0, 82]
abbrev dktX4_setSetup_0 : List UInt8 := dkwX4_setSetup_0 ++ dktX4_setSetup_1
theorem dksX4_setSetup_0 : cX4_setSetup.data.toList.drop 0 = dktX4_setSetup_0 := by decide +kernel
theorem dksX4_setSetup_1 : cX4_setSetup.data.toList.drop 22 = dktX4_setSetup_1 := dk_seg dksX4_setSetup_0 22 rfl rfl
theorem dksX4_setSetup_2 : cX4_setSetup.data.toList.drop 46 = dktX4_setSetup_2 := dk_seg dksX4_setSetup_1 24 rfl rfl
theorem dksX4_setSetup_3 : cX4_setSetup.data.toList.drop 70 = dktX4_setSetup_3 := dk_seg dksX4_setSetup_2 24 rfl rfl
theorem dX4_setSetup_0 : decode cX4_setSetup 0 = .ok (.aload_n 0, 1) := dk_42 (dk_at dksX4_setSetup_0 0 rfl rfl)
theorem dX4_setSetup_1 : decode cX4_setSetup 1 = .ok (.iload_n 1, 1) := dk_27 (dk_at dksX4_setSetup_0 1 rfl rfl)
theorem dX4_setSetup_2 : decode cX4_setSetup 2 = .ok (.i2l, 1) := dk_133 (dk_at dksX4_setSetup_0 2 rfl rfl)
theorem dX4_setSetup_3 : decode cX4_setSetup 3 = .ok (.lconst 0, 1) := dk_9 (dk_at dksX4_setSetup_0 3 rfl rfl)
theorem dX4_setSetup_4 : decode cX4_setSetup 4 = .ok (.ldc2_w 108, 3) := dk_20 0 108 (dk_at dksX4_setSetup_0 4 rfl rfl)
theorem dX4_setSetup_7 : decode cX4_setSetup 7 = .ok (.invokestatic 82, 3) := dk_184 0 82 (dk_at dksX4_setSetup_0 7 rfl rfl)
theorem dX4_setSetup_10 : decode cX4_setSetup 10 = .ok (.ifCond .eq 15, 3) := dk_153 0 15 (dk_at dksX4_setSetup_0 10 rfl rfl)
theorem dX4_setSetup_13 : decode cX4_setSetup 13 = .ok (.iload_n 2, 1) := dk_28 (dk_at dksX4_setSetup_0 13 rfl rfl)
theorem dX4_setSetup_14 : decode cX4_setSetup 14 = .ok (.i2l, 1) := dk_133 (dk_at dksX4_setSetup_0 14 rfl rfl)
theorem dX4_setSetup_15 : decode cX4_setSetup 15 = .ok (.lconst 0, 1) := dk_9 (dk_at dksX4_setSetup_0 15 rfl rfl)
theorem dX4_setSetup_16 : decode cX4_setSetup 16 = .ok (.ldc2_w 108, 3) := dk_20 0 108 (dk_at dksX4_setSetup_0 16 rfl rfl)
theorem dX4_setSetup_19 : decode cX4_setSetup 19 = .ok (.invokestatic 82, 3) := dk_184 0 82 (dk_at dksX4_setSetup_0 19 rfl rfl)
theorem dX4_setSetup_22 : decode cX4_setSetup 22 = .ok (.ifCond .ne 7, 3) := dk_154 0 7 (dk_at dksX4_setSetup_1 0 rfl rfl)
theorem dX4_setSetup_25 : decode cX4_setSetup 25 = .ok (.iconst 1, 1) := dk_4 (dk_at dksX4_setSetup_1 3 rfl rfl)
theorem dX4_setSetup_26 : decode cX4_setSetup 26 = .ok (.goto 20, 3) := dk_167 0 20 (dk_at dksX4_setSetup_1 4 rfl rfl)
theorem dX4_setSetup_29 : decode cX4_setSetup 29 = .ok (.iload_n 3, 1) := dk_29 (dk_at dksX4_setSetup_1 7 rfl rfl)
theorem dX4_setSetup_30 : decode cX4_setSetup 30 = .ok (.i2l, 1) := dk_133 (dk_at dksX4_setSetup_1 8 rfl rfl)
theorem dX4_setSetup_31 : decode cX4_setSetup 31 = .ok (.lconst 0, 1) := dk_9 (dk_at dksX4_setSetup_1 9 rfl rfl)
theorem dX4_setSetup_32 : decode cX4_setSetup 32 = .ok (.ldc2_w 92, 3) := dk_20 0 92 (dk_at dksX4_setSetup_1 10 rfl rfl)
theorem dX4_setSetup_35 : decode cX4_setSetup 35 = .ok (.invokestatic 82, 3) := dk_184 0 82 (dk_at dksX4_setSetup_1 13 rfl rfl)
theorem dX4_setSetup_38 : decode cX4_setSetup 38 = .ok (.ifCond .ne 7, 3) := dk_154 0 7 (dk_at dksX4_setSetup_1 16 rfl rfl)
theorem dX4_setSetup_41 : decode cX4_setSetup 41 = .ok (.iconst 2, 1) := dk_5 (dk_at dksX4_setSetup_1 19 rfl rfl)
theorem dX4_setSetup_42 : decode cX4_setSetup 42 = .ok (.goto 4, 3) := dk_167 0 4 (dk_at dksX4_setSetup_1 20 rfl rfl)
theorem dX4_setSetup_45 : decode cX4_setSetup 45 = .ok (.iconst 0, 1) := dk_3 (dk_at dksX4_setSetup_1 23 rfl rfl)
theorem dX4_setSetup_46 : decode cX4_setSetup 46 = .ok (.putfield 79, 3) := dk_181 0 79 (dk_at dksX4_setSetup_2 0 rfl rfl)
theorem dX4_setSetup_49 : decode cX4_setSetup 49 = .ok (.aload_n 0, 1) := dk_42 (dk_at dksX4_setSetup_2 3 rfl rfl)
theorem dX4_setSetup_50 : decode cX4_setSetup 50 = .ok (.getfield 79, 3) := dk_180 0 79 (dk_at dksX4_setSetup_2 4 rfl rfl)
theorem dX4_setSetup_53 : decode cX4_setSetup 53 = .ok (.ifCond .le 5, 3) := dk_158 0 5 (dk_at dksX4_setSetup_2 7 rfl rfl)
theorem dX4_setSetup_56 : decode cX4_setSetup 56 = .ok (.iconst 0, 1) := dk_3 (dk_at dksX4_setSetup_2 10 rfl rfl)
theorem dX4_setSetup_57 : decode cX4_setSetup 57 = .ok (.ireturn, 1) := dk_172 (dk_at dksX4_setSetup_2 11 rfl rfl)
theorem dX4_setSetup_58 : decode cX4_setSetup 58 = .ok (.sipush 142, 3) := dk_17 0 142 (dk_at dksX4_setSetup_2 12 rfl rfl)
theorem dX4_setSetup_61 : decode cX4_setSetup 61 = .ok (.iconst 3, 1) := dk_6 (dk_at dksX4_setSetup_2 15 rfl rfl)
theorem dX4_setSetup_62 : decode cX4_setSetup 62 = .ok (.iload_n 1, 1) := dk_27 (dk_at dksX4_setSetup_2 16 rfl rfl)
theorem dX4_setSetup_63 : decode cX4_setSetup 63 = .ok (.imul, 1) := dk_104 (dk_at dksX4_setSetup_2 17 rfl rfl)
theorem dX4_setSetup_64 : decode cX4_setSetup 64 = .ok (.iadd, 1) := dk_96 (dk_at dksX4_setSetup_2 18 rfl rfl)
theorem dX4_setSetup_65 : decode cX4_setSetup 65 = .ok (.iload_n 2, 1) := dk_28 (dk_at dksX4_setSetup_2 19 rfl rfl)
theorem dX4_setSetup_66 : decode cX4_setSetup 66 = .ok (.iadd, 1) := dk_96 (dk_at dksX4_setSetup_2 20 rfl rfl)
theorem dX4_setSetup_67 : decode cX4_setSetup 67 = .ok (.istore 4, 2) := dk_54 4 (dk_at dksX4_setSetup_2 21 rfl rfl)
theorem dX4_setSetup_69 : decode cX4_setSetup 69 = .ok (.aload_n 0, 1) := dk_42 (dk_at dksX4_setSetup_2 23 rfl rfl)
theorem dX4_setSetup_70 : decode cX4_setSetup 70 = .ok (.getfield 9, 3) := dk_180 0 9 (dk_at dksX4_setSetup_3 0 rfl rfl)
theorem dX4_setSetup_73 : decode cX4_setSetup 73 = .ok (.iload 4, 2) := dk_21 4 (dk_at dksX4_setSetup_3 3 rfl rfl)
theorem dX4_setSetup_75 : decode cX4_setSetup 75 = .ok (.iaload, 1) := dk_46 (dk_at dksX4_setSetup_3 5 rfl rfl)
theorem dX4_setSetup_76 : decode cX4_setSetup 76 = .ok (.istore 5, 2) := dk_54 5 (dk_at dksX4_setSetup_3 6 rfl rfl)
theorem dX4_setSetup_78 : decode cX4_setSetup 78 = .ok (.aload_n 0, 1) := dk_42 (dk_at dksX4_setSetup_3 8 rfl rfl)
theorem dX4_setSetup_79 : decode cX4_setSetup 79 = .ok (.getfield 9, 3) := dk_180 0 9 (dk_at dksX4_setSetup_3 9 rfl rfl)
theorem dX4_setSetup_82 : decode cX4_setSetup 82 = .ok (.iload 4, 2) := dk_21 4 (dk_at dksX4_setSetup_3 12 rfl rfl)
theorem dX4_setSetup_84 : decode cX4_setSetup 84 = .ok (.iload_n 3, 1) := dk_29 (dk_at dksX4_setSetup_3 14 rfl rfl)
theorem dX4_setSetup_85 : decode cX4_setSetup 85 = .ok (.iastore, 1) := dk_79 (dk_at dksX4_setSetup_3 15 rfl rfl)
theorem dX4_setSetup_86 : decode cX4_setSetup 86 = .ok (.iload 5, 2) := dk_21 5 (dk_at dksX4_setSetup_3 16 rfl rfl)
theorem dX4_setSetup_88 : decode cX4_setSetup 88 = .ok (.ireturn, 1) := dk_172 (dk_at dksX4_setSetup_3 18 rfl rfl)
abbrev cX4_addBreakdown : ByteArray := prog_19_method_22_code
def yX4_addBreakdown : MethodName := ⟨RX4, "addBreakdown", "(III)I"⟩
def dkwX4_addBreakdown_5 : List UInt8 := [92, 46, 4, 96, 79, 42, 180, 0, 9, 17, 0, 151, 27, 96, 46, 172]
abbrev dktX4_addBreakdown_5 : List UInt8 := dkwX4_addBreakdown_5 ++ []
def dkwX4_addBreakdown_4 : List UInt8 := [96, 28, 79, 42, 180, 0, 9, 17, 0, 167, 21, 4, 96, 29, 79, 42, 180, 0, 9, 17, 0, 151, 27, 96]
abbrev dktX4_addBreakdown_4 : List UInt8 := dkwX4_addBreakdown_4 ++ dktX4_addBreakdown_5
def dkwX4_addBreakdown_3 : List UInt8 := [27, 104, 42, 180, 0, 9, 17, 0, 151, 27, 96, 46, 96, 54, 4, 42, 180, 0, 9, 17, 0, 155, 21, 4]
abbrev dktX4_addBreakdown_3 : List UInt8 := dkwX4_addBreakdown_3 ++ dktX4_addBreakdown_4
def dkwX4_addBreakdown_2 : List UInt8 := [96, 46, 6, 160, 0, 7, 6, 167, 0, 4, 3, 181, 0, 79, 42, 180, 0, 79, 158, 0, 5, 3, 172, 6]
abbrev dktX4_addBreakdown_2 : List UInt8 := dkwX4_addBreakdown_2 ++ dktX4_addBreakdown_3
def dkwX4_addBreakdown_1 : List UInt8 := [29, 133, 10, 20, 0, 140, 184, 0, 82, 154, 0, 7, 5, 167, 0, 22, 42, 180, 0, 9, 17, 0, 151, 27]
abbrev dktX4_addBreakdown_1 : List UInt8 := dkwX4_addBreakdown_1 ++ dktX4_addBreakdown_2
def dkwX4_addBreakdown_0 : List UInt8 := [42, 27, 184, 0, 122, 154, 0, 7, 4, 167, 0, 50, 28, 133, 9, 20, 0, 138, 184, 0, 82, 153, 0, 15]
abbrev dktX4_addBreakdown_0 : List UInt8 := dkwX4_addBreakdown_0 ++ dktX4_addBreakdown_1
theorem dksX4_addBreakdown_0 : cX4_addBreakdown.data.toList.drop 0 = dktX4_addBreakdown_0 := by decide +kernel
theorem dksX4_addBreakdown_1 : cX4_addBreakdown.data.toList.drop 24 = dktX4_addBreakdown_1 := dk_seg dksX4_addBreakdown_0 24 rfl rfl
theorem dksX4_addBreakdown_2 : cX4_addBreakdown.data.toList.drop 48 = dktX4_addBreakdown_2 := dk_seg dksX4_addBreakdown_1 24 rfl rfl
theorem dksX4_addBreakdown_3 : cX4_addBreakdown.data.toList.drop 72 = dktX4_addBreakdown_3 := dk_seg dksX4_addBreakdown_2 24 rfl rfl
theorem dksX4_addBreakdown_4 : cX4_addBreakdown.data.toList.drop 96 = dktX4_addBreakdown_4 := dk_seg dksX4_addBreakdown_3 24 rfl rfl
theorem dksX4_addBreakdown_5 : cX4_addBreakdown.data.toList.drop 120 = dktX4_addBreakdown_5 := dk_seg dksX4_addBreakdown_4 24 rfl rfl
theorem dX4_addBreakdown_0 : decode cX4_addBreakdown 0 = .ok (.aload_n 0, 1) := dk_42 (dk_at dksX4_addBreakdown_0 0 rfl rfl)
theorem dX4_addBreakdown_1 : decode cX4_addBreakdown 1 = .ok (.iload_n 1, 1) := dk_27 (dk_at dksX4_addBreakdown_0 1 rfl rfl)
theorem dX4_addBreakdown_2 : decode cX4_addBreakdown 2 = .ok (.invokestatic 122, 3) := dk_184 0 122 (dk_at dksX4_addBreakdown_0 2 rfl rfl)
theorem dX4_addBreakdown_5 : decode cX4_addBreakdown 5 = .ok (.ifCond .ne 7, 3) := dk_154 0 7 (dk_at dksX4_addBreakdown_0 5 rfl rfl)
theorem dX4_addBreakdown_8 : decode cX4_addBreakdown 8 = .ok (.iconst 1, 1) := dk_4 (dk_at dksX4_addBreakdown_0 8 rfl rfl)
theorem dX4_addBreakdown_9 : decode cX4_addBreakdown 9 = .ok (.goto 50, 3) := dk_167 0 50 (dk_at dksX4_addBreakdown_0 9 rfl rfl)
theorem dX4_addBreakdown_12 : decode cX4_addBreakdown 12 = .ok (.iload_n 2, 1) := dk_28 (dk_at dksX4_addBreakdown_0 12 rfl rfl)
theorem dX4_addBreakdown_13 : decode cX4_addBreakdown 13 = .ok (.i2l, 1) := dk_133 (dk_at dksX4_addBreakdown_0 13 rfl rfl)
theorem dX4_addBreakdown_14 : decode cX4_addBreakdown 14 = .ok (.lconst 0, 1) := dk_9 (dk_at dksX4_addBreakdown_0 14 rfl rfl)
theorem dX4_addBreakdown_15 : decode cX4_addBreakdown 15 = .ok (.ldc2_w 138, 3) := dk_20 0 138 (dk_at dksX4_addBreakdown_0 15 rfl rfl)
theorem dX4_addBreakdown_18 : decode cX4_addBreakdown 18 = .ok (.invokestatic 82, 3) := dk_184 0 82 (dk_at dksX4_addBreakdown_0 18 rfl rfl)
theorem dX4_addBreakdown_21 : decode cX4_addBreakdown 21 = .ok (.ifCond .eq 15, 3) := dk_153 0 15 (dk_at dksX4_addBreakdown_0 21 rfl rfl)
theorem dX4_addBreakdown_24 : decode cX4_addBreakdown 24 = .ok (.iload_n 3, 1) := dk_29 (dk_at dksX4_addBreakdown_1 0 rfl rfl)
theorem dX4_addBreakdown_25 : decode cX4_addBreakdown 25 = .ok (.i2l, 1) := dk_133 (dk_at dksX4_addBreakdown_1 1 rfl rfl)
theorem dX4_addBreakdown_26 : decode cX4_addBreakdown 26 = .ok (.lconst 1, 1) := dk_10 (dk_at dksX4_addBreakdown_1 2 rfl rfl)
theorem dX4_addBreakdown_27 : decode cX4_addBreakdown 27 = .ok (.ldc2_w 140, 3) := dk_20 0 140 (dk_at dksX4_addBreakdown_1 3 rfl rfl)
theorem dX4_addBreakdown_30 : decode cX4_addBreakdown 30 = .ok (.invokestatic 82, 3) := dk_184 0 82 (dk_at dksX4_addBreakdown_1 6 rfl rfl)
theorem dX4_addBreakdown_33 : decode cX4_addBreakdown 33 = .ok (.ifCond .ne 7, 3) := dk_154 0 7 (dk_at dksX4_addBreakdown_1 9 rfl rfl)
theorem dX4_addBreakdown_36 : decode cX4_addBreakdown 36 = .ok (.iconst 2, 1) := dk_5 (dk_at dksX4_addBreakdown_1 12 rfl rfl)
theorem dX4_addBreakdown_37 : decode cX4_addBreakdown 37 = .ok (.goto 22, 3) := dk_167 0 22 (dk_at dksX4_addBreakdown_1 13 rfl rfl)
theorem dX4_addBreakdown_40 : decode cX4_addBreakdown 40 = .ok (.aload_n 0, 1) := dk_42 (dk_at dksX4_addBreakdown_1 16 rfl rfl)
theorem dX4_addBreakdown_41 : decode cX4_addBreakdown 41 = .ok (.getfield 9, 3) := dk_180 0 9 (dk_at dksX4_addBreakdown_1 17 rfl rfl)
theorem dX4_addBreakdown_44 : decode cX4_addBreakdown 44 = .ok (.sipush 151, 3) := dk_17 0 151 (dk_at dksX4_addBreakdown_1 20 rfl rfl)
theorem dX4_addBreakdown_47 : decode cX4_addBreakdown 47 = .ok (.iload_n 1, 1) := dk_27 (dk_at dksX4_addBreakdown_1 23 rfl rfl)
theorem dX4_addBreakdown_48 : decode cX4_addBreakdown 48 = .ok (.iadd, 1) := dk_96 (dk_at dksX4_addBreakdown_2 0 rfl rfl)
theorem dX4_addBreakdown_49 : decode cX4_addBreakdown 49 = .ok (.iaload, 1) := dk_46 (dk_at dksX4_addBreakdown_2 1 rfl rfl)
theorem dX4_addBreakdown_50 : decode cX4_addBreakdown 50 = .ok (.iconst 3, 1) := dk_6 (dk_at dksX4_addBreakdown_2 2 rfl rfl)
theorem dX4_addBreakdown_51 : decode cX4_addBreakdown 51 = .ok (.if_icmp .ne 7, 3) := dk_160 0 7 (dk_at dksX4_addBreakdown_2 3 rfl rfl)
theorem dX4_addBreakdown_54 : decode cX4_addBreakdown 54 = .ok (.iconst 3, 1) := dk_6 (dk_at dksX4_addBreakdown_2 6 rfl rfl)
theorem dX4_addBreakdown_55 : decode cX4_addBreakdown 55 = .ok (.goto 4, 3) := dk_167 0 4 (dk_at dksX4_addBreakdown_2 7 rfl rfl)
theorem dX4_addBreakdown_58 : decode cX4_addBreakdown 58 = .ok (.iconst 0, 1) := dk_3 (dk_at dksX4_addBreakdown_2 10 rfl rfl)
theorem dX4_addBreakdown_59 : decode cX4_addBreakdown 59 = .ok (.putfield 79, 3) := dk_181 0 79 (dk_at dksX4_addBreakdown_2 11 rfl rfl)
theorem dX4_addBreakdown_62 : decode cX4_addBreakdown 62 = .ok (.aload_n 0, 1) := dk_42 (dk_at dksX4_addBreakdown_2 14 rfl rfl)
theorem dX4_addBreakdown_63 : decode cX4_addBreakdown 63 = .ok (.getfield 79, 3) := dk_180 0 79 (dk_at dksX4_addBreakdown_2 15 rfl rfl)
theorem dX4_addBreakdown_66 : decode cX4_addBreakdown 66 = .ok (.ifCond .le 5, 3) := dk_158 0 5 (dk_at dksX4_addBreakdown_2 18 rfl rfl)
theorem dX4_addBreakdown_69 : decode cX4_addBreakdown 69 = .ok (.iconst 0, 1) := dk_3 (dk_at dksX4_addBreakdown_2 21 rfl rfl)
theorem dX4_addBreakdown_70 : decode cX4_addBreakdown 70 = .ok (.ireturn, 1) := dk_172 (dk_at dksX4_addBreakdown_2 22 rfl rfl)
theorem dX4_addBreakdown_71 : decode cX4_addBreakdown 71 = .ok (.iconst 3, 1) := dk_6 (dk_at dksX4_addBreakdown_2 23 rfl rfl)
theorem dX4_addBreakdown_72 : decode cX4_addBreakdown 72 = .ok (.iload_n 1, 1) := dk_27 (dk_at dksX4_addBreakdown_3 0 rfl rfl)
theorem dX4_addBreakdown_73 : decode cX4_addBreakdown 73 = .ok (.imul, 1) := dk_104 (dk_at dksX4_addBreakdown_3 1 rfl rfl)
theorem dX4_addBreakdown_74 : decode cX4_addBreakdown 74 = .ok (.aload_n 0, 1) := dk_42 (dk_at dksX4_addBreakdown_3 2 rfl rfl)
theorem dX4_addBreakdown_75 : decode cX4_addBreakdown 75 = .ok (.getfield 9, 3) := dk_180 0 9 (dk_at dksX4_addBreakdown_3 3 rfl rfl)
theorem dX4_addBreakdown_78 : decode cX4_addBreakdown 78 = .ok (.sipush 151, 3) := dk_17 0 151 (dk_at dksX4_addBreakdown_3 6 rfl rfl)
theorem dX4_addBreakdown_81 : decode cX4_addBreakdown 81 = .ok (.iload_n 1, 1) := dk_27 (dk_at dksX4_addBreakdown_3 9 rfl rfl)
theorem dX4_addBreakdown_82 : decode cX4_addBreakdown 82 = .ok (.iadd, 1) := dk_96 (dk_at dksX4_addBreakdown_3 10 rfl rfl)
theorem dX4_addBreakdown_83 : decode cX4_addBreakdown 83 = .ok (.iaload, 1) := dk_46 (dk_at dksX4_addBreakdown_3 11 rfl rfl)
theorem dX4_addBreakdown_84 : decode cX4_addBreakdown 84 = .ok (.iadd, 1) := dk_96 (dk_at dksX4_addBreakdown_3 12 rfl rfl)
theorem dX4_addBreakdown_85 : decode cX4_addBreakdown 85 = .ok (.istore 4, 2) := dk_54 4 (dk_at dksX4_addBreakdown_3 13 rfl rfl)
theorem dX4_addBreakdown_87 : decode cX4_addBreakdown 87 = .ok (.aload_n 0, 1) := dk_42 (dk_at dksX4_addBreakdown_3 15 rfl rfl)
theorem dX4_addBreakdown_88 : decode cX4_addBreakdown 88 = .ok (.getfield 9, 3) := dk_180 0 9 (dk_at dksX4_addBreakdown_3 16 rfl rfl)
theorem dX4_addBreakdown_91 : decode cX4_addBreakdown 91 = .ok (.sipush 155, 3) := dk_17 0 155 (dk_at dksX4_addBreakdown_3 19 rfl rfl)
theorem dX4_addBreakdown_94 : decode cX4_addBreakdown 94 = .ok (.iload 4, 2) := dk_21 4 (dk_at dksX4_addBreakdown_3 22 rfl rfl)
theorem dX4_addBreakdown_96 : decode cX4_addBreakdown 96 = .ok (.iadd, 1) := dk_96 (dk_at dksX4_addBreakdown_4 0 rfl rfl)
theorem dX4_addBreakdown_97 : decode cX4_addBreakdown 97 = .ok (.iload_n 2, 1) := dk_28 (dk_at dksX4_addBreakdown_4 1 rfl rfl)
theorem dX4_addBreakdown_98 : decode cX4_addBreakdown 98 = .ok (.iastore, 1) := dk_79 (dk_at dksX4_addBreakdown_4 2 rfl rfl)
theorem dX4_addBreakdown_99 : decode cX4_addBreakdown 99 = .ok (.aload_n 0, 1) := dk_42 (dk_at dksX4_addBreakdown_4 3 rfl rfl)
theorem dX4_addBreakdown_100 : decode cX4_addBreakdown 100 = .ok (.getfield 9, 3) := dk_180 0 9 (dk_at dksX4_addBreakdown_4 4 rfl rfl)
theorem dX4_addBreakdown_103 : decode cX4_addBreakdown 103 = .ok (.sipush 167, 3) := dk_17 0 167 (dk_at dksX4_addBreakdown_4 7 rfl rfl)
theorem dX4_addBreakdown_106 : decode cX4_addBreakdown 106 = .ok (.iload 4, 2) := dk_21 4 (dk_at dksX4_addBreakdown_4 10 rfl rfl)
theorem dX4_addBreakdown_108 : decode cX4_addBreakdown 108 = .ok (.iadd, 1) := dk_96 (dk_at dksX4_addBreakdown_4 12 rfl rfl)
theorem dX4_addBreakdown_109 : decode cX4_addBreakdown 109 = .ok (.iload_n 3, 1) := dk_29 (dk_at dksX4_addBreakdown_4 13 rfl rfl)
theorem dX4_addBreakdown_110 : decode cX4_addBreakdown 110 = .ok (.iastore, 1) := dk_79 (dk_at dksX4_addBreakdown_4 14 rfl rfl)
theorem dX4_addBreakdown_111 : decode cX4_addBreakdown 111 = .ok (.aload_n 0, 1) := dk_42 (dk_at dksX4_addBreakdown_4 15 rfl rfl)
theorem dX4_addBreakdown_112 : decode cX4_addBreakdown 112 = .ok (.getfield 9, 3) := dk_180 0 9 (dk_at dksX4_addBreakdown_4 16 rfl rfl)
theorem dX4_addBreakdown_115 : decode cX4_addBreakdown 115 = .ok (.sipush 151, 3) := dk_17 0 151 (dk_at dksX4_addBreakdown_4 19 rfl rfl)
theorem dX4_addBreakdown_118 : decode cX4_addBreakdown 118 = .ok (.iload_n 1, 1) := dk_27 (dk_at dksX4_addBreakdown_4 22 rfl rfl)
theorem dX4_addBreakdown_119 : decode cX4_addBreakdown 119 = .ok (.iadd, 1) := dk_96 (dk_at dksX4_addBreakdown_4 23 rfl rfl)
theorem dX4_addBreakdown_120 : decode cX4_addBreakdown 120 = .ok (.dup2, 1) := dk_92 (dk_at dksX4_addBreakdown_5 0 rfl rfl)
theorem dX4_addBreakdown_121 : decode cX4_addBreakdown 121 = .ok (.iaload, 1) := dk_46 (dk_at dksX4_addBreakdown_5 1 rfl rfl)
theorem dX4_addBreakdown_122 : decode cX4_addBreakdown 122 = .ok (.iconst 1, 1) := dk_4 (dk_at dksX4_addBreakdown_5 2 rfl rfl)
theorem dX4_addBreakdown_123 : decode cX4_addBreakdown 123 = .ok (.iadd, 1) := dk_96 (dk_at dksX4_addBreakdown_5 3 rfl rfl)
theorem dX4_addBreakdown_124 : decode cX4_addBreakdown 124 = .ok (.iastore, 1) := dk_79 (dk_at dksX4_addBreakdown_5 4 rfl rfl)
theorem dX4_addBreakdown_125 : decode cX4_addBreakdown 125 = .ok (.aload_n 0, 1) := dk_42 (dk_at dksX4_addBreakdown_5 5 rfl rfl)
theorem dX4_addBreakdown_126 : decode cX4_addBreakdown 126 = .ok (.getfield 9, 3) := dk_180 0 9 (dk_at dksX4_addBreakdown_5 6 rfl rfl)
theorem dX4_addBreakdown_129 : decode cX4_addBreakdown 129 = .ok (.sipush 151, 3) := dk_17 0 151 (dk_at dksX4_addBreakdown_5 9 rfl rfl)
theorem dX4_addBreakdown_132 : decode cX4_addBreakdown 132 = .ok (.iload_n 1, 1) := dk_27 (dk_at dksX4_addBreakdown_5 12 rfl rfl)
theorem dX4_addBreakdown_133 : decode cX4_addBreakdown 133 = .ok (.iadd, 1) := dk_96 (dk_at dksX4_addBreakdown_5 13 rfl rfl)
theorem dX4_addBreakdown_134 : decode cX4_addBreakdown 134 = .ok (.iaload, 1) := dk_46 (dk_at dksX4_addBreakdown_5 14 rfl rfl)
theorem dX4_addBreakdown_135 : decode cX4_addBreakdown 135 = .ok (.ireturn, 1) := dk_172 (dk_at dksX4_addBreakdown_5 15 rfl rfl)
abbrev cX4_clearBreakdowns : ByteArray := prog_19_method_23_code
def yX4_clearBreakdowns : MethodName := ⟨RX4, "clearBreakdowns", "(I)I"⟩
def dkwX4_clearBreakdowns_2 : List UInt8 := [172]
abbrev dktX4_clearBreakdowns_2 : List UInt8 := dkwX4_clearBreakdowns_2 ++ []
def dkwX4_clearBreakdowns_1 : List UInt8 := [172, 42, 180, 0, 9, 17, 0, 151, 27, 96, 46, 61, 42, 180, 0, 9, 17, 0, 151, 27, 96, 3, 79, 28]
abbrev dktX4_clearBreakdowns_1 : List UInt8 := dkwX4_clearBreakdowns_1 ++ dktX4_clearBreakdowns_2
def dkwX4_clearBreakdowns_0 : List UInt8 := [42, 27, 184, 0, 122, 153, 0, 7, 3, 167, 0, 4, 4, 181, 0, 79, 42, 180, 0, 79, 158, 0, 5, 3]
abbrev dktX4_clearBreakdowns_0 : List UInt8 := dkwX4_clearBreakdowns_0 ++ dktX4_clearBreakdowns_1
theorem dksX4_clearBreakdowns_0 : cX4_clearBreakdowns.data.toList.drop 0 = dktX4_clearBreakdowns_0 := by decide +kernel
theorem dksX4_clearBreakdowns_1 : cX4_clearBreakdowns.data.toList.drop 24 = dktX4_clearBreakdowns_1 := dk_seg dksX4_clearBreakdowns_0 24 rfl rfl
theorem dksX4_clearBreakdowns_2 : cX4_clearBreakdowns.data.toList.drop 48 = dktX4_clearBreakdowns_2 := dk_seg dksX4_clearBreakdowns_1 24 rfl rfl
theorem dX4_clearBreakdowns_0 : decode cX4_clearBreakdowns 0 = .ok (.aload_n 0, 1) := dk_42 (dk_at dksX4_clearBreakdowns_0 0 rfl rfl)
theorem dX4_clearBreakdowns_1 : decode cX4_clearBreakdowns 1 = .ok (.iload_n 1, 1) := dk_27 (dk_at dksX4_clearBreakdowns_0 1 rfl rfl)
theorem dX4_clearBreakdowns_2 : decode cX4_clearBreakdowns 2 = .ok (.invokestatic 122, 3) := dk_184 0 122 (dk_at dksX4_clearBreakdowns_0 2 rfl rfl)
theorem dX4_clearBreakdowns_5 : decode cX4_clearBreakdowns 5 = .ok (.ifCond .eq 7, 3) := dk_153 0 7 (dk_at dksX4_clearBreakdowns_0 5 rfl rfl)
theorem dX4_clearBreakdowns_8 : decode cX4_clearBreakdowns 8 = .ok (.iconst 0, 1) := dk_3 (dk_at dksX4_clearBreakdowns_0 8 rfl rfl)
theorem dX4_clearBreakdowns_9 : decode cX4_clearBreakdowns 9 = .ok (.goto 4, 3) := dk_167 0 4 (dk_at dksX4_clearBreakdowns_0 9 rfl rfl)
theorem dX4_clearBreakdowns_12 : decode cX4_clearBreakdowns 12 = .ok (.iconst 1, 1) := dk_4 (dk_at dksX4_clearBreakdowns_0 12 rfl rfl)
theorem dX4_clearBreakdowns_13 : decode cX4_clearBreakdowns 13 = .ok (.putfield 79, 3) := dk_181 0 79 (dk_at dksX4_clearBreakdowns_0 13 rfl rfl)
theorem dX4_clearBreakdowns_16 : decode cX4_clearBreakdowns 16 = .ok (.aload_n 0, 1) := dk_42 (dk_at dksX4_clearBreakdowns_0 16 rfl rfl)
theorem dX4_clearBreakdowns_17 : decode cX4_clearBreakdowns 17 = .ok (.getfield 79, 3) := dk_180 0 79 (dk_at dksX4_clearBreakdowns_0 17 rfl rfl)
theorem dX4_clearBreakdowns_20 : decode cX4_clearBreakdowns 20 = .ok (.ifCond .le 5, 3) := dk_158 0 5 (dk_at dksX4_clearBreakdowns_0 20 rfl rfl)
theorem dX4_clearBreakdowns_23 : decode cX4_clearBreakdowns 23 = .ok (.iconst 0, 1) := dk_3 (dk_at dksX4_clearBreakdowns_0 23 rfl rfl)
theorem dX4_clearBreakdowns_24 : decode cX4_clearBreakdowns 24 = .ok (.ireturn, 1) := dk_172 (dk_at dksX4_clearBreakdowns_1 0 rfl rfl)
theorem dX4_clearBreakdowns_25 : decode cX4_clearBreakdowns 25 = .ok (.aload_n 0, 1) := dk_42 (dk_at dksX4_clearBreakdowns_1 1 rfl rfl)
theorem dX4_clearBreakdowns_26 : decode cX4_clearBreakdowns 26 = .ok (.getfield 9, 3) := dk_180 0 9 (dk_at dksX4_clearBreakdowns_1 2 rfl rfl)
theorem dX4_clearBreakdowns_29 : decode cX4_clearBreakdowns 29 = .ok (.sipush 151, 3) := dk_17 0 151 (dk_at dksX4_clearBreakdowns_1 5 rfl rfl)
theorem dX4_clearBreakdowns_32 : decode cX4_clearBreakdowns 32 = .ok (.iload_n 1, 1) := dk_27 (dk_at dksX4_clearBreakdowns_1 8 rfl rfl)
theorem dX4_clearBreakdowns_33 : decode cX4_clearBreakdowns 33 = .ok (.iadd, 1) := dk_96 (dk_at dksX4_clearBreakdowns_1 9 rfl rfl)
theorem dX4_clearBreakdowns_34 : decode cX4_clearBreakdowns 34 = .ok (.iaload, 1) := dk_46 (dk_at dksX4_clearBreakdowns_1 10 rfl rfl)
theorem dX4_clearBreakdowns_35 : decode cX4_clearBreakdowns 35 = .ok (.istore_n 2, 1) := dk_61 (dk_at dksX4_clearBreakdowns_1 11 rfl rfl)
theorem dX4_clearBreakdowns_36 : decode cX4_clearBreakdowns 36 = .ok (.aload_n 0, 1) := dk_42 (dk_at dksX4_clearBreakdowns_1 12 rfl rfl)
theorem dX4_clearBreakdowns_37 : decode cX4_clearBreakdowns 37 = .ok (.getfield 9, 3) := dk_180 0 9 (dk_at dksX4_clearBreakdowns_1 13 rfl rfl)
theorem dX4_clearBreakdowns_40 : decode cX4_clearBreakdowns 40 = .ok (.sipush 151, 3) := dk_17 0 151 (dk_at dksX4_clearBreakdowns_1 16 rfl rfl)
theorem dX4_clearBreakdowns_43 : decode cX4_clearBreakdowns 43 = .ok (.iload_n 1, 1) := dk_27 (dk_at dksX4_clearBreakdowns_1 19 rfl rfl)
theorem dX4_clearBreakdowns_44 : decode cX4_clearBreakdowns 44 = .ok (.iadd, 1) := dk_96 (dk_at dksX4_clearBreakdowns_1 20 rfl rfl)
theorem dX4_clearBreakdowns_45 : decode cX4_clearBreakdowns 45 = .ok (.iconst 0, 1) := dk_3 (dk_at dksX4_clearBreakdowns_1 21 rfl rfl)
theorem dX4_clearBreakdowns_46 : decode cX4_clearBreakdowns 46 = .ok (.iastore, 1) := dk_79 (dk_at dksX4_clearBreakdowns_1 22 rfl rfl)
theorem dX4_clearBreakdowns_47 : decode cX4_clearBreakdowns 47 = .ok (.iload_n 2, 1) := dk_28 (dk_at dksX4_clearBreakdowns_1 23 rfl rfl)
theorem dX4_clearBreakdowns_48 : decode cX4_clearBreakdowns 48 = .ok (.ireturn, 1) := dk_172 (dk_at dksX4_clearBreakdowns_2 0 rfl rfl)
abbrev cX4_count : ByteArray := prog_19_method_24_code
def yX4_count : MethodName := ⟨RX4, "count", "(I)I"⟩
def dkwX4_count_1 : List UInt8 := [158, 0, 7, 3, 167, 0, 9, 42, 180, 0, 9, 27, 46, 172]
abbrev dktX4_count_1 : List UInt8 := dkwX4_count_1 ++ []
def dkwX4_count_0 : List UInt8 := [42, 27, 133, 9, 10, 184, 0, 82, 153, 0, 7, 3, 167, 0, 4, 4, 181, 0, 79, 42, 180, 0, 79]
abbrev dktX4_count_0 : List UInt8 := dkwX4_count_0 ++ dktX4_count_1
theorem dksX4_count_0 : cX4_count.data.toList.drop 0 = dktX4_count_0 := by decide +kernel
theorem dksX4_count_1 : cX4_count.data.toList.drop 23 = dktX4_count_1 := dk_seg dksX4_count_0 23 rfl rfl
theorem dX4_count_0 : decode cX4_count 0 = .ok (.aload_n 0, 1) := dk_42 (dk_at dksX4_count_0 0 rfl rfl)
theorem dX4_count_1 : decode cX4_count 1 = .ok (.iload_n 1, 1) := dk_27 (dk_at dksX4_count_0 1 rfl rfl)
theorem dX4_count_2 : decode cX4_count 2 = .ok (.i2l, 1) := dk_133 (dk_at dksX4_count_0 2 rfl rfl)
theorem dX4_count_3 : decode cX4_count 3 = .ok (.lconst 0, 1) := dk_9 (dk_at dksX4_count_0 3 rfl rfl)
theorem dX4_count_4 : decode cX4_count 4 = .ok (.lconst 1, 1) := dk_10 (dk_at dksX4_count_0 4 rfl rfl)
theorem dX4_count_5 : decode cX4_count 5 = .ok (.invokestatic 82, 3) := dk_184 0 82 (dk_at dksX4_count_0 5 rfl rfl)
theorem dX4_count_8 : decode cX4_count 8 = .ok (.ifCond .eq 7, 3) := dk_153 0 7 (dk_at dksX4_count_0 8 rfl rfl)
theorem dX4_count_11 : decode cX4_count 11 = .ok (.iconst 0, 1) := dk_3 (dk_at dksX4_count_0 11 rfl rfl)
theorem dX4_count_12 : decode cX4_count 12 = .ok (.goto 4, 3) := dk_167 0 4 (dk_at dksX4_count_0 12 rfl rfl)
theorem dX4_count_15 : decode cX4_count 15 = .ok (.iconst 1, 1) := dk_4 (dk_at dksX4_count_0 15 rfl rfl)
theorem dX4_count_16 : decode cX4_count 16 = .ok (.putfield 79, 3) := dk_181 0 79 (dk_at dksX4_count_0 16 rfl rfl)
theorem dX4_count_19 : decode cX4_count 19 = .ok (.aload_n 0, 1) := dk_42 (dk_at dksX4_count_0 19 rfl rfl)
theorem dX4_count_20 : decode cX4_count 20 = .ok (.getfield 79, 3) := dk_180 0 79 (dk_at dksX4_count_0 20 rfl rfl)
theorem dX4_count_23 : decode cX4_count 23 = .ok (.ifCond .le 7, 3) := dk_158 0 7 (dk_at dksX4_count_1 0 rfl rfl)
theorem dX4_count_26 : decode cX4_count 26 = .ok (.iconst 0, 1) := dk_3 (dk_at dksX4_count_1 3 rfl rfl)
theorem dX4_count_27 : decode cX4_count 27 = .ok (.goto 9, 3) := dk_167 0 9 (dk_at dksX4_count_1 4 rfl rfl)
theorem dX4_count_30 : decode cX4_count 30 = .ok (.aload_n 0, 1) := dk_42 (dk_at dksX4_count_1 7 rfl rfl)
theorem dX4_count_31 : decode cX4_count 31 = .ok (.getfield 9, 3) := dk_180 0 9 (dk_at dksX4_count_1 8 rfl rfl)
theorem dX4_count_34 : decode cX4_count 34 = .ok (.iload_n 1, 1) := dk_27 (dk_at dksX4_count_1 11 rfl rfl)
theorem dX4_count_35 : decode cX4_count 35 = .ok (.iaload, 1) := dk_46 (dk_at dksX4_count_1 12 rfl rfl)
theorem dX4_count_36 : decode cX4_count 36 = .ok (.ireturn, 1) := dk_172 (dk_at dksX4_count_1 13 rfl rfl)
abbrev cX4_property : ByteArray := prog_19_method_26_code
def yX4_property : MethodName := ⟨RX4, "property", "(II)I"⟩
def dkwX4_property_3 : List UInt8 := [46, 172]
abbrev dktX4_property_3 : List UInt8 := dkwX4_property_3 ++ []
def dkwX4_property_2 : List UInt8 := [160, 0, 11, 42, 27, 182, 0, 147, 167, 0, 17, 42, 180, 0, 9, 16, 42, 16, 20, 28, 104, 96, 27, 96]
abbrev dktX4_property_2 : List UInt8 := dkwX4_property_2 ++ dktX4_property_3
def dkwX4_property_1 : List UInt8 := [154, 0, 7, 5, 167, 0, 4, 3, 181, 0, 79, 42, 180, 0, 79, 158, 0, 5, 3, 172, 28, 8]
abbrev dktX4_property_1 : List UInt8 := dkwX4_property_1 ++ dktX4_property_2
def dkwX4_property_0 : List UInt8 := [42, 42, 27, 182, 0, 135, 154, 0, 7, 4, 167, 0, 20, 28, 133, 9, 20, 0, 145, 184, 0, 82]
abbrev dktX4_property_0 : List UInt8 := dkwX4_property_0 ++ dktX4_property_1
theorem dksX4_property_0 : cX4_property.data.toList.drop 0 = dktX4_property_0 := by decide +kernel
theorem dksX4_property_1 : cX4_property.data.toList.drop 22 = dktX4_property_1 := dk_seg dksX4_property_0 22 rfl rfl
theorem dksX4_property_2 : cX4_property.data.toList.drop 44 = dktX4_property_2 := dk_seg dksX4_property_1 22 rfl rfl
theorem dksX4_property_3 : cX4_property.data.toList.drop 68 = dktX4_property_3 := dk_seg dksX4_property_2 24 rfl rfl
theorem dX4_property_0 : decode cX4_property 0 = .ok (.aload_n 0, 1) := dk_42 (dk_at dksX4_property_0 0 rfl rfl)
theorem dX4_property_1 : decode cX4_property 1 = .ok (.aload_n 0, 1) := dk_42 (dk_at dksX4_property_0 1 rfl rfl)
theorem dX4_property_2 : decode cX4_property 2 = .ok (.iload_n 1, 1) := dk_27 (dk_at dksX4_property_0 2 rfl rfl)
theorem dX4_property_3 : decode cX4_property 3 = .ok (.invokevirtual 135, 3) := dk_182 0 135 (dk_at dksX4_property_0 3 rfl rfl)
theorem dX4_property_6 : decode cX4_property 6 = .ok (.ifCond .ne 7, 3) := dk_154 0 7 (dk_at dksX4_property_0 6 rfl rfl)
theorem dX4_property_9 : decode cX4_property 9 = .ok (.iconst 1, 1) := dk_4 (dk_at dksX4_property_0 9 rfl rfl)
theorem dX4_property_10 : decode cX4_property 10 = .ok (.goto 20, 3) := dk_167 0 20 (dk_at dksX4_property_0 10 rfl rfl)
theorem dX4_property_13 : decode cX4_property 13 = .ok (.iload_n 2, 1) := dk_28 (dk_at dksX4_property_0 13 rfl rfl)
theorem dX4_property_14 : decode cX4_property 14 = .ok (.i2l, 1) := dk_133 (dk_at dksX4_property_0 14 rfl rfl)
theorem dX4_property_15 : decode cX4_property 15 = .ok (.lconst 0, 1) := dk_9 (dk_at dksX4_property_0 15 rfl rfl)
theorem dX4_property_16 : decode cX4_property 16 = .ok (.ldc2_w 145, 3) := dk_20 0 145 (dk_at dksX4_property_0 16 rfl rfl)
theorem dX4_property_19 : decode cX4_property 19 = .ok (.invokestatic 82, 3) := dk_184 0 82 (dk_at dksX4_property_0 19 rfl rfl)
theorem dX4_property_22 : decode cX4_property 22 = .ok (.ifCond .ne 7, 3) := dk_154 0 7 (dk_at dksX4_property_1 0 rfl rfl)
theorem dX4_property_25 : decode cX4_property 25 = .ok (.iconst 2, 1) := dk_5 (dk_at dksX4_property_1 3 rfl rfl)
theorem dX4_property_26 : decode cX4_property 26 = .ok (.goto 4, 3) := dk_167 0 4 (dk_at dksX4_property_1 4 rfl rfl)
theorem dX4_property_29 : decode cX4_property 29 = .ok (.iconst 0, 1) := dk_3 (dk_at dksX4_property_1 7 rfl rfl)
theorem dX4_property_30 : decode cX4_property 30 = .ok (.putfield 79, 3) := dk_181 0 79 (dk_at dksX4_property_1 8 rfl rfl)
theorem dX4_property_33 : decode cX4_property 33 = .ok (.aload_n 0, 1) := dk_42 (dk_at dksX4_property_1 11 rfl rfl)
theorem dX4_property_34 : decode cX4_property 34 = .ok (.getfield 79, 3) := dk_180 0 79 (dk_at dksX4_property_1 12 rfl rfl)
theorem dX4_property_37 : decode cX4_property 37 = .ok (.ifCond .le 5, 3) := dk_158 0 5 (dk_at dksX4_property_1 15 rfl rfl)
theorem dX4_property_40 : decode cX4_property 40 = .ok (.iconst 0, 1) := dk_3 (dk_at dksX4_property_1 18 rfl rfl)
theorem dX4_property_41 : decode cX4_property 41 = .ok (.ireturn, 1) := dk_172 (dk_at dksX4_property_1 19 rfl rfl)
theorem dX4_property_42 : decode cX4_property 42 = .ok (.iload_n 2, 1) := dk_28 (dk_at dksX4_property_1 20 rfl rfl)
theorem dX4_property_43 : decode cX4_property 43 = .ok (.iconst 5, 1) := dk_8 (dk_at dksX4_property_1 21 rfl rfl)
theorem dX4_property_44 : decode cX4_property 44 = .ok (.if_icmp .ne 11, 3) := dk_160 0 11 (dk_at dksX4_property_2 0 rfl rfl)
theorem dX4_property_47 : decode cX4_property 47 = .ok (.aload_n 0, 1) := dk_42 (dk_at dksX4_property_2 3 rfl rfl)
theorem dX4_property_48 : decode cX4_property 48 = .ok (.iload_n 1, 1) := dk_27 (dk_at dksX4_property_2 4 rfl rfl)
theorem dX4_property_49 : decode cX4_property 49 = .ok (.invokevirtual 147, 3) := dk_182 0 147 (dk_at dksX4_property_2 5 rfl rfl)
theorem dX4_property_52 : decode cX4_property 52 = .ok (.goto 17, 3) := dk_167 0 17 (dk_at dksX4_property_2 8 rfl rfl)
theorem dX4_property_55 : decode cX4_property 55 = .ok (.aload_n 0, 1) := dk_42 (dk_at dksX4_property_2 11 rfl rfl)
theorem dX4_property_56 : decode cX4_property 56 = .ok (.getfield 9, 3) := dk_180 0 9 (dk_at dksX4_property_2 12 rfl rfl)
theorem dX4_property_59 : decode cX4_property 59 = .ok (.bipush 42, 2) := dk_16 42 (dk_at dksX4_property_2 15 rfl rfl)
theorem dX4_property_61 : decode cX4_property 61 = .ok (.bipush 20, 2) := dk_16 20 (dk_at dksX4_property_2 17 rfl rfl)
theorem dX4_property_63 : decode cX4_property 63 = .ok (.iload_n 2, 1) := dk_28 (dk_at dksX4_property_2 19 rfl rfl)
theorem dX4_property_64 : decode cX4_property 64 = .ok (.imul, 1) := dk_104 (dk_at dksX4_property_2 20 rfl rfl)
theorem dX4_property_65 : decode cX4_property 65 = .ok (.iadd, 1) := dk_96 (dk_at dksX4_property_2 21 rfl rfl)
theorem dX4_property_66 : decode cX4_property 66 = .ok (.iload_n 1, 1) := dk_27 (dk_at dksX4_property_2 22 rfl rfl)
theorem dX4_property_67 : decode cX4_property 67 = .ok (.iadd, 1) := dk_96 (dk_at dksX4_property_2 23 rfl rfl)
theorem dX4_property_68 : decode cX4_property 68 = .ok (.iaload, 1) := dk_46 (dk_at dksX4_property_3 0 rfl rfl)
theorem dX4_property_69 : decode cX4_property 69 = .ok (.ireturn, 1) := dk_172 (dk_at dksX4_property_3 1 rfl rfl)
abbrev cX4_positionOf : ByteArray := prog_19_method_25_code
def yX4_positionOf : MethodName := ⟨RX4, "positionOf", "(I)I"⟩
def dkwX4_positionOf_1 : List UInt8 := [132, 3, 1, 167, 255, 243, 29, 172]
abbrev dktX4_positionOf_1 : List UInt8 := dkwX4_positionOf_1 ++ []
def dkwX4_positionOf_0 : List UInt8 := [42, 180, 0, 9, 16, 62, 27, 96, 46, 61, 3, 62, 42, 28, 29, 182, 0, 142, 27, 159, 0, 9]
abbrev dktX4_positionOf_0 : List UInt8 := dkwX4_positionOf_0 ++ dktX4_positionOf_1
theorem dksX4_positionOf_0 : cX4_positionOf.data.toList.drop 0 = dktX4_positionOf_0 := by decide +kernel
theorem dksX4_positionOf_1 : cX4_positionOf.data.toList.drop 22 = dktX4_positionOf_1 := dk_seg dksX4_positionOf_0 22 rfl rfl
theorem dX4_positionOf_0 : decode cX4_positionOf 0 = .ok (.aload_n 0, 1) := dk_42 (dk_at dksX4_positionOf_0 0 rfl rfl)
theorem dX4_positionOf_1 : decode cX4_positionOf 1 = .ok (.getfield 9, 3) := dk_180 0 9 (dk_at dksX4_positionOf_0 1 rfl rfl)
theorem dX4_positionOf_4 : decode cX4_positionOf 4 = .ok (.bipush 62, 2) := dk_16 62 (dk_at dksX4_positionOf_0 4 rfl rfl)
theorem dX4_positionOf_6 : decode cX4_positionOf 6 = .ok (.iload_n 1, 1) := dk_27 (dk_at dksX4_positionOf_0 6 rfl rfl)
theorem dX4_positionOf_7 : decode cX4_positionOf 7 = .ok (.iadd, 1) := dk_96 (dk_at dksX4_positionOf_0 7 rfl rfl)
theorem dX4_positionOf_8 : decode cX4_positionOf 8 = .ok (.iaload, 1) := dk_46 (dk_at dksX4_positionOf_0 8 rfl rfl)
theorem dX4_positionOf_9 : decode cX4_positionOf 9 = .ok (.istore_n 2, 1) := dk_61 (dk_at dksX4_positionOf_0 9 rfl rfl)
theorem dX4_positionOf_10 : decode cX4_positionOf 10 = .ok (.iconst 0, 1) := dk_3 (dk_at dksX4_positionOf_0 10 rfl rfl)
theorem dX4_positionOf_11 : decode cX4_positionOf 11 = .ok (.istore_n 3, 1) := dk_62 (dk_at dksX4_positionOf_0 11 rfl rfl)
theorem dX4_positionOf_12 : decode cX4_positionOf 12 = .ok (.aload_n 0, 1) := dk_42 (dk_at dksX4_positionOf_0 12 rfl rfl)
theorem dX4_positionOf_13 : decode cX4_positionOf 13 = .ok (.iload_n 2, 1) := dk_28 (dk_at dksX4_positionOf_0 13 rfl rfl)
theorem dX4_positionOf_14 : decode cX4_positionOf 14 = .ok (.iload_n 3, 1) := dk_29 (dk_at dksX4_positionOf_0 14 rfl rfl)
theorem dX4_positionOf_15 : decode cX4_positionOf 15 = .ok (.invokevirtual 142, 3) := dk_182 0 142 (dk_at dksX4_positionOf_0 15 rfl rfl)
theorem dX4_positionOf_18 : decode cX4_positionOf 18 = .ok (.iload_n 1, 1) := dk_27 (dk_at dksX4_positionOf_0 18 rfl rfl)
theorem dX4_positionOf_19 : decode cX4_positionOf 19 = .ok (.if_icmp .eq 9, 3) := dk_159 0 9 (dk_at dksX4_positionOf_0 19 rfl rfl)
theorem dX4_positionOf_22 : decode cX4_positionOf 22 = .ok (.iinc 3 1, 3) := dk_132 3 1 (dk_at dksX4_positionOf_1 0 rfl rfl)
theorem dX4_positionOf_25 : decode cX4_positionOf 25 = .ok (.goto (-13), 3) := dk_167 255 243 (dk_at dksX4_positionOf_1 3 rfl rfl)
theorem dX4_positionOf_28 : decode cX4_positionOf 28 = .ok (.iload_n 3, 1) := dk_29 (dk_at dksX4_positionOf_1 6 rfl rfl)
theorem dX4_positionOf_29 : decode cX4_positionOf 29 = .ok (.ireturn, 1) := dk_172 (dk_at dksX4_positionOf_1 7 rfl rfl)
abbrev cX4_ordered : ByteArray := prog_19_method_7_code
def yX4_ordered : MethodName := ⟨RX4, "ordered", "(II)I"⟩
def dkwX4_ordered_0 : List UInt8 := [42, 180, 0, 9, 17, 0, 183, 8, 27, 104, 96, 28, 96, 46, 172]
abbrev dktX4_ordered_0 : List UInt8 := dkwX4_ordered_0 ++ []
theorem dksX4_ordered_0 : cX4_ordered.data.toList.drop 0 = dktX4_ordered_0 := by decide +kernel
theorem dX4_ordered_0 : decode cX4_ordered 0 = .ok (.aload_n 0, 1) := dk_42 (dk_at dksX4_ordered_0 0 rfl rfl)
theorem dX4_ordered_1 : decode cX4_ordered 1 = .ok (.getfield 9, 3) := dk_180 0 9 (dk_at dksX4_ordered_0 1 rfl rfl)
theorem dX4_ordered_4 : decode cX4_ordered 4 = .ok (.sipush 183, 3) := dk_17 0 183 (dk_at dksX4_ordered_0 4 rfl rfl)
theorem dX4_ordered_7 : decode cX4_ordered 7 = .ok (.iconst 5, 1) := dk_8 (dk_at dksX4_ordered_0 7 rfl rfl)
theorem dX4_ordered_8 : decode cX4_ordered 8 = .ok (.iload_n 1, 1) := dk_27 (dk_at dksX4_ordered_0 8 rfl rfl)
theorem dX4_ordered_9 : decode cX4_ordered 9 = .ok (.imul, 1) := dk_104 (dk_at dksX4_ordered_0 9 rfl rfl)
theorem dX4_ordered_10 : decode cX4_ordered 10 = .ok (.iadd, 1) := dk_96 (dk_at dksX4_ordered_0 10 rfl rfl)
theorem dX4_ordered_11 : decode cX4_ordered 11 = .ok (.iload_n 2, 1) := dk_28 (dk_at dksX4_ordered_0 11 rfl rfl)
theorem dX4_ordered_12 : decode cX4_ordered 12 = .ok (.iadd, 1) := dk_96 (dk_at dksX4_ordered_0 12 rfl rfl)
theorem dX4_ordered_13 : decode cX4_ordered 13 = .ok (.iaload, 1) := dk_46 (dk_at dksX4_ordered_0 13 rfl rfl)
theorem dX4_ordered_14 : decode cX4_ordered 14 = .ok (.ireturn, 1) := dk_172 (dk_at dksX4_ordered_0 14 rfl rfl)
abbrev cX4_order : ByteArray := prog_19_method_27_code
def yX4_order : MethodName := ⟨RX4, "order", "(II)I"⟩
def dkwX4_order_2 : List UInt8 := [158, 0, 7, 3, 167, 0, 9, 42, 27, 28, 182, 0, 142, 172]
abbrev dktX4_order_2 : List UInt8 := dkwX4_order_2 ++ []
def dkwX4_order_1 : List UInt8 := [46, 4, 100, 133, 184, 0, 82, 154, 0, 7, 5, 167, 0, 4, 3, 181, 0, 79, 42, 180, 0, 79]
abbrev dktX4_order_1 : List UInt8 := dkwX4_order_1 ++ dktX4_order_2
def dkwX4_order_0 : List UInt8 := [42, 27, 184, 0, 122, 154, 0, 7, 4, 167, 0, 30, 28, 133, 9, 42, 180, 0, 9, 17, 0, 179, 27, 96]
abbrev dktX4_order_0 : List UInt8 := dkwX4_order_0 ++ dktX4_order_1
theorem dksX4_order_0 : cX4_order.data.toList.drop 0 = dktX4_order_0 := by decide +kernel
theorem dksX4_order_1 : cX4_order.data.toList.drop 24 = dktX4_order_1 := dk_seg dksX4_order_0 24 rfl rfl
theorem dksX4_order_2 : cX4_order.data.toList.drop 46 = dktX4_order_2 := dk_seg dksX4_order_1 22 rfl rfl
theorem dX4_order_0 : decode cX4_order 0 = .ok (.aload_n 0, 1) := dk_42 (dk_at dksX4_order_0 0 rfl rfl)
theorem dX4_order_1 : decode cX4_order 1 = .ok (.iload_n 1, 1) := dk_27 (dk_at dksX4_order_0 1 rfl rfl)
theorem dX4_order_2 : decode cX4_order 2 = .ok (.invokestatic 122, 3) := dk_184 0 122 (dk_at dksX4_order_0 2 rfl rfl)
theorem dX4_order_5 : decode cX4_order 5 = .ok (.ifCond .ne 7, 3) := dk_154 0 7 (dk_at dksX4_order_0 5 rfl rfl)
theorem dX4_order_8 : decode cX4_order 8 = .ok (.iconst 1, 1) := dk_4 (dk_at dksX4_order_0 8 rfl rfl)
theorem dX4_order_9 : decode cX4_order 9 = .ok (.goto 30, 3) := dk_167 0 30 (dk_at dksX4_order_0 9 rfl rfl)
theorem dX4_order_12 : decode cX4_order 12 = .ok (.iload_n 2, 1) := dk_28 (dk_at dksX4_order_0 12 rfl rfl)
theorem dX4_order_13 : decode cX4_order 13 = .ok (.i2l, 1) := dk_133 (dk_at dksX4_order_0 13 rfl rfl)
theorem dX4_order_14 : decode cX4_order 14 = .ok (.lconst 0, 1) := dk_9 (dk_at dksX4_order_0 14 rfl rfl)
theorem dX4_order_15 : decode cX4_order 15 = .ok (.aload_n 0, 1) := dk_42 (dk_at dksX4_order_0 15 rfl rfl)
theorem dX4_order_16 : decode cX4_order 16 = .ok (.getfield 9, 3) := dk_180 0 9 (dk_at dksX4_order_0 16 rfl rfl)
theorem dX4_order_19 : decode cX4_order 19 = .ok (.sipush 179, 3) := dk_17 0 179 (dk_at dksX4_order_0 19 rfl rfl)
theorem dX4_order_22 : decode cX4_order 22 = .ok (.iload_n 1, 1) := dk_27 (dk_at dksX4_order_0 22 rfl rfl)
theorem dX4_order_23 : decode cX4_order 23 = .ok (.iadd, 1) := dk_96 (dk_at dksX4_order_0 23 rfl rfl)
theorem dX4_order_24 : decode cX4_order 24 = .ok (.iaload, 1) := dk_46 (dk_at dksX4_order_1 0 rfl rfl)
theorem dX4_order_25 : decode cX4_order 25 = .ok (.iconst 1, 1) := dk_4 (dk_at dksX4_order_1 1 rfl rfl)
theorem dX4_order_26 : decode cX4_order 26 = .ok (.isub, 1) := dk_100 (dk_at dksX4_order_1 2 rfl rfl)
theorem dX4_order_27 : decode cX4_order 27 = .ok (.i2l, 1) := dk_133 (dk_at dksX4_order_1 3 rfl rfl)
theorem dX4_order_28 : decode cX4_order 28 = .ok (.invokestatic 82, 3) := dk_184 0 82 (dk_at dksX4_order_1 4 rfl rfl)
theorem dX4_order_31 : decode cX4_order 31 = .ok (.ifCond .ne 7, 3) := dk_154 0 7 (dk_at dksX4_order_1 7 rfl rfl)
theorem dX4_order_34 : decode cX4_order 34 = .ok (.iconst 2, 1) := dk_5 (dk_at dksX4_order_1 10 rfl rfl)
theorem dX4_order_35 : decode cX4_order 35 = .ok (.goto 4, 3) := dk_167 0 4 (dk_at dksX4_order_1 11 rfl rfl)
theorem dX4_order_38 : decode cX4_order 38 = .ok (.iconst 0, 1) := dk_3 (dk_at dksX4_order_1 14 rfl rfl)
theorem dX4_order_39 : decode cX4_order 39 = .ok (.putfield 79, 3) := dk_181 0 79 (dk_at dksX4_order_1 15 rfl rfl)
theorem dX4_order_42 : decode cX4_order 42 = .ok (.aload_n 0, 1) := dk_42 (dk_at dksX4_order_1 18 rfl rfl)
theorem dX4_order_43 : decode cX4_order 43 = .ok (.getfield 79, 3) := dk_180 0 79 (dk_at dksX4_order_1 19 rfl rfl)
theorem dX4_order_46 : decode cX4_order 46 = .ok (.ifCond .le 7, 3) := dk_158 0 7 (dk_at dksX4_order_2 0 rfl rfl)
theorem dX4_order_49 : decode cX4_order 49 = .ok (.iconst 0, 1) := dk_3 (dk_at dksX4_order_2 3 rfl rfl)
theorem dX4_order_50 : decode cX4_order 50 = .ok (.goto 9, 3) := dk_167 0 9 (dk_at dksX4_order_2 4 rfl rfl)
theorem dX4_order_53 : decode cX4_order 53 = .ok (.aload_n 0, 1) := dk_42 (dk_at dksX4_order_2 7 rfl rfl)
theorem dX4_order_54 : decode cX4_order 54 = .ok (.iload_n 1, 1) := dk_27 (dk_at dksX4_order_2 8 rfl rfl)
theorem dX4_order_55 : decode cX4_order 55 = .ok (.iload_n 2, 1) := dk_28 (dk_at dksX4_order_2 9 rfl rfl)
theorem dX4_order_56 : decode cX4_order 56 = .ok (.invokevirtual 142, 3) := dk_182 0 142 (dk_at dksX4_order_2 10 rfl rfl)
theorem dX4_order_59 : decode cX4_order 59 = .ok (.ireturn, 1) := dk_172 (dk_at dksX4_order_2 13 rfl rfl)
abbrev cX4_time : ByteArray := prog_19_method_37_code
def yX4_time : MethodName := ⟨RX4, "time", "(II)I"⟩
def dkwX4_time_3 : List UInt8 := [46, 167, 0, 8, 42, 27, 182, 0, 164, 172]
abbrev dktX4_time_3 : List UInt8 := dkwX4_time_3 ++ []
def dkwX4_time_2 : List UInt8 := [62, 28, 154, 0, 12, 42, 180, 0, 26, 27, 46, 167, 0, 22, 28, 4, 160, 0, 12, 42, 180, 0, 29, 27]
abbrev dktX4_time_2 : List UInt8 := dkwX4_time_2 ++ dktX4_time_3
def dkwX4_time_1 : List UInt8 := [154, 0, 7, 5, 167, 0, 4, 3, 181, 0, 79, 42, 180, 0, 79, 158, 0, 5, 3, 172, 42, 182, 0, 181]
abbrev dktX4_time_1 : List UInt8 := dkwX4_time_1 ++ dktX4_time_2
def dkwX4_time_0 : List UInt8 := [42, 42, 27, 182, 0, 135, 154, 0, 7, 4, 167, 0, 20, 28, 133, 9, 20, 0, 108, 184, 0, 82]
abbrev dktX4_time_0 : List UInt8 := dkwX4_time_0 ++ dktX4_time_1
theorem dksX4_time_0 : cX4_time.data.toList.drop 0 = dktX4_time_0 := by decide +kernel
theorem dksX4_time_1 : cX4_time.data.toList.drop 22 = dktX4_time_1 := dk_seg dksX4_time_0 22 rfl rfl
theorem dksX4_time_2 : cX4_time.data.toList.drop 46 = dktX4_time_2 := dk_seg dksX4_time_1 24 rfl rfl
theorem dksX4_time_3 : cX4_time.data.toList.drop 70 = dktX4_time_3 := dk_seg dksX4_time_2 24 rfl rfl
theorem dX4_time_0 : decode cX4_time 0 = .ok (.aload_n 0, 1) := dk_42 (dk_at dksX4_time_0 0 rfl rfl)
theorem dX4_time_1 : decode cX4_time 1 = .ok (.aload_n 0, 1) := dk_42 (dk_at dksX4_time_0 1 rfl rfl)
theorem dX4_time_2 : decode cX4_time 2 = .ok (.iload_n 1, 1) := dk_27 (dk_at dksX4_time_0 2 rfl rfl)
theorem dX4_time_3 : decode cX4_time 3 = .ok (.invokevirtual 135, 3) := dk_182 0 135 (dk_at dksX4_time_0 3 rfl rfl)
theorem dX4_time_6 : decode cX4_time 6 = .ok (.ifCond .ne 7, 3) := dk_154 0 7 (dk_at dksX4_time_0 6 rfl rfl)
theorem dX4_time_9 : decode cX4_time 9 = .ok (.iconst 1, 1) := dk_4 (dk_at dksX4_time_0 9 rfl rfl)
theorem dX4_time_10 : decode cX4_time 10 = .ok (.goto 20, 3) := dk_167 0 20 (dk_at dksX4_time_0 10 rfl rfl)
theorem dX4_time_13 : decode cX4_time 13 = .ok (.iload_n 2, 1) := dk_28 (dk_at dksX4_time_0 13 rfl rfl)
theorem dX4_time_14 : decode cX4_time 14 = .ok (.i2l, 1) := dk_133 (dk_at dksX4_time_0 14 rfl rfl)
theorem dX4_time_15 : decode cX4_time 15 = .ok (.lconst 0, 1) := dk_9 (dk_at dksX4_time_0 15 rfl rfl)
theorem dX4_time_16 : decode cX4_time 16 = .ok (.ldc2_w 108, 3) := dk_20 0 108 (dk_at dksX4_time_0 16 rfl rfl)
theorem dX4_time_19 : decode cX4_time 19 = .ok (.invokestatic 82, 3) := dk_184 0 82 (dk_at dksX4_time_0 19 rfl rfl)
theorem dX4_time_22 : decode cX4_time 22 = .ok (.ifCond .ne 7, 3) := dk_154 0 7 (dk_at dksX4_time_1 0 rfl rfl)
theorem dX4_time_25 : decode cX4_time 25 = .ok (.iconst 2, 1) := dk_5 (dk_at dksX4_time_1 3 rfl rfl)
theorem dX4_time_26 : decode cX4_time 26 = .ok (.goto 4, 3) := dk_167 0 4 (dk_at dksX4_time_1 4 rfl rfl)
theorem dX4_time_29 : decode cX4_time 29 = .ok (.iconst 0, 1) := dk_3 (dk_at dksX4_time_1 7 rfl rfl)
theorem dX4_time_30 : decode cX4_time 30 = .ok (.putfield 79, 3) := dk_181 0 79 (dk_at dksX4_time_1 8 rfl rfl)
theorem dX4_time_33 : decode cX4_time 33 = .ok (.aload_n 0, 1) := dk_42 (dk_at dksX4_time_1 11 rfl rfl)
theorem dX4_time_34 : decode cX4_time 34 = .ok (.getfield 79, 3) := dk_180 0 79 (dk_at dksX4_time_1 12 rfl rfl)
theorem dX4_time_37 : decode cX4_time 37 = .ok (.ifCond .le 5, 3) := dk_158 0 5 (dk_at dksX4_time_1 15 rfl rfl)
theorem dX4_time_40 : decode cX4_time 40 = .ok (.iconst 0, 1) := dk_3 (dk_at dksX4_time_1 18 rfl rfl)
theorem dX4_time_41 : decode cX4_time 41 = .ok (.ireturn, 1) := dk_172 (dk_at dksX4_time_1 19 rfl rfl)
theorem dX4_time_42 : decode cX4_time 42 = .ok (.aload_n 0, 1) := dk_42 (dk_at dksX4_time_1 20 rfl rfl)
theorem dX4_time_43 : decode cX4_time 43 = .ok (.invokevirtual 181, 3) := dk_182 0 181 (dk_at dksX4_time_1 21 rfl rfl)
theorem dX4_time_46 : decode cX4_time 46 = .ok (.istore_n 3, 1) := dk_62 (dk_at dksX4_time_2 0 rfl rfl)
theorem dX4_time_47 : decode cX4_time 47 = .ok (.iload_n 2, 1) := dk_28 (dk_at dksX4_time_2 1 rfl rfl)
theorem dX4_time_48 : decode cX4_time 48 = .ok (.ifCond .ne 12, 3) := dk_154 0 12 (dk_at dksX4_time_2 2 rfl rfl)
theorem dX4_time_51 : decode cX4_time 51 = .ok (.aload_n 0, 1) := dk_42 (dk_at dksX4_time_2 5 rfl rfl)
theorem dX4_time_52 : decode cX4_time 52 = .ok (.getfield 26, 3) := dk_180 0 26 (dk_at dksX4_time_2 6 rfl rfl)
theorem dX4_time_55 : decode cX4_time 55 = .ok (.iload_n 1, 1) := dk_27 (dk_at dksX4_time_2 9 rfl rfl)
theorem dX4_time_56 : decode cX4_time 56 = .ok (.iaload, 1) := dk_46 (dk_at dksX4_time_2 10 rfl rfl)
theorem dX4_time_57 : decode cX4_time 57 = .ok (.goto 22, 3) := dk_167 0 22 (dk_at dksX4_time_2 11 rfl rfl)
theorem dX4_time_60 : decode cX4_time 60 = .ok (.iload_n 2, 1) := dk_28 (dk_at dksX4_time_2 14 rfl rfl)
theorem dX4_time_61 : decode cX4_time 61 = .ok (.iconst 1, 1) := dk_4 (dk_at dksX4_time_2 15 rfl rfl)
theorem dX4_time_62 : decode cX4_time 62 = .ok (.if_icmp .ne 12, 3) := dk_160 0 12 (dk_at dksX4_time_2 16 rfl rfl)
theorem dX4_time_65 : decode cX4_time 65 = .ok (.aload_n 0, 1) := dk_42 (dk_at dksX4_time_2 19 rfl rfl)
theorem dX4_time_66 : decode cX4_time 66 = .ok (.getfield 29, 3) := dk_180 0 29 (dk_at dksX4_time_2 20 rfl rfl)
theorem dX4_time_69 : decode cX4_time 69 = .ok (.iload_n 1, 1) := dk_27 (dk_at dksX4_time_2 23 rfl rfl)
theorem dX4_time_70 : decode cX4_time 70 = .ok (.iaload, 1) := dk_46 (dk_at dksX4_time_3 0 rfl rfl)
theorem dX4_time_71 : decode cX4_time 71 = .ok (.goto 8, 3) := dk_167 0 8 (dk_at dksX4_time_3 1 rfl rfl)
theorem dX4_time_74 : decode cX4_time 74 = .ok (.aload_n 0, 1) := dk_42 (dk_at dksX4_time_3 4 rfl rfl)
theorem dX4_time_75 : decode cX4_time 75 = .ok (.iload_n 1, 1) := dk_27 (dk_at dksX4_time_3 5 rfl rfl)
theorem dX4_time_76 : decode cX4_time 76 = .ok (.invokevirtual 164, 3) := dk_182 0 164 (dk_at dksX4_time_3 6 rfl rfl)
theorem dX4_time_79 : decode cX4_time 79 = .ok (.ireturn, 1) := dk_172 (dk_at dksX4_time_3 9 rfl rfl)
abbrev cX4_findTimes : ByteArray := prog_19_method_33_code
def yX4_findTimes : MethodName := ⟨RX4, "findTimes", "()I"⟩
def dkwX4_findTimes_4 : List UInt8 := [132, 4, 1, 167, 255, 200, 167, 255, 188, 28, 172]
abbrev dktX4_findTimes_4 : List UInt8 := dkwX4_findTimes_4 ++ []
def dkwX4_findTimes_3 : List UInt8 := [21, 4, 182, 0, 157, 182, 0, 154, 153, 0, 14, 42, 21, 4, 182, 0, 160, 132, 2, 255, 4, 62]
abbrev dktX4_findTimes_3 : List UInt8 := dkwX4_findTimes_3 ++ dktX4_findTimes_4
def dkwX4_findTimes_2 : List UInt8 := [180, 0, 29, 21, 4, 46, 156, 0, 40, 42, 42, 21, 4, 182, 0, 151, 182, 0, 154, 153, 0, 27, 42, 42]
abbrev dktX4_findTimes_2 : List UInt8 := dkwX4_findTimes_2 ++ dktX4_findTimes_3
def dkwX4_findTimes_1 : List UInt8 := [167, 255, 241, 27, 61, 4, 62, 29, 153, 0, 70, 3, 62, 3, 54, 4, 21, 4, 27, 162, 0, 56, 42]
abbrev dktX4_findTimes_1 : List UInt8 := dkwX4_findTimes_1 ++ dktX4_findTimes_2
def dkwX4_findTimes_0 : List UInt8 := [42, 180, 0, 9, 4, 46, 60, 3, 61, 28, 27, 162, 0, 16, 42, 180, 0, 29, 28, 2, 79, 132, 2, 1]
abbrev dktX4_findTimes_0 : List UInt8 := dkwX4_findTimes_0 ++ dktX4_findTimes_1
theorem dksX4_findTimes_0 : cX4_findTimes.data.toList.drop 0 = dktX4_findTimes_0 := by decide +kernel
theorem dksX4_findTimes_1 : cX4_findTimes.data.toList.drop 24 = dktX4_findTimes_1 := dk_seg dksX4_findTimes_0 24 rfl rfl
theorem dksX4_findTimes_2 : cX4_findTimes.data.toList.drop 47 = dktX4_findTimes_2 := dk_seg dksX4_findTimes_1 23 rfl rfl
theorem dksX4_findTimes_3 : cX4_findTimes.data.toList.drop 71 = dktX4_findTimes_3 := dk_seg dksX4_findTimes_2 24 rfl rfl
theorem dksX4_findTimes_4 : cX4_findTimes.data.toList.drop 93 = dktX4_findTimes_4 := dk_seg dksX4_findTimes_3 22 rfl rfl
theorem dX4_findTimes_0 : decode cX4_findTimes 0 = .ok (.aload_n 0, 1) := dk_42 (dk_at dksX4_findTimes_0 0 rfl rfl)
theorem dX4_findTimes_1 : decode cX4_findTimes 1 = .ok (.getfield 9, 3) := dk_180 0 9 (dk_at dksX4_findTimes_0 1 rfl rfl)
theorem dX4_findTimes_4 : decode cX4_findTimes 4 = .ok (.iconst 1, 1) := dk_4 (dk_at dksX4_findTimes_0 4 rfl rfl)
theorem dX4_findTimes_5 : decode cX4_findTimes 5 = .ok (.iaload, 1) := dk_46 (dk_at dksX4_findTimes_0 5 rfl rfl)
theorem dX4_findTimes_6 : decode cX4_findTimes 6 = .ok (.istore_n 1, 1) := dk_60 (dk_at dksX4_findTimes_0 6 rfl rfl)
theorem dX4_findTimes_7 : decode cX4_findTimes 7 = .ok (.iconst 0, 1) := dk_3 (dk_at dksX4_findTimes_0 7 rfl rfl)
theorem dX4_findTimes_8 : decode cX4_findTimes 8 = .ok (.istore_n 2, 1) := dk_61 (dk_at dksX4_findTimes_0 8 rfl rfl)
theorem dX4_findTimes_9 : decode cX4_findTimes 9 = .ok (.iload_n 2, 1) := dk_28 (dk_at dksX4_findTimes_0 9 rfl rfl)
theorem dX4_findTimes_10 : decode cX4_findTimes 10 = .ok (.iload_n 1, 1) := dk_27 (dk_at dksX4_findTimes_0 10 rfl rfl)
theorem dX4_findTimes_11 : decode cX4_findTimes 11 = .ok (.if_icmp .ge 16, 3) := dk_162 0 16 (dk_at dksX4_findTimes_0 11 rfl rfl)
theorem dX4_findTimes_14 : decode cX4_findTimes 14 = .ok (.aload_n 0, 1) := dk_42 (dk_at dksX4_findTimes_0 14 rfl rfl)
theorem dX4_findTimes_15 : decode cX4_findTimes 15 = .ok (.getfield 29, 3) := dk_180 0 29 (dk_at dksX4_findTimes_0 15 rfl rfl)
theorem dX4_findTimes_18 : decode cX4_findTimes 18 = .ok (.iload_n 2, 1) := dk_28 (dk_at dksX4_findTimes_0 18 rfl rfl)
theorem dX4_findTimes_19 : decode cX4_findTimes 19 = .ok (.iconst (-1), 1) := dk_2 (dk_at dksX4_findTimes_0 19 rfl rfl)
theorem dX4_findTimes_20 : decode cX4_findTimes 20 = .ok (.iastore, 1) := dk_79 (dk_at dksX4_findTimes_0 20 rfl rfl)
theorem dX4_findTimes_21 : decode cX4_findTimes 21 = .ok (.iinc 2 1, 3) := dk_132 2 1 (dk_at dksX4_findTimes_0 21 rfl rfl)
theorem dX4_findTimes_24 : decode cX4_findTimes 24 = .ok (.goto (-15), 3) := dk_167 255 241 (dk_at dksX4_findTimes_1 0 rfl rfl)
theorem dX4_findTimes_27 : decode cX4_findTimes 27 = .ok (.iload_n 1, 1) := dk_27 (dk_at dksX4_findTimes_1 3 rfl rfl)
theorem dX4_findTimes_28 : decode cX4_findTimes 28 = .ok (.istore_n 2, 1) := dk_61 (dk_at dksX4_findTimes_1 4 rfl rfl)
theorem dX4_findTimes_29 : decode cX4_findTimes 29 = .ok (.iconst 1, 1) := dk_4 (dk_at dksX4_findTimes_1 5 rfl rfl)
theorem dX4_findTimes_30 : decode cX4_findTimes 30 = .ok (.istore_n 3, 1) := dk_62 (dk_at dksX4_findTimes_1 6 rfl rfl)
theorem dX4_findTimes_31 : decode cX4_findTimes 31 = .ok (.iload_n 3, 1) := dk_29 (dk_at dksX4_findTimes_1 7 rfl rfl)
theorem dX4_findTimes_32 : decode cX4_findTimes 32 = .ok (.ifCond .eq 70, 3) := dk_153 0 70 (dk_at dksX4_findTimes_1 8 rfl rfl)
theorem dX4_findTimes_35 : decode cX4_findTimes 35 = .ok (.iconst 0, 1) := dk_3 (dk_at dksX4_findTimes_1 11 rfl rfl)
theorem dX4_findTimes_36 : decode cX4_findTimes 36 = .ok (.istore_n 3, 1) := dk_62 (dk_at dksX4_findTimes_1 12 rfl rfl)
theorem dX4_findTimes_37 : decode cX4_findTimes 37 = .ok (.iconst 0, 1) := dk_3 (dk_at dksX4_findTimes_1 13 rfl rfl)
theorem dX4_findTimes_38 : decode cX4_findTimes 38 = .ok (.istore 4, 2) := dk_54 4 (dk_at dksX4_findTimes_1 14 rfl rfl)
theorem dX4_findTimes_40 : decode cX4_findTimes 40 = .ok (.iload 4, 2) := dk_21 4 (dk_at dksX4_findTimes_1 16 rfl rfl)
theorem dX4_findTimes_42 : decode cX4_findTimes 42 = .ok (.iload_n 1, 1) := dk_27 (dk_at dksX4_findTimes_1 18 rfl rfl)
theorem dX4_findTimes_43 : decode cX4_findTimes 43 = .ok (.if_icmp .ge 56, 3) := dk_162 0 56 (dk_at dksX4_findTimes_1 19 rfl rfl)
theorem dX4_findTimes_46 : decode cX4_findTimes 46 = .ok (.aload_n 0, 1) := dk_42 (dk_at dksX4_findTimes_1 22 rfl rfl)
theorem dX4_findTimes_47 : decode cX4_findTimes 47 = .ok (.getfield 29, 3) := dk_180 0 29 (dk_at dksX4_findTimes_2 0 rfl rfl)
theorem dX4_findTimes_50 : decode cX4_findTimes 50 = .ok (.iload 4, 2) := dk_21 4 (dk_at dksX4_findTimes_2 3 rfl rfl)
theorem dX4_findTimes_52 : decode cX4_findTimes 52 = .ok (.iaload, 1) := dk_46 (dk_at dksX4_findTimes_2 5 rfl rfl)
theorem dX4_findTimes_53 : decode cX4_findTimes 53 = .ok (.ifCond .ge 40, 3) := dk_156 0 40 (dk_at dksX4_findTimes_2 6 rfl rfl)
theorem dX4_findTimes_56 : decode cX4_findTimes 56 = .ok (.aload_n 0, 1) := dk_42 (dk_at dksX4_findTimes_2 9 rfl rfl)
theorem dX4_findTimes_57 : decode cX4_findTimes 57 = .ok (.aload_n 0, 1) := dk_42 (dk_at dksX4_findTimes_2 10 rfl rfl)
theorem dX4_findTimes_58 : decode cX4_findTimes 58 = .ok (.iload 4, 2) := dk_21 4 (dk_at dksX4_findTimes_2 11 rfl rfl)
theorem dX4_findTimes_60 : decode cX4_findTimes 60 = .ok (.invokevirtual 151, 3) := dk_182 0 151 (dk_at dksX4_findTimes_2 13 rfl rfl)
theorem dX4_findTimes_63 : decode cX4_findTimes 63 = .ok (.invokevirtual 154, 3) := dk_182 0 154 (dk_at dksX4_findTimes_2 16 rfl rfl)
theorem dX4_findTimes_66 : decode cX4_findTimes 66 = .ok (.ifCond .eq 27, 3) := dk_153 0 27 (dk_at dksX4_findTimes_2 19 rfl rfl)
theorem dX4_findTimes_69 : decode cX4_findTimes 69 = .ok (.aload_n 0, 1) := dk_42 (dk_at dksX4_findTimes_2 22 rfl rfl)
theorem dX4_findTimes_70 : decode cX4_findTimes 70 = .ok (.aload_n 0, 1) := dk_42 (dk_at dksX4_findTimes_2 23 rfl rfl)
theorem dX4_findTimes_71 : decode cX4_findTimes 71 = .ok (.iload 4, 2) := dk_21 4 (dk_at dksX4_findTimes_3 0 rfl rfl)
theorem dX4_findTimes_73 : decode cX4_findTimes 73 = .ok (.invokevirtual 157, 3) := dk_182 0 157 (dk_at dksX4_findTimes_3 2 rfl rfl)
theorem dX4_findTimes_76 : decode cX4_findTimes 76 = .ok (.invokevirtual 154, 3) := dk_182 0 154 (dk_at dksX4_findTimes_3 5 rfl rfl)
theorem dX4_findTimes_79 : decode cX4_findTimes 79 = .ok (.ifCond .eq 14, 3) := dk_153 0 14 (dk_at dksX4_findTimes_3 8 rfl rfl)
theorem dX4_findTimes_82 : decode cX4_findTimes 82 = .ok (.aload_n 0, 1) := dk_42 (dk_at dksX4_findTimes_3 11 rfl rfl)
theorem dX4_findTimes_83 : decode cX4_findTimes 83 = .ok (.iload 4, 2) := dk_21 4 (dk_at dksX4_findTimes_3 12 rfl rfl)
theorem dX4_findTimes_85 : decode cX4_findTimes 85 = .ok (.invokevirtual 160, 3) := dk_182 0 160 (dk_at dksX4_findTimes_3 14 rfl rfl)
theorem dX4_findTimes_88 : decode cX4_findTimes 88 = .ok (.iinc 2 (-1), 3) := dk_132 2 255 (dk_at dksX4_findTimes_3 17 rfl rfl)
theorem dX4_findTimes_91 : decode cX4_findTimes 91 = .ok (.iconst 1, 1) := dk_4 (dk_at dksX4_findTimes_3 20 rfl rfl)
theorem dX4_findTimes_92 : decode cX4_findTimes 92 = .ok (.istore_n 3, 1) := dk_62 (dk_at dksX4_findTimes_3 21 rfl rfl)
theorem dX4_findTimes_93 : decode cX4_findTimes 93 = .ok (.iinc 4 1, 3) := dk_132 4 1 (dk_at dksX4_findTimes_4 0 rfl rfl)
theorem dX4_findTimes_96 : decode cX4_findTimes 96 = .ok (.goto (-56), 3) := dk_167 255 200 (dk_at dksX4_findTimes_4 3 rfl rfl)
theorem dX4_findTimes_99 : decode cX4_findTimes 99 = .ok (.goto (-68), 3) := dk_167 255 188 (dk_at dksX4_findTimes_4 6 rfl rfl)
theorem dX4_findTimes_102 : decode cX4_findTimes 102 = .ok (.iload_n 2, 1) := dk_28 (dk_at dksX4_findTimes_4 9 rfl rfl)
theorem dX4_findTimes_103 : decode cX4_findTimes 103 = .ok (.ireturn, 1) := dk_172 (dk_at dksX4_findTimes_4 10 rfl rfl)
abbrev cX4_before : ByteArray := prog_19_method_30_code
def yX4_before : MethodName := ⟨RX4, "before", "(I)I"⟩
def dkwX4_before_1 : List UInt8 := [16, 42, 27, 96, 46, 28, 4, 100, 182, 0, 110, 172]
abbrev dktX4_before_1 : List UInt8 := dkwX4_before_1 ++ []
def dkwX4_before_0 : List UInt8 := [42, 180, 0, 9, 16, 122, 27, 96, 46, 61, 28, 154, 0, 7, 2, 167, 0, 19, 42, 42, 180, 0, 9]
abbrev dktX4_before_0 : List UInt8 := dkwX4_before_0 ++ dktX4_before_1
theorem dksX4_before_0 : cX4_before.data.toList.drop 0 = dktX4_before_0 := by decide +kernel
theorem dksX4_before_1 : cX4_before.data.toList.drop 23 = dktX4_before_1 := dk_seg dksX4_before_0 23 rfl rfl
theorem dX4_before_0 : decode cX4_before 0 = .ok (.aload_n 0, 1) := dk_42 (dk_at dksX4_before_0 0 rfl rfl)
theorem dX4_before_1 : decode cX4_before 1 = .ok (.getfield 9, 3) := dk_180 0 9 (dk_at dksX4_before_0 1 rfl rfl)
theorem dX4_before_4 : decode cX4_before 4 = .ok (.bipush 122, 2) := dk_16 122 (dk_at dksX4_before_0 4 rfl rfl)
theorem dX4_before_6 : decode cX4_before 6 = .ok (.iload_n 1, 1) := dk_27 (dk_at dksX4_before_0 6 rfl rfl)
theorem dX4_before_7 : decode cX4_before 7 = .ok (.iadd, 1) := dk_96 (dk_at dksX4_before_0 7 rfl rfl)
theorem dX4_before_8 : decode cX4_before 8 = .ok (.iaload, 1) := dk_46 (dk_at dksX4_before_0 8 rfl rfl)
theorem dX4_before_9 : decode cX4_before 9 = .ok (.istore_n 2, 1) := dk_61 (dk_at dksX4_before_0 9 rfl rfl)
theorem dX4_before_10 : decode cX4_before 10 = .ok (.iload_n 2, 1) := dk_28 (dk_at dksX4_before_0 10 rfl rfl)
theorem dX4_before_11 : decode cX4_before 11 = .ok (.ifCond .ne 7, 3) := dk_154 0 7 (dk_at dksX4_before_0 11 rfl rfl)
theorem dX4_before_14 : decode cX4_before 14 = .ok (.iconst (-1), 1) := dk_2 (dk_at dksX4_before_0 14 rfl rfl)
theorem dX4_before_15 : decode cX4_before 15 = .ok (.goto 19, 3) := dk_167 0 19 (dk_at dksX4_before_0 15 rfl rfl)
theorem dX4_before_18 : decode cX4_before 18 = .ok (.aload_n 0, 1) := dk_42 (dk_at dksX4_before_0 18 rfl rfl)
theorem dX4_before_19 : decode cX4_before 19 = .ok (.aload_n 0, 1) := dk_42 (dk_at dksX4_before_0 19 rfl rfl)
theorem dX4_before_20 : decode cX4_before 20 = .ok (.getfield 9, 3) := dk_180 0 9 (dk_at dksX4_before_0 20 rfl rfl)
theorem dX4_before_23 : decode cX4_before 23 = .ok (.bipush 42, 2) := dk_16 42 (dk_at dksX4_before_1 0 rfl rfl)
theorem dX4_before_25 : decode cX4_before 25 = .ok (.iload_n 1, 1) := dk_27 (dk_at dksX4_before_1 2 rfl rfl)
theorem dX4_before_26 : decode cX4_before 26 = .ok (.iadd, 1) := dk_96 (dk_at dksX4_before_1 3 rfl rfl)
theorem dX4_before_27 : decode cX4_before 27 = .ok (.iaload, 1) := dk_46 (dk_at dksX4_before_1 4 rfl rfl)
theorem dX4_before_28 : decode cX4_before 28 = .ok (.iload_n 2, 1) := dk_28 (dk_at dksX4_before_1 5 rfl rfl)
theorem dX4_before_29 : decode cX4_before 29 = .ok (.iconst 1, 1) := dk_4 (dk_at dksX4_before_1 6 rfl rfl)
theorem dX4_before_30 : decode cX4_before 30 = .ok (.isub, 1) := dk_100 (dk_at dksX4_before_1 7 rfl rfl)
theorem dX4_before_31 : decode cX4_before 31 = .ok (.invokevirtual 110, 3) := dk_182 0 110 (dk_at dksX4_before_1 8 rfl rfl)
theorem dX4_before_34 : decode cX4_before 34 = .ok (.ireturn, 1) := dk_172 (dk_at dksX4_before_1 11 rfl rfl)
abbrev cX4_isKnown : ByteArray := prog_19_method_32_code
def yX4_isKnown : MethodName := ⟨RX4, "isKnown", "(I)Z"⟩
def dkwX4_isKnown_0 : List UInt8 := [27, 2, 159, 0, 12, 42, 180, 0, 29, 27, 46, 155, 0, 7, 4, 167, 0, 4, 3, 172]
abbrev dktX4_isKnown_0 : List UInt8 := dkwX4_isKnown_0 ++ []
theorem dksX4_isKnown_0 : cX4_isKnown.data.toList.drop 0 = dktX4_isKnown_0 := by decide +kernel
theorem dX4_isKnown_0 : decode cX4_isKnown 0 = .ok (.iload_n 1, 1) := dk_27 (dk_at dksX4_isKnown_0 0 rfl rfl)
theorem dX4_isKnown_1 : decode cX4_isKnown 1 = .ok (.iconst (-1), 1) := dk_2 (dk_at dksX4_isKnown_0 1 rfl rfl)
theorem dX4_isKnown_2 : decode cX4_isKnown 2 = .ok (.if_icmp .eq 12, 3) := dk_159 0 12 (dk_at dksX4_isKnown_0 2 rfl rfl)
theorem dX4_isKnown_5 : decode cX4_isKnown 5 = .ok (.aload_n 0, 1) := dk_42 (dk_at dksX4_isKnown_0 5 rfl rfl)
theorem dX4_isKnown_6 : decode cX4_isKnown 6 = .ok (.getfield 29, 3) := dk_180 0 29 (dk_at dksX4_isKnown_0 6 rfl rfl)
theorem dX4_isKnown_9 : decode cX4_isKnown 9 = .ok (.iload_n 1, 1) := dk_27 (dk_at dksX4_isKnown_0 9 rfl rfl)
theorem dX4_isKnown_10 : decode cX4_isKnown 10 = .ok (.iaload, 1) := dk_46 (dk_at dksX4_isKnown_0 10 rfl rfl)
theorem dX4_isKnown_11 : decode cX4_isKnown 11 = .ok (.ifCond .lt 7, 3) := dk_155 0 7 (dk_at dksX4_isKnown_0 11 rfl rfl)
theorem dX4_isKnown_14 : decode cX4_isKnown 14 = .ok (.iconst 1, 1) := dk_4 (dk_at dksX4_isKnown_0 14 rfl rfl)
theorem dX4_isKnown_15 : decode cX4_isKnown 15 = .ok (.goto 4, 3) := dk_167 0 4 (dk_at dksX4_isKnown_0 15 rfl rfl)
theorem dX4_isKnown_18 : decode cX4_isKnown 18 = .ok (.iconst 0, 1) := dk_3 (dk_at dksX4_isKnown_0 18 rfl rfl)
theorem dX4_isKnown_19 : decode cX4_isKnown 19 = .ok (.ireturn, 1) := dk_172 (dk_at dksX4_isKnown_0 19 rfl rfl)
abbrev cX4_ahead : ByteArray := prog_19_method_31_code
def yX4_ahead : MethodName := ⟨RX4, "ahead", "(I)I"⟩
def dkwX4_ahead_1 : List UInt8 := [27, 182, 0, 147, 62, 29, 154, 0, 7, 2, 167, 0, 11, 42, 28, 29, 4, 100, 182, 0, 142, 172]
abbrev dktX4_ahead_1 : List UInt8 := dkwX4_ahead_1 ++ []
def dkwX4_ahead_0 : List UInt8 := [42, 180, 0, 9, 16, 62, 27, 96, 46, 61, 42, 180, 0, 32, 28, 51, 153, 0, 7, 3, 167, 0, 8, 42]
abbrev dktX4_ahead_0 : List UInt8 := dkwX4_ahead_0 ++ dktX4_ahead_1
theorem dksX4_ahead_0 : cX4_ahead.data.toList.drop 0 = dktX4_ahead_0 := by decide +kernel
theorem dksX4_ahead_1 : cX4_ahead.data.toList.drop 24 = dktX4_ahead_1 := dk_seg dksX4_ahead_0 24 rfl rfl
theorem dX4_ahead_0 : decode cX4_ahead 0 = .ok (.aload_n 0, 1) := dk_42 (dk_at dksX4_ahead_0 0 rfl rfl)
theorem dX4_ahead_1 : decode cX4_ahead 1 = .ok (.getfield 9, 3) := dk_180 0 9 (dk_at dksX4_ahead_0 1 rfl rfl)
theorem dX4_ahead_4 : decode cX4_ahead 4 = .ok (.bipush 62, 2) := dk_16 62 (dk_at dksX4_ahead_0 4 rfl rfl)
theorem dX4_ahead_6 : decode cX4_ahead 6 = .ok (.iload_n 1, 1) := dk_27 (dk_at dksX4_ahead_0 6 rfl rfl)
theorem dX4_ahead_7 : decode cX4_ahead 7 = .ok (.iadd, 1) := dk_96 (dk_at dksX4_ahead_0 7 rfl rfl)
theorem dX4_ahead_8 : decode cX4_ahead 8 = .ok (.iaload, 1) := dk_46 (dk_at dksX4_ahead_0 8 rfl rfl)
theorem dX4_ahead_9 : decode cX4_ahead 9 = .ok (.istore_n 2, 1) := dk_61 (dk_at dksX4_ahead_0 9 rfl rfl)
theorem dX4_ahead_10 : decode cX4_ahead 10 = .ok (.aload_n 0, 1) := dk_42 (dk_at dksX4_ahead_0 10 rfl rfl)
theorem dX4_ahead_11 : decode cX4_ahead 11 = .ok (.getfield 32, 3) := dk_180 0 32 (dk_at dksX4_ahead_0 11 rfl rfl)
theorem dX4_ahead_14 : decode cX4_ahead 14 = .ok (.iload_n 2, 1) := dk_28 (dk_at dksX4_ahead_0 14 rfl rfl)
theorem dX4_ahead_15 : decode cX4_ahead 15 = .ok (.baload, 1) := dk_51 (dk_at dksX4_ahead_0 15 rfl rfl)
theorem dX4_ahead_16 : decode cX4_ahead 16 = .ok (.ifCond .eq 7, 3) := dk_153 0 7 (dk_at dksX4_ahead_0 16 rfl rfl)
theorem dX4_ahead_19 : decode cX4_ahead 19 = .ok (.iconst 0, 1) := dk_3 (dk_at dksX4_ahead_0 19 rfl rfl)
theorem dX4_ahead_20 : decode cX4_ahead 20 = .ok (.goto 8, 3) := dk_167 0 8 (dk_at dksX4_ahead_0 20 rfl rfl)
theorem dX4_ahead_23 : decode cX4_ahead 23 = .ok (.aload_n 0, 1) := dk_42 (dk_at dksX4_ahead_0 23 rfl rfl)
theorem dX4_ahead_24 : decode cX4_ahead 24 = .ok (.iload_n 1, 1) := dk_27 (dk_at dksX4_ahead_1 0 rfl rfl)
theorem dX4_ahead_25 : decode cX4_ahead 25 = .ok (.invokevirtual 147, 3) := dk_182 0 147 (dk_at dksX4_ahead_1 1 rfl rfl)
theorem dX4_ahead_28 : decode cX4_ahead 28 = .ok (.istore_n 3, 1) := dk_62 (dk_at dksX4_ahead_1 4 rfl rfl)
theorem dX4_ahead_29 : decode cX4_ahead 29 = .ok (.iload_n 3, 1) := dk_29 (dk_at dksX4_ahead_1 5 rfl rfl)
theorem dX4_ahead_30 : decode cX4_ahead 30 = .ok (.ifCond .ne 7, 3) := dk_154 0 7 (dk_at dksX4_ahead_1 6 rfl rfl)
theorem dX4_ahead_33 : decode cX4_ahead 33 = .ok (.iconst (-1), 1) := dk_2 (dk_at dksX4_ahead_1 9 rfl rfl)
theorem dX4_ahead_34 : decode cX4_ahead 34 = .ok (.goto 11, 3) := dk_167 0 11 (dk_at dksX4_ahead_1 10 rfl rfl)
theorem dX4_ahead_37 : decode cX4_ahead 37 = .ok (.aload_n 0, 1) := dk_42 (dk_at dksX4_ahead_1 13 rfl rfl)
theorem dX4_ahead_38 : decode cX4_ahead 38 = .ok (.iload_n 2, 1) := dk_28 (dk_at dksX4_ahead_1 14 rfl rfl)
theorem dX4_ahead_39 : decode cX4_ahead 39 = .ok (.iload_n 3, 1) := dk_29 (dk_at dksX4_ahead_1 15 rfl rfl)
theorem dX4_ahead_40 : decode cX4_ahead 40 = .ok (.iconst 1, 1) := dk_4 (dk_at dksX4_ahead_1 16 rfl rfl)
theorem dX4_ahead_41 : decode cX4_ahead 41 = .ok (.isub, 1) := dk_100 (dk_at dksX4_ahead_1 17 rfl rfl)
theorem dX4_ahead_42 : decode cX4_ahead 42 = .ok (.invokevirtual 142, 3) := dk_182 0 142 (dk_at dksX4_ahead_1 18 rfl rfl)
theorem dX4_ahead_45 : decode cX4_ahead 45 = .ok (.ireturn, 1) := dk_172 (dk_at dksX4_ahead_1 21 rfl rfl)
abbrev cX4_findTime : ByteArray := prog_19_method_34_code
def yX4_findTime : MethodName := ⟨RX4, "findTime", "(I)V"⟩
def dkwX4_findTime_5 : List UInt8 := [27, 96, 46, 28, 42, 180, 0, 9, 16, 82, 27, 96, 46, 182, 0, 178, 79, 177]
abbrev dktX4_findTime_5 : List UInt8 := dkwX4_findTime_5 ++ []
def dkwX4_findTime_4 : List UInt8 := [42, 180, 0, 175, 184, 0, 167, 167, 0, 4, 28, 61, 42, 180, 0, 29, 27, 42, 42, 180, 0, 9, 16, 62]
abbrev dktX4_findTime_4 : List UInt8 := dkwX4_findTime_4 ++ dktX4_findTime_5
def dkwX4_findTime_3 : List UInt8 := [182, 0, 172, 96, 184, 0, 167, 61, 42, 180, 0, 26, 27, 28, 79, 27, 42, 180, 0, 36, 160, 0, 14, 28]
abbrev dktX4_findTime_3 : List UInt8 := dkwX4_findTime_3 ++ dktX4_findTime_4
def dkwX4_findTime_2 : List UInt8 := [61, 21, 4, 2, 160, 0, 7, 28, 167, 0, 21, 28, 42, 21, 4, 182, 0, 164, 42, 21, 4, 27]
abbrev dktX4_findTime_2 : List UInt8 := dkwX4_findTime_2 ++ dktX4_findTime_3
def dkwX4_findTime_1 : List UInt8 := [27, 182, 0, 157, 54, 4, 29, 2, 160, 0, 7, 28, 167, 0, 12, 28, 42, 29, 182, 0, 164, 184, 0, 167]
abbrev dktX4_findTime_1 : List UInt8 := dkwX4_findTime_1 ++ dktX4_findTime_2
def dkwX4_findTime_0 : List UInt8 := [42, 180, 0, 9, 5, 42, 180, 0, 9, 16, 42, 27, 96, 46, 96, 46, 61, 42, 27, 182, 0, 151, 62, 42]
abbrev dktX4_findTime_0 : List UInt8 := dkwX4_findTime_0 ++ dktX4_findTime_1
theorem dksX4_findTime_0 : cX4_findTime.data.toList.drop 0 = dktX4_findTime_0 := by decide +kernel
theorem dksX4_findTime_1 : cX4_findTime.data.toList.drop 24 = dktX4_findTime_1 := dk_seg dksX4_findTime_0 24 rfl rfl
theorem dksX4_findTime_2 : cX4_findTime.data.toList.drop 48 = dktX4_findTime_2 := dk_seg dksX4_findTime_1 24 rfl rfl
theorem dksX4_findTime_3 : cX4_findTime.data.toList.drop 70 = dktX4_findTime_3 := dk_seg dksX4_findTime_2 22 rfl rfl
theorem dksX4_findTime_4 : cX4_findTime.data.toList.drop 94 = dktX4_findTime_4 := dk_seg dksX4_findTime_3 24 rfl rfl
theorem dksX4_findTime_5 : cX4_findTime.data.toList.drop 118 = dktX4_findTime_5 := dk_seg dksX4_findTime_4 24 rfl rfl
theorem dX4_findTime_0 : decode cX4_findTime 0 = .ok (.aload_n 0, 1) := dk_42 (dk_at dksX4_findTime_0 0 rfl rfl)
theorem dX4_findTime_1 : decode cX4_findTime 1 = .ok (.getfield 9, 3) := dk_180 0 9 (dk_at dksX4_findTime_0 1 rfl rfl)
theorem dX4_findTime_4 : decode cX4_findTime 4 = .ok (.iconst 2, 1) := dk_5 (dk_at dksX4_findTime_0 4 rfl rfl)
theorem dX4_findTime_5 : decode cX4_findTime 5 = .ok (.aload_n 0, 1) := dk_42 (dk_at dksX4_findTime_0 5 rfl rfl)
theorem dX4_findTime_6 : decode cX4_findTime 6 = .ok (.getfield 9, 3) := dk_180 0 9 (dk_at dksX4_findTime_0 6 rfl rfl)
theorem dX4_findTime_9 : decode cX4_findTime 9 = .ok (.bipush 42, 2) := dk_16 42 (dk_at dksX4_findTime_0 9 rfl rfl)
theorem dX4_findTime_11 : decode cX4_findTime 11 = .ok (.iload_n 1, 1) := dk_27 (dk_at dksX4_findTime_0 11 rfl rfl)
theorem dX4_findTime_12 : decode cX4_findTime 12 = .ok (.iadd, 1) := dk_96 (dk_at dksX4_findTime_0 12 rfl rfl)
theorem dX4_findTime_13 : decode cX4_findTime 13 = .ok (.iaload, 1) := dk_46 (dk_at dksX4_findTime_0 13 rfl rfl)
theorem dX4_findTime_14 : decode cX4_findTime 14 = .ok (.iadd, 1) := dk_96 (dk_at dksX4_findTime_0 14 rfl rfl)
theorem dX4_findTime_15 : decode cX4_findTime 15 = .ok (.iaload, 1) := dk_46 (dk_at dksX4_findTime_0 15 rfl rfl)
theorem dX4_findTime_16 : decode cX4_findTime 16 = .ok (.istore_n 2, 1) := dk_61 (dk_at dksX4_findTime_0 16 rfl rfl)
theorem dX4_findTime_17 : decode cX4_findTime 17 = .ok (.aload_n 0, 1) := dk_42 (dk_at dksX4_findTime_0 17 rfl rfl)
theorem dX4_findTime_18 : decode cX4_findTime 18 = .ok (.iload_n 1, 1) := dk_27 (dk_at dksX4_findTime_0 18 rfl rfl)
theorem dX4_findTime_19 : decode cX4_findTime 19 = .ok (.invokevirtual 151, 3) := dk_182 0 151 (dk_at dksX4_findTime_0 19 rfl rfl)
theorem dX4_findTime_22 : decode cX4_findTime 22 = .ok (.istore_n 3, 1) := dk_62 (dk_at dksX4_findTime_0 22 rfl rfl)
theorem dX4_findTime_23 : decode cX4_findTime 23 = .ok (.aload_n 0, 1) := dk_42 (dk_at dksX4_findTime_0 23 rfl rfl)
theorem dX4_findTime_24 : decode cX4_findTime 24 = .ok (.iload_n 1, 1) := dk_27 (dk_at dksX4_findTime_1 0 rfl rfl)
theorem dX4_findTime_25 : decode cX4_findTime 25 = .ok (.invokevirtual 157, 3) := dk_182 0 157 (dk_at dksX4_findTime_1 1 rfl rfl)
theorem dX4_findTime_28 : decode cX4_findTime 28 = .ok (.istore 4, 2) := dk_54 4 (dk_at dksX4_findTime_1 4 rfl rfl)
theorem dX4_findTime_30 : decode cX4_findTime 30 = .ok (.iload_n 3, 1) := dk_29 (dk_at dksX4_findTime_1 6 rfl rfl)
theorem dX4_findTime_31 : decode cX4_findTime 31 = .ok (.iconst (-1), 1) := dk_2 (dk_at dksX4_findTime_1 7 rfl rfl)
theorem dX4_findTime_32 : decode cX4_findTime 32 = .ok (.if_icmp .ne 7, 3) := dk_160 0 7 (dk_at dksX4_findTime_1 8 rfl rfl)
theorem dX4_findTime_35 : decode cX4_findTime 35 = .ok (.iload_n 2, 1) := dk_28 (dk_at dksX4_findTime_1 11 rfl rfl)
theorem dX4_findTime_36 : decode cX4_findTime 36 = .ok (.goto 12, 3) := dk_167 0 12 (dk_at dksX4_findTime_1 12 rfl rfl)
theorem dX4_findTime_39 : decode cX4_findTime 39 = .ok (.iload_n 2, 1) := dk_28 (dk_at dksX4_findTime_1 15 rfl rfl)
theorem dX4_findTime_40 : decode cX4_findTime 40 = .ok (.aload_n 0, 1) := dk_42 (dk_at dksX4_findTime_1 16 rfl rfl)
theorem dX4_findTime_41 : decode cX4_findTime 41 = .ok (.iload_n 3, 1) := dk_29 (dk_at dksX4_findTime_1 17 rfl rfl)
theorem dX4_findTime_42 : decode cX4_findTime 42 = .ok (.invokevirtual 164, 3) := dk_182 0 164 (dk_at dksX4_findTime_1 18 rfl rfl)
theorem dX4_findTime_45 : decode cX4_findTime 45 = .ok (.invokestatic 167, 3) := dk_184 0 167 (dk_at dksX4_findTime_1 21 rfl rfl)
theorem dX4_findTime_48 : decode cX4_findTime 48 = .ok (.istore_n 2, 1) := dk_61 (dk_at dksX4_findTime_2 0 rfl rfl)
theorem dX4_findTime_49 : decode cX4_findTime 49 = .ok (.iload 4, 2) := dk_21 4 (dk_at dksX4_findTime_2 1 rfl rfl)
theorem dX4_findTime_51 : decode cX4_findTime 51 = .ok (.iconst (-1), 1) := dk_2 (dk_at dksX4_findTime_2 3 rfl rfl)
theorem dX4_findTime_52 : decode cX4_findTime 52 = .ok (.if_icmp .ne 7, 3) := dk_160 0 7 (dk_at dksX4_findTime_2 4 rfl rfl)
theorem dX4_findTime_55 : decode cX4_findTime 55 = .ok (.iload_n 2, 1) := dk_28 (dk_at dksX4_findTime_2 7 rfl rfl)
theorem dX4_findTime_56 : decode cX4_findTime 56 = .ok (.goto 21, 3) := dk_167 0 21 (dk_at dksX4_findTime_2 8 rfl rfl)
theorem dX4_findTime_59 : decode cX4_findTime 59 = .ok (.iload_n 2, 1) := dk_28 (dk_at dksX4_findTime_2 11 rfl rfl)
theorem dX4_findTime_60 : decode cX4_findTime 60 = .ok (.aload_n 0, 1) := dk_42 (dk_at dksX4_findTime_2 12 rfl rfl)
theorem dX4_findTime_61 : decode cX4_findTime 61 = .ok (.iload 4, 2) := dk_21 4 (dk_at dksX4_findTime_2 13 rfl rfl)
theorem dX4_findTime_63 : decode cX4_findTime 63 = .ok (.invokevirtual 164, 3) := dk_182 0 164 (dk_at dksX4_findTime_2 15 rfl rfl)
theorem dX4_findTime_66 : decode cX4_findTime 66 = .ok (.aload_n 0, 1) := dk_42 (dk_at dksX4_findTime_2 18 rfl rfl)
theorem dX4_findTime_67 : decode cX4_findTime 67 = .ok (.iload 4, 2) := dk_21 4 (dk_at dksX4_findTime_2 19 rfl rfl)
theorem dX4_findTime_69 : decode cX4_findTime 69 = .ok (.iload_n 1, 1) := dk_27 (dk_at dksX4_findTime_2 21 rfl rfl)
theorem dX4_findTime_70 : decode cX4_findTime 70 = .ok (.invokevirtual 172, 3) := dk_182 0 172 (dk_at dksX4_findTime_3 0 rfl rfl)
theorem dX4_findTime_73 : decode cX4_findTime 73 = .ok (.iadd, 1) := dk_96 (dk_at dksX4_findTime_3 3 rfl rfl)
theorem dX4_findTime_74 : decode cX4_findTime 74 = .ok (.invokestatic 167, 3) := dk_184 0 167 (dk_at dksX4_findTime_3 4 rfl rfl)
theorem dX4_findTime_77 : decode cX4_findTime 77 = .ok (.istore_n 2, 1) := dk_61 (dk_at dksX4_findTime_3 7 rfl rfl)
theorem dX4_findTime_78 : decode cX4_findTime 78 = .ok (.aload_n 0, 1) := dk_42 (dk_at dksX4_findTime_3 8 rfl rfl)
theorem dX4_findTime_79 : decode cX4_findTime 79 = .ok (.getfield 26, 3) := dk_180 0 26 (dk_at dksX4_findTime_3 9 rfl rfl)
theorem dX4_findTime_82 : decode cX4_findTime 82 = .ok (.iload_n 1, 1) := dk_27 (dk_at dksX4_findTime_3 12 rfl rfl)
theorem dX4_findTime_83 : decode cX4_findTime 83 = .ok (.iload_n 2, 1) := dk_28 (dk_at dksX4_findTime_3 13 rfl rfl)
theorem dX4_findTime_84 : decode cX4_findTime 84 = .ok (.iastore, 1) := dk_79 (dk_at dksX4_findTime_3 14 rfl rfl)
theorem dX4_findTime_85 : decode cX4_findTime 85 = .ok (.iload_n 1, 1) := dk_27 (dk_at dksX4_findTime_3 15 rfl rfl)
theorem dX4_findTime_86 : decode cX4_findTime 86 = .ok (.aload_n 0, 1) := dk_42 (dk_at dksX4_findTime_3 16 rfl rfl)
theorem dX4_findTime_87 : decode cX4_findTime 87 = .ok (.getfield 36, 3) := dk_180 0 36 (dk_at dksX4_findTime_3 17 rfl rfl)
theorem dX4_findTime_90 : decode cX4_findTime 90 = .ok (.if_icmp .ne 14, 3) := dk_160 0 14 (dk_at dksX4_findTime_3 20 rfl rfl)
theorem dX4_findTime_93 : decode cX4_findTime 93 = .ok (.iload_n 2, 1) := dk_28 (dk_at dksX4_findTime_3 23 rfl rfl)
theorem dX4_findTime_94 : decode cX4_findTime 94 = .ok (.aload_n 0, 1) := dk_42 (dk_at dksX4_findTime_4 0 rfl rfl)
theorem dX4_findTime_95 : decode cX4_findTime 95 = .ok (.getfield 175, 3) := dk_180 0 175 (dk_at dksX4_findTime_4 1 rfl rfl)
theorem dX4_findTime_98 : decode cX4_findTime 98 = .ok (.invokestatic 167, 3) := dk_184 0 167 (dk_at dksX4_findTime_4 4 rfl rfl)
theorem dX4_findTime_101 : decode cX4_findTime 101 = .ok (.goto 4, 3) := dk_167 0 4 (dk_at dksX4_findTime_4 7 rfl rfl)
theorem dX4_findTime_104 : decode cX4_findTime 104 = .ok (.iload_n 2, 1) := dk_28 (dk_at dksX4_findTime_4 10 rfl rfl)
theorem dX4_findTime_105 : decode cX4_findTime 105 = .ok (.istore_n 2, 1) := dk_61 (dk_at dksX4_findTime_4 11 rfl rfl)
theorem dX4_findTime_106 : decode cX4_findTime 106 = .ok (.aload_n 0, 1) := dk_42 (dk_at dksX4_findTime_4 12 rfl rfl)
theorem dX4_findTime_107 : decode cX4_findTime 107 = .ok (.getfield 29, 3) := dk_180 0 29 (dk_at dksX4_findTime_4 13 rfl rfl)
theorem dX4_findTime_110 : decode cX4_findTime 110 = .ok (.iload_n 1, 1) := dk_27 (dk_at dksX4_findTime_4 16 rfl rfl)
theorem dX4_findTime_111 : decode cX4_findTime 111 = .ok (.aload_n 0, 1) := dk_42 (dk_at dksX4_findTime_4 17 rfl rfl)
theorem dX4_findTime_112 : decode cX4_findTime 112 = .ok (.aload_n 0, 1) := dk_42 (dk_at dksX4_findTime_4 18 rfl rfl)
theorem dX4_findTime_113 : decode cX4_findTime 113 = .ok (.getfield 9, 3) := dk_180 0 9 (dk_at dksX4_findTime_4 19 rfl rfl)
theorem dX4_findTime_116 : decode cX4_findTime 116 = .ok (.bipush 62, 2) := dk_16 62 (dk_at dksX4_findTime_4 22 rfl rfl)
theorem dX4_findTime_118 : decode cX4_findTime 118 = .ok (.iload_n 1, 1) := dk_27 (dk_at dksX4_findTime_5 0 rfl rfl)
theorem dX4_findTime_119 : decode cX4_findTime 119 = .ok (.iadd, 1) := dk_96 (dk_at dksX4_findTime_5 1 rfl rfl)
theorem dX4_findTime_120 : decode cX4_findTime 120 = .ok (.iaload, 1) := dk_46 (dk_at dksX4_findTime_5 2 rfl rfl)
theorem dX4_findTime_121 : decode cX4_findTime 121 = .ok (.iload_n 2, 1) := dk_28 (dk_at dksX4_findTime_5 3 rfl rfl)
theorem dX4_findTime_122 : decode cX4_findTime 122 = .ok (.aload_n 0, 1) := dk_42 (dk_at dksX4_findTime_5 4 rfl rfl)
theorem dX4_findTime_123 : decode cX4_findTime 123 = .ok (.getfield 9, 3) := dk_180 0 9 (dk_at dksX4_findTime_5 5 rfl rfl)
theorem dX4_findTime_126 : decode cX4_findTime 126 = .ok (.bipush 82, 2) := dk_16 82 (dk_at dksX4_findTime_5 8 rfl rfl)
theorem dX4_findTime_128 : decode cX4_findTime 128 = .ok (.iload_n 1, 1) := dk_27 (dk_at dksX4_findTime_5 10 rfl rfl)
theorem dX4_findTime_129 : decode cX4_findTime 129 = .ok (.iadd, 1) := dk_96 (dk_at dksX4_findTime_5 11 rfl rfl)
theorem dX4_findTime_130 : decode cX4_findTime 130 = .ok (.iaload, 1) := dk_46 (dk_at dksX4_findTime_5 12 rfl rfl)
theorem dX4_findTime_131 : decode cX4_findTime 131 = .ok (.invokevirtual 178, 3) := dk_182 0 178 (dk_at dksX4_findTime_5 13 rfl rfl)
theorem dX4_findTime_134 : decode cX4_findTime 134 = .ok (.iastore, 1) := dk_79 (dk_at dksX4_findTime_5 16 rfl rfl)
theorem dX4_findTime_135 : decode cX4_findTime 135 = .ok (.return_, 1) := dk_177 (dk_at dksX4_findTime_5 17 rfl rfl)
abbrev cX4_endOf : ByteArray := prog_19_method_28_code
def yX4_endOf : MethodName := ⟨RX4, "endOf", "(I)I"⟩
def dkwX4_endOf_0 : List UInt8 := [42, 180, 0, 29, 27, 46, 42, 180, 0, 9, 16, 82, 27, 96, 46, 96, 172]
abbrev dktX4_endOf_0 : List UInt8 := dkwX4_endOf_0 ++ []
theorem dksX4_endOf_0 : cX4_endOf.data.toList.drop 0 = dktX4_endOf_0 := by decide +kernel
theorem dX4_endOf_0 : decode cX4_endOf 0 = .ok (.aload_n 0, 1) := dk_42 (dk_at dksX4_endOf_0 0 rfl rfl)
theorem dX4_endOf_1 : decode cX4_endOf 1 = .ok (.getfield 29, 3) := dk_180 0 29 (dk_at dksX4_endOf_0 1 rfl rfl)
theorem dX4_endOf_4 : decode cX4_endOf 4 = .ok (.iload_n 1, 1) := dk_27 (dk_at dksX4_endOf_0 4 rfl rfl)
theorem dX4_endOf_5 : decode cX4_endOf 5 = .ok (.iaload, 1) := dk_46 (dk_at dksX4_endOf_0 5 rfl rfl)
theorem dX4_endOf_6 : decode cX4_endOf 6 = .ok (.aload_n 0, 1) := dk_42 (dk_at dksX4_endOf_0 6 rfl rfl)
theorem dX4_endOf_7 : decode cX4_endOf 7 = .ok (.getfield 9, 3) := dk_180 0 9 (dk_at dksX4_endOf_0 7 rfl rfl)
theorem dX4_endOf_10 : decode cX4_endOf 10 = .ok (.bipush 82, 2) := dk_16 82 (dk_at dksX4_endOf_0 10 rfl rfl)
theorem dX4_endOf_12 : decode cX4_endOf 12 = .ok (.iload_n 1, 1) := dk_27 (dk_at dksX4_endOf_0 12 rfl rfl)
theorem dX4_endOf_13 : decode cX4_endOf 13 = .ok (.iadd, 1) := dk_96 (dk_at dksX4_endOf_0 13 rfl rfl)
theorem dX4_endOf_14 : decode cX4_endOf 14 = .ok (.iaload, 1) := dk_46 (dk_at dksX4_endOf_0 14 rfl rfl)
theorem dX4_endOf_15 : decode cX4_endOf 15 = .ok (.iadd, 1) := dk_96 (dk_at dksX4_endOf_0 15 rfl rfl)
theorem dX4_endOf_16 : decode cX4_endOf 16 = .ok (.ireturn, 1) := dk_172 (dk_at dksX4_endOf_0 16 rfl rfl)
abbrev cX4_setup : ByteArray := prog_19_method_10_code
def yX4_setup : MethodName := ⟨RX4, "setup", "(II)I"⟩
def dkwX4_setup_1 : List UInt8 := [16, 102, 28, 96, 46, 96, 46, 172]
abbrev dktX4_setup_1 : List UInt8 := dkwX4_setup_1 ++ []
def dkwX4_setup_0 : List UInt8 := [42, 180, 0, 9, 17, 0, 142, 6, 42, 180, 0, 9, 16, 102, 27, 96, 46, 104, 96, 42, 180, 0, 9]
abbrev dktX4_setup_0 : List UInt8 := dkwX4_setup_0 ++ dktX4_setup_1
theorem dksX4_setup_0 : cX4_setup.data.toList.drop 0 = dktX4_setup_0 := by decide +kernel
theorem dksX4_setup_1 : cX4_setup.data.toList.drop 23 = dktX4_setup_1 := dk_seg dksX4_setup_0 23 rfl rfl
theorem dX4_setup_0 : decode cX4_setup 0 = .ok (.aload_n 0, 1) := dk_42 (dk_at dksX4_setup_0 0 rfl rfl)
theorem dX4_setup_1 : decode cX4_setup 1 = .ok (.getfield 9, 3) := dk_180 0 9 (dk_at dksX4_setup_0 1 rfl rfl)
theorem dX4_setup_4 : decode cX4_setup 4 = .ok (.sipush 142, 3) := dk_17 0 142 (dk_at dksX4_setup_0 4 rfl rfl)
theorem dX4_setup_7 : decode cX4_setup 7 = .ok (.iconst 3, 1) := dk_6 (dk_at dksX4_setup_0 7 rfl rfl)
theorem dX4_setup_8 : decode cX4_setup 8 = .ok (.aload_n 0, 1) := dk_42 (dk_at dksX4_setup_0 8 rfl rfl)
theorem dX4_setup_9 : decode cX4_setup 9 = .ok (.getfield 9, 3) := dk_180 0 9 (dk_at dksX4_setup_0 9 rfl rfl)
theorem dX4_setup_12 : decode cX4_setup 12 = .ok (.bipush 102, 2) := dk_16 102 (dk_at dksX4_setup_0 12 rfl rfl)
theorem dX4_setup_14 : decode cX4_setup 14 = .ok (.iload_n 1, 1) := dk_27 (dk_at dksX4_setup_0 14 rfl rfl)
theorem dX4_setup_15 : decode cX4_setup 15 = .ok (.iadd, 1) := dk_96 (dk_at dksX4_setup_0 15 rfl rfl)
theorem dX4_setup_16 : decode cX4_setup 16 = .ok (.iaload, 1) := dk_46 (dk_at dksX4_setup_0 16 rfl rfl)
theorem dX4_setup_17 : decode cX4_setup 17 = .ok (.imul, 1) := dk_104 (dk_at dksX4_setup_0 17 rfl rfl)
theorem dX4_setup_18 : decode cX4_setup 18 = .ok (.iadd, 1) := dk_96 (dk_at dksX4_setup_0 18 rfl rfl)
theorem dX4_setup_19 : decode cX4_setup 19 = .ok (.aload_n 0, 1) := dk_42 (dk_at dksX4_setup_0 19 rfl rfl)
theorem dX4_setup_20 : decode cX4_setup 20 = .ok (.getfield 9, 3) := dk_180 0 9 (dk_at dksX4_setup_0 20 rfl rfl)
theorem dX4_setup_23 : decode cX4_setup 23 = .ok (.bipush 102, 2) := dk_16 102 (dk_at dksX4_setup_1 0 rfl rfl)
theorem dX4_setup_25 : decode cX4_setup 25 = .ok (.iload_n 2, 1) := dk_28 (dk_at dksX4_setup_1 2 rfl rfl)
theorem dX4_setup_26 : decode cX4_setup 26 = .ok (.iadd, 1) := dk_96 (dk_at dksX4_setup_1 3 rfl rfl)
theorem dX4_setup_27 : decode cX4_setup 27 = .ok (.iaload, 1) := dk_46 (dk_at dksX4_setup_1 4 rfl rfl)
theorem dX4_setup_28 : decode cX4_setup 28 = .ok (.iadd, 1) := dk_96 (dk_at dksX4_setup_1 5 rfl rfl)
theorem dX4_setup_29 : decode cX4_setup 29 = .ok (.iaload, 1) := dk_46 (dk_at dksX4_setup_1 6 rfl rfl)
theorem dX4_setup_30 : decode cX4_setup 30 = .ok (.ireturn, 1) := dk_172 (dk_at dksX4_setup_1 7 rfl rfl)
abbrev cX4_free : ByteArray := prog_19_method_29_code
def yX4_free : MethodName := ⟨RX4, "free", "(III)I"⟩
def dkwX4_free_4 : List UInt8 := [167, 255, 178, 167, 255, 164, 21, 4, 172]
abbrev dktX4_free_4 : List UInt8 := dkwX4_free_4 ++ []
def dkwX4_free_3 : List UInt8 := [21, 4, 29, 96, 162, 0, 17, 21, 4, 21, 8, 162, 0, 10, 21, 8, 54, 4, 4, 54, 5, 132, 6, 1]
abbrev dktX4_free_3 : List UInt8 := dkwX4_free_3 ++ dktX4_free_4
def dkwX4_free_2 : List UInt8 := [54, 7, 21, 7, 42, 180, 0, 9, 17, 0, 167, 6, 27, 104, 96, 21, 6, 96, 46, 96, 54, 8, 21, 7]
abbrev dktX4_free_2 : List UInt8 := dkwX4_free_2 ++ dktX4_free_3
def dkwX4_free_1 : List UInt8 := [17, 0, 151, 27, 96, 46, 162, 0, 69, 42, 180, 0, 9, 17, 0, 155, 6, 27, 104, 96, 21, 6, 96, 46]
abbrev dktX4_free_1 : List UInt8 := dkwX4_free_1 ++ dktX4_free_2
def dkwX4_free_0 : List UInt8 := [28, 54, 4, 4, 54, 5, 21, 5, 153, 0, 93, 3, 54, 5, 3, 54, 6, 21, 6, 42, 180, 0, 9]
abbrev dktX4_free_0 : List UInt8 := dkwX4_free_0 ++ dktX4_free_1
theorem dksX4_free_0 : cX4_free.data.toList.drop 0 = dktX4_free_0 := by decide +kernel
theorem dksX4_free_1 : cX4_free.data.toList.drop 23 = dktX4_free_1 := dk_seg dksX4_free_0 23 rfl rfl
theorem dksX4_free_2 : cX4_free.data.toList.drop 47 = dktX4_free_2 := dk_seg dksX4_free_1 24 rfl rfl
theorem dksX4_free_3 : cX4_free.data.toList.drop 71 = dktX4_free_3 := dk_seg dksX4_free_2 24 rfl rfl
theorem dksX4_free_4 : cX4_free.data.toList.drop 95 = dktX4_free_4 := dk_seg dksX4_free_3 24 rfl rfl
theorem dX4_free_0 : decode cX4_free 0 = .ok (.iload_n 2, 1) := dk_28 (dk_at dksX4_free_0 0 rfl rfl)
theorem dX4_free_1 : decode cX4_free 1 = .ok (.istore 4, 2) := dk_54 4 (dk_at dksX4_free_0 1 rfl rfl)
theorem dX4_free_3 : decode cX4_free 3 = .ok (.iconst 1, 1) := dk_4 (dk_at dksX4_free_0 3 rfl rfl)
theorem dX4_free_4 : decode cX4_free 4 = .ok (.istore 5, 2) := dk_54 5 (dk_at dksX4_free_0 4 rfl rfl)
theorem dX4_free_6 : decode cX4_free 6 = .ok (.iload 5, 2) := dk_21 5 (dk_at dksX4_free_0 6 rfl rfl)
theorem dX4_free_8 : decode cX4_free 8 = .ok (.ifCond .eq 93, 3) := dk_153 0 93 (dk_at dksX4_free_0 8 rfl rfl)
theorem dX4_free_11 : decode cX4_free 11 = .ok (.iconst 0, 1) := dk_3 (dk_at dksX4_free_0 11 rfl rfl)
theorem dX4_free_12 : decode cX4_free 12 = .ok (.istore 5, 2) := dk_54 5 (dk_at dksX4_free_0 12 rfl rfl)
theorem dX4_free_14 : decode cX4_free 14 = .ok (.iconst 0, 1) := dk_3 (dk_at dksX4_free_0 14 rfl rfl)
theorem dX4_free_15 : decode cX4_free 15 = .ok (.istore 6, 2) := dk_54 6 (dk_at dksX4_free_0 15 rfl rfl)
theorem dX4_free_17 : decode cX4_free 17 = .ok (.iload 6, 2) := dk_21 6 (dk_at dksX4_free_0 17 rfl rfl)
theorem dX4_free_19 : decode cX4_free 19 = .ok (.aload_n 0, 1) := dk_42 (dk_at dksX4_free_0 19 rfl rfl)
theorem dX4_free_20 : decode cX4_free 20 = .ok (.getfield 9, 3) := dk_180 0 9 (dk_at dksX4_free_0 20 rfl rfl)
theorem dX4_free_23 : decode cX4_free 23 = .ok (.sipush 151, 3) := dk_17 0 151 (dk_at dksX4_free_1 0 rfl rfl)
theorem dX4_free_26 : decode cX4_free 26 = .ok (.iload_n 1, 1) := dk_27 (dk_at dksX4_free_1 3 rfl rfl)
theorem dX4_free_27 : decode cX4_free 27 = .ok (.iadd, 1) := dk_96 (dk_at dksX4_free_1 4 rfl rfl)
theorem dX4_free_28 : decode cX4_free 28 = .ok (.iaload, 1) := dk_46 (dk_at dksX4_free_1 5 rfl rfl)
theorem dX4_free_29 : decode cX4_free 29 = .ok (.if_icmp .ge 69, 3) := dk_162 0 69 (dk_at dksX4_free_1 6 rfl rfl)
theorem dX4_free_32 : decode cX4_free 32 = .ok (.aload_n 0, 1) := dk_42 (dk_at dksX4_free_1 9 rfl rfl)
theorem dX4_free_33 : decode cX4_free 33 = .ok (.getfield 9, 3) := dk_180 0 9 (dk_at dksX4_free_1 10 rfl rfl)
theorem dX4_free_36 : decode cX4_free 36 = .ok (.sipush 155, 3) := dk_17 0 155 (dk_at dksX4_free_1 13 rfl rfl)
theorem dX4_free_39 : decode cX4_free 39 = .ok (.iconst 3, 1) := dk_6 (dk_at dksX4_free_1 16 rfl rfl)
theorem dX4_free_40 : decode cX4_free 40 = .ok (.iload_n 1, 1) := dk_27 (dk_at dksX4_free_1 17 rfl rfl)
theorem dX4_free_41 : decode cX4_free 41 = .ok (.imul, 1) := dk_104 (dk_at dksX4_free_1 18 rfl rfl)
theorem dX4_free_42 : decode cX4_free 42 = .ok (.iadd, 1) := dk_96 (dk_at dksX4_free_1 19 rfl rfl)
theorem dX4_free_43 : decode cX4_free 43 = .ok (.iload 6, 2) := dk_21 6 (dk_at dksX4_free_1 20 rfl rfl)
theorem dX4_free_45 : decode cX4_free 45 = .ok (.iadd, 1) := dk_96 (dk_at dksX4_free_1 22 rfl rfl)
theorem dX4_free_46 : decode cX4_free 46 = .ok (.iaload, 1) := dk_46 (dk_at dksX4_free_1 23 rfl rfl)
theorem dX4_free_47 : decode cX4_free 47 = .ok (.istore 7, 2) := dk_54 7 (dk_at dksX4_free_2 0 rfl rfl)
theorem dX4_free_49 : decode cX4_free 49 = .ok (.iload 7, 2) := dk_21 7 (dk_at dksX4_free_2 2 rfl rfl)
theorem dX4_free_51 : decode cX4_free 51 = .ok (.aload_n 0, 1) := dk_42 (dk_at dksX4_free_2 4 rfl rfl)
theorem dX4_free_52 : decode cX4_free 52 = .ok (.getfield 9, 3) := dk_180 0 9 (dk_at dksX4_free_2 5 rfl rfl)
theorem dX4_free_55 : decode cX4_free 55 = .ok (.sipush 167, 3) := dk_17 0 167 (dk_at dksX4_free_2 8 rfl rfl)
theorem dX4_free_58 : decode cX4_free 58 = .ok (.iconst 3, 1) := dk_6 (dk_at dksX4_free_2 11 rfl rfl)
theorem dX4_free_59 : decode cX4_free 59 = .ok (.iload_n 1, 1) := dk_27 (dk_at dksX4_free_2 12 rfl rfl)
theorem dX4_free_60 : decode cX4_free 60 = .ok (.imul, 1) := dk_104 (dk_at dksX4_free_2 13 rfl rfl)
theorem dX4_free_61 : decode cX4_free 61 = .ok (.iadd, 1) := dk_96 (dk_at dksX4_free_2 14 rfl rfl)
theorem dX4_free_62 : decode cX4_free 62 = .ok (.iload 6, 2) := dk_21 6 (dk_at dksX4_free_2 15 rfl rfl)
theorem dX4_free_64 : decode cX4_free 64 = .ok (.iadd, 1) := dk_96 (dk_at dksX4_free_2 17 rfl rfl)
theorem dX4_free_65 : decode cX4_free 65 = .ok (.iaload, 1) := dk_46 (dk_at dksX4_free_2 18 rfl rfl)
theorem dX4_free_66 : decode cX4_free 66 = .ok (.iadd, 1) := dk_96 (dk_at dksX4_free_2 19 rfl rfl)
theorem dX4_free_67 : decode cX4_free 67 = .ok (.istore 8, 2) := dk_54 8 (dk_at dksX4_free_2 20 rfl rfl)
theorem dX4_free_69 : decode cX4_free 69 = .ok (.iload 7, 2) := dk_21 7 (dk_at dksX4_free_2 22 rfl rfl)
theorem dX4_free_71 : decode cX4_free 71 = .ok (.iload 4, 2) := dk_21 4 (dk_at dksX4_free_3 0 rfl rfl)
theorem dX4_free_73 : decode cX4_free 73 = .ok (.iload_n 3, 1) := dk_29 (dk_at dksX4_free_3 2 rfl rfl)
theorem dX4_free_74 : decode cX4_free 74 = .ok (.iadd, 1) := dk_96 (dk_at dksX4_free_3 3 rfl rfl)
theorem dX4_free_75 : decode cX4_free 75 = .ok (.if_icmp .ge 17, 3) := dk_162 0 17 (dk_at dksX4_free_3 4 rfl rfl)
theorem dX4_free_78 : decode cX4_free 78 = .ok (.iload 4, 2) := dk_21 4 (dk_at dksX4_free_3 7 rfl rfl)
theorem dX4_free_80 : decode cX4_free 80 = .ok (.iload 8, 2) := dk_21 8 (dk_at dksX4_free_3 9 rfl rfl)
theorem dX4_free_82 : decode cX4_free 82 = .ok (.if_icmp .ge 10, 3) := dk_162 0 10 (dk_at dksX4_free_3 11 rfl rfl)
theorem dX4_free_85 : decode cX4_free 85 = .ok (.iload 8, 2) := dk_21 8 (dk_at dksX4_free_3 14 rfl rfl)
theorem dX4_free_87 : decode cX4_free 87 = .ok (.istore 4, 2) := dk_54 4 (dk_at dksX4_free_3 16 rfl rfl)
theorem dX4_free_89 : decode cX4_free 89 = .ok (.iconst 1, 1) := dk_4 (dk_at dksX4_free_3 18 rfl rfl)
theorem dX4_free_90 : decode cX4_free 90 = .ok (.istore 5, 2) := dk_54 5 (dk_at dksX4_free_3 19 rfl rfl)
theorem dX4_free_92 : decode cX4_free 92 = .ok (.iinc 6 1, 3) := dk_132 6 1 (dk_at dksX4_free_3 21 rfl rfl)
theorem dX4_free_95 : decode cX4_free 95 = .ok (.goto (-78), 3) := dk_167 255 178 (dk_at dksX4_free_4 0 rfl rfl)
theorem dX4_free_98 : decode cX4_free 98 = .ok (.goto (-92), 3) := dk_167 255 164 (dk_at dksX4_free_4 3 rfl rfl)
theorem dX4_free_101 : decode cX4_free 101 = .ok (.iload 4, 2) := dk_21 4 (dk_at dksX4_free_4 6 rfl rfl)
theorem dX4_free_103 : decode cX4_free 103 = .ok (.ireturn, 1) := dk_172 (dk_at dksX4_free_4 8 rfl rfl)
abbrev cX4_makespan : ByteArray := prog_19_method_38_code
def yX4_makespan : MethodName := ⟨RX4, "makespan", "()I"⟩
def dkwX4_makespan_0 : List UInt8 := [42, 3, 181, 0, 79, 42, 182, 0, 188, 172]
abbrev dktX4_makespan_0 : List UInt8 := dkwX4_makespan_0 ++ []
theorem dksX4_makespan_0 : cX4_makespan.data.toList.drop 0 = dktX4_makespan_0 := by decide +kernel
theorem dX4_makespan_0 : decode cX4_makespan 0 = .ok (.aload_n 0, 1) := dk_42 (dk_at dksX4_makespan_0 0 rfl rfl)
theorem dX4_makespan_1 : decode cX4_makespan 1 = .ok (.iconst 0, 1) := dk_3 (dk_at dksX4_makespan_0 1 rfl rfl)
theorem dX4_makespan_2 : decode cX4_makespan 2 = .ok (.putfield 79, 3) := dk_181 0 79 (dk_at dksX4_makespan_0 2 rfl rfl)
theorem dX4_makespan_5 : decode cX4_makespan 5 = .ok (.aload_n 0, 1) := dk_42 (dk_at dksX4_makespan_0 5 rfl rfl)
theorem dX4_makespan_6 : decode cX4_makespan 6 = .ok (.invokevirtual 188, 3) := dk_182 0 188 (dk_at dksX4_makespan_0 6 rfl rfl)
theorem dX4_makespan_9 : decode cX4_makespan 9 = .ok (.ireturn, 1) := dk_172 (dk_at dksX4_makespan_0 9 rfl rfl)
abbrev cX4_makespanNow : ByteArray := prog_19_method_36_code
def yX4_makespanNow : MethodName := ⟨RX4, "makespanNow", "()I"⟩
def dkwX4_makespanNow_0 : List UInt8 := [42, 182, 0, 181, 158, 0, 7, 2, 167, 0, 7, 42, 182, 0, 185, 172]
abbrev dktX4_makespanNow_0 : List UInt8 := dkwX4_makespanNow_0 ++ []
theorem dksX4_makespanNow_0 : cX4_makespanNow.data.toList.drop 0 = dktX4_makespanNow_0 := by decide +kernel
theorem dX4_makespanNow_0 : decode cX4_makespanNow 0 = .ok (.aload_n 0, 1) := dk_42 (dk_at dksX4_makespanNow_0 0 rfl rfl)
theorem dX4_makespanNow_1 : decode cX4_makespanNow 1 = .ok (.invokevirtual 181, 3) := dk_182 0 181 (dk_at dksX4_makespanNow_0 1 rfl rfl)
theorem dX4_makespanNow_4 : decode cX4_makespanNow 4 = .ok (.ifCond .le 7, 3) := dk_158 0 7 (dk_at dksX4_makespanNow_0 4 rfl rfl)
theorem dX4_makespanNow_7 : decode cX4_makespanNow 7 = .ok (.iconst (-1), 1) := dk_2 (dk_at dksX4_makespanNow_0 7 rfl rfl)
theorem dX4_makespanNow_8 : decode cX4_makespanNow 8 = .ok (.goto 7, 3) := dk_167 0 7 (dk_at dksX4_makespanNow_0 8 rfl rfl)
theorem dX4_makespanNow_11 : decode cX4_makespanNow 11 = .ok (.aload_n 0, 1) := dk_42 (dk_at dksX4_makespanNow_0 11 rfl rfl)
theorem dX4_makespanNow_12 : decode cX4_makespanNow 12 = .ok (.invokevirtual 185, 3) := dk_182 0 185 (dk_at dksX4_makespanNow_0 12 rfl rfl)
theorem dX4_makespanNow_15 : decode cX4_makespanNow 15 = .ok (.ireturn, 1) := dk_172 (dk_at dksX4_makespanNow_0 15 rfl rfl)
abbrev cX4_greatestEnd : ByteArray := prog_19_method_35_code
def yX4_greatestEnd : MethodName := ⟨RX4, "greatestEnd", "()I"⟩
def dkwX4_greatestEnd_1 : List UInt8 := [132, 2, 1, 167, 255, 233, 27, 172]
abbrev dktX4_greatestEnd_1 : List UInt8 := dkwX4_greatestEnd_1 ++ []
def dkwX4_greatestEnd_0 : List UInt8 := [3, 60, 3, 61, 28, 42, 180, 0, 9, 4, 46, 162, 0, 19, 27, 42, 28, 182, 0, 164, 184, 0, 167, 60]
abbrev dktX4_greatestEnd_0 : List UInt8 := dkwX4_greatestEnd_0 ++ dktX4_greatestEnd_1
theorem dksX4_greatestEnd_0 : cX4_greatestEnd.data.toList.drop 0 = dktX4_greatestEnd_0 := by decide +kernel
theorem dksX4_greatestEnd_1 : cX4_greatestEnd.data.toList.drop 24 = dktX4_greatestEnd_1 := dk_seg dksX4_greatestEnd_0 24 rfl rfl
theorem dX4_greatestEnd_0 : decode cX4_greatestEnd 0 = .ok (.iconst 0, 1) := dk_3 (dk_at dksX4_greatestEnd_0 0 rfl rfl)
theorem dX4_greatestEnd_1 : decode cX4_greatestEnd 1 = .ok (.istore_n 1, 1) := dk_60 (dk_at dksX4_greatestEnd_0 1 rfl rfl)
theorem dX4_greatestEnd_2 : decode cX4_greatestEnd 2 = .ok (.iconst 0, 1) := dk_3 (dk_at dksX4_greatestEnd_0 2 rfl rfl)
theorem dX4_greatestEnd_3 : decode cX4_greatestEnd 3 = .ok (.istore_n 2, 1) := dk_61 (dk_at dksX4_greatestEnd_0 3 rfl rfl)
theorem dX4_greatestEnd_4 : decode cX4_greatestEnd 4 = .ok (.iload_n 2, 1) := dk_28 (dk_at dksX4_greatestEnd_0 4 rfl rfl)
theorem dX4_greatestEnd_5 : decode cX4_greatestEnd 5 = .ok (.aload_n 0, 1) := dk_42 (dk_at dksX4_greatestEnd_0 5 rfl rfl)
theorem dX4_greatestEnd_6 : decode cX4_greatestEnd 6 = .ok (.getfield 9, 3) := dk_180 0 9 (dk_at dksX4_greatestEnd_0 6 rfl rfl)
theorem dX4_greatestEnd_9 : decode cX4_greatestEnd 9 = .ok (.iconst 1, 1) := dk_4 (dk_at dksX4_greatestEnd_0 9 rfl rfl)
theorem dX4_greatestEnd_10 : decode cX4_greatestEnd 10 = .ok (.iaload, 1) := dk_46 (dk_at dksX4_greatestEnd_0 10 rfl rfl)
theorem dX4_greatestEnd_11 : decode cX4_greatestEnd 11 = .ok (.if_icmp .ge 19, 3) := dk_162 0 19 (dk_at dksX4_greatestEnd_0 11 rfl rfl)
theorem dX4_greatestEnd_14 : decode cX4_greatestEnd 14 = .ok (.iload_n 1, 1) := dk_27 (dk_at dksX4_greatestEnd_0 14 rfl rfl)
theorem dX4_greatestEnd_15 : decode cX4_greatestEnd 15 = .ok (.aload_n 0, 1) := dk_42 (dk_at dksX4_greatestEnd_0 15 rfl rfl)
theorem dX4_greatestEnd_16 : decode cX4_greatestEnd 16 = .ok (.iload_n 2, 1) := dk_28 (dk_at dksX4_greatestEnd_0 16 rfl rfl)
theorem dX4_greatestEnd_17 : decode cX4_greatestEnd 17 = .ok (.invokevirtual 164, 3) := dk_182 0 164 (dk_at dksX4_greatestEnd_0 17 rfl rfl)
theorem dX4_greatestEnd_20 : decode cX4_greatestEnd 20 = .ok (.invokestatic 167, 3) := dk_184 0 167 (dk_at dksX4_greatestEnd_0 20 rfl rfl)
theorem dX4_greatestEnd_23 : decode cX4_greatestEnd 23 = .ok (.istore_n 1, 1) := dk_60 (dk_at dksX4_greatestEnd_0 23 rfl rfl)
theorem dX4_greatestEnd_24 : decode cX4_greatestEnd 24 = .ok (.iinc 2 1, 3) := dk_132 2 1 (dk_at dksX4_greatestEnd_1 0 rfl rfl)
theorem dX4_greatestEnd_27 : decode cX4_greatestEnd 27 = .ok (.goto (-23), 3) := dk_167 255 233 (dk_at dksX4_greatestEnd_1 3 rfl rfl)
theorem dX4_greatestEnd_30 : decode cX4_greatestEnd 30 = .ok (.iload_n 1, 1) := dk_27 (dk_at dksX4_greatestEnd_1 6 rfl rfl)
theorem dX4_greatestEnd_31 : decode cX4_greatestEnd 31 = .ok (.ireturn, 1) := dk_172 (dk_at dksX4_greatestEnd_1 7 rfl rfl)
abbrev cX4_slack : ByteArray := prog_19_method_39_code
def yX4_slack : MethodName := ⟨RX4, "slack", "(I)I"⟩
def dkwX4_slack_3 : List UInt8 := [54, 5, 167, 255, 233, 42, 2, 181, 0, 36, 21, 4, 172]
abbrev dktX4_slack_3 : List UInt8 := dkwX4_slack_3 ++ []
def dkwX4_slack_2 : List UInt8 := [181, 0, 36, 21, 5, 28, 159, 0, 23, 132, 4, 255, 42, 29, 21, 4, 96, 181, 0, 175, 42, 182, 0, 188]
abbrev dktX4_slack_2 : List UInt8 := dkwX4_slack_2 ++ dktX4_slack_3
def dkwX4_slack_1 : List UInt8 := [3, 172, 42, 182, 0, 188, 61, 42, 180, 0, 29, 27, 46, 62, 16, 61, 54, 4, 2, 54, 5, 42, 27]
abbrev dktX4_slack_1 : List UInt8 := dkwX4_slack_1 ++ dktX4_slack_2
def dkwX4_slack_0 : List UInt8 := [42, 42, 27, 182, 0, 135, 153, 0, 7, 3, 167, 0, 4, 4, 181, 0, 79, 42, 180, 0, 79, 158, 0, 5]
abbrev dktX4_slack_0 : List UInt8 := dkwX4_slack_0 ++ dktX4_slack_1
theorem dksX4_slack_0 : cX4_slack.data.toList.drop 0 = dktX4_slack_0 := by decide +kernel
theorem dksX4_slack_1 : cX4_slack.data.toList.drop 24 = dktX4_slack_1 := dk_seg dksX4_slack_0 24 rfl rfl
theorem dksX4_slack_2 : cX4_slack.data.toList.drop 47 = dktX4_slack_2 := dk_seg dksX4_slack_1 23 rfl rfl
theorem dksX4_slack_3 : cX4_slack.data.toList.drop 71 = dktX4_slack_3 := dk_seg dksX4_slack_2 24 rfl rfl
theorem dX4_slack_0 : decode cX4_slack 0 = .ok (.aload_n 0, 1) := dk_42 (dk_at dksX4_slack_0 0 rfl rfl)
theorem dX4_slack_1 : decode cX4_slack 1 = .ok (.aload_n 0, 1) := dk_42 (dk_at dksX4_slack_0 1 rfl rfl)
theorem dX4_slack_2 : decode cX4_slack 2 = .ok (.iload_n 1, 1) := dk_27 (dk_at dksX4_slack_0 2 rfl rfl)
theorem dX4_slack_3 : decode cX4_slack 3 = .ok (.invokevirtual 135, 3) := dk_182 0 135 (dk_at dksX4_slack_0 3 rfl rfl)
theorem dX4_slack_6 : decode cX4_slack 6 = .ok (.ifCond .eq 7, 3) := dk_153 0 7 (dk_at dksX4_slack_0 6 rfl rfl)
theorem dX4_slack_9 : decode cX4_slack 9 = .ok (.iconst 0, 1) := dk_3 (dk_at dksX4_slack_0 9 rfl rfl)
theorem dX4_slack_10 : decode cX4_slack 10 = .ok (.goto 4, 3) := dk_167 0 4 (dk_at dksX4_slack_0 10 rfl rfl)
theorem dX4_slack_13 : decode cX4_slack 13 = .ok (.iconst 1, 1) := dk_4 (dk_at dksX4_slack_0 13 rfl rfl)
theorem dX4_slack_14 : decode cX4_slack 14 = .ok (.putfield 79, 3) := dk_181 0 79 (dk_at dksX4_slack_0 14 rfl rfl)
theorem dX4_slack_17 : decode cX4_slack 17 = .ok (.aload_n 0, 1) := dk_42 (dk_at dksX4_slack_0 17 rfl rfl)
theorem dX4_slack_18 : decode cX4_slack 18 = .ok (.getfield 79, 3) := dk_180 0 79 (dk_at dksX4_slack_0 18 rfl rfl)
theorem dX4_slack_21 : decode cX4_slack 21 = .ok (.ifCond .le 5, 3) := dk_158 0 5 (dk_at dksX4_slack_0 21 rfl rfl)
theorem dX4_slack_24 : decode cX4_slack 24 = .ok (.iconst 0, 1) := dk_3 (dk_at dksX4_slack_1 0 rfl rfl)
theorem dX4_slack_25 : decode cX4_slack 25 = .ok (.ireturn, 1) := dk_172 (dk_at dksX4_slack_1 1 rfl rfl)
theorem dX4_slack_26 : decode cX4_slack 26 = .ok (.aload_n 0, 1) := dk_42 (dk_at dksX4_slack_1 2 rfl rfl)
theorem dX4_slack_27 : decode cX4_slack 27 = .ok (.invokevirtual 188, 3) := dk_182 0 188 (dk_at dksX4_slack_1 3 rfl rfl)
theorem dX4_slack_30 : decode cX4_slack 30 = .ok (.istore_n 2, 1) := dk_61 (dk_at dksX4_slack_1 6 rfl rfl)
theorem dX4_slack_31 : decode cX4_slack 31 = .ok (.aload_n 0, 1) := dk_42 (dk_at dksX4_slack_1 7 rfl rfl)
theorem dX4_slack_32 : decode cX4_slack 32 = .ok (.getfield 29, 3) := dk_180 0 29 (dk_at dksX4_slack_1 8 rfl rfl)
theorem dX4_slack_35 : decode cX4_slack 35 = .ok (.iload_n 1, 1) := dk_27 (dk_at dksX4_slack_1 11 rfl rfl)
theorem dX4_slack_36 : decode cX4_slack 36 = .ok (.iaload, 1) := dk_46 (dk_at dksX4_slack_1 12 rfl rfl)
theorem dX4_slack_37 : decode cX4_slack 37 = .ok (.istore_n 3, 1) := dk_62 (dk_at dksX4_slack_1 13 rfl rfl)
theorem dX4_slack_38 : decode cX4_slack 38 = .ok (.bipush 61, 2) := dk_16 61 (dk_at dksX4_slack_1 14 rfl rfl)
theorem dX4_slack_40 : decode cX4_slack 40 = .ok (.istore 4, 2) := dk_54 4 (dk_at dksX4_slack_1 16 rfl rfl)
theorem dX4_slack_42 : decode cX4_slack 42 = .ok (.iconst (-1), 1) := dk_2 (dk_at dksX4_slack_1 18 rfl rfl)
theorem dX4_slack_43 : decode cX4_slack 43 = .ok (.istore 5, 2) := dk_54 5 (dk_at dksX4_slack_1 19 rfl rfl)
theorem dX4_slack_45 : decode cX4_slack 45 = .ok (.aload_n 0, 1) := dk_42 (dk_at dksX4_slack_1 21 rfl rfl)
theorem dX4_slack_46 : decode cX4_slack 46 = .ok (.iload_n 1, 1) := dk_27 (dk_at dksX4_slack_1 22 rfl rfl)
theorem dX4_slack_47 : decode cX4_slack 47 = .ok (.putfield 36, 3) := dk_181 0 36 (dk_at dksX4_slack_2 0 rfl rfl)
theorem dX4_slack_50 : decode cX4_slack 50 = .ok (.iload 5, 2) := dk_21 5 (dk_at dksX4_slack_2 3 rfl rfl)
theorem dX4_slack_52 : decode cX4_slack 52 = .ok (.iload_n 2, 1) := dk_28 (dk_at dksX4_slack_2 5 rfl rfl)
theorem dX4_slack_53 : decode cX4_slack 53 = .ok (.if_icmp .eq 23, 3) := dk_159 0 23 (dk_at dksX4_slack_2 6 rfl rfl)
theorem dX4_slack_56 : decode cX4_slack 56 = .ok (.iinc 4 (-1), 3) := dk_132 4 255 (dk_at dksX4_slack_2 9 rfl rfl)
theorem dX4_slack_59 : decode cX4_slack 59 = .ok (.aload_n 0, 1) := dk_42 (dk_at dksX4_slack_2 12 rfl rfl)
theorem dX4_slack_60 : decode cX4_slack 60 = .ok (.iload_n 3, 1) := dk_29 (dk_at dksX4_slack_2 13 rfl rfl)
theorem dX4_slack_61 : decode cX4_slack 61 = .ok (.iload 4, 2) := dk_21 4 (dk_at dksX4_slack_2 14 rfl rfl)
theorem dX4_slack_63 : decode cX4_slack 63 = .ok (.iadd, 1) := dk_96 (dk_at dksX4_slack_2 16 rfl rfl)
theorem dX4_slack_64 : decode cX4_slack 64 = .ok (.putfield 175, 3) := dk_181 0 175 (dk_at dksX4_slack_2 17 rfl rfl)
theorem dX4_slack_67 : decode cX4_slack 67 = .ok (.aload_n 0, 1) := dk_42 (dk_at dksX4_slack_2 20 rfl rfl)
theorem dX4_slack_68 : decode cX4_slack 68 = .ok (.invokevirtual 188, 3) := dk_182 0 188 (dk_at dksX4_slack_2 21 rfl rfl)
theorem dX4_slack_71 : decode cX4_slack 71 = .ok (.istore 5, 2) := dk_54 5 (dk_at dksX4_slack_3 0 rfl rfl)
theorem dX4_slack_73 : decode cX4_slack 73 = .ok (.goto (-23), 3) := dk_167 255 233 (dk_at dksX4_slack_3 2 rfl rfl)
theorem dX4_slack_76 : decode cX4_slack 76 = .ok (.aload_n 0, 1) := dk_42 (dk_at dksX4_slack_3 5 rfl rfl)
theorem dX4_slack_77 : decode cX4_slack 77 = .ok (.iconst (-1), 1) := dk_2 (dk_at dksX4_slack_3 6 rfl rfl)
theorem dX4_slack_78 : decode cX4_slack 78 = .ok (.putfield 36, 3) := dk_181 0 36 (dk_at dksX4_slack_3 7 rfl rfl)
theorem dX4_slack_81 : decode cX4_slack 81 = .ok (.iload 4, 2) := dk_21 4 (dk_at dksX4_slack_3 10 rfl rfl)
theorem dX4_slack_83 : decode cX4_slack 83 = .ok (.ireturn, 1) := dk_172 (dk_at dksX4_slack_3 12 rfl rfl)
abbrev cX4_completion : ByteArray := prog_19_method_41_code
def yX4_completion : MethodName := ⟨RX4, "completion", "(I)I"⟩
def dkwX4_completion_1 : List UInt8 := [3, 172, 42, 182, 0, 181, 61, 42, 27, 182, 0, 191, 172]
abbrev dktX4_completion_1 : List UInt8 := dkwX4_completion_1 ++ []
def dkwX4_completion_0 : List UInt8 := [42, 42, 27, 182, 0, 118, 153, 0, 7, 3, 167, 0, 4, 4, 181, 0, 79, 42, 180, 0, 79, 158, 0, 5]
abbrev dktX4_completion_0 : List UInt8 := dkwX4_completion_0 ++ dktX4_completion_1
theorem dksX4_completion_0 : cX4_completion.data.toList.drop 0 = dktX4_completion_0 := by decide +kernel
theorem dksX4_completion_1 : cX4_completion.data.toList.drop 24 = dktX4_completion_1 := dk_seg dksX4_completion_0 24 rfl rfl
theorem dX4_completion_0 : decode cX4_completion 0 = .ok (.aload_n 0, 1) := dk_42 (dk_at dksX4_completion_0 0 rfl rfl)
theorem dX4_completion_1 : decode cX4_completion 1 = .ok (.aload_n 0, 1) := dk_42 (dk_at dksX4_completion_0 1 rfl rfl)
theorem dX4_completion_2 : decode cX4_completion 2 = .ok (.iload_n 1, 1) := dk_27 (dk_at dksX4_completion_0 2 rfl rfl)
theorem dX4_completion_3 : decode cX4_completion 3 = .ok (.invokevirtual 118, 3) := dk_182 0 118 (dk_at dksX4_completion_0 3 rfl rfl)
theorem dX4_completion_6 : decode cX4_completion 6 = .ok (.ifCond .eq 7, 3) := dk_153 0 7 (dk_at dksX4_completion_0 6 rfl rfl)
theorem dX4_completion_9 : decode cX4_completion 9 = .ok (.iconst 0, 1) := dk_3 (dk_at dksX4_completion_0 9 rfl rfl)
theorem dX4_completion_10 : decode cX4_completion 10 = .ok (.goto 4, 3) := dk_167 0 4 (dk_at dksX4_completion_0 10 rfl rfl)
theorem dX4_completion_13 : decode cX4_completion 13 = .ok (.iconst 1, 1) := dk_4 (dk_at dksX4_completion_0 13 rfl rfl)
theorem dX4_completion_14 : decode cX4_completion 14 = .ok (.putfield 79, 3) := dk_181 0 79 (dk_at dksX4_completion_0 14 rfl rfl)
theorem dX4_completion_17 : decode cX4_completion 17 = .ok (.aload_n 0, 1) := dk_42 (dk_at dksX4_completion_0 17 rfl rfl)
theorem dX4_completion_18 : decode cX4_completion 18 = .ok (.getfield 79, 3) := dk_180 0 79 (dk_at dksX4_completion_0 18 rfl rfl)
theorem dX4_completion_21 : decode cX4_completion 21 = .ok (.ifCond .le 5, 3) := dk_158 0 5 (dk_at dksX4_completion_0 21 rfl rfl)
theorem dX4_completion_24 : decode cX4_completion 24 = .ok (.iconst 0, 1) := dk_3 (dk_at dksX4_completion_1 0 rfl rfl)
theorem dX4_completion_25 : decode cX4_completion 25 = .ok (.ireturn, 1) := dk_172 (dk_at dksX4_completion_1 1 rfl rfl)
theorem dX4_completion_26 : decode cX4_completion 26 = .ok (.aload_n 0, 1) := dk_42 (dk_at dksX4_completion_1 2 rfl rfl)
theorem dX4_completion_27 : decode cX4_completion 27 = .ok (.invokevirtual 181, 3) := dk_182 0 181 (dk_at dksX4_completion_1 3 rfl rfl)
theorem dX4_completion_30 : decode cX4_completion 30 = .ok (.istore_n 2, 1) := dk_61 (dk_at dksX4_completion_1 6 rfl rfl)
theorem dX4_completion_31 : decode cX4_completion 31 = .ok (.aload_n 0, 1) := dk_42 (dk_at dksX4_completion_1 7 rfl rfl)
theorem dX4_completion_32 : decode cX4_completion 32 = .ok (.iload_n 1, 1) := dk_27 (dk_at dksX4_completion_1 8 rfl rfl)
theorem dX4_completion_33 : decode cX4_completion 33 = .ok (.invokevirtual 191, 3) := dk_182 0 191 (dk_at dksX4_completion_1 9 rfl rfl)
theorem dX4_completion_36 : decode cX4_completion 36 = .ok (.ireturn, 1) := dk_172 (dk_at dksX4_completion_1 12 rfl rfl)
abbrev cX4_completionOf : ByteArray := prog_19_method_40_code
def yX4_completionOf : MethodName := ⟨RX4, "completionOf", "(I)I"⟩
def dkwX4_completionOf_1 : List UInt8 := [167, 0, 15, 42, 42, 27, 28, 4, 100, 182, 0, 110, 182, 0, 164, 172]
abbrev dktX4_completionOf_1 : List UInt8 := dkwX4_completionOf_1 ++ []
def dkwX4_completionOf_0 : List UInt8 := [42, 180, 0, 9, 16, 17, 27, 96, 46, 61, 28, 154, 0, 14, 42, 180, 0, 9, 5, 27, 96, 46]
abbrev dktX4_completionOf_0 : List UInt8 := dkwX4_completionOf_0 ++ dktX4_completionOf_1
theorem dksX4_completionOf_0 : cX4_completionOf.data.toList.drop 0 = dktX4_completionOf_0 := by decide +kernel
theorem dksX4_completionOf_1 : cX4_completionOf.data.toList.drop 22 = dktX4_completionOf_1 := dk_seg dksX4_completionOf_0 22 rfl rfl
theorem dX4_completionOf_0 : decode cX4_completionOf 0 = .ok (.aload_n 0, 1) := dk_42 (dk_at dksX4_completionOf_0 0 rfl rfl)
theorem dX4_completionOf_1 : decode cX4_completionOf 1 = .ok (.getfield 9, 3) := dk_180 0 9 (dk_at dksX4_completionOf_0 1 rfl rfl)
theorem dX4_completionOf_4 : decode cX4_completionOf 4 = .ok (.bipush 17, 2) := dk_16 17 (dk_at dksX4_completionOf_0 4 rfl rfl)
theorem dX4_completionOf_6 : decode cX4_completionOf 6 = .ok (.iload_n 1, 1) := dk_27 (dk_at dksX4_completionOf_0 6 rfl rfl)
theorem dX4_completionOf_7 : decode cX4_completionOf 7 = .ok (.iadd, 1) := dk_96 (dk_at dksX4_completionOf_0 7 rfl rfl)
theorem dX4_completionOf_8 : decode cX4_completionOf 8 = .ok (.iaload, 1) := dk_46 (dk_at dksX4_completionOf_0 8 rfl rfl)
theorem dX4_completionOf_9 : decode cX4_completionOf 9 = .ok (.istore_n 2, 1) := dk_61 (dk_at dksX4_completionOf_0 9 rfl rfl)
theorem dX4_completionOf_10 : decode cX4_completionOf 10 = .ok (.iload_n 2, 1) := dk_28 (dk_at dksX4_completionOf_0 10 rfl rfl)
theorem dX4_completionOf_11 : decode cX4_completionOf 11 = .ok (.ifCond .ne 14, 3) := dk_154 0 14 (dk_at dksX4_completionOf_0 11 rfl rfl)
theorem dX4_completionOf_14 : decode cX4_completionOf 14 = .ok (.aload_n 0, 1) := dk_42 (dk_at dksX4_completionOf_0 14 rfl rfl)
theorem dX4_completionOf_15 : decode cX4_completionOf 15 = .ok (.getfield 9, 3) := dk_180 0 9 (dk_at dksX4_completionOf_0 15 rfl rfl)
theorem dX4_completionOf_18 : decode cX4_completionOf 18 = .ok (.iconst 2, 1) := dk_5 (dk_at dksX4_completionOf_0 18 rfl rfl)
theorem dX4_completionOf_19 : decode cX4_completionOf 19 = .ok (.iload_n 1, 1) := dk_27 (dk_at dksX4_completionOf_0 19 rfl rfl)
theorem dX4_completionOf_20 : decode cX4_completionOf 20 = .ok (.iadd, 1) := dk_96 (dk_at dksX4_completionOf_0 20 rfl rfl)
theorem dX4_completionOf_21 : decode cX4_completionOf 21 = .ok (.iaload, 1) := dk_46 (dk_at dksX4_completionOf_0 21 rfl rfl)
theorem dX4_completionOf_22 : decode cX4_completionOf 22 = .ok (.goto 15, 3) := dk_167 0 15 (dk_at dksX4_completionOf_1 0 rfl rfl)
theorem dX4_completionOf_25 : decode cX4_completionOf 25 = .ok (.aload_n 0, 1) := dk_42 (dk_at dksX4_completionOf_1 3 rfl rfl)
theorem dX4_completionOf_26 : decode cX4_completionOf 26 = .ok (.aload_n 0, 1) := dk_42 (dk_at dksX4_completionOf_1 4 rfl rfl)
theorem dX4_completionOf_27 : decode cX4_completionOf 27 = .ok (.iload_n 1, 1) := dk_27 (dk_at dksX4_completionOf_1 5 rfl rfl)
theorem dX4_completionOf_28 : decode cX4_completionOf 28 = .ok (.iload_n 2, 1) := dk_28 (dk_at dksX4_completionOf_1 6 rfl rfl)
theorem dX4_completionOf_29 : decode cX4_completionOf 29 = .ok (.iconst 1, 1) := dk_4 (dk_at dksX4_completionOf_1 7 rfl rfl)
theorem dX4_completionOf_30 : decode cX4_completionOf 30 = .ok (.isub, 1) := dk_100 (dk_at dksX4_completionOf_1 8 rfl rfl)
theorem dX4_completionOf_31 : decode cX4_completionOf 31 = .ok (.invokevirtual 110, 3) := dk_182 0 110 (dk_at dksX4_completionOf_1 9 rfl rfl)
theorem dX4_completionOf_34 : decode cX4_completionOf 34 = .ok (.invokevirtual 164, 3) := dk_182 0 164 (dk_at dksX4_completionOf_1 12 rfl rfl)
theorem dX4_completionOf_37 : decode cX4_completionOf 37 = .ok (.ireturn, 1) := dk_172 (dk_at dksX4_completionOf_1 15 rfl rfl)
abbrev cX4_objective : ByteArray := prog_19_method_43_code
def yX4_objective : MethodName := ⟨RX4, "objective", "(I)I"⟩
def dkwX4_objective_8 : List UInt8 := [29, 172]
abbrev dktX4_objective_8 : List UInt8 := dkwX4_objective_8 ++ []
def dkwX4_objective_7 : List UInt8 := [21, 5, 104, 167, 0, 13, 21, 5, 158, 0, 7, 4, 167, 0, 4, 3, 96, 62, 132, 4, 1, 167, 255, 167]
abbrev dktX4_objective_7 : List UInt8 := dkwX4_objective_7 ++ dktX4_objective_8
def dkwX4_objective_6 : List UInt8 := [42, 21, 4, 182, 0, 191, 167, 0, 34, 27, 4, 160, 0, 19, 42, 180, 0, 9, 16, 12, 21, 4, 96, 46]
abbrev dktX4_objective_6 : List UInt8 := dkwX4_objective_6 ++ dktX4_objective_7
def dkwX4_objective_5 : List UInt8 := [182, 0, 191, 42, 180, 0, 9, 16, 7, 21, 4, 96, 46, 100, 184, 0, 167, 54, 5, 29, 27, 154, 0, 12]
abbrev dktX4_objective_5 : List UInt8 := dkwX4_objective_5 ++ dktX4_objective_6
def dkwX4_objective_4 : List UInt8 := [54, 4, 21, 4, 42, 180, 0, 9, 3, 46, 162, 0, 84, 27, 6, 162, 0, 79, 3, 42, 21, 4]
abbrev dktX4_objective_4 : List UInt8 := dkwX4_objective_4 ++ dktX4_objective_5
def dkwX4_objective_3 : List UInt8 := [180, 0, 29, 21, 4, 46, 42, 180, 0, 26, 21, 4, 46, 100, 96, 62, 132, 4, 1, 167, 255, 219, 3]
abbrev dktX4_objective_3 : List UInt8 := dkwX4_objective_3 ++ dktX4_objective_4
def dkwX4_objective_2 : List UInt8 := [62, 3, 54, 4, 21, 4, 42, 180, 0, 9, 4, 46, 162, 0, 32, 27, 7, 160, 0, 27, 29, 42]
abbrev dktX4_objective_2 : List UInt8 := dkwX4_objective_2 ++ dktX4_objective_3
def dkwX4_objective_1 : List UInt8 := [180, 0, 79, 158, 0, 5, 3, 172, 42, 182, 0, 181, 61, 27, 6, 160, 0, 8, 42, 182, 0, 196, 172, 3]
abbrev dktX4_objective_1 : List UInt8 := dkwX4_objective_1 ++ dktX4_objective_2
def dkwX4_objective_0 : List UInt8 := [42, 27, 133, 9, 20, 0, 194, 184, 0, 82, 153, 0, 7, 3, 167, 0, 4, 4, 181, 0, 79, 42]
abbrev dktX4_objective_0 : List UInt8 := dkwX4_objective_0 ++ dktX4_objective_1
theorem dksX4_objective_0 : cX4_objective.data.toList.drop 0 = dktX4_objective_0 := by decide +kernel
theorem dksX4_objective_1 : cX4_objective.data.toList.drop 22 = dktX4_objective_1 := dk_seg dksX4_objective_0 22 rfl rfl
theorem dksX4_objective_2 : cX4_objective.data.toList.drop 46 = dktX4_objective_2 := dk_seg dksX4_objective_1 24 rfl rfl
theorem dksX4_objective_3 : cX4_objective.data.toList.drop 68 = dktX4_objective_3 := dk_seg dksX4_objective_2 22 rfl rfl
theorem dksX4_objective_4 : cX4_objective.data.toList.drop 91 = dktX4_objective_4 := dk_seg dksX4_objective_3 23 rfl rfl
theorem dksX4_objective_5 : cX4_objective.data.toList.drop 113 = dktX4_objective_5 := dk_seg dksX4_objective_4 22 rfl rfl
theorem dksX4_objective_6 : cX4_objective.data.toList.drop 137 = dktX4_objective_6 := dk_seg dksX4_objective_5 24 rfl rfl
theorem dksX4_objective_7 : cX4_objective.data.toList.drop 161 = dktX4_objective_7 := dk_seg dksX4_objective_6 24 rfl rfl
theorem dksX4_objective_8 : cX4_objective.data.toList.drop 185 = dktX4_objective_8 := dk_seg dksX4_objective_7 24 rfl rfl
theorem dX4_objective_0 : decode cX4_objective 0 = .ok (.aload_n 0, 1) := dk_42 (dk_at dksX4_objective_0 0 rfl rfl)
theorem dX4_objective_1 : decode cX4_objective 1 = .ok (.iload_n 1, 1) := dk_27 (dk_at dksX4_objective_0 1 rfl rfl)
theorem dX4_objective_2 : decode cX4_objective 2 = .ok (.i2l, 1) := dk_133 (dk_at dksX4_objective_0 2 rfl rfl)
theorem dX4_objective_3 : decode cX4_objective 3 = .ok (.lconst 0, 1) := dk_9 (dk_at dksX4_objective_0 3 rfl rfl)
theorem dX4_objective_4 : decode cX4_objective 4 = .ok (.ldc2_w 194, 3) := dk_20 0 194 (dk_at dksX4_objective_0 4 rfl rfl)
theorem dX4_objective_7 : decode cX4_objective 7 = .ok (.invokestatic 82, 3) := dk_184 0 82 (dk_at dksX4_objective_0 7 rfl rfl)
theorem dX4_objective_10 : decode cX4_objective 10 = .ok (.ifCond .eq 7, 3) := dk_153 0 7 (dk_at dksX4_objective_0 10 rfl rfl)
theorem dX4_objective_13 : decode cX4_objective 13 = .ok (.iconst 0, 1) := dk_3 (dk_at dksX4_objective_0 13 rfl rfl)
theorem dX4_objective_14 : decode cX4_objective 14 = .ok (.goto 4, 3) := dk_167 0 4 (dk_at dksX4_objective_0 14 rfl rfl)
theorem dX4_objective_17 : decode cX4_objective 17 = .ok (.iconst 1, 1) := dk_4 (dk_at dksX4_objective_0 17 rfl rfl)
theorem dX4_objective_18 : decode cX4_objective 18 = .ok (.putfield 79, 3) := dk_181 0 79 (dk_at dksX4_objective_0 18 rfl rfl)
theorem dX4_objective_21 : decode cX4_objective 21 = .ok (.aload_n 0, 1) := dk_42 (dk_at dksX4_objective_0 21 rfl rfl)
theorem dX4_objective_22 : decode cX4_objective 22 = .ok (.getfield 79, 3) := dk_180 0 79 (dk_at dksX4_objective_1 0 rfl rfl)
theorem dX4_objective_25 : decode cX4_objective 25 = .ok (.ifCond .le 5, 3) := dk_158 0 5 (dk_at dksX4_objective_1 3 rfl rfl)
theorem dX4_objective_28 : decode cX4_objective 28 = .ok (.iconst 0, 1) := dk_3 (dk_at dksX4_objective_1 6 rfl rfl)
theorem dX4_objective_29 : decode cX4_objective 29 = .ok (.ireturn, 1) := dk_172 (dk_at dksX4_objective_1 7 rfl rfl)
theorem dX4_objective_30 : decode cX4_objective 30 = .ok (.aload_n 0, 1) := dk_42 (dk_at dksX4_objective_1 8 rfl rfl)
theorem dX4_objective_31 : decode cX4_objective 31 = .ok (.invokevirtual 181, 3) := dk_182 0 181 (dk_at dksX4_objective_1 9 rfl rfl)
theorem dX4_objective_34 : decode cX4_objective 34 = .ok (.istore_n 2, 1) := dk_61 (dk_at dksX4_objective_1 12 rfl rfl)
theorem dX4_objective_35 : decode cX4_objective 35 = .ok (.iload_n 1, 1) := dk_27 (dk_at dksX4_objective_1 13 rfl rfl)
theorem dX4_objective_36 : decode cX4_objective 36 = .ok (.iconst 3, 1) := dk_6 (dk_at dksX4_objective_1 14 rfl rfl)
theorem dX4_objective_37 : decode cX4_objective 37 = .ok (.if_icmp .ne 8, 3) := dk_160 0 8 (dk_at dksX4_objective_1 15 rfl rfl)
theorem dX4_objective_40 : decode cX4_objective 40 = .ok (.aload_n 0, 1) := dk_42 (dk_at dksX4_objective_1 18 rfl rfl)
theorem dX4_objective_41 : decode cX4_objective 41 = .ok (.invokevirtual 196, 3) := dk_182 0 196 (dk_at dksX4_objective_1 19 rfl rfl)
theorem dX4_objective_44 : decode cX4_objective 44 = .ok (.ireturn, 1) := dk_172 (dk_at dksX4_objective_1 22 rfl rfl)
theorem dX4_objective_45 : decode cX4_objective 45 = .ok (.iconst 0, 1) := dk_3 (dk_at dksX4_objective_1 23 rfl rfl)
theorem dX4_objective_46 : decode cX4_objective 46 = .ok (.istore_n 3, 1) := dk_62 (dk_at dksX4_objective_2 0 rfl rfl)
theorem dX4_objective_47 : decode cX4_objective 47 = .ok (.iconst 0, 1) := dk_3 (dk_at dksX4_objective_2 1 rfl rfl)
theorem dX4_objective_48 : decode cX4_objective 48 = .ok (.istore 4, 2) := dk_54 4 (dk_at dksX4_objective_2 2 rfl rfl)
theorem dX4_objective_50 : decode cX4_objective 50 = .ok (.iload 4, 2) := dk_21 4 (dk_at dksX4_objective_2 4 rfl rfl)
theorem dX4_objective_52 : decode cX4_objective 52 = .ok (.aload_n 0, 1) := dk_42 (dk_at dksX4_objective_2 6 rfl rfl)
theorem dX4_objective_53 : decode cX4_objective 53 = .ok (.getfield 9, 3) := dk_180 0 9 (dk_at dksX4_objective_2 7 rfl rfl)
theorem dX4_objective_56 : decode cX4_objective 56 = .ok (.iconst 1, 1) := dk_4 (dk_at dksX4_objective_2 10 rfl rfl)
theorem dX4_objective_57 : decode cX4_objective 57 = .ok (.iaload, 1) := dk_46 (dk_at dksX4_objective_2 11 rfl rfl)
theorem dX4_objective_58 : decode cX4_objective 58 = .ok (.if_icmp .ge 32, 3) := dk_162 0 32 (dk_at dksX4_objective_2 12 rfl rfl)
theorem dX4_objective_61 : decode cX4_objective 61 = .ok (.iload_n 1, 1) := dk_27 (dk_at dksX4_objective_2 15 rfl rfl)
theorem dX4_objective_62 : decode cX4_objective 62 = .ok (.iconst 4, 1) := dk_7 (dk_at dksX4_objective_2 16 rfl rfl)
theorem dX4_objective_63 : decode cX4_objective 63 = .ok (.if_icmp .ne 27, 3) := dk_160 0 27 (dk_at dksX4_objective_2 17 rfl rfl)
theorem dX4_objective_66 : decode cX4_objective 66 = .ok (.iload_n 3, 1) := dk_29 (dk_at dksX4_objective_2 20 rfl rfl)
theorem dX4_objective_67 : decode cX4_objective 67 = .ok (.aload_n 0, 1) := dk_42 (dk_at dksX4_objective_2 21 rfl rfl)
theorem dX4_objective_68 : decode cX4_objective 68 = .ok (.getfield 29, 3) := dk_180 0 29 (dk_at dksX4_objective_3 0 rfl rfl)
theorem dX4_objective_71 : decode cX4_objective 71 = .ok (.iload 4, 2) := dk_21 4 (dk_at dksX4_objective_3 3 rfl rfl)
theorem dX4_objective_73 : decode cX4_objective 73 = .ok (.iaload, 1) := dk_46 (dk_at dksX4_objective_3 5 rfl rfl)
theorem dX4_objective_74 : decode cX4_objective 74 = .ok (.aload_n 0, 1) := dk_42 (dk_at dksX4_objective_3 6 rfl rfl)
theorem dX4_objective_75 : decode cX4_objective 75 = .ok (.getfield 26, 3) := dk_180 0 26 (dk_at dksX4_objective_3 7 rfl rfl)
theorem dX4_objective_78 : decode cX4_objective 78 = .ok (.iload 4, 2) := dk_21 4 (dk_at dksX4_objective_3 10 rfl rfl)
theorem dX4_objective_80 : decode cX4_objective 80 = .ok (.iaload, 1) := dk_46 (dk_at dksX4_objective_3 12 rfl rfl)
theorem dX4_objective_81 : decode cX4_objective 81 = .ok (.isub, 1) := dk_100 (dk_at dksX4_objective_3 13 rfl rfl)
theorem dX4_objective_82 : decode cX4_objective 82 = .ok (.iadd, 1) := dk_96 (dk_at dksX4_objective_3 14 rfl rfl)
theorem dX4_objective_83 : decode cX4_objective 83 = .ok (.istore_n 3, 1) := dk_62 (dk_at dksX4_objective_3 15 rfl rfl)
theorem dX4_objective_84 : decode cX4_objective 84 = .ok (.iinc 4 1, 3) := dk_132 4 1 (dk_at dksX4_objective_3 16 rfl rfl)
theorem dX4_objective_87 : decode cX4_objective 87 = .ok (.goto (-37), 3) := dk_167 255 219 (dk_at dksX4_objective_3 19 rfl rfl)
theorem dX4_objective_90 : decode cX4_objective 90 = .ok (.iconst 0, 1) := dk_3 (dk_at dksX4_objective_3 22 rfl rfl)
theorem dX4_objective_91 : decode cX4_objective 91 = .ok (.istore 4, 2) := dk_54 4 (dk_at dksX4_objective_4 0 rfl rfl)
theorem dX4_objective_93 : decode cX4_objective 93 = .ok (.iload 4, 2) := dk_21 4 (dk_at dksX4_objective_4 2 rfl rfl)
theorem dX4_objective_95 : decode cX4_objective 95 = .ok (.aload_n 0, 1) := dk_42 (dk_at dksX4_objective_4 4 rfl rfl)
theorem dX4_objective_96 : decode cX4_objective 96 = .ok (.getfield 9, 3) := dk_180 0 9 (dk_at dksX4_objective_4 5 rfl rfl)
theorem dX4_objective_99 : decode cX4_objective 99 = .ok (.iconst 0, 1) := dk_3 (dk_at dksX4_objective_4 8 rfl rfl)
theorem dX4_objective_100 : decode cX4_objective 100 = .ok (.iaload, 1) := dk_46 (dk_at dksX4_objective_4 9 rfl rfl)
theorem dX4_objective_101 : decode cX4_objective 101 = .ok (.if_icmp .ge 84, 3) := dk_162 0 84 (dk_at dksX4_objective_4 10 rfl rfl)
theorem dX4_objective_104 : decode cX4_objective 104 = .ok (.iload_n 1, 1) := dk_27 (dk_at dksX4_objective_4 13 rfl rfl)
theorem dX4_objective_105 : decode cX4_objective 105 = .ok (.iconst 3, 1) := dk_6 (dk_at dksX4_objective_4 14 rfl rfl)
theorem dX4_objective_106 : decode cX4_objective 106 = .ok (.if_icmp .ge 79, 3) := dk_162 0 79 (dk_at dksX4_objective_4 15 rfl rfl)
theorem dX4_objective_109 : decode cX4_objective 109 = .ok (.iconst 0, 1) := dk_3 (dk_at dksX4_objective_4 18 rfl rfl)
theorem dX4_objective_110 : decode cX4_objective 110 = .ok (.aload_n 0, 1) := dk_42 (dk_at dksX4_objective_4 19 rfl rfl)
theorem dX4_objective_111 : decode cX4_objective 111 = .ok (.iload 4, 2) := dk_21 4 (dk_at dksX4_objective_4 20 rfl rfl)
theorem dX4_objective_113 : decode cX4_objective 113 = .ok (.invokevirtual 191, 3) := dk_182 0 191 (dk_at dksX4_objective_5 0 rfl rfl)
theorem dX4_objective_116 : decode cX4_objective 116 = .ok (.aload_n 0, 1) := dk_42 (dk_at dksX4_objective_5 3 rfl rfl)
theorem dX4_objective_117 : decode cX4_objective 117 = .ok (.getfield 9, 3) := dk_180 0 9 (dk_at dksX4_objective_5 4 rfl rfl)
theorem dX4_objective_120 : decode cX4_objective 120 = .ok (.bipush 7, 2) := dk_16 7 (dk_at dksX4_objective_5 7 rfl rfl)
theorem dX4_objective_122 : decode cX4_objective 122 = .ok (.iload 4, 2) := dk_21 4 (dk_at dksX4_objective_5 9 rfl rfl)
theorem dX4_objective_124 : decode cX4_objective 124 = .ok (.iadd, 1) := dk_96 (dk_at dksX4_objective_5 11 rfl rfl)
theorem dX4_objective_125 : decode cX4_objective 125 = .ok (.iaload, 1) := dk_46 (dk_at dksX4_objective_5 12 rfl rfl)
theorem dX4_objective_126 : decode cX4_objective 126 = .ok (.isub, 1) := dk_100 (dk_at dksX4_objective_5 13 rfl rfl)
theorem dX4_objective_127 : decode cX4_objective 127 = .ok (.invokestatic 167, 3) := dk_184 0 167 (dk_at dksX4_objective_5 14 rfl rfl)
theorem dX4_objective_130 : decode cX4_objective 130 = .ok (.istore 5, 2) := dk_54 5 (dk_at dksX4_objective_5 17 rfl rfl)
theorem dX4_objective_132 : decode cX4_objective 132 = .ok (.iload_n 3, 1) := dk_29 (dk_at dksX4_objective_5 19 rfl rfl)
theorem dX4_objective_133 : decode cX4_objective 133 = .ok (.iload_n 1, 1) := dk_27 (dk_at dksX4_objective_5 20 rfl rfl)
theorem dX4_objective_134 : decode cX4_objective 134 = .ok (.ifCond .ne 12, 3) := dk_154 0 12 (dk_at dksX4_objective_5 21 rfl rfl)
theorem dX4_objective_137 : decode cX4_objective 137 = .ok (.aload_n 0, 1) := dk_42 (dk_at dksX4_objective_6 0 rfl rfl)
theorem dX4_objective_138 : decode cX4_objective 138 = .ok (.iload 4, 2) := dk_21 4 (dk_at dksX4_objective_6 1 rfl rfl)
theorem dX4_objective_140 : decode cX4_objective 140 = .ok (.invokevirtual 191, 3) := dk_182 0 191 (dk_at dksX4_objective_6 3 rfl rfl)
theorem dX4_objective_143 : decode cX4_objective 143 = .ok (.goto 34, 3) := dk_167 0 34 (dk_at dksX4_objective_6 6 rfl rfl)
theorem dX4_objective_146 : decode cX4_objective 146 = .ok (.iload_n 1, 1) := dk_27 (dk_at dksX4_objective_6 9 rfl rfl)
theorem dX4_objective_147 : decode cX4_objective 147 = .ok (.iconst 1, 1) := dk_4 (dk_at dksX4_objective_6 10 rfl rfl)
theorem dX4_objective_148 : decode cX4_objective 148 = .ok (.if_icmp .ne 19, 3) := dk_160 0 19 (dk_at dksX4_objective_6 11 rfl rfl)
theorem dX4_objective_151 : decode cX4_objective 151 = .ok (.aload_n 0, 1) := dk_42 (dk_at dksX4_objective_6 14 rfl rfl)
theorem dX4_objective_152 : decode cX4_objective 152 = .ok (.getfield 9, 3) := dk_180 0 9 (dk_at dksX4_objective_6 15 rfl rfl)
theorem dX4_objective_155 : decode cX4_objective 155 = .ok (.bipush 12, 2) := dk_16 12 (dk_at dksX4_objective_6 18 rfl rfl)
theorem dX4_objective_157 : decode cX4_objective 157 = .ok (.iload 4, 2) := dk_21 4 (dk_at dksX4_objective_6 20 rfl rfl)
theorem dX4_objective_159 : decode cX4_objective 159 = .ok (.iadd, 1) := dk_96 (dk_at dksX4_objective_6 22 rfl rfl)
theorem dX4_objective_160 : decode cX4_objective 160 = .ok (.iaload, 1) := dk_46 (dk_at dksX4_objective_6 23 rfl rfl)
theorem dX4_objective_161 : decode cX4_objective 161 = .ok (.iload 5, 2) := dk_21 5 (dk_at dksX4_objective_7 0 rfl rfl)
theorem dX4_objective_163 : decode cX4_objective 163 = .ok (.imul, 1) := dk_104 (dk_at dksX4_objective_7 2 rfl rfl)
theorem dX4_objective_164 : decode cX4_objective 164 = .ok (.goto 13, 3) := dk_167 0 13 (dk_at dksX4_objective_7 3 rfl rfl)
theorem dX4_objective_167 : decode cX4_objective 167 = .ok (.iload 5, 2) := dk_21 5 (dk_at dksX4_objective_7 6 rfl rfl)
theorem dX4_objective_169 : decode cX4_objective 169 = .ok (.ifCond .le 7, 3) := dk_158 0 7 (dk_at dksX4_objective_7 8 rfl rfl)
theorem dX4_objective_172 : decode cX4_objective 172 = .ok (.iconst 1, 1) := dk_4 (dk_at dksX4_objective_7 11 rfl rfl)
theorem dX4_objective_173 : decode cX4_objective 173 = .ok (.goto 4, 3) := dk_167 0 4 (dk_at dksX4_objective_7 12 rfl rfl)
theorem dX4_objective_176 : decode cX4_objective 176 = .ok (.iconst 0, 1) := dk_3 (dk_at dksX4_objective_7 15 rfl rfl)
theorem dX4_objective_177 : decode cX4_objective 177 = .ok (.iadd, 1) := dk_96 (dk_at dksX4_objective_7 16 rfl rfl)
theorem dX4_objective_178 : decode cX4_objective 178 = .ok (.istore_n 3, 1) := dk_62 (dk_at dksX4_objective_7 17 rfl rfl)
theorem dX4_objective_179 : decode cX4_objective 179 = .ok (.iinc 4 1, 3) := dk_132 4 1 (dk_at dksX4_objective_7 18 rfl rfl)
theorem dX4_objective_182 : decode cX4_objective 182 = .ok (.goto (-89), 3) := dk_167 255 167 (dk_at dksX4_objective_7 21 rfl rfl)
theorem dX4_objective_185 : decode cX4_objective 185 = .ok (.iload_n 3, 1) := dk_29 (dk_at dksX4_objective_8 0 rfl rfl)
theorem dX4_objective_186 : decode cX4_objective 186 = .ok (.ireturn, 1) := dk_172 (dk_at dksX4_objective_8 1 rfl rfl)
abbrev cX4_setupSum : ByteArray := prog_19_method_42_code
def yX4_setupSum : MethodName := ⟨RX4, "setupSum", "()I"⟩
def dkwX4_setupSum_2 : List UInt8 := [132, 3, 1, 167, 255, 218, 132, 2, 1, 167, 255, 205, 27, 172]
abbrev dktX4_setupSum_2 : List UInt8 := dkwX4_setupSum_2 ++ []
def dkwX4_setupSum_1 : List UInt8 := [162, 0, 30, 27, 42, 42, 28, 29, 4, 100, 182, 0, 142, 42, 28, 29, 182, 0, 142, 182, 0, 172, 96, 60]
abbrev dktX4_setupSum_1 : List UInt8 := dkwX4_setupSum_1 ++ dktX4_setupSum_2
def dkwX4_setupSum_0 : List UInt8 := [3, 60, 3, 61, 28, 7, 162, 0, 52, 4, 62, 29, 42, 180, 0, 9, 17, 0, 179, 28, 96, 46]
abbrev dktX4_setupSum_0 : List UInt8 := dkwX4_setupSum_0 ++ dktX4_setupSum_1
theorem dksX4_setupSum_0 : cX4_setupSum.data.toList.drop 0 = dktX4_setupSum_0 := by decide +kernel
theorem dksX4_setupSum_1 : cX4_setupSum.data.toList.drop 22 = dktX4_setupSum_1 := dk_seg dksX4_setupSum_0 22 rfl rfl
theorem dksX4_setupSum_2 : cX4_setupSum.data.toList.drop 46 = dktX4_setupSum_2 := dk_seg dksX4_setupSum_1 24 rfl rfl
theorem dX4_setupSum_0 : decode cX4_setupSum 0 = .ok (.iconst 0, 1) := dk_3 (dk_at dksX4_setupSum_0 0 rfl rfl)
theorem dX4_setupSum_1 : decode cX4_setupSum 1 = .ok (.istore_n 1, 1) := dk_60 (dk_at dksX4_setupSum_0 1 rfl rfl)
theorem dX4_setupSum_2 : decode cX4_setupSum 2 = .ok (.iconst 0, 1) := dk_3 (dk_at dksX4_setupSum_0 2 rfl rfl)
theorem dX4_setupSum_3 : decode cX4_setupSum 3 = .ok (.istore_n 2, 1) := dk_61 (dk_at dksX4_setupSum_0 3 rfl rfl)
theorem dX4_setupSum_4 : decode cX4_setupSum 4 = .ok (.iload_n 2, 1) := dk_28 (dk_at dksX4_setupSum_0 4 rfl rfl)
theorem dX4_setupSum_5 : decode cX4_setupSum 5 = .ok (.iconst 4, 1) := dk_7 (dk_at dksX4_setupSum_0 5 rfl rfl)
theorem dX4_setupSum_6 : decode cX4_setupSum 6 = .ok (.if_icmp .ge 52, 3) := dk_162 0 52 (dk_at dksX4_setupSum_0 6 rfl rfl)
theorem dX4_setupSum_9 : decode cX4_setupSum 9 = .ok (.iconst 1, 1) := dk_4 (dk_at dksX4_setupSum_0 9 rfl rfl)
theorem dX4_setupSum_10 : decode cX4_setupSum 10 = .ok (.istore_n 3, 1) := dk_62 (dk_at dksX4_setupSum_0 10 rfl rfl)
theorem dX4_setupSum_11 : decode cX4_setupSum 11 = .ok (.iload_n 3, 1) := dk_29 (dk_at dksX4_setupSum_0 11 rfl rfl)
theorem dX4_setupSum_12 : decode cX4_setupSum 12 = .ok (.aload_n 0, 1) := dk_42 (dk_at dksX4_setupSum_0 12 rfl rfl)
theorem dX4_setupSum_13 : decode cX4_setupSum 13 = .ok (.getfield 9, 3) := dk_180 0 9 (dk_at dksX4_setupSum_0 13 rfl rfl)
theorem dX4_setupSum_16 : decode cX4_setupSum 16 = .ok (.sipush 179, 3) := dk_17 0 179 (dk_at dksX4_setupSum_0 16 rfl rfl)
theorem dX4_setupSum_19 : decode cX4_setupSum 19 = .ok (.iload_n 2, 1) := dk_28 (dk_at dksX4_setupSum_0 19 rfl rfl)
theorem dX4_setupSum_20 : decode cX4_setupSum 20 = .ok (.iadd, 1) := dk_96 (dk_at dksX4_setupSum_0 20 rfl rfl)
theorem dX4_setupSum_21 : decode cX4_setupSum 21 = .ok (.iaload, 1) := dk_46 (dk_at dksX4_setupSum_0 21 rfl rfl)
theorem dX4_setupSum_22 : decode cX4_setupSum 22 = .ok (.if_icmp .ge 30, 3) := dk_162 0 30 (dk_at dksX4_setupSum_1 0 rfl rfl)
theorem dX4_setupSum_25 : decode cX4_setupSum 25 = .ok (.iload_n 1, 1) := dk_27 (dk_at dksX4_setupSum_1 3 rfl rfl)
theorem dX4_setupSum_26 : decode cX4_setupSum 26 = .ok (.aload_n 0, 1) := dk_42 (dk_at dksX4_setupSum_1 4 rfl rfl)
theorem dX4_setupSum_27 : decode cX4_setupSum 27 = .ok (.aload_n 0, 1) := dk_42 (dk_at dksX4_setupSum_1 5 rfl rfl)
theorem dX4_setupSum_28 : decode cX4_setupSum 28 = .ok (.iload_n 2, 1) := dk_28 (dk_at dksX4_setupSum_1 6 rfl rfl)
theorem dX4_setupSum_29 : decode cX4_setupSum 29 = .ok (.iload_n 3, 1) := dk_29 (dk_at dksX4_setupSum_1 7 rfl rfl)
theorem dX4_setupSum_30 : decode cX4_setupSum 30 = .ok (.iconst 1, 1) := dk_4 (dk_at dksX4_setupSum_1 8 rfl rfl)
theorem dX4_setupSum_31 : decode cX4_setupSum 31 = .ok (.isub, 1) := dk_100 (dk_at dksX4_setupSum_1 9 rfl rfl)
theorem dX4_setupSum_32 : decode cX4_setupSum 32 = .ok (.invokevirtual 142, 3) := dk_182 0 142 (dk_at dksX4_setupSum_1 10 rfl rfl)
theorem dX4_setupSum_35 : decode cX4_setupSum 35 = .ok (.aload_n 0, 1) := dk_42 (dk_at dksX4_setupSum_1 13 rfl rfl)
theorem dX4_setupSum_36 : decode cX4_setupSum 36 = .ok (.iload_n 2, 1) := dk_28 (dk_at dksX4_setupSum_1 14 rfl rfl)
theorem dX4_setupSum_37 : decode cX4_setupSum 37 = .ok (.iload_n 3, 1) := dk_29 (dk_at dksX4_setupSum_1 15 rfl rfl)
theorem dX4_setupSum_38 : decode cX4_setupSum 38 = .ok (.invokevirtual 142, 3) := dk_182 0 142 (dk_at dksX4_setupSum_1 16 rfl rfl)
theorem dX4_setupSum_41 : decode cX4_setupSum 41 = .ok (.invokevirtual 172, 3) := dk_182 0 172 (dk_at dksX4_setupSum_1 19 rfl rfl)
theorem dX4_setupSum_44 : decode cX4_setupSum 44 = .ok (.iadd, 1) := dk_96 (dk_at dksX4_setupSum_1 22 rfl rfl)
theorem dX4_setupSum_45 : decode cX4_setupSum 45 = .ok (.istore_n 1, 1) := dk_60 (dk_at dksX4_setupSum_1 23 rfl rfl)
theorem dX4_setupSum_46 : decode cX4_setupSum 46 = .ok (.iinc 3 1, 3) := dk_132 3 1 (dk_at dksX4_setupSum_2 0 rfl rfl)
theorem dX4_setupSum_49 : decode cX4_setupSum 49 = .ok (.goto (-38), 3) := dk_167 255 218 (dk_at dksX4_setupSum_2 3 rfl rfl)
theorem dX4_setupSum_52 : decode cX4_setupSum 52 = .ok (.iinc 2 1, 3) := dk_132 2 1 (dk_at dksX4_setupSum_2 6 rfl rfl)
theorem dX4_setupSum_55 : decode cX4_setupSum 55 = .ok (.goto (-51), 3) := dk_167 255 205 (dk_at dksX4_setupSum_2 9 rfl rfl)
theorem dX4_setupSum_58 : decode cX4_setupSum 58 = .ok (.iload_n 1, 1) := dk_27 (dk_at dksX4_setupSum_2 12 rfl rfl)
theorem dX4_setupSum_59 : decode cX4_setupSum 59 = .ok (.ireturn, 1) := dk_172 (dk_at dksX4_setupSum_2 13 rfl rfl)
abbrev cX4_utilization : ByteArray := prog_19_method_44_code
def yX4_utilization : MethodName := ⟨RX4, "utilization", "(I)D"⟩
def dkwX4_utilization_3 : List UInt8 := [154, 0, 7, 14, 167, 0, 8, 28, 135, 29, 135, 111, 175]
abbrev dktX4_utilization_3 : List UInt8 := dkwX4_utilization_3 ++ []
def dkwX4_utilization_2 : List UInt8 := [16, 82, 42, 27, 29, 182, 0, 142, 96, 46, 96, 61, 132, 3, 1, 167, 255, 222, 42, 182, 0, 188, 62, 29]
abbrev dktX4_utilization_2 : List UInt8 := dkwX4_utilization_2 ++ dktX4_utilization_3
def dkwX4_utilization_1 : List UInt8 := [175, 3, 61, 3, 62, 29, 42, 180, 0, 9, 17, 0, 179, 27, 96, 46, 162, 0, 26, 28, 42, 180, 0, 9]
abbrev dktX4_utilization_1 : List UInt8 := dkwX4_utilization_1 ++ dktX4_utilization_2
def dkwX4_utilization_0 : List UInt8 := [42, 27, 184, 0, 122, 153, 0, 7, 3, 167, 0, 4, 4, 181, 0, 79, 42, 180, 0, 79, 158, 0, 5, 14]
abbrev dktX4_utilization_0 : List UInt8 := dkwX4_utilization_0 ++ dktX4_utilization_1
theorem dksX4_utilization_0 : cX4_utilization.data.toList.drop 0 = dktX4_utilization_0 := by decide +kernel
theorem dksX4_utilization_1 : cX4_utilization.data.toList.drop 24 = dktX4_utilization_1 := dk_seg dksX4_utilization_0 24 rfl rfl
theorem dksX4_utilization_2 : cX4_utilization.data.toList.drop 48 = dktX4_utilization_2 := dk_seg dksX4_utilization_1 24 rfl rfl
theorem dksX4_utilization_3 : cX4_utilization.data.toList.drop 72 = dktX4_utilization_3 := dk_seg dksX4_utilization_2 24 rfl rfl
theorem dX4_utilization_0 : decode cX4_utilization 0 = .ok (.aload_n 0, 1) := dk_42 (dk_at dksX4_utilization_0 0 rfl rfl)
theorem dX4_utilization_1 : decode cX4_utilization 1 = .ok (.iload_n 1, 1) := dk_27 (dk_at dksX4_utilization_0 1 rfl rfl)
theorem dX4_utilization_2 : decode cX4_utilization 2 = .ok (.invokestatic 122, 3) := dk_184 0 122 (dk_at dksX4_utilization_0 2 rfl rfl)
theorem dX4_utilization_5 : decode cX4_utilization 5 = .ok (.ifCond .eq 7, 3) := dk_153 0 7 (dk_at dksX4_utilization_0 5 rfl rfl)
theorem dX4_utilization_8 : decode cX4_utilization 8 = .ok (.iconst 0, 1) := dk_3 (dk_at dksX4_utilization_0 8 rfl rfl)
theorem dX4_utilization_9 : decode cX4_utilization 9 = .ok (.goto 4, 3) := dk_167 0 4 (dk_at dksX4_utilization_0 9 rfl rfl)
theorem dX4_utilization_12 : decode cX4_utilization 12 = .ok (.iconst 1, 1) := dk_4 (dk_at dksX4_utilization_0 12 rfl rfl)
theorem dX4_utilization_13 : decode cX4_utilization 13 = .ok (.putfield 79, 3) := dk_181 0 79 (dk_at dksX4_utilization_0 13 rfl rfl)
theorem dX4_utilization_16 : decode cX4_utilization 16 = .ok (.aload_n 0, 1) := dk_42 (dk_at dksX4_utilization_0 16 rfl rfl)
theorem dX4_utilization_17 : decode cX4_utilization 17 = .ok (.getfield 79, 3) := dk_180 0 79 (dk_at dksX4_utilization_0 17 rfl rfl)
theorem dX4_utilization_20 : decode cX4_utilization 20 = .ok (.ifCond .le 5, 3) := dk_158 0 5 (dk_at dksX4_utilization_0 20 rfl rfl)
theorem dX4_utilization_23 : decode cX4_utilization 23 = .ok (.dconst 0, 1) := dk_14 (dk_at dksX4_utilization_0 23 rfl rfl)
theorem dX4_utilization_24 : decode cX4_utilization 24 = .ok (.dreturn, 1) := dk_175 (dk_at dksX4_utilization_1 0 rfl rfl)
theorem dX4_utilization_25 : decode cX4_utilization 25 = .ok (.iconst 0, 1) := dk_3 (dk_at dksX4_utilization_1 1 rfl rfl)
theorem dX4_utilization_26 : decode cX4_utilization 26 = .ok (.istore_n 2, 1) := dk_61 (dk_at dksX4_utilization_1 2 rfl rfl)
theorem dX4_utilization_27 : decode cX4_utilization 27 = .ok (.iconst 0, 1) := dk_3 (dk_at dksX4_utilization_1 3 rfl rfl)
theorem dX4_utilization_28 : decode cX4_utilization 28 = .ok (.istore_n 3, 1) := dk_62 (dk_at dksX4_utilization_1 4 rfl rfl)
theorem dX4_utilization_29 : decode cX4_utilization 29 = .ok (.iload_n 3, 1) := dk_29 (dk_at dksX4_utilization_1 5 rfl rfl)
theorem dX4_utilization_30 : decode cX4_utilization 30 = .ok (.aload_n 0, 1) := dk_42 (dk_at dksX4_utilization_1 6 rfl rfl)
theorem dX4_utilization_31 : decode cX4_utilization 31 = .ok (.getfield 9, 3) := dk_180 0 9 (dk_at dksX4_utilization_1 7 rfl rfl)
theorem dX4_utilization_34 : decode cX4_utilization 34 = .ok (.sipush 179, 3) := dk_17 0 179 (dk_at dksX4_utilization_1 10 rfl rfl)
theorem dX4_utilization_37 : decode cX4_utilization 37 = .ok (.iload_n 1, 1) := dk_27 (dk_at dksX4_utilization_1 13 rfl rfl)
theorem dX4_utilization_38 : decode cX4_utilization 38 = .ok (.iadd, 1) := dk_96 (dk_at dksX4_utilization_1 14 rfl rfl)
theorem dX4_utilization_39 : decode cX4_utilization 39 = .ok (.iaload, 1) := dk_46 (dk_at dksX4_utilization_1 15 rfl rfl)
theorem dX4_utilization_40 : decode cX4_utilization 40 = .ok (.if_icmp .ge 26, 3) := dk_162 0 26 (dk_at dksX4_utilization_1 16 rfl rfl)
theorem dX4_utilization_43 : decode cX4_utilization 43 = .ok (.iload_n 2, 1) := dk_28 (dk_at dksX4_utilization_1 19 rfl rfl)
theorem dX4_utilization_44 : decode cX4_utilization 44 = .ok (.aload_n 0, 1) := dk_42 (dk_at dksX4_utilization_1 20 rfl rfl)
theorem dX4_utilization_45 : decode cX4_utilization 45 = .ok (.getfield 9, 3) := dk_180 0 9 (dk_at dksX4_utilization_1 21 rfl rfl)
theorem dX4_utilization_48 : decode cX4_utilization 48 = .ok (.bipush 82, 2) := dk_16 82 (dk_at dksX4_utilization_2 0 rfl rfl)
theorem dX4_utilization_50 : decode cX4_utilization 50 = .ok (.aload_n 0, 1) := dk_42 (dk_at dksX4_utilization_2 2 rfl rfl)
theorem dX4_utilization_51 : decode cX4_utilization 51 = .ok (.iload_n 1, 1) := dk_27 (dk_at dksX4_utilization_2 3 rfl rfl)
theorem dX4_utilization_52 : decode cX4_utilization 52 = .ok (.iload_n 3, 1) := dk_29 (dk_at dksX4_utilization_2 4 rfl rfl)
theorem dX4_utilization_53 : decode cX4_utilization 53 = .ok (.invokevirtual 142, 3) := dk_182 0 142 (dk_at dksX4_utilization_2 5 rfl rfl)
theorem dX4_utilization_56 : decode cX4_utilization 56 = .ok (.iadd, 1) := dk_96 (dk_at dksX4_utilization_2 8 rfl rfl)
theorem dX4_utilization_57 : decode cX4_utilization 57 = .ok (.iaload, 1) := dk_46 (dk_at dksX4_utilization_2 9 rfl rfl)
theorem dX4_utilization_58 : decode cX4_utilization 58 = .ok (.iadd, 1) := dk_96 (dk_at dksX4_utilization_2 10 rfl rfl)
theorem dX4_utilization_59 : decode cX4_utilization 59 = .ok (.istore_n 2, 1) := dk_61 (dk_at dksX4_utilization_2 11 rfl rfl)
theorem dX4_utilization_60 : decode cX4_utilization 60 = .ok (.iinc 3 1, 3) := dk_132 3 1 (dk_at dksX4_utilization_2 12 rfl rfl)
theorem dX4_utilization_63 : decode cX4_utilization 63 = .ok (.goto (-34), 3) := dk_167 255 222 (dk_at dksX4_utilization_2 15 rfl rfl)
theorem dX4_utilization_66 : decode cX4_utilization 66 = .ok (.aload_n 0, 1) := dk_42 (dk_at dksX4_utilization_2 18 rfl rfl)
theorem dX4_utilization_67 : decode cX4_utilization 67 = .ok (.invokevirtual 188, 3) := dk_182 0 188 (dk_at dksX4_utilization_2 19 rfl rfl)
theorem dX4_utilization_70 : decode cX4_utilization 70 = .ok (.istore_n 3, 1) := dk_62 (dk_at dksX4_utilization_2 22 rfl rfl)
theorem dX4_utilization_71 : decode cX4_utilization 71 = .ok (.iload_n 3, 1) := dk_29 (dk_at dksX4_utilization_2 23 rfl rfl)
theorem dX4_utilization_72 : decode cX4_utilization 72 = .ok (.ifCond .ne 7, 3) := dk_154 0 7 (dk_at dksX4_utilization_3 0 rfl rfl)
theorem dX4_utilization_75 : decode cX4_utilization 75 = .ok (.dconst 0, 1) := dk_14 (dk_at dksX4_utilization_3 3 rfl rfl)
theorem dX4_utilization_76 : decode cX4_utilization 76 = .ok (.goto 8, 3) := dk_167 0 8 (dk_at dksX4_utilization_3 4 rfl rfl)
theorem dX4_utilization_79 : decode cX4_utilization 79 = .ok (.iload_n 2, 1) := dk_28 (dk_at dksX4_utilization_3 7 rfl rfl)
theorem dX4_utilization_80 : decode cX4_utilization 80 = .ok (.i2d, 1) := dk_135 (dk_at dksX4_utilization_3 8 rfl rfl)
theorem dX4_utilization_81 : decode cX4_utilization 81 = .ok (.iload_n 3, 1) := dk_29 (dk_at dksX4_utilization_3 9 rfl rfl)
theorem dX4_utilization_82 : decode cX4_utilization 82 = .ok (.i2d, 1) := dk_135 (dk_at dksX4_utilization_3 10 rfl rfl)
theorem dX4_utilization_83 : decode cX4_utilization 83 = .ok (.ddiv, 1) := dk_111 (dk_at dksX4_utilization_3 11 rfl rfl)
theorem dX4_utilization_84 : decode cX4_utilization 84 = .ok (.dreturn, 1) := dk_175 (dk_at dksX4_utilization_3 12 rfl rfl)
abbrev cX4_pathLength : ByteArray := prog_19_method_47_code
def yX4_pathLength : MethodName := ⟨RX4, "pathLength", "()I"⟩
def dkwX4_pathLength_0 : List UInt8 := [42, 3, 181, 0, 79, 42, 182, 0, 202, 42, 180, 0, 199, 172]
abbrev dktX4_pathLength_0 : List UInt8 := dkwX4_pathLength_0 ++ []
theorem dksX4_pathLength_0 : cX4_pathLength.data.toList.drop 0 = dktX4_pathLength_0 := by decide +kernel
theorem dX4_pathLength_0 : decode cX4_pathLength 0 = .ok (.aload_n 0, 1) := dk_42 (dk_at dksX4_pathLength_0 0 rfl rfl)
theorem dX4_pathLength_1 : decode cX4_pathLength 1 = .ok (.iconst 0, 1) := dk_3 (dk_at dksX4_pathLength_0 1 rfl rfl)
theorem dX4_pathLength_2 : decode cX4_pathLength 2 = .ok (.putfield 79, 3) := dk_181 0 79 (dk_at dksX4_pathLength_0 2 rfl rfl)
theorem dX4_pathLength_5 : decode cX4_pathLength 5 = .ok (.aload_n 0, 1) := dk_42 (dk_at dksX4_pathLength_0 5 rfl rfl)
theorem dX4_pathLength_6 : decode cX4_pathLength 6 = .ok (.invokevirtual 202, 3) := dk_182 0 202 (dk_at dksX4_pathLength_0 6 rfl rfl)
theorem dX4_pathLength_9 : decode cX4_pathLength 9 = .ok (.aload_n 0, 1) := dk_42 (dk_at dksX4_pathLength_0 9 rfl rfl)
theorem dX4_pathLength_10 : decode cX4_pathLength 10 = .ok (.getfield 199, 3) := dk_180 0 199 (dk_at dksX4_pathLength_0 10 rfl rfl)
theorem dX4_pathLength_13 : decode cX4_pathLength 13 = .ok (.ireturn, 1) := dk_172 (dk_at dksX4_pathLength_0 13 rfl rfl)
abbrev cX4_findPath : ByteArray := prog_19_method_45_code
def yX4_findPath : MethodName := ⟨RX4, "findPath", "()V"⟩
def dkwX4_findPath_6 : List UInt8 := [160, 0, 8, 21, 4, 167, 0, 4, 2, 61, 167, 255, 158, 177]
abbrev dktX4_findPath_6 : List UInt8 := dkwX4_findPath_6 ++ []
def dkwX4_findPath_5 : List UInt8 := [2, 159, 0, 31, 42, 21, 4, 182, 0, 164, 42, 21, 4, 28, 182, 0, 172, 96, 42, 180, 0, 26, 28, 46]
abbrev dktX4_findPath_5 : List UInt8 := dkwX4_findPath_5 ++ dktX4_findPath_6
def dkwX4_findPath_4 : List UInt8 := [159, 0, 22, 42, 29, 182, 0, 164, 42, 180, 0, 26, 28, 46, 160, 0, 8, 29, 61, 167, 0, 39, 21, 4]
abbrev dktX4_findPath_4 : List UInt8 := dkwX4_findPath_4 ++ dktX4_findPath_5
def dkwX4_findPath_3 : List UInt8 := [180, 0, 199, 4, 96, 181, 0, 199, 42, 28, 182, 0, 151, 62, 42, 28, 182, 0, 157, 54, 4, 29, 2]
abbrev dktX4_findPath_3 : List UInt8 := dkwX4_findPath_3 ++ dktX4_findPath_4
def dkwX4_findPath_2 : List UInt8 := [132, 3, 1, 167, 255, 219, 28, 2, 159, 0, 99, 42, 180, 0, 40, 42, 180, 0, 199, 28, 79, 42, 89]
abbrev dktX4_findPath_2 : List UInt8 := dkwX4_findPath_2 ++ dktX4_findPath_3
def dkwX4_findPath_1 : List UInt8 := [28, 2, 159, 0, 16, 42, 29, 182, 0, 164, 42, 28, 182, 0, 164, 164, 0, 7, 29, 167, 0, 4, 28, 61]
abbrev dktX4_findPath_1 : List UInt8 := dkwX4_findPath_1 ++ dktX4_findPath_2
def dkwX4_findPath_0 : List UInt8 := [42, 182, 0, 181, 60, 42, 3, 181, 0, 199, 2, 61, 3, 62, 29, 42, 180, 0, 9, 4, 46, 162, 0, 33]
abbrev dktX4_findPath_0 : List UInt8 := dkwX4_findPath_0 ++ dktX4_findPath_1
theorem dksX4_findPath_0 : cX4_findPath.data.toList.drop 0 = dktX4_findPath_0 := by decide +kernel
theorem dksX4_findPath_1 : cX4_findPath.data.toList.drop 24 = dktX4_findPath_1 := dk_seg dksX4_findPath_0 24 rfl rfl
theorem dksX4_findPath_2 : cX4_findPath.data.toList.drop 48 = dktX4_findPath_2 := dk_seg dksX4_findPath_1 24 rfl rfl
theorem dksX4_findPath_3 : cX4_findPath.data.toList.drop 71 = dktX4_findPath_3 := dk_seg dksX4_findPath_2 23 rfl rfl
theorem dksX4_findPath_4 : cX4_findPath.data.toList.drop 94 = dktX4_findPath_4 := dk_seg dksX4_findPath_3 23 rfl rfl
theorem dksX4_findPath_5 : cX4_findPath.data.toList.drop 118 = dktX4_findPath_5 := dk_seg dksX4_findPath_4 24 rfl rfl
theorem dksX4_findPath_6 : cX4_findPath.data.toList.drop 142 = dktX4_findPath_6 := dk_seg dksX4_findPath_5 24 rfl rfl
theorem dX4_findPath_0 : decode cX4_findPath 0 = .ok (.aload_n 0, 1) := dk_42 (dk_at dksX4_findPath_0 0 rfl rfl)
theorem dX4_findPath_1 : decode cX4_findPath 1 = .ok (.invokevirtual 181, 3) := dk_182 0 181 (dk_at dksX4_findPath_0 1 rfl rfl)
theorem dX4_findPath_4 : decode cX4_findPath 4 = .ok (.istore_n 1, 1) := dk_60 (dk_at dksX4_findPath_0 4 rfl rfl)
theorem dX4_findPath_5 : decode cX4_findPath 5 = .ok (.aload_n 0, 1) := dk_42 (dk_at dksX4_findPath_0 5 rfl rfl)
theorem dX4_findPath_6 : decode cX4_findPath 6 = .ok (.iconst 0, 1) := dk_3 (dk_at dksX4_findPath_0 6 rfl rfl)
theorem dX4_findPath_7 : decode cX4_findPath 7 = .ok (.putfield 199, 3) := dk_181 0 199 (dk_at dksX4_findPath_0 7 rfl rfl)
theorem dX4_findPath_10 : decode cX4_findPath 10 = .ok (.iconst (-1), 1) := dk_2 (dk_at dksX4_findPath_0 10 rfl rfl)
theorem dX4_findPath_11 : decode cX4_findPath 11 = .ok (.istore_n 2, 1) := dk_61 (dk_at dksX4_findPath_0 11 rfl rfl)
theorem dX4_findPath_12 : decode cX4_findPath 12 = .ok (.iconst 0, 1) := dk_3 (dk_at dksX4_findPath_0 12 rfl rfl)
theorem dX4_findPath_13 : decode cX4_findPath 13 = .ok (.istore_n 3, 1) := dk_62 (dk_at dksX4_findPath_0 13 rfl rfl)
theorem dX4_findPath_14 : decode cX4_findPath 14 = .ok (.iload_n 3, 1) := dk_29 (dk_at dksX4_findPath_0 14 rfl rfl)
theorem dX4_findPath_15 : decode cX4_findPath 15 = .ok (.aload_n 0, 1) := dk_42 (dk_at dksX4_findPath_0 15 rfl rfl)
theorem dX4_findPath_16 : decode cX4_findPath 16 = .ok (.getfield 9, 3) := dk_180 0 9 (dk_at dksX4_findPath_0 16 rfl rfl)
theorem dX4_findPath_19 : decode cX4_findPath 19 = .ok (.iconst 1, 1) := dk_4 (dk_at dksX4_findPath_0 19 rfl rfl)
theorem dX4_findPath_20 : decode cX4_findPath 20 = .ok (.iaload, 1) := dk_46 (dk_at dksX4_findPath_0 20 rfl rfl)
theorem dX4_findPath_21 : decode cX4_findPath 21 = .ok (.if_icmp .ge 33, 3) := dk_162 0 33 (dk_at dksX4_findPath_0 21 rfl rfl)
theorem dX4_findPath_24 : decode cX4_findPath 24 = .ok (.iload_n 2, 1) := dk_28 (dk_at dksX4_findPath_1 0 rfl rfl)
theorem dX4_findPath_25 : decode cX4_findPath 25 = .ok (.iconst (-1), 1) := dk_2 (dk_at dksX4_findPath_1 1 rfl rfl)
theorem dX4_findPath_26 : decode cX4_findPath 26 = .ok (.if_icmp .eq 16, 3) := dk_159 0 16 (dk_at dksX4_findPath_1 2 rfl rfl)
theorem dX4_findPath_29 : decode cX4_findPath 29 = .ok (.aload_n 0, 1) := dk_42 (dk_at dksX4_findPath_1 5 rfl rfl)
theorem dX4_findPath_30 : decode cX4_findPath 30 = .ok (.iload_n 3, 1) := dk_29 (dk_at dksX4_findPath_1 6 rfl rfl)
theorem dX4_findPath_31 : decode cX4_findPath 31 = .ok (.invokevirtual 164, 3) := dk_182 0 164 (dk_at dksX4_findPath_1 7 rfl rfl)
theorem dX4_findPath_34 : decode cX4_findPath 34 = .ok (.aload_n 0, 1) := dk_42 (dk_at dksX4_findPath_1 10 rfl rfl)
theorem dX4_findPath_35 : decode cX4_findPath 35 = .ok (.iload_n 2, 1) := dk_28 (dk_at dksX4_findPath_1 11 rfl rfl)
theorem dX4_findPath_36 : decode cX4_findPath 36 = .ok (.invokevirtual 164, 3) := dk_182 0 164 (dk_at dksX4_findPath_1 12 rfl rfl)
theorem dX4_findPath_39 : decode cX4_findPath 39 = .ok (.if_icmp .le 7, 3) := dk_164 0 7 (dk_at dksX4_findPath_1 15 rfl rfl)
theorem dX4_findPath_42 : decode cX4_findPath 42 = .ok (.iload_n 3, 1) := dk_29 (dk_at dksX4_findPath_1 18 rfl rfl)
theorem dX4_findPath_43 : decode cX4_findPath 43 = .ok (.goto 4, 3) := dk_167 0 4 (dk_at dksX4_findPath_1 19 rfl rfl)
theorem dX4_findPath_46 : decode cX4_findPath 46 = .ok (.iload_n 2, 1) := dk_28 (dk_at dksX4_findPath_1 22 rfl rfl)
theorem dX4_findPath_47 : decode cX4_findPath 47 = .ok (.istore_n 2, 1) := dk_61 (dk_at dksX4_findPath_1 23 rfl rfl)
theorem dX4_findPath_48 : decode cX4_findPath 48 = .ok (.iinc 3 1, 3) := dk_132 3 1 (dk_at dksX4_findPath_2 0 rfl rfl)
theorem dX4_findPath_51 : decode cX4_findPath 51 = .ok (.goto (-37), 3) := dk_167 255 219 (dk_at dksX4_findPath_2 3 rfl rfl)
theorem dX4_findPath_54 : decode cX4_findPath 54 = .ok (.iload_n 2, 1) := dk_28 (dk_at dksX4_findPath_2 6 rfl rfl)
theorem dX4_findPath_55 : decode cX4_findPath 55 = .ok (.iconst (-1), 1) := dk_2 (dk_at dksX4_findPath_2 7 rfl rfl)
theorem dX4_findPath_56 : decode cX4_findPath 56 = .ok (.if_icmp .eq 99, 3) := dk_159 0 99 (dk_at dksX4_findPath_2 8 rfl rfl)
theorem dX4_findPath_59 : decode cX4_findPath 59 = .ok (.aload_n 0, 1) := dk_42 (dk_at dksX4_findPath_2 11 rfl rfl)
theorem dX4_findPath_60 : decode cX4_findPath 60 = .ok (.getfield 40, 3) := dk_180 0 40 (dk_at dksX4_findPath_2 12 rfl rfl)
theorem dX4_findPath_63 : decode cX4_findPath 63 = .ok (.aload_n 0, 1) := dk_42 (dk_at dksX4_findPath_2 15 rfl rfl)
theorem dX4_findPath_64 : decode cX4_findPath 64 = .ok (.getfield 199, 3) := dk_180 0 199 (dk_at dksX4_findPath_2 16 rfl rfl)
theorem dX4_findPath_67 : decode cX4_findPath 67 = .ok (.iload_n 2, 1) := dk_28 (dk_at dksX4_findPath_2 19 rfl rfl)
theorem dX4_findPath_68 : decode cX4_findPath 68 = .ok (.iastore, 1) := dk_79 (dk_at dksX4_findPath_2 20 rfl rfl)
theorem dX4_findPath_69 : decode cX4_findPath 69 = .ok (.aload_n 0, 1) := dk_42 (dk_at dksX4_findPath_2 21 rfl rfl)
theorem dX4_findPath_70 : decode cX4_findPath 70 = .ok (.dup, 1) := dk_89 (dk_at dksX4_findPath_2 22 rfl rfl)
theorem dX4_findPath_71 : decode cX4_findPath 71 = .ok (.getfield 199, 3) := dk_180 0 199 (dk_at dksX4_findPath_3 0 rfl rfl)
theorem dX4_findPath_74 : decode cX4_findPath 74 = .ok (.iconst 1, 1) := dk_4 (dk_at dksX4_findPath_3 3 rfl rfl)
theorem dX4_findPath_75 : decode cX4_findPath 75 = .ok (.iadd, 1) := dk_96 (dk_at dksX4_findPath_3 4 rfl rfl)
theorem dX4_findPath_76 : decode cX4_findPath 76 = .ok (.putfield 199, 3) := dk_181 0 199 (dk_at dksX4_findPath_3 5 rfl rfl)
theorem dX4_findPath_79 : decode cX4_findPath 79 = .ok (.aload_n 0, 1) := dk_42 (dk_at dksX4_findPath_3 8 rfl rfl)
theorem dX4_findPath_80 : decode cX4_findPath 80 = .ok (.iload_n 2, 1) := dk_28 (dk_at dksX4_findPath_3 9 rfl rfl)
theorem dX4_findPath_81 : decode cX4_findPath 81 = .ok (.invokevirtual 151, 3) := dk_182 0 151 (dk_at dksX4_findPath_3 10 rfl rfl)
theorem dX4_findPath_84 : decode cX4_findPath 84 = .ok (.istore_n 3, 1) := dk_62 (dk_at dksX4_findPath_3 13 rfl rfl)
theorem dX4_findPath_85 : decode cX4_findPath 85 = .ok (.aload_n 0, 1) := dk_42 (dk_at dksX4_findPath_3 14 rfl rfl)
theorem dX4_findPath_86 : decode cX4_findPath 86 = .ok (.iload_n 2, 1) := dk_28 (dk_at dksX4_findPath_3 15 rfl rfl)
theorem dX4_findPath_87 : decode cX4_findPath 87 = .ok (.invokevirtual 157, 3) := dk_182 0 157 (dk_at dksX4_findPath_3 16 rfl rfl)
theorem dX4_findPath_90 : decode cX4_findPath 90 = .ok (.istore 4, 2) := dk_54 4 (dk_at dksX4_findPath_3 19 rfl rfl)
theorem dX4_findPath_92 : decode cX4_findPath 92 = .ok (.iload_n 3, 1) := dk_29 (dk_at dksX4_findPath_3 21 rfl rfl)
theorem dX4_findPath_93 : decode cX4_findPath 93 = .ok (.iconst (-1), 1) := dk_2 (dk_at dksX4_findPath_3 22 rfl rfl)
theorem dX4_findPath_94 : decode cX4_findPath 94 = .ok (.if_icmp .eq 22, 3) := dk_159 0 22 (dk_at dksX4_findPath_4 0 rfl rfl)
theorem dX4_findPath_97 : decode cX4_findPath 97 = .ok (.aload_n 0, 1) := dk_42 (dk_at dksX4_findPath_4 3 rfl rfl)
theorem dX4_findPath_98 : decode cX4_findPath 98 = .ok (.iload_n 3, 1) := dk_29 (dk_at dksX4_findPath_4 4 rfl rfl)
theorem dX4_findPath_99 : decode cX4_findPath 99 = .ok (.invokevirtual 164, 3) := dk_182 0 164 (dk_at dksX4_findPath_4 5 rfl rfl)
theorem dX4_findPath_102 : decode cX4_findPath 102 = .ok (.aload_n 0, 1) := dk_42 (dk_at dksX4_findPath_4 8 rfl rfl)
theorem dX4_findPath_103 : decode cX4_findPath 103 = .ok (.getfield 26, 3) := dk_180 0 26 (dk_at dksX4_findPath_4 9 rfl rfl)
theorem dX4_findPath_106 : decode cX4_findPath 106 = .ok (.iload_n 2, 1) := dk_28 (dk_at dksX4_findPath_4 12 rfl rfl)
theorem dX4_findPath_107 : decode cX4_findPath 107 = .ok (.iaload, 1) := dk_46 (dk_at dksX4_findPath_4 13 rfl rfl)
theorem dX4_findPath_108 : decode cX4_findPath 108 = .ok (.if_icmp .ne 8, 3) := dk_160 0 8 (dk_at dksX4_findPath_4 14 rfl rfl)
theorem dX4_findPath_111 : decode cX4_findPath 111 = .ok (.iload_n 3, 1) := dk_29 (dk_at dksX4_findPath_4 17 rfl rfl)
theorem dX4_findPath_112 : decode cX4_findPath 112 = .ok (.istore_n 2, 1) := dk_61 (dk_at dksX4_findPath_4 18 rfl rfl)
theorem dX4_findPath_113 : decode cX4_findPath 113 = .ok (.goto 39, 3) := dk_167 0 39 (dk_at dksX4_findPath_4 19 rfl rfl)
theorem dX4_findPath_116 : decode cX4_findPath 116 = .ok (.iload 4, 2) := dk_21 4 (dk_at dksX4_findPath_4 22 rfl rfl)
theorem dX4_findPath_118 : decode cX4_findPath 118 = .ok (.iconst (-1), 1) := dk_2 (dk_at dksX4_findPath_5 0 rfl rfl)
theorem dX4_findPath_119 : decode cX4_findPath 119 = .ok (.if_icmp .eq 31, 3) := dk_159 0 31 (dk_at dksX4_findPath_5 1 rfl rfl)
theorem dX4_findPath_122 : decode cX4_findPath 122 = .ok (.aload_n 0, 1) := dk_42 (dk_at dksX4_findPath_5 4 rfl rfl)
theorem dX4_findPath_123 : decode cX4_findPath 123 = .ok (.iload 4, 2) := dk_21 4 (dk_at dksX4_findPath_5 5 rfl rfl)
theorem dX4_findPath_125 : decode cX4_findPath 125 = .ok (.invokevirtual 164, 3) := dk_182 0 164 (dk_at dksX4_findPath_5 7 rfl rfl)
theorem dX4_findPath_128 : decode cX4_findPath 128 = .ok (.aload_n 0, 1) := dk_42 (dk_at dksX4_findPath_5 10 rfl rfl)
theorem dX4_findPath_129 : decode cX4_findPath 129 = .ok (.iload 4, 2) := dk_21 4 (dk_at dksX4_findPath_5 11 rfl rfl)
theorem dX4_findPath_131 : decode cX4_findPath 131 = .ok (.iload_n 2, 1) := dk_28 (dk_at dksX4_findPath_5 13 rfl rfl)
theorem dX4_findPath_132 : decode cX4_findPath 132 = .ok (.invokevirtual 172, 3) := dk_182 0 172 (dk_at dksX4_findPath_5 14 rfl rfl)
theorem dX4_findPath_135 : decode cX4_findPath 135 = .ok (.iadd, 1) := dk_96 (dk_at dksX4_findPath_5 17 rfl rfl)
theorem dX4_findPath_136 : decode cX4_findPath 136 = .ok (.aload_n 0, 1) := dk_42 (dk_at dksX4_findPath_5 18 rfl rfl)
theorem dX4_findPath_137 : decode cX4_findPath 137 = .ok (.getfield 26, 3) := dk_180 0 26 (dk_at dksX4_findPath_5 19 rfl rfl)
theorem dX4_findPath_140 : decode cX4_findPath 140 = .ok (.iload_n 2, 1) := dk_28 (dk_at dksX4_findPath_5 22 rfl rfl)
theorem dX4_findPath_141 : decode cX4_findPath 141 = .ok (.iaload, 1) := dk_46 (dk_at dksX4_findPath_5 23 rfl rfl)
theorem dX4_findPath_142 : decode cX4_findPath 142 = .ok (.if_icmp .ne 8, 3) := dk_160 0 8 (dk_at dksX4_findPath_6 0 rfl rfl)
theorem dX4_findPath_145 : decode cX4_findPath 145 = .ok (.iload 4, 2) := dk_21 4 (dk_at dksX4_findPath_6 3 rfl rfl)
theorem dX4_findPath_147 : decode cX4_findPath 147 = .ok (.goto 4, 3) := dk_167 0 4 (dk_at dksX4_findPath_6 5 rfl rfl)
theorem dX4_findPath_150 : decode cX4_findPath 150 = .ok (.iconst (-1), 1) := dk_2 (dk_at dksX4_findPath_6 8 rfl rfl)
theorem dX4_findPath_151 : decode cX4_findPath 151 = .ok (.istore_n 2, 1) := dk_61 (dk_at dksX4_findPath_6 9 rfl rfl)
theorem dX4_findPath_152 : decode cX4_findPath 152 = .ok (.goto (-98), 3) := dk_167 255 158 (dk_at dksX4_findPath_6 10 rfl rfl)
theorem dX4_findPath_155 : decode cX4_findPath 155 = .ok (.return_, 1) := dk_177 (dk_at dksX4_findPath_6 13 rfl rfl)
abbrev cX4_path : ByteArray := prog_19_method_48_code
def yX4_path : MethodName := ⟨RX4, "path", "(I)I"⟩
def dkwX4_path_1 : List UInt8 := [167, 0, 4, 4, 181, 0, 79, 42, 180, 0, 79, 158, 0, 7, 3, 167, 0, 8, 42, 27, 182, 0, 205, 172]
abbrev dktX4_path_1 : List UInt8 := dkwX4_path_1 ++ []
def dkwX4_path_0 : List UInt8 := [42, 182, 0, 202, 42, 27, 133, 9, 42, 180, 0, 199, 4, 100, 133, 184, 0, 82, 153, 0, 7, 3]
abbrev dktX4_path_0 : List UInt8 := dkwX4_path_0 ++ dktX4_path_1
theorem dksX4_path_0 : cX4_path.data.toList.drop 0 = dktX4_path_0 := by decide +kernel
theorem dksX4_path_1 : cX4_path.data.toList.drop 22 = dktX4_path_1 := dk_seg dksX4_path_0 22 rfl rfl
theorem dX4_path_0 : decode cX4_path 0 = .ok (.aload_n 0, 1) := dk_42 (dk_at dksX4_path_0 0 rfl rfl)
theorem dX4_path_1 : decode cX4_path 1 = .ok (.invokevirtual 202, 3) := dk_182 0 202 (dk_at dksX4_path_0 1 rfl rfl)
theorem dX4_path_4 : decode cX4_path 4 = .ok (.aload_n 0, 1) := dk_42 (dk_at dksX4_path_0 4 rfl rfl)
theorem dX4_path_5 : decode cX4_path 5 = .ok (.iload_n 1, 1) := dk_27 (dk_at dksX4_path_0 5 rfl rfl)
theorem dX4_path_6 : decode cX4_path 6 = .ok (.i2l, 1) := dk_133 (dk_at dksX4_path_0 6 rfl rfl)
theorem dX4_path_7 : decode cX4_path 7 = .ok (.lconst 0, 1) := dk_9 (dk_at dksX4_path_0 7 rfl rfl)
theorem dX4_path_8 : decode cX4_path 8 = .ok (.aload_n 0, 1) := dk_42 (dk_at dksX4_path_0 8 rfl rfl)
theorem dX4_path_9 : decode cX4_path 9 = .ok (.getfield 199, 3) := dk_180 0 199 (dk_at dksX4_path_0 9 rfl rfl)
theorem dX4_path_12 : decode cX4_path 12 = .ok (.iconst 1, 1) := dk_4 (dk_at dksX4_path_0 12 rfl rfl)
theorem dX4_path_13 : decode cX4_path 13 = .ok (.isub, 1) := dk_100 (dk_at dksX4_path_0 13 rfl rfl)
theorem dX4_path_14 : decode cX4_path 14 = .ok (.i2l, 1) := dk_133 (dk_at dksX4_path_0 14 rfl rfl)
theorem dX4_path_15 : decode cX4_path 15 = .ok (.invokestatic 82, 3) := dk_184 0 82 (dk_at dksX4_path_0 15 rfl rfl)
theorem dX4_path_18 : decode cX4_path 18 = .ok (.ifCond .eq 7, 3) := dk_153 0 7 (dk_at dksX4_path_0 18 rfl rfl)
theorem dX4_path_21 : decode cX4_path 21 = .ok (.iconst 0, 1) := dk_3 (dk_at dksX4_path_0 21 rfl rfl)
theorem dX4_path_22 : decode cX4_path 22 = .ok (.goto 4, 3) := dk_167 0 4 (dk_at dksX4_path_1 0 rfl rfl)
theorem dX4_path_25 : decode cX4_path 25 = .ok (.iconst 1, 1) := dk_4 (dk_at dksX4_path_1 3 rfl rfl)
theorem dX4_path_26 : decode cX4_path 26 = .ok (.putfield 79, 3) := dk_181 0 79 (dk_at dksX4_path_1 4 rfl rfl)
theorem dX4_path_29 : decode cX4_path 29 = .ok (.aload_n 0, 1) := dk_42 (dk_at dksX4_path_1 7 rfl rfl)
theorem dX4_path_30 : decode cX4_path 30 = .ok (.getfield 79, 3) := dk_180 0 79 (dk_at dksX4_path_1 8 rfl rfl)
theorem dX4_path_33 : decode cX4_path 33 = .ok (.ifCond .le 7, 3) := dk_158 0 7 (dk_at dksX4_path_1 11 rfl rfl)
theorem dX4_path_36 : decode cX4_path 36 = .ok (.iconst 0, 1) := dk_3 (dk_at dksX4_path_1 14 rfl rfl)
theorem dX4_path_37 : decode cX4_path 37 = .ok (.goto 8, 3) := dk_167 0 8 (dk_at dksX4_path_1 15 rfl rfl)
theorem dX4_path_40 : decode cX4_path 40 = .ok (.aload_n 0, 1) := dk_42 (dk_at dksX4_path_1 18 rfl rfl)
theorem dX4_path_41 : decode cX4_path 41 = .ok (.iload_n 1, 1) := dk_27 (dk_at dksX4_path_1 19 rfl rfl)
theorem dX4_path_42 : decode cX4_path 42 = .ok (.invokevirtual 205, 3) := dk_182 0 205 (dk_at dksX4_path_1 20 rfl rfl)
theorem dX4_path_45 : decode cX4_path 45 = .ok (.ireturn, 1) := dk_172 (dk_at dksX4_path_1 23 rfl rfl)
abbrev cX4_onPath : ByteArray := prog_19_method_46_code
def yX4_onPath : MethodName := ⟨RX4, "onPath", "(I)I"⟩
def dkwX4_onPath_0 : List UInt8 := [42, 180, 0, 40, 42, 180, 0, 199, 4, 100, 27, 100, 46, 172]
abbrev dktX4_onPath_0 : List UInt8 := dkwX4_onPath_0 ++ []
theorem dksX4_onPath_0 : cX4_onPath.data.toList.drop 0 = dktX4_onPath_0 := by decide +kernel
theorem dX4_onPath_0 : decode cX4_onPath 0 = .ok (.aload_n 0, 1) := dk_42 (dk_at dksX4_onPath_0 0 rfl rfl)
theorem dX4_onPath_1 : decode cX4_onPath 1 = .ok (.getfield 40, 3) := dk_180 0 40 (dk_at dksX4_onPath_0 1 rfl rfl)
theorem dX4_onPath_4 : decode cX4_onPath 4 = .ok (.aload_n 0, 1) := dk_42 (dk_at dksX4_onPath_0 4 rfl rfl)
theorem dX4_onPath_5 : decode cX4_onPath 5 = .ok (.getfield 199, 3) := dk_180 0 199 (dk_at dksX4_onPath_0 5 rfl rfl)
theorem dX4_onPath_8 : decode cX4_onPath 8 = .ok (.iconst 1, 1) := dk_4 (dk_at dksX4_onPath_0 8 rfl rfl)
theorem dX4_onPath_9 : decode cX4_onPath 9 = .ok (.isub, 1) := dk_100 (dk_at dksX4_onPath_0 9 rfl rfl)
theorem dX4_onPath_10 : decode cX4_onPath 10 = .ok (.iload_n 1, 1) := dk_27 (dk_at dksX4_onPath_0 10 rfl rfl)
theorem dX4_onPath_11 : decode cX4_onPath 11 = .ok (.isub, 1) := dk_100 (dk_at dksX4_onPath_0 11 rfl rfl)
theorem dX4_onPath_12 : decode cX4_onPath 12 = .ok (.iaload, 1) := dk_46 (dk_at dksX4_onPath_0 12 rfl rfl)
theorem dX4_onPath_13 : decode cX4_onPath 13 = .ok (.ireturn, 1) := dk_172 (dk_at dksX4_onPath_0 13 rfl rfl)
abbrev cX4_blocks : ByteArray := prog_19_method_51_code
def yX4_blocks : MethodName := ⟨RX4, "blocks", "()I"⟩
def dkwX4_blocks_0 : List UInt8 := [42, 3, 181, 0, 79, 42, 182, 0, 202, 42, 182, 0, 211, 172]
abbrev dktX4_blocks_0 : List UInt8 := dkwX4_blocks_0 ++ []
theorem dksX4_blocks_0 : cX4_blocks.data.toList.drop 0 = dktX4_blocks_0 := by decide +kernel
theorem dX4_blocks_0 : decode cX4_blocks 0 = .ok (.aload_n 0, 1) := dk_42 (dk_at dksX4_blocks_0 0 rfl rfl)
theorem dX4_blocks_1 : decode cX4_blocks 1 = .ok (.iconst 0, 1) := dk_3 (dk_at dksX4_blocks_0 1 rfl rfl)
theorem dX4_blocks_2 : decode cX4_blocks 2 = .ok (.putfield 79, 3) := dk_181 0 79 (dk_at dksX4_blocks_0 2 rfl rfl)
theorem dX4_blocks_5 : decode cX4_blocks 5 = .ok (.aload_n 0, 1) := dk_42 (dk_at dksX4_blocks_0 5 rfl rfl)
theorem dX4_blocks_6 : decode cX4_blocks 6 = .ok (.invokevirtual 202, 3) := dk_182 0 202 (dk_at dksX4_blocks_0 6 rfl rfl)
theorem dX4_blocks_9 : decode cX4_blocks 9 = .ok (.aload_n 0, 1) := dk_42 (dk_at dksX4_blocks_0 9 rfl rfl)
theorem dX4_blocks_10 : decode cX4_blocks 10 = .ok (.invokevirtual 211, 3) := dk_182 0 211 (dk_at dksX4_blocks_0 10 rfl rfl)
theorem dX4_blocks_13 : decode cX4_blocks 13 = .ok (.ireturn, 1) := dk_172 (dk_at dksX4_blocks_0 13 rfl rfl)
abbrev cX4_blockMany : ByteArray := prog_19_method_50_code
def yX4_blockMany : MethodName := ⟨RX4, "blockMany", "()I"⟩
def dkwX4_blockMany_1 : List UInt8 := [167, 0, 4, 3, 96, 60, 132, 2, 1, 167, 255, 229, 27, 172]
abbrev dktX4_blockMany_1 : List UInt8 := dkwX4_blockMany_1 ++ []
def dkwX4_blockMany_0 : List UInt8 := [3, 60, 3, 61, 28, 42, 180, 0, 199, 162, 0, 25, 27, 42, 28, 182, 0, 208, 153, 0, 7, 4]
abbrev dktX4_blockMany_0 : List UInt8 := dkwX4_blockMany_0 ++ dktX4_blockMany_1
theorem dksX4_blockMany_0 : cX4_blockMany.data.toList.drop 0 = dktX4_blockMany_0 := by decide +kernel
theorem dksX4_blockMany_1 : cX4_blockMany.data.toList.drop 22 = dktX4_blockMany_1 := dk_seg dksX4_blockMany_0 22 rfl rfl
theorem dX4_blockMany_0 : decode cX4_blockMany 0 = .ok (.iconst 0, 1) := dk_3 (dk_at dksX4_blockMany_0 0 rfl rfl)
theorem dX4_blockMany_1 : decode cX4_blockMany 1 = .ok (.istore_n 1, 1) := dk_60 (dk_at dksX4_blockMany_0 1 rfl rfl)
theorem dX4_blockMany_2 : decode cX4_blockMany 2 = .ok (.iconst 0, 1) := dk_3 (dk_at dksX4_blockMany_0 2 rfl rfl)
theorem dX4_blockMany_3 : decode cX4_blockMany 3 = .ok (.istore_n 2, 1) := dk_61 (dk_at dksX4_blockMany_0 3 rfl rfl)
theorem dX4_blockMany_4 : decode cX4_blockMany 4 = .ok (.iload_n 2, 1) := dk_28 (dk_at dksX4_blockMany_0 4 rfl rfl)
theorem dX4_blockMany_5 : decode cX4_blockMany 5 = .ok (.aload_n 0, 1) := dk_42 (dk_at dksX4_blockMany_0 5 rfl rfl)
theorem dX4_blockMany_6 : decode cX4_blockMany 6 = .ok (.getfield 199, 3) := dk_180 0 199 (dk_at dksX4_blockMany_0 6 rfl rfl)
theorem dX4_blockMany_9 : decode cX4_blockMany 9 = .ok (.if_icmp .ge 25, 3) := dk_162 0 25 (dk_at dksX4_blockMany_0 9 rfl rfl)
theorem dX4_blockMany_12 : decode cX4_blockMany 12 = .ok (.iload_n 1, 1) := dk_27 (dk_at dksX4_blockMany_0 12 rfl rfl)
theorem dX4_blockMany_13 : decode cX4_blockMany 13 = .ok (.aload_n 0, 1) := dk_42 (dk_at dksX4_blockMany_0 13 rfl rfl)
theorem dX4_blockMany_14 : decode cX4_blockMany 14 = .ok (.iload_n 2, 1) := dk_28 (dk_at dksX4_blockMany_0 14 rfl rfl)
theorem dX4_blockMany_15 : decode cX4_blockMany 15 = .ok (.invokevirtual 208, 3) := dk_182 0 208 (dk_at dksX4_blockMany_0 15 rfl rfl)
theorem dX4_blockMany_18 : decode cX4_blockMany 18 = .ok (.ifCond .eq 7, 3) := dk_153 0 7 (dk_at dksX4_blockMany_0 18 rfl rfl)
theorem dX4_blockMany_21 : decode cX4_blockMany 21 = .ok (.iconst 1, 1) := dk_4 (dk_at dksX4_blockMany_0 21 rfl rfl)
theorem dX4_blockMany_22 : decode cX4_blockMany 22 = .ok (.goto 4, 3) := dk_167 0 4 (dk_at dksX4_blockMany_1 0 rfl rfl)
theorem dX4_blockMany_25 : decode cX4_blockMany 25 = .ok (.iconst 0, 1) := dk_3 (dk_at dksX4_blockMany_1 3 rfl rfl)
theorem dX4_blockMany_26 : decode cX4_blockMany 26 = .ok (.iadd, 1) := dk_96 (dk_at dksX4_blockMany_1 4 rfl rfl)
theorem dX4_blockMany_27 : decode cX4_blockMany 27 = .ok (.istore_n 1, 1) := dk_60 (dk_at dksX4_blockMany_1 5 rfl rfl)
theorem dX4_blockMany_28 : decode cX4_blockMany 28 = .ok (.iinc 2 1, 3) := dk_132 2 1 (dk_at dksX4_blockMany_1 6 rfl rfl)
theorem dX4_blockMany_31 : decode cX4_blockMany 31 = .ok (.goto (-27), 3) := dk_167 255 229 (dk_at dksX4_blockMany_1 9 rfl rfl)
theorem dX4_blockMany_34 : decode cX4_blockMany 34 = .ok (.iload_n 1, 1) := dk_27 (dk_at dksX4_blockMany_1 12 rfl rfl)
theorem dX4_blockMany_35 : decode cX4_blockMany 35 = .ok (.ireturn, 1) := dk_172 (dk_at dksX4_blockMany_1 13 rfl rfl)
abbrev cX4_beginsBlock : ByteArray := prog_19_method_49_code
def yX4_beginsBlock : MethodName := ⟨RX4, "beginsBlock", "(I)Z"⟩
def dkwX4_beginsBlock_1 : List UInt8 := [27, 4, 100, 182, 0, 205, 96, 46, 159, 0, 7, 4, 167, 0, 4, 3, 172]
abbrev dktX4_beginsBlock_1 : List UInt8 := dkwX4_beginsBlock_1 ++ []
def dkwX4_beginsBlock_0 : List UInt8 := [27, 153, 0, 34, 42, 180, 0, 9, 16, 62, 42, 27, 182, 0, 205, 96, 46, 42, 180, 0, 9, 16, 62, 42]
abbrev dktX4_beginsBlock_0 : List UInt8 := dkwX4_beginsBlock_0 ++ dktX4_beginsBlock_1
theorem dksX4_beginsBlock_0 : cX4_beginsBlock.data.toList.drop 0 = dktX4_beginsBlock_0 := by decide +kernel
theorem dksX4_beginsBlock_1 : cX4_beginsBlock.data.toList.drop 24 = dktX4_beginsBlock_1 := dk_seg dksX4_beginsBlock_0 24 rfl rfl
theorem dX4_beginsBlock_0 : decode cX4_beginsBlock 0 = .ok (.iload_n 1, 1) := dk_27 (dk_at dksX4_beginsBlock_0 0 rfl rfl)
theorem dX4_beginsBlock_1 : decode cX4_beginsBlock 1 = .ok (.ifCond .eq 34, 3) := dk_153 0 34 (dk_at dksX4_beginsBlock_0 1 rfl rfl)
theorem dX4_beginsBlock_4 : decode cX4_beginsBlock 4 = .ok (.aload_n 0, 1) := dk_42 (dk_at dksX4_beginsBlock_0 4 rfl rfl)
theorem dX4_beginsBlock_5 : decode cX4_beginsBlock 5 = .ok (.getfield 9, 3) := dk_180 0 9 (dk_at dksX4_beginsBlock_0 5 rfl rfl)
theorem dX4_beginsBlock_8 : decode cX4_beginsBlock 8 = .ok (.bipush 62, 2) := dk_16 62 (dk_at dksX4_beginsBlock_0 8 rfl rfl)
theorem dX4_beginsBlock_10 : decode cX4_beginsBlock 10 = .ok (.aload_n 0, 1) := dk_42 (dk_at dksX4_beginsBlock_0 10 rfl rfl)
theorem dX4_beginsBlock_11 : decode cX4_beginsBlock 11 = .ok (.iload_n 1, 1) := dk_27 (dk_at dksX4_beginsBlock_0 11 rfl rfl)
theorem dX4_beginsBlock_12 : decode cX4_beginsBlock 12 = .ok (.invokevirtual 205, 3) := dk_182 0 205 (dk_at dksX4_beginsBlock_0 12 rfl rfl)
theorem dX4_beginsBlock_15 : decode cX4_beginsBlock 15 = .ok (.iadd, 1) := dk_96 (dk_at dksX4_beginsBlock_0 15 rfl rfl)
theorem dX4_beginsBlock_16 : decode cX4_beginsBlock 16 = .ok (.iaload, 1) := dk_46 (dk_at dksX4_beginsBlock_0 16 rfl rfl)
theorem dX4_beginsBlock_17 : decode cX4_beginsBlock 17 = .ok (.aload_n 0, 1) := dk_42 (dk_at dksX4_beginsBlock_0 17 rfl rfl)
theorem dX4_beginsBlock_18 : decode cX4_beginsBlock 18 = .ok (.getfield 9, 3) := dk_180 0 9 (dk_at dksX4_beginsBlock_0 18 rfl rfl)
theorem dX4_beginsBlock_21 : decode cX4_beginsBlock 21 = .ok (.bipush 62, 2) := dk_16 62 (dk_at dksX4_beginsBlock_0 21 rfl rfl)
theorem dX4_beginsBlock_23 : decode cX4_beginsBlock 23 = .ok (.aload_n 0, 1) := dk_42 (dk_at dksX4_beginsBlock_0 23 rfl rfl)
theorem dX4_beginsBlock_24 : decode cX4_beginsBlock 24 = .ok (.iload_n 1, 1) := dk_27 (dk_at dksX4_beginsBlock_1 0 rfl rfl)
theorem dX4_beginsBlock_25 : decode cX4_beginsBlock 25 = .ok (.iconst 1, 1) := dk_4 (dk_at dksX4_beginsBlock_1 1 rfl rfl)
theorem dX4_beginsBlock_26 : decode cX4_beginsBlock 26 = .ok (.isub, 1) := dk_100 (dk_at dksX4_beginsBlock_1 2 rfl rfl)
theorem dX4_beginsBlock_27 : decode cX4_beginsBlock 27 = .ok (.invokevirtual 205, 3) := dk_182 0 205 (dk_at dksX4_beginsBlock_1 3 rfl rfl)
theorem dX4_beginsBlock_30 : decode cX4_beginsBlock 30 = .ok (.iadd, 1) := dk_96 (dk_at dksX4_beginsBlock_1 6 rfl rfl)
theorem dX4_beginsBlock_31 : decode cX4_beginsBlock 31 = .ok (.iaload, 1) := dk_46 (dk_at dksX4_beginsBlock_1 7 rfl rfl)
theorem dX4_beginsBlock_32 : decode cX4_beginsBlock 32 = .ok (.if_icmp .eq 7, 3) := dk_159 0 7 (dk_at dksX4_beginsBlock_1 8 rfl rfl)
theorem dX4_beginsBlock_35 : decode cX4_beginsBlock 35 = .ok (.iconst 1, 1) := dk_4 (dk_at dksX4_beginsBlock_1 11 rfl rfl)
theorem dX4_beginsBlock_36 : decode cX4_beginsBlock 36 = .ok (.goto 4, 3) := dk_167 0 4 (dk_at dksX4_beginsBlock_1 12 rfl rfl)
theorem dX4_beginsBlock_39 : decode cX4_beginsBlock 39 = .ok (.iconst 0, 1) := dk_3 (dk_at dksX4_beginsBlock_1 15 rfl rfl)
theorem dX4_beginsBlock_40 : decode cX4_beginsBlock 40 = .ok (.ireturn, 1) := dk_172 (dk_at dksX4_beginsBlock_1 16 rfl rfl)
abbrev cX4_blockLength : ByteArray := prog_19_method_52_code
def yX4_blockLength : MethodName := ⟨RX4, "blockLength", "(I)I"⟩
def dkwX4_blockLength_3 : List UInt8 := [96, 61, 29, 28, 27, 160, 0, 7, 4, 167, 0, 4, 3, 96, 62, 132, 4, 1, 167, 255, 214, 29, 172]
abbrev dktX4_blockLength_3 : List UInt8 := dkwX4_blockLength_3 ++ []
def dkwX4_blockLength_2 : List UInt8 := [21, 4, 42, 180, 0, 199, 162, 0, 39, 28, 42, 21, 4, 182, 0, 208, 153, 0, 7, 4, 167, 0, 4, 3]
abbrev dktX4_blockLength_2 : List UInt8 := dkwX4_blockLength_2 ++ dktX4_blockLength_3
def dkwX4_blockLength_1 : List UInt8 := [167, 0, 4, 4, 181, 0, 79, 42, 180, 0, 79, 158, 0, 5, 3, 172, 2, 61, 3, 62, 3, 54, 4]
abbrev dktX4_blockLength_1 : List UInt8 := dkwX4_blockLength_1 ++ dktX4_blockLength_2
def dkwX4_blockLength_0 : List UInt8 := [42, 182, 0, 202, 42, 27, 133, 9, 42, 182, 0, 211, 4, 100, 133, 184, 0, 82, 153, 0, 7, 3]
abbrev dktX4_blockLength_0 : List UInt8 := dkwX4_blockLength_0 ++ dktX4_blockLength_1
theorem dksX4_blockLength_0 : cX4_blockLength.data.toList.drop 0 = dktX4_blockLength_0 := by decide +kernel
theorem dksX4_blockLength_1 : cX4_blockLength.data.toList.drop 22 = dktX4_blockLength_1 := dk_seg dksX4_blockLength_0 22 rfl rfl
theorem dksX4_blockLength_2 : cX4_blockLength.data.toList.drop 45 = dktX4_blockLength_2 := dk_seg dksX4_blockLength_1 23 rfl rfl
theorem dksX4_blockLength_3 : cX4_blockLength.data.toList.drop 69 = dktX4_blockLength_3 := dk_seg dksX4_blockLength_2 24 rfl rfl
theorem dX4_blockLength_0 : decode cX4_blockLength 0 = .ok (.aload_n 0, 1) := dk_42 (dk_at dksX4_blockLength_0 0 rfl rfl)
theorem dX4_blockLength_1 : decode cX4_blockLength 1 = .ok (.invokevirtual 202, 3) := dk_182 0 202 (dk_at dksX4_blockLength_0 1 rfl rfl)
theorem dX4_blockLength_4 : decode cX4_blockLength 4 = .ok (.aload_n 0, 1) := dk_42 (dk_at dksX4_blockLength_0 4 rfl rfl)
theorem dX4_blockLength_5 : decode cX4_blockLength 5 = .ok (.iload_n 1, 1) := dk_27 (dk_at dksX4_blockLength_0 5 rfl rfl)
theorem dX4_blockLength_6 : decode cX4_blockLength 6 = .ok (.i2l, 1) := dk_133 (dk_at dksX4_blockLength_0 6 rfl rfl)
theorem dX4_blockLength_7 : decode cX4_blockLength 7 = .ok (.lconst 0, 1) := dk_9 (dk_at dksX4_blockLength_0 7 rfl rfl)
theorem dX4_blockLength_8 : decode cX4_blockLength 8 = .ok (.aload_n 0, 1) := dk_42 (dk_at dksX4_blockLength_0 8 rfl rfl)
theorem dX4_blockLength_9 : decode cX4_blockLength 9 = .ok (.invokevirtual 211, 3) := dk_182 0 211 (dk_at dksX4_blockLength_0 9 rfl rfl)
theorem dX4_blockLength_12 : decode cX4_blockLength 12 = .ok (.iconst 1, 1) := dk_4 (dk_at dksX4_blockLength_0 12 rfl rfl)
theorem dX4_blockLength_13 : decode cX4_blockLength 13 = .ok (.isub, 1) := dk_100 (dk_at dksX4_blockLength_0 13 rfl rfl)
theorem dX4_blockLength_14 : decode cX4_blockLength 14 = .ok (.i2l, 1) := dk_133 (dk_at dksX4_blockLength_0 14 rfl rfl)
theorem dX4_blockLength_15 : decode cX4_blockLength 15 = .ok (.invokestatic 82, 3) := dk_184 0 82 (dk_at dksX4_blockLength_0 15 rfl rfl)
theorem dX4_blockLength_18 : decode cX4_blockLength 18 = .ok (.ifCond .eq 7, 3) := dk_153 0 7 (dk_at dksX4_blockLength_0 18 rfl rfl)
theorem dX4_blockLength_21 : decode cX4_blockLength 21 = .ok (.iconst 0, 1) := dk_3 (dk_at dksX4_blockLength_0 21 rfl rfl)
theorem dX4_blockLength_22 : decode cX4_blockLength 22 = .ok (.goto 4, 3) := dk_167 0 4 (dk_at dksX4_blockLength_1 0 rfl rfl)
theorem dX4_blockLength_25 : decode cX4_blockLength 25 = .ok (.iconst 1, 1) := dk_4 (dk_at dksX4_blockLength_1 3 rfl rfl)
theorem dX4_blockLength_26 : decode cX4_blockLength 26 = .ok (.putfield 79, 3) := dk_181 0 79 (dk_at dksX4_blockLength_1 4 rfl rfl)
theorem dX4_blockLength_29 : decode cX4_blockLength 29 = .ok (.aload_n 0, 1) := dk_42 (dk_at dksX4_blockLength_1 7 rfl rfl)
theorem dX4_blockLength_30 : decode cX4_blockLength 30 = .ok (.getfield 79, 3) := dk_180 0 79 (dk_at dksX4_blockLength_1 8 rfl rfl)
theorem dX4_blockLength_33 : decode cX4_blockLength 33 = .ok (.ifCond .le 5, 3) := dk_158 0 5 (dk_at dksX4_blockLength_1 11 rfl rfl)
theorem dX4_blockLength_36 : decode cX4_blockLength 36 = .ok (.iconst 0, 1) := dk_3 (dk_at dksX4_blockLength_1 14 rfl rfl)
theorem dX4_blockLength_37 : decode cX4_blockLength 37 = .ok (.ireturn, 1) := dk_172 (dk_at dksX4_blockLength_1 15 rfl rfl)
theorem dX4_blockLength_38 : decode cX4_blockLength 38 = .ok (.iconst (-1), 1) := dk_2 (dk_at dksX4_blockLength_1 16 rfl rfl)
theorem dX4_blockLength_39 : decode cX4_blockLength 39 = .ok (.istore_n 2, 1) := dk_61 (dk_at dksX4_blockLength_1 17 rfl rfl)
theorem dX4_blockLength_40 : decode cX4_blockLength 40 = .ok (.iconst 0, 1) := dk_3 (dk_at dksX4_blockLength_1 18 rfl rfl)
theorem dX4_blockLength_41 : decode cX4_blockLength 41 = .ok (.istore_n 3, 1) := dk_62 (dk_at dksX4_blockLength_1 19 rfl rfl)
theorem dX4_blockLength_42 : decode cX4_blockLength 42 = .ok (.iconst 0, 1) := dk_3 (dk_at dksX4_blockLength_1 20 rfl rfl)
theorem dX4_blockLength_43 : decode cX4_blockLength 43 = .ok (.istore 4, 2) := dk_54 4 (dk_at dksX4_blockLength_1 21 rfl rfl)
theorem dX4_blockLength_45 : decode cX4_blockLength 45 = .ok (.iload 4, 2) := dk_21 4 (dk_at dksX4_blockLength_2 0 rfl rfl)
theorem dX4_blockLength_47 : decode cX4_blockLength 47 = .ok (.aload_n 0, 1) := dk_42 (dk_at dksX4_blockLength_2 2 rfl rfl)
theorem dX4_blockLength_48 : decode cX4_blockLength 48 = .ok (.getfield 199, 3) := dk_180 0 199 (dk_at dksX4_blockLength_2 3 rfl rfl)
theorem dX4_blockLength_51 : decode cX4_blockLength 51 = .ok (.if_icmp .ge 39, 3) := dk_162 0 39 (dk_at dksX4_blockLength_2 6 rfl rfl)
theorem dX4_blockLength_54 : decode cX4_blockLength 54 = .ok (.iload_n 2, 1) := dk_28 (dk_at dksX4_blockLength_2 9 rfl rfl)
theorem dX4_blockLength_55 : decode cX4_blockLength 55 = .ok (.aload_n 0, 1) := dk_42 (dk_at dksX4_blockLength_2 10 rfl rfl)
theorem dX4_blockLength_56 : decode cX4_blockLength 56 = .ok (.iload 4, 2) := dk_21 4 (dk_at dksX4_blockLength_2 11 rfl rfl)
theorem dX4_blockLength_58 : decode cX4_blockLength 58 = .ok (.invokevirtual 208, 3) := dk_182 0 208 (dk_at dksX4_blockLength_2 13 rfl rfl)
theorem dX4_blockLength_61 : decode cX4_blockLength 61 = .ok (.ifCond .eq 7, 3) := dk_153 0 7 (dk_at dksX4_blockLength_2 16 rfl rfl)
theorem dX4_blockLength_64 : decode cX4_blockLength 64 = .ok (.iconst 1, 1) := dk_4 (dk_at dksX4_blockLength_2 19 rfl rfl)
theorem dX4_blockLength_65 : decode cX4_blockLength 65 = .ok (.goto 4, 3) := dk_167 0 4 (dk_at dksX4_blockLength_2 20 rfl rfl)
theorem dX4_blockLength_68 : decode cX4_blockLength 68 = .ok (.iconst 0, 1) := dk_3 (dk_at dksX4_blockLength_2 23 rfl rfl)
theorem dX4_blockLength_69 : decode cX4_blockLength 69 = .ok (.iadd, 1) := dk_96 (dk_at dksX4_blockLength_3 0 rfl rfl)
theorem dX4_blockLength_70 : decode cX4_blockLength 70 = .ok (.istore_n 2, 1) := dk_61 (dk_at dksX4_blockLength_3 1 rfl rfl)
theorem dX4_blockLength_71 : decode cX4_blockLength 71 = .ok (.iload_n 3, 1) := dk_29 (dk_at dksX4_blockLength_3 2 rfl rfl)
theorem dX4_blockLength_72 : decode cX4_blockLength 72 = .ok (.iload_n 2, 1) := dk_28 (dk_at dksX4_blockLength_3 3 rfl rfl)
theorem dX4_blockLength_73 : decode cX4_blockLength 73 = .ok (.iload_n 1, 1) := dk_27 (dk_at dksX4_blockLength_3 4 rfl rfl)
theorem dX4_blockLength_74 : decode cX4_blockLength 74 = .ok (.if_icmp .ne 7, 3) := dk_160 0 7 (dk_at dksX4_blockLength_3 5 rfl rfl)
theorem dX4_blockLength_77 : decode cX4_blockLength 77 = .ok (.iconst 1, 1) := dk_4 (dk_at dksX4_blockLength_3 8 rfl rfl)
theorem dX4_blockLength_78 : decode cX4_blockLength 78 = .ok (.goto 4, 3) := dk_167 0 4 (dk_at dksX4_blockLength_3 9 rfl rfl)
theorem dX4_blockLength_81 : decode cX4_blockLength 81 = .ok (.iconst 0, 1) := dk_3 (dk_at dksX4_blockLength_3 12 rfl rfl)
theorem dX4_blockLength_82 : decode cX4_blockLength 82 = .ok (.iadd, 1) := dk_96 (dk_at dksX4_blockLength_3 13 rfl rfl)
theorem dX4_blockLength_83 : decode cX4_blockLength 83 = .ok (.istore_n 3, 1) := dk_62 (dk_at dksX4_blockLength_3 14 rfl rfl)
theorem dX4_blockLength_84 : decode cX4_blockLength 84 = .ok (.iinc 4 1, 3) := dk_132 4 1 (dk_at dksX4_blockLength_3 15 rfl rfl)
theorem dX4_blockLength_87 : decode cX4_blockLength 87 = .ok (.goto (-42), 3) := dk_167 255 214 (dk_at dksX4_blockLength_3 18 rfl rfl)
theorem dX4_blockLength_90 : decode cX4_blockLength 90 = .ok (.iload_n 3, 1) := dk_29 (dk_at dksX4_blockLength_3 21 rfl rfl)
theorem dX4_blockLength_91 : decode cX4_blockLength 91 = .ok (.ireturn, 1) := dk_172 (dk_at dksX4_blockLength_3 22 rfl rfl)
abbrev cX4_failure : ByteArray := prog_19_method_54_code
def yX4_failure : MethodName := ⟨RX4, "failure", "(I)I"⟩
def dkwX4_failure_2 : List UInt8 := [172]
abbrev dktX4_failure_2 : List UInt8 := dkwX4_failure_2 ++ []
def dkwX4_failure_1 : List UInt8 := [180, 0, 214, 162, 0, 12, 42, 180, 0, 20, 27, 46, 167, 0, 12, 27, 154, 0, 7, 3, 167, 0, 4, 2]
abbrev dktX4_failure_1 : List UInt8 := dkwX4_failure_1 ++ dktX4_failure_2
def dkwX4_failure_0 : List UInt8 := [42, 27, 156, 0, 7, 4, 167, 0, 4, 3, 181, 0, 79, 42, 180, 0, 79, 158, 0, 5, 3, 172, 27, 42]
abbrev dktX4_failure_0 : List UInt8 := dkwX4_failure_0 ++ dktX4_failure_1
theorem dksX4_failure_0 : cX4_failure.data.toList.drop 0 = dktX4_failure_0 := by decide +kernel
theorem dksX4_failure_1 : cX4_failure.data.toList.drop 24 = dktX4_failure_1 := dk_seg dksX4_failure_0 24 rfl rfl
theorem dksX4_failure_2 : cX4_failure.data.toList.drop 48 = dktX4_failure_2 := dk_seg dksX4_failure_1 24 rfl rfl
theorem dX4_failure_0 : decode cX4_failure 0 = .ok (.aload_n 0, 1) := dk_42 (dk_at dksX4_failure_0 0 rfl rfl)
theorem dX4_failure_1 : decode cX4_failure 1 = .ok (.iload_n 1, 1) := dk_27 (dk_at dksX4_failure_0 1 rfl rfl)
theorem dX4_failure_2 : decode cX4_failure 2 = .ok (.ifCond .ge 7, 3) := dk_156 0 7 (dk_at dksX4_failure_0 2 rfl rfl)
theorem dX4_failure_5 : decode cX4_failure 5 = .ok (.iconst 1, 1) := dk_4 (dk_at dksX4_failure_0 5 rfl rfl)
theorem dX4_failure_6 : decode cX4_failure 6 = .ok (.goto 4, 3) := dk_167 0 4 (dk_at dksX4_failure_0 6 rfl rfl)
theorem dX4_failure_9 : decode cX4_failure 9 = .ok (.iconst 0, 1) := dk_3 (dk_at dksX4_failure_0 9 rfl rfl)
theorem dX4_failure_10 : decode cX4_failure 10 = .ok (.putfield 79, 3) := dk_181 0 79 (dk_at dksX4_failure_0 10 rfl rfl)
theorem dX4_failure_13 : decode cX4_failure 13 = .ok (.aload_n 0, 1) := dk_42 (dk_at dksX4_failure_0 13 rfl rfl)
theorem dX4_failure_14 : decode cX4_failure 14 = .ok (.getfield 79, 3) := dk_180 0 79 (dk_at dksX4_failure_0 14 rfl rfl)
theorem dX4_failure_17 : decode cX4_failure 17 = .ok (.ifCond .le 5, 3) := dk_158 0 5 (dk_at dksX4_failure_0 17 rfl rfl)
theorem dX4_failure_20 : decode cX4_failure 20 = .ok (.iconst 0, 1) := dk_3 (dk_at dksX4_failure_0 20 rfl rfl)
theorem dX4_failure_21 : decode cX4_failure 21 = .ok (.ireturn, 1) := dk_172 (dk_at dksX4_failure_0 21 rfl rfl)
theorem dX4_failure_22 : decode cX4_failure 22 = .ok (.iload_n 1, 1) := dk_27 (dk_at dksX4_failure_0 22 rfl rfl)
theorem dX4_failure_23 : decode cX4_failure 23 = .ok (.aload_n 0, 1) := dk_42 (dk_at dksX4_failure_0 23 rfl rfl)
theorem dX4_failure_24 : decode cX4_failure 24 = .ok (.getfield 214, 3) := dk_180 0 214 (dk_at dksX4_failure_1 0 rfl rfl)
theorem dX4_failure_27 : decode cX4_failure 27 = .ok (.if_icmp .ge 12, 3) := dk_162 0 12 (dk_at dksX4_failure_1 3 rfl rfl)
theorem dX4_failure_30 : decode cX4_failure 30 = .ok (.aload_n 0, 1) := dk_42 (dk_at dksX4_failure_1 6 rfl rfl)
theorem dX4_failure_31 : decode cX4_failure 31 = .ok (.getfield 20, 3) := dk_180 0 20 (dk_at dksX4_failure_1 7 rfl rfl)
theorem dX4_failure_34 : decode cX4_failure 34 = .ok (.iload_n 1, 1) := dk_27 (dk_at dksX4_failure_1 10 rfl rfl)
theorem dX4_failure_35 : decode cX4_failure 35 = .ok (.iaload, 1) := dk_46 (dk_at dksX4_failure_1 11 rfl rfl)
theorem dX4_failure_36 : decode cX4_failure 36 = .ok (.goto 12, 3) := dk_167 0 12 (dk_at dksX4_failure_1 12 rfl rfl)
theorem dX4_failure_39 : decode cX4_failure 39 = .ok (.iload_n 1, 1) := dk_27 (dk_at dksX4_failure_1 15 rfl rfl)
theorem dX4_failure_40 : decode cX4_failure 40 = .ok (.ifCond .ne 7, 3) := dk_154 0 7 (dk_at dksX4_failure_1 16 rfl rfl)
theorem dX4_failure_43 : decode cX4_failure 43 = .ok (.iconst 0, 1) := dk_3 (dk_at dksX4_failure_1 19 rfl rfl)
theorem dX4_failure_44 : decode cX4_failure 44 = .ok (.goto 4, 3) := dk_167 0 4 (dk_at dksX4_failure_1 20 rfl rfl)
theorem dX4_failure_47 : decode cX4_failure 47 = .ok (.iconst (-1), 1) := dk_2 (dk_at dksX4_failure_1 23 rfl rfl)
theorem dX4_failure_48 : decode cX4_failure 48 = .ok (.ireturn, 1) := dk_172 (dk_at dksX4_failure_2 0 rfl rfl)
abbrev cX4_swap : ByteArray := prog_19_method_57_code
def yX4_swap : MethodName := ⟨RX4, "swap", "(II)I"⟩
def dkwX4_swap_3 : List UInt8 := [42, 6, 181, 0, 79, 3, 172, 42, 182, 0, 185, 172]
abbrev dktX4_swap_3 : List UInt8 := dkwX4_swap_3 ++ []
def dkwX4_swap_2 : List UInt8 := [158, 0, 5, 3, 172, 42, 27, 28, 182, 0, 221, 42, 182, 0, 225, 153, 0, 16, 42, 27, 28, 182, 0, 221]
abbrev dktX4_swap_2 : List UInt8 := dkwX4_swap_2 ++ dktX4_swap_3
def dkwX4_swap_1 : List UInt8 := [46, 5, 100, 133, 184, 0, 82, 154, 0, 7, 5, 167, 0, 4, 3, 181, 0, 79, 42, 180, 0, 79]
abbrev dktX4_swap_1 : List UInt8 := dkwX4_swap_1 ++ dktX4_swap_2
def dkwX4_swap_0 : List UInt8 := [42, 27, 184, 0, 122, 154, 0, 7, 4, 167, 0, 30, 28, 133, 9, 42, 180, 0, 9, 17, 0, 179, 27, 96]
abbrev dktX4_swap_0 : List UInt8 := dkwX4_swap_0 ++ dktX4_swap_1
theorem dksX4_swap_0 : cX4_swap.data.toList.drop 0 = dktX4_swap_0 := by decide +kernel
theorem dksX4_swap_1 : cX4_swap.data.toList.drop 24 = dktX4_swap_1 := dk_seg dksX4_swap_0 24 rfl rfl
theorem dksX4_swap_2 : cX4_swap.data.toList.drop 46 = dktX4_swap_2 := dk_seg dksX4_swap_1 22 rfl rfl
theorem dksX4_swap_3 : cX4_swap.data.toList.drop 70 = dktX4_swap_3 := dk_seg dksX4_swap_2 24 rfl rfl
theorem dX4_swap_0 : decode cX4_swap 0 = .ok (.aload_n 0, 1) := dk_42 (dk_at dksX4_swap_0 0 rfl rfl)
theorem dX4_swap_1 : decode cX4_swap 1 = .ok (.iload_n 1, 1) := dk_27 (dk_at dksX4_swap_0 1 rfl rfl)
theorem dX4_swap_2 : decode cX4_swap 2 = .ok (.invokestatic 122, 3) := dk_184 0 122 (dk_at dksX4_swap_0 2 rfl rfl)
theorem dX4_swap_5 : decode cX4_swap 5 = .ok (.ifCond .ne 7, 3) := dk_154 0 7 (dk_at dksX4_swap_0 5 rfl rfl)
theorem dX4_swap_8 : decode cX4_swap 8 = .ok (.iconst 1, 1) := dk_4 (dk_at dksX4_swap_0 8 rfl rfl)
theorem dX4_swap_9 : decode cX4_swap 9 = .ok (.goto 30, 3) := dk_167 0 30 (dk_at dksX4_swap_0 9 rfl rfl)
theorem dX4_swap_12 : decode cX4_swap 12 = .ok (.iload_n 2, 1) := dk_28 (dk_at dksX4_swap_0 12 rfl rfl)
theorem dX4_swap_13 : decode cX4_swap 13 = .ok (.i2l, 1) := dk_133 (dk_at dksX4_swap_0 13 rfl rfl)
theorem dX4_swap_14 : decode cX4_swap 14 = .ok (.lconst 0, 1) := dk_9 (dk_at dksX4_swap_0 14 rfl rfl)
theorem dX4_swap_15 : decode cX4_swap 15 = .ok (.aload_n 0, 1) := dk_42 (dk_at dksX4_swap_0 15 rfl rfl)
theorem dX4_swap_16 : decode cX4_swap 16 = .ok (.getfield 9, 3) := dk_180 0 9 (dk_at dksX4_swap_0 16 rfl rfl)
theorem dX4_swap_19 : decode cX4_swap 19 = .ok (.sipush 179, 3) := dk_17 0 179 (dk_at dksX4_swap_0 19 rfl rfl)
theorem dX4_swap_22 : decode cX4_swap 22 = .ok (.iload_n 1, 1) := dk_27 (dk_at dksX4_swap_0 22 rfl rfl)
theorem dX4_swap_23 : decode cX4_swap 23 = .ok (.iadd, 1) := dk_96 (dk_at dksX4_swap_0 23 rfl rfl)
theorem dX4_swap_24 : decode cX4_swap 24 = .ok (.iaload, 1) := dk_46 (dk_at dksX4_swap_1 0 rfl rfl)
theorem dX4_swap_25 : decode cX4_swap 25 = .ok (.iconst 2, 1) := dk_5 (dk_at dksX4_swap_1 1 rfl rfl)
theorem dX4_swap_26 : decode cX4_swap 26 = .ok (.isub, 1) := dk_100 (dk_at dksX4_swap_1 2 rfl rfl)
theorem dX4_swap_27 : decode cX4_swap 27 = .ok (.i2l, 1) := dk_133 (dk_at dksX4_swap_1 3 rfl rfl)
theorem dX4_swap_28 : decode cX4_swap 28 = .ok (.invokestatic 82, 3) := dk_184 0 82 (dk_at dksX4_swap_1 4 rfl rfl)
theorem dX4_swap_31 : decode cX4_swap 31 = .ok (.ifCond .ne 7, 3) := dk_154 0 7 (dk_at dksX4_swap_1 7 rfl rfl)
theorem dX4_swap_34 : decode cX4_swap 34 = .ok (.iconst 2, 1) := dk_5 (dk_at dksX4_swap_1 10 rfl rfl)
theorem dX4_swap_35 : decode cX4_swap 35 = .ok (.goto 4, 3) := dk_167 0 4 (dk_at dksX4_swap_1 11 rfl rfl)
theorem dX4_swap_38 : decode cX4_swap 38 = .ok (.iconst 0, 1) := dk_3 (dk_at dksX4_swap_1 14 rfl rfl)
theorem dX4_swap_39 : decode cX4_swap 39 = .ok (.putfield 79, 3) := dk_181 0 79 (dk_at dksX4_swap_1 15 rfl rfl)
theorem dX4_swap_42 : decode cX4_swap 42 = .ok (.aload_n 0, 1) := dk_42 (dk_at dksX4_swap_1 18 rfl rfl)
theorem dX4_swap_43 : decode cX4_swap 43 = .ok (.getfield 79, 3) := dk_180 0 79 (dk_at dksX4_swap_1 19 rfl rfl)
theorem dX4_swap_46 : decode cX4_swap 46 = .ok (.ifCond .le 5, 3) := dk_158 0 5 (dk_at dksX4_swap_2 0 rfl rfl)
theorem dX4_swap_49 : decode cX4_swap 49 = .ok (.iconst 0, 1) := dk_3 (dk_at dksX4_swap_2 3 rfl rfl)
theorem dX4_swap_50 : decode cX4_swap 50 = .ok (.ireturn, 1) := dk_172 (dk_at dksX4_swap_2 4 rfl rfl)
theorem dX4_swap_51 : decode cX4_swap 51 = .ok (.aload_n 0, 1) := dk_42 (dk_at dksX4_swap_2 5 rfl rfl)
theorem dX4_swap_52 : decode cX4_swap 52 = .ok (.iload_n 1, 1) := dk_27 (dk_at dksX4_swap_2 6 rfl rfl)
theorem dX4_swap_53 : decode cX4_swap 53 = .ok (.iload_n 2, 1) := dk_28 (dk_at dksX4_swap_2 7 rfl rfl)
theorem dX4_swap_54 : decode cX4_swap 54 = .ok (.invokevirtual 221, 3) := dk_182 0 221 (dk_at dksX4_swap_2 8 rfl rfl)
theorem dX4_swap_57 : decode cX4_swap 57 = .ok (.aload_n 0, 1) := dk_42 (dk_at dksX4_swap_2 11 rfl rfl)
theorem dX4_swap_58 : decode cX4_swap 58 = .ok (.invokevirtual 225, 3) := dk_182 0 225 (dk_at dksX4_swap_2 12 rfl rfl)
theorem dX4_swap_61 : decode cX4_swap 61 = .ok (.ifCond .eq 16, 3) := dk_153 0 16 (dk_at dksX4_swap_2 15 rfl rfl)
theorem dX4_swap_64 : decode cX4_swap 64 = .ok (.aload_n 0, 1) := dk_42 (dk_at dksX4_swap_2 18 rfl rfl)
theorem dX4_swap_65 : decode cX4_swap 65 = .ok (.iload_n 1, 1) := dk_27 (dk_at dksX4_swap_2 19 rfl rfl)
theorem dX4_swap_66 : decode cX4_swap 66 = .ok (.iload_n 2, 1) := dk_28 (dk_at dksX4_swap_2 20 rfl rfl)
theorem dX4_swap_67 : decode cX4_swap 67 = .ok (.invokevirtual 221, 3) := dk_182 0 221 (dk_at dksX4_swap_2 21 rfl rfl)
theorem dX4_swap_70 : decode cX4_swap 70 = .ok (.aload_n 0, 1) := dk_42 (dk_at dksX4_swap_3 0 rfl rfl)
theorem dX4_swap_71 : decode cX4_swap 71 = .ok (.iconst 3, 1) := dk_6 (dk_at dksX4_swap_3 1 rfl rfl)
theorem dX4_swap_72 : decode cX4_swap 72 = .ok (.putfield 79, 3) := dk_181 0 79 (dk_at dksX4_swap_3 2 rfl rfl)
theorem dX4_swap_75 : decode cX4_swap 75 = .ok (.iconst 0, 1) := dk_3 (dk_at dksX4_swap_3 5 rfl rfl)
theorem dX4_swap_76 : decode cX4_swap 76 = .ok (.ireturn, 1) := dk_172 (dk_at dksX4_swap_3 6 rfl rfl)
theorem dX4_swap_77 : decode cX4_swap 77 = .ok (.aload_n 0, 1) := dk_42 (dk_at dksX4_swap_3 7 rfl rfl)
theorem dX4_swap_78 : decode cX4_swap 78 = .ok (.invokevirtual 185, 3) := dk_182 0 185 (dk_at dksX4_swap_3 8 rfl rfl)
theorem dX4_swap_81 : decode cX4_swap 81 = .ok (.ireturn, 1) := dk_172 (dk_at dksX4_swap_3 11 rfl rfl)
abbrev cX4_exchange : ByteArray := prog_19_method_55_code
def yX4_exchange : MethodName := ⟨RX4, "exchange", "(II)V"⟩
def dkwX4_exchange_1 : List UInt8 := [4, 96, 29, 182, 0, 114, 177]
abbrev dktX4_exchange_1 : List UInt8 := dkwX4_exchange_1 ++ []
def dkwX4_exchange_0 : List UInt8 := [42, 27, 28, 182, 0, 142, 62, 42, 27, 28, 42, 27, 28, 4, 96, 182, 0, 142, 182, 0, 114, 42, 27, 28]
abbrev dktX4_exchange_0 : List UInt8 := dkwX4_exchange_0 ++ dktX4_exchange_1
theorem dksX4_exchange_0 : cX4_exchange.data.toList.drop 0 = dktX4_exchange_0 := by decide +kernel
theorem dksX4_exchange_1 : cX4_exchange.data.toList.drop 24 = dktX4_exchange_1 := dk_seg dksX4_exchange_0 24 rfl rfl
theorem dX4_exchange_0 : decode cX4_exchange 0 = .ok (.aload_n 0, 1) := dk_42 (dk_at dksX4_exchange_0 0 rfl rfl)
theorem dX4_exchange_1 : decode cX4_exchange 1 = .ok (.iload_n 1, 1) := dk_27 (dk_at dksX4_exchange_0 1 rfl rfl)
theorem dX4_exchange_2 : decode cX4_exchange 2 = .ok (.iload_n 2, 1) := dk_28 (dk_at dksX4_exchange_0 2 rfl rfl)
theorem dX4_exchange_3 : decode cX4_exchange 3 = .ok (.invokevirtual 142, 3) := dk_182 0 142 (dk_at dksX4_exchange_0 3 rfl rfl)
theorem dX4_exchange_6 : decode cX4_exchange 6 = .ok (.istore_n 3, 1) := dk_62 (dk_at dksX4_exchange_0 6 rfl rfl)
theorem dX4_exchange_7 : decode cX4_exchange 7 = .ok (.aload_n 0, 1) := dk_42 (dk_at dksX4_exchange_0 7 rfl rfl)
theorem dX4_exchange_8 : decode cX4_exchange 8 = .ok (.iload_n 1, 1) := dk_27 (dk_at dksX4_exchange_0 8 rfl rfl)
theorem dX4_exchange_9 : decode cX4_exchange 9 = .ok (.iload_n 2, 1) := dk_28 (dk_at dksX4_exchange_0 9 rfl rfl)
theorem dX4_exchange_10 : decode cX4_exchange 10 = .ok (.aload_n 0, 1) := dk_42 (dk_at dksX4_exchange_0 10 rfl rfl)
theorem dX4_exchange_11 : decode cX4_exchange 11 = .ok (.iload_n 1, 1) := dk_27 (dk_at dksX4_exchange_0 11 rfl rfl)
theorem dX4_exchange_12 : decode cX4_exchange 12 = .ok (.iload_n 2, 1) := dk_28 (dk_at dksX4_exchange_0 12 rfl rfl)
theorem dX4_exchange_13 : decode cX4_exchange 13 = .ok (.iconst 1, 1) := dk_4 (dk_at dksX4_exchange_0 13 rfl rfl)
theorem dX4_exchange_14 : decode cX4_exchange 14 = .ok (.iadd, 1) := dk_96 (dk_at dksX4_exchange_0 14 rfl rfl)
theorem dX4_exchange_15 : decode cX4_exchange 15 = .ok (.invokevirtual 142, 3) := dk_182 0 142 (dk_at dksX4_exchange_0 15 rfl rfl)
theorem dX4_exchange_18 : decode cX4_exchange 18 = .ok (.invokevirtual 114, 3) := dk_182 0 114 (dk_at dksX4_exchange_0 18 rfl rfl)
theorem dX4_exchange_21 : decode cX4_exchange 21 = .ok (.aload_n 0, 1) := dk_42 (dk_at dksX4_exchange_0 21 rfl rfl)
theorem dX4_exchange_22 : decode cX4_exchange 22 = .ok (.iload_n 1, 1) := dk_27 (dk_at dksX4_exchange_0 22 rfl rfl)
theorem dX4_exchange_23 : decode cX4_exchange 23 = .ok (.iload_n 2, 1) := dk_28 (dk_at dksX4_exchange_0 23 rfl rfl)
theorem dX4_exchange_24 : decode cX4_exchange 24 = .ok (.iconst 1, 1) := dk_4 (dk_at dksX4_exchange_1 0 rfl rfl)
theorem dX4_exchange_25 : decode cX4_exchange 25 = .ok (.iadd, 1) := dk_96 (dk_at dksX4_exchange_1 1 rfl rfl)
theorem dX4_exchange_26 : decode cX4_exchange 26 = .ok (.iload_n 3, 1) := dk_29 (dk_at dksX4_exchange_1 2 rfl rfl)
theorem dX4_exchange_27 : decode cX4_exchange 27 = .ok (.invokevirtual 114, 3) := dk_182 0 114 (dk_at dksX4_exchange_1 3 rfl rfl)
theorem dX4_exchange_30 : decode cX4_exchange 30 = .ok (.return_, 1) := dk_177 (dk_at dksX4_exchange_1 6 rfl rfl)
abbrev cX4_failsByCycle : ByteArray := prog_19_method_56_code
def yX4_failsByCycle : MethodName := ⟨RX4, "failsByCycle", "()Z"⟩
def dkwX4_failsByCycle_1 : List UInt8 := [132, 2, 1, 167, 255, 244, 42, 6, 4, 16, 100, 28, 96, 27, 3, 182, 0, 217, 4, 172]
abbrev dktX4_failsByCycle_1 : List UInt8 := dkwX4_failsByCycle_1 ++ []
def dkwX4_failsByCycle_0 : List UInt8 := [42, 182, 0, 181, 60, 27, 154, 0, 5, 3, 172, 3, 61, 42, 180, 0, 29, 28, 46, 155, 0, 9]
abbrev dktX4_failsByCycle_0 : List UInt8 := dkwX4_failsByCycle_0 ++ dktX4_failsByCycle_1
theorem dksX4_failsByCycle_0 : cX4_failsByCycle.data.toList.drop 0 = dktX4_failsByCycle_0 := by decide +kernel
theorem dksX4_failsByCycle_1 : cX4_failsByCycle.data.toList.drop 22 = dktX4_failsByCycle_1 := dk_seg dksX4_failsByCycle_0 22 rfl rfl
theorem dX4_failsByCycle_0 : decode cX4_failsByCycle 0 = .ok (.aload_n 0, 1) := dk_42 (dk_at dksX4_failsByCycle_0 0 rfl rfl)
theorem dX4_failsByCycle_1 : decode cX4_failsByCycle 1 = .ok (.invokevirtual 181, 3) := dk_182 0 181 (dk_at dksX4_failsByCycle_0 1 rfl rfl)
theorem dX4_failsByCycle_4 : decode cX4_failsByCycle 4 = .ok (.istore_n 1, 1) := dk_60 (dk_at dksX4_failsByCycle_0 4 rfl rfl)
theorem dX4_failsByCycle_5 : decode cX4_failsByCycle 5 = .ok (.iload_n 1, 1) := dk_27 (dk_at dksX4_failsByCycle_0 5 rfl rfl)
theorem dX4_failsByCycle_6 : decode cX4_failsByCycle 6 = .ok (.ifCond .ne 5, 3) := dk_154 0 5 (dk_at dksX4_failsByCycle_0 6 rfl rfl)
theorem dX4_failsByCycle_9 : decode cX4_failsByCycle 9 = .ok (.iconst 0, 1) := dk_3 (dk_at dksX4_failsByCycle_0 9 rfl rfl)
theorem dX4_failsByCycle_10 : decode cX4_failsByCycle 10 = .ok (.ireturn, 1) := dk_172 (dk_at dksX4_failsByCycle_0 10 rfl rfl)
theorem dX4_failsByCycle_11 : decode cX4_failsByCycle 11 = .ok (.iconst 0, 1) := dk_3 (dk_at dksX4_failsByCycle_0 11 rfl rfl)
theorem dX4_failsByCycle_12 : decode cX4_failsByCycle 12 = .ok (.istore_n 2, 1) := dk_61 (dk_at dksX4_failsByCycle_0 12 rfl rfl)
theorem dX4_failsByCycle_13 : decode cX4_failsByCycle 13 = .ok (.aload_n 0, 1) := dk_42 (dk_at dksX4_failsByCycle_0 13 rfl rfl)
theorem dX4_failsByCycle_14 : decode cX4_failsByCycle 14 = .ok (.getfield 29, 3) := dk_180 0 29 (dk_at dksX4_failsByCycle_0 14 rfl rfl)
theorem dX4_failsByCycle_17 : decode cX4_failsByCycle 17 = .ok (.iload_n 2, 1) := dk_28 (dk_at dksX4_failsByCycle_0 17 rfl rfl)
theorem dX4_failsByCycle_18 : decode cX4_failsByCycle 18 = .ok (.iaload, 1) := dk_46 (dk_at dksX4_failsByCycle_0 18 rfl rfl)
theorem dX4_failsByCycle_19 : decode cX4_failsByCycle 19 = .ok (.ifCond .lt 9, 3) := dk_155 0 9 (dk_at dksX4_failsByCycle_0 19 rfl rfl)
theorem dX4_failsByCycle_22 : decode cX4_failsByCycle 22 = .ok (.iinc 2 1, 3) := dk_132 2 1 (dk_at dksX4_failsByCycle_1 0 rfl rfl)
theorem dX4_failsByCycle_25 : decode cX4_failsByCycle 25 = .ok (.goto (-12), 3) := dk_167 255 244 (dk_at dksX4_failsByCycle_1 3 rfl rfl)
theorem dX4_failsByCycle_28 : decode cX4_failsByCycle 28 = .ok (.aload_n 0, 1) := dk_42 (dk_at dksX4_failsByCycle_1 6 rfl rfl)
theorem dX4_failsByCycle_29 : decode cX4_failsByCycle 29 = .ok (.iconst 3, 1) := dk_6 (dk_at dksX4_failsByCycle_1 7 rfl rfl)
theorem dX4_failsByCycle_30 : decode cX4_failsByCycle 30 = .ok (.iconst 1, 1) := dk_4 (dk_at dksX4_failsByCycle_1 8 rfl rfl)
theorem dX4_failsByCycle_31 : decode cX4_failsByCycle 31 = .ok (.bipush 100, 2) := dk_16 100 (dk_at dksX4_failsByCycle_1 9 rfl rfl)
theorem dX4_failsByCycle_33 : decode cX4_failsByCycle 33 = .ok (.iload_n 2, 1) := dk_28 (dk_at dksX4_failsByCycle_1 11 rfl rfl)
theorem dX4_failsByCycle_34 : decode cX4_failsByCycle 34 = .ok (.iadd, 1) := dk_96 (dk_at dksX4_failsByCycle_1 12 rfl rfl)
theorem dX4_failsByCycle_35 : decode cX4_failsByCycle 35 = .ok (.iload_n 1, 1) := dk_27 (dk_at dksX4_failsByCycle_1 13 rfl rfl)
theorem dX4_failsByCycle_36 : decode cX4_failsByCycle 36 = .ok (.iconst 0, 1) := dk_3 (dk_at dksX4_failsByCycle_1 14 rfl rfl)
theorem dX4_failsByCycle_37 : decode cX4_failsByCycle 37 = .ok (.invokevirtual 217, 3) := dk_182 0 217 (dk_at dksX4_failsByCycle_1 15 rfl rfl)
theorem dX4_failsByCycle_40 : decode cX4_failsByCycle 40 = .ok (.iconst 1, 1) := dk_4 (dk_at dksX4_failsByCycle_1 18 rfl rfl)
theorem dX4_failsByCycle_41 : decode cX4_failsByCycle 41 = .ok (.ireturn, 1) := dk_172 (dk_at dksX4_failsByCycle_1 19 rfl rfl)
abbrev cX4_fail : ByteArray := prog_19_method_53_code
def yX4_fail : MethodName := ⟨RX4, "fail", "(IIIII)V"⟩
def dkwX4_fail_1 : List UInt8 := [21, 4, 79, 42, 180, 0, 20, 6, 21, 5, 79, 177]
abbrev dktX4_fail_1 : List UInt8 := dkwX4_fail_1 ++ []
def dkwX4_fail_0 : List UInt8 := [42, 27, 181, 0, 214, 42, 180, 0, 20, 3, 28, 79, 42, 180, 0, 20, 4, 29, 79, 42, 180, 0, 20, 5]
abbrev dktX4_fail_0 : List UInt8 := dkwX4_fail_0 ++ dktX4_fail_1
theorem dksX4_fail_0 : cX4_fail.data.toList.drop 0 = dktX4_fail_0 := by decide +kernel
theorem dksX4_fail_1 : cX4_fail.data.toList.drop 24 = dktX4_fail_1 := dk_seg dksX4_fail_0 24 rfl rfl
theorem dX4_fail_0 : decode cX4_fail 0 = .ok (.aload_n 0, 1) := dk_42 (dk_at dksX4_fail_0 0 rfl rfl)
theorem dX4_fail_1 : decode cX4_fail 1 = .ok (.iload_n 1, 1) := dk_27 (dk_at dksX4_fail_0 1 rfl rfl)
theorem dX4_fail_2 : decode cX4_fail 2 = .ok (.putfield 214, 3) := dk_181 0 214 (dk_at dksX4_fail_0 2 rfl rfl)
theorem dX4_fail_5 : decode cX4_fail 5 = .ok (.aload_n 0, 1) := dk_42 (dk_at dksX4_fail_0 5 rfl rfl)
theorem dX4_fail_6 : decode cX4_fail 6 = .ok (.getfield 20, 3) := dk_180 0 20 (dk_at dksX4_fail_0 6 rfl rfl)
theorem dX4_fail_9 : decode cX4_fail 9 = .ok (.iconst 0, 1) := dk_3 (dk_at dksX4_fail_0 9 rfl rfl)
theorem dX4_fail_10 : decode cX4_fail 10 = .ok (.iload_n 2, 1) := dk_28 (dk_at dksX4_fail_0 10 rfl rfl)
theorem dX4_fail_11 : decode cX4_fail 11 = .ok (.iastore, 1) := dk_79 (dk_at dksX4_fail_0 11 rfl rfl)
theorem dX4_fail_12 : decode cX4_fail 12 = .ok (.aload_n 0, 1) := dk_42 (dk_at dksX4_fail_0 12 rfl rfl)
theorem dX4_fail_13 : decode cX4_fail 13 = .ok (.getfield 20, 3) := dk_180 0 20 (dk_at dksX4_fail_0 13 rfl rfl)
theorem dX4_fail_16 : decode cX4_fail 16 = .ok (.iconst 1, 1) := dk_4 (dk_at dksX4_fail_0 16 rfl rfl)
theorem dX4_fail_17 : decode cX4_fail 17 = .ok (.iload_n 3, 1) := dk_29 (dk_at dksX4_fail_0 17 rfl rfl)
theorem dX4_fail_18 : decode cX4_fail 18 = .ok (.iastore, 1) := dk_79 (dk_at dksX4_fail_0 18 rfl rfl)
theorem dX4_fail_19 : decode cX4_fail 19 = .ok (.aload_n 0, 1) := dk_42 (dk_at dksX4_fail_0 19 rfl rfl)
theorem dX4_fail_20 : decode cX4_fail 20 = .ok (.getfield 20, 3) := dk_180 0 20 (dk_at dksX4_fail_0 20 rfl rfl)
theorem dX4_fail_23 : decode cX4_fail 23 = .ok (.iconst 2, 1) := dk_5 (dk_at dksX4_fail_0 23 rfl rfl)
theorem dX4_fail_24 : decode cX4_fail 24 = .ok (.iload 4, 2) := dk_21 4 (dk_at dksX4_fail_1 0 rfl rfl)
theorem dX4_fail_26 : decode cX4_fail 26 = .ok (.iastore, 1) := dk_79 (dk_at dksX4_fail_1 2 rfl rfl)
theorem dX4_fail_27 : decode cX4_fail 27 = .ok (.aload_n 0, 1) := dk_42 (dk_at dksX4_fail_1 3 rfl rfl)
theorem dX4_fail_28 : decode cX4_fail 28 = .ok (.getfield 20, 3) := dk_180 0 20 (dk_at dksX4_fail_1 4 rfl rfl)
theorem dX4_fail_31 : decode cX4_fail 31 = .ok (.iconst 3, 1) := dk_6 (dk_at dksX4_fail_1 7 rfl rfl)
theorem dX4_fail_32 : decode cX4_fail 32 = .ok (.iload 5, 2) := dk_21 5 (dk_at dksX4_fail_1 8 rfl rfl)
theorem dX4_fail_34 : decode cX4_fail 34 = .ok (.iastore, 1) := dk_79 (dk_at dksX4_fail_1 10 rfl rfl)
theorem dX4_fail_35 : decode cX4_fail 35 = .ok (.return_, 1) := dk_177 (dk_at dksX4_fail_1 11 rfl rfl)
abbrev cX4_move : ByteArray := prog_19_method_59_code
def yX4_move : MethodName := ⟨RX4, "move", "(II)I"⟩
def dkwX4_move_4 : List UInt8 := [21, 4, 182, 0, 229, 42, 6, 181, 0, 79, 3, 172, 42, 182, 0, 185, 172]
abbrev dktX4_move_4 : List UInt8 := dkwX4_move_4 ++ []
def dkwX4_move_3 : List UInt8 := [182, 0, 147, 54, 4, 42, 29, 21, 4, 28, 182, 0, 229, 42, 182, 0, 225, 153, 0, 18, 42, 29, 28]
abbrev dktX4_move_3 : List UInt8 := dkwX4_move_3 ++ dktX4_move_4
def dkwX4_move_2 : List UInt8 := [181, 0, 79, 42, 180, 0, 79, 158, 0, 5, 3, 172, 42, 180, 0, 9, 16, 62, 27, 96, 46, 62, 42, 27]
abbrev dktX4_move_2 : List UInt8 := dkwX4_move_2 ++ dktX4_move_3
def dkwX4_move_1 : List UInt8 := [180, 0, 9, 16, 62, 27, 96, 46, 96, 46, 4, 100, 133, 184, 0, 82, 154, 0, 7, 5, 167, 0, 4, 3]
abbrev dktX4_move_1 : List UInt8 := dkwX4_move_1 ++ dktX4_move_2
def dkwX4_move_0 : List UInt8 := [42, 42, 27, 182, 0, 135, 154, 0, 7, 4, 167, 0, 38, 28, 133, 9, 42, 180, 0, 9, 17, 0, 179, 42]
abbrev dktX4_move_0 : List UInt8 := dkwX4_move_0 ++ dktX4_move_1
theorem dksX4_move_0 : cX4_move.data.toList.drop 0 = dktX4_move_0 := by decide +kernel
theorem dksX4_move_1 : cX4_move.data.toList.drop 24 = dktX4_move_1 := dk_seg dksX4_move_0 24 rfl rfl
theorem dksX4_move_2 : cX4_move.data.toList.drop 48 = dktX4_move_2 := dk_seg dksX4_move_1 24 rfl rfl
theorem dksX4_move_3 : cX4_move.data.toList.drop 72 = dktX4_move_3 := dk_seg dksX4_move_2 24 rfl rfl
theorem dksX4_move_4 : cX4_move.data.toList.drop 95 = dktX4_move_4 := dk_seg dksX4_move_3 23 rfl rfl
theorem dX4_move_0 : decode cX4_move 0 = .ok (.aload_n 0, 1) := dk_42 (dk_at dksX4_move_0 0 rfl rfl)
theorem dX4_move_1 : decode cX4_move 1 = .ok (.aload_n 0, 1) := dk_42 (dk_at dksX4_move_0 1 rfl rfl)
theorem dX4_move_2 : decode cX4_move 2 = .ok (.iload_n 1, 1) := dk_27 (dk_at dksX4_move_0 2 rfl rfl)
theorem dX4_move_3 : decode cX4_move 3 = .ok (.invokevirtual 135, 3) := dk_182 0 135 (dk_at dksX4_move_0 3 rfl rfl)
theorem dX4_move_6 : decode cX4_move 6 = .ok (.ifCond .ne 7, 3) := dk_154 0 7 (dk_at dksX4_move_0 6 rfl rfl)
theorem dX4_move_9 : decode cX4_move 9 = .ok (.iconst 1, 1) := dk_4 (dk_at dksX4_move_0 9 rfl rfl)
theorem dX4_move_10 : decode cX4_move 10 = .ok (.goto 38, 3) := dk_167 0 38 (dk_at dksX4_move_0 10 rfl rfl)
theorem dX4_move_13 : decode cX4_move 13 = .ok (.iload_n 2, 1) := dk_28 (dk_at dksX4_move_0 13 rfl rfl)
theorem dX4_move_14 : decode cX4_move 14 = .ok (.i2l, 1) := dk_133 (dk_at dksX4_move_0 14 rfl rfl)
theorem dX4_move_15 : decode cX4_move 15 = .ok (.lconst 0, 1) := dk_9 (dk_at dksX4_move_0 15 rfl rfl)
theorem dX4_move_16 : decode cX4_move 16 = .ok (.aload_n 0, 1) := dk_42 (dk_at dksX4_move_0 16 rfl rfl)
theorem dX4_move_17 : decode cX4_move 17 = .ok (.getfield 9, 3) := dk_180 0 9 (dk_at dksX4_move_0 17 rfl rfl)
theorem dX4_move_20 : decode cX4_move 20 = .ok (.sipush 179, 3) := dk_17 0 179 (dk_at dksX4_move_0 20 rfl rfl)
theorem dX4_move_23 : decode cX4_move 23 = .ok (.aload_n 0, 1) := dk_42 (dk_at dksX4_move_0 23 rfl rfl)
theorem dX4_move_24 : decode cX4_move 24 = .ok (.getfield 9, 3) := dk_180 0 9 (dk_at dksX4_move_1 0 rfl rfl)
theorem dX4_move_27 : decode cX4_move 27 = .ok (.bipush 62, 2) := dk_16 62 (dk_at dksX4_move_1 3 rfl rfl)
theorem dX4_move_29 : decode cX4_move 29 = .ok (.iload_n 1, 1) := dk_27 (dk_at dksX4_move_1 5 rfl rfl)
theorem dX4_move_30 : decode cX4_move 30 = .ok (.iadd, 1) := dk_96 (dk_at dksX4_move_1 6 rfl rfl)
theorem dX4_move_31 : decode cX4_move 31 = .ok (.iaload, 1) := dk_46 (dk_at dksX4_move_1 7 rfl rfl)
theorem dX4_move_32 : decode cX4_move 32 = .ok (.iadd, 1) := dk_96 (dk_at dksX4_move_1 8 rfl rfl)
theorem dX4_move_33 : decode cX4_move 33 = .ok (.iaload, 1) := dk_46 (dk_at dksX4_move_1 9 rfl rfl)
theorem dX4_move_34 : decode cX4_move 34 = .ok (.iconst 1, 1) := dk_4 (dk_at dksX4_move_1 10 rfl rfl)
theorem dX4_move_35 : decode cX4_move 35 = .ok (.isub, 1) := dk_100 (dk_at dksX4_move_1 11 rfl rfl)
theorem dX4_move_36 : decode cX4_move 36 = .ok (.i2l, 1) := dk_133 (dk_at dksX4_move_1 12 rfl rfl)
theorem dX4_move_37 : decode cX4_move 37 = .ok (.invokestatic 82, 3) := dk_184 0 82 (dk_at dksX4_move_1 13 rfl rfl)
theorem dX4_move_40 : decode cX4_move 40 = .ok (.ifCond .ne 7, 3) := dk_154 0 7 (dk_at dksX4_move_1 16 rfl rfl)
theorem dX4_move_43 : decode cX4_move 43 = .ok (.iconst 2, 1) := dk_5 (dk_at dksX4_move_1 19 rfl rfl)
theorem dX4_move_44 : decode cX4_move 44 = .ok (.goto 4, 3) := dk_167 0 4 (dk_at dksX4_move_1 20 rfl rfl)
theorem dX4_move_47 : decode cX4_move 47 = .ok (.iconst 0, 1) := dk_3 (dk_at dksX4_move_1 23 rfl rfl)
theorem dX4_move_48 : decode cX4_move 48 = .ok (.putfield 79, 3) := dk_181 0 79 (dk_at dksX4_move_2 0 rfl rfl)
theorem dX4_move_51 : decode cX4_move 51 = .ok (.aload_n 0, 1) := dk_42 (dk_at dksX4_move_2 3 rfl rfl)
theorem dX4_move_52 : decode cX4_move 52 = .ok (.getfield 79, 3) := dk_180 0 79 (dk_at dksX4_move_2 4 rfl rfl)
theorem dX4_move_55 : decode cX4_move 55 = .ok (.ifCond .le 5, 3) := dk_158 0 5 (dk_at dksX4_move_2 7 rfl rfl)
theorem dX4_move_58 : decode cX4_move 58 = .ok (.iconst 0, 1) := dk_3 (dk_at dksX4_move_2 10 rfl rfl)
theorem dX4_move_59 : decode cX4_move 59 = .ok (.ireturn, 1) := dk_172 (dk_at dksX4_move_2 11 rfl rfl)
theorem dX4_move_60 : decode cX4_move 60 = .ok (.aload_n 0, 1) := dk_42 (dk_at dksX4_move_2 12 rfl rfl)
theorem dX4_move_61 : decode cX4_move 61 = .ok (.getfield 9, 3) := dk_180 0 9 (dk_at dksX4_move_2 13 rfl rfl)
theorem dX4_move_64 : decode cX4_move 64 = .ok (.bipush 62, 2) := dk_16 62 (dk_at dksX4_move_2 16 rfl rfl)
theorem dX4_move_66 : decode cX4_move 66 = .ok (.iload_n 1, 1) := dk_27 (dk_at dksX4_move_2 18 rfl rfl)
theorem dX4_move_67 : decode cX4_move 67 = .ok (.iadd, 1) := dk_96 (dk_at dksX4_move_2 19 rfl rfl)
theorem dX4_move_68 : decode cX4_move 68 = .ok (.iaload, 1) := dk_46 (dk_at dksX4_move_2 20 rfl rfl)
theorem dX4_move_69 : decode cX4_move 69 = .ok (.istore_n 3, 1) := dk_62 (dk_at dksX4_move_2 21 rfl rfl)
theorem dX4_move_70 : decode cX4_move 70 = .ok (.aload_n 0, 1) := dk_42 (dk_at dksX4_move_2 22 rfl rfl)
theorem dX4_move_71 : decode cX4_move 71 = .ok (.iload_n 1, 1) := dk_27 (dk_at dksX4_move_2 23 rfl rfl)
theorem dX4_move_72 : decode cX4_move 72 = .ok (.invokevirtual 147, 3) := dk_182 0 147 (dk_at dksX4_move_3 0 rfl rfl)
theorem dX4_move_75 : decode cX4_move 75 = .ok (.istore 4, 2) := dk_54 4 (dk_at dksX4_move_3 3 rfl rfl)
theorem dX4_move_77 : decode cX4_move 77 = .ok (.aload_n 0, 1) := dk_42 (dk_at dksX4_move_3 5 rfl rfl)
theorem dX4_move_78 : decode cX4_move 78 = .ok (.iload_n 3, 1) := dk_29 (dk_at dksX4_move_3 6 rfl rfl)
theorem dX4_move_79 : decode cX4_move 79 = .ok (.iload 4, 2) := dk_21 4 (dk_at dksX4_move_3 7 rfl rfl)
theorem dX4_move_81 : decode cX4_move 81 = .ok (.iload_n 2, 1) := dk_28 (dk_at dksX4_move_3 9 rfl rfl)
theorem dX4_move_82 : decode cX4_move 82 = .ok (.invokevirtual 229, 3) := dk_182 0 229 (dk_at dksX4_move_3 10 rfl rfl)
theorem dX4_move_85 : decode cX4_move 85 = .ok (.aload_n 0, 1) := dk_42 (dk_at dksX4_move_3 13 rfl rfl)
theorem dX4_move_86 : decode cX4_move 86 = .ok (.invokevirtual 225, 3) := dk_182 0 225 (dk_at dksX4_move_3 14 rfl rfl)
theorem dX4_move_89 : decode cX4_move 89 = .ok (.ifCond .eq 18, 3) := dk_153 0 18 (dk_at dksX4_move_3 17 rfl rfl)
theorem dX4_move_92 : decode cX4_move 92 = .ok (.aload_n 0, 1) := dk_42 (dk_at dksX4_move_3 20 rfl rfl)
theorem dX4_move_93 : decode cX4_move 93 = .ok (.iload_n 3, 1) := dk_29 (dk_at dksX4_move_3 21 rfl rfl)
theorem dX4_move_94 : decode cX4_move 94 = .ok (.iload_n 2, 1) := dk_28 (dk_at dksX4_move_3 22 rfl rfl)
theorem dX4_move_95 : decode cX4_move 95 = .ok (.iload 4, 2) := dk_21 4 (dk_at dksX4_move_4 0 rfl rfl)
theorem dX4_move_97 : decode cX4_move 97 = .ok (.invokevirtual 229, 3) := dk_182 0 229 (dk_at dksX4_move_4 2 rfl rfl)
theorem dX4_move_100 : decode cX4_move 100 = .ok (.aload_n 0, 1) := dk_42 (dk_at dksX4_move_4 5 rfl rfl)
theorem dX4_move_101 : decode cX4_move 101 = .ok (.iconst 3, 1) := dk_6 (dk_at dksX4_move_4 6 rfl rfl)
theorem dX4_move_102 : decode cX4_move 102 = .ok (.putfield 79, 3) := dk_181 0 79 (dk_at dksX4_move_4 7 rfl rfl)
theorem dX4_move_105 : decode cX4_move 105 = .ok (.iconst 0, 1) := dk_3 (dk_at dksX4_move_4 10 rfl rfl)
theorem dX4_move_106 : decode cX4_move 106 = .ok (.ireturn, 1) := dk_172 (dk_at dksX4_move_4 11 rfl rfl)
theorem dX4_move_107 : decode cX4_move 107 = .ok (.aload_n 0, 1) := dk_42 (dk_at dksX4_move_4 12 rfl rfl)
theorem dX4_move_108 : decode cX4_move 108 = .ok (.invokevirtual 185, 3) := dk_182 0 185 (dk_at dksX4_move_4 13 rfl rfl)
theorem dX4_move_111 : decode cX4_move 111 = .ok (.ireturn, 1) := dk_172 (dk_at dksX4_move_4 16 rfl rfl)
abbrev cX4_shift : ByteArray := prog_19_method_58_code
def yX4_shift : MethodName := ⟨RX4, "shift", "(III)V"⟩
def dkwX4_shift_1 : List UInt8 := [54, 4, 21, 4, 29, 164, 0, 18, 42, 27, 21, 4, 4, 100, 182, 0, 221, 132, 4, 255, 167, 255, 238, 177]
abbrev dktX4_shift_1 : List UInt8 := dkwX4_shift_1 ++ []
def dkwX4_shift_0 : List UInt8 := [28, 54, 4, 21, 4, 29, 162, 0, 16, 42, 27, 21, 4, 182, 0, 221, 132, 4, 1, 167, 255, 240, 28]
abbrev dktX4_shift_0 : List UInt8 := dkwX4_shift_0 ++ dktX4_shift_1
theorem dksX4_shift_0 : cX4_shift.data.toList.drop 0 = dktX4_shift_0 := by decide +kernel
theorem dksX4_shift_1 : cX4_shift.data.toList.drop 23 = dktX4_shift_1 := dk_seg dksX4_shift_0 23 rfl rfl
theorem dX4_shift_0 : decode cX4_shift 0 = .ok (.iload_n 2, 1) := dk_28 (dk_at dksX4_shift_0 0 rfl rfl)
theorem dX4_shift_1 : decode cX4_shift 1 = .ok (.istore 4, 2) := dk_54 4 (dk_at dksX4_shift_0 1 rfl rfl)
theorem dX4_shift_3 : decode cX4_shift 3 = .ok (.iload 4, 2) := dk_21 4 (dk_at dksX4_shift_0 3 rfl rfl)
theorem dX4_shift_5 : decode cX4_shift 5 = .ok (.iload_n 3, 1) := dk_29 (dk_at dksX4_shift_0 5 rfl rfl)
theorem dX4_shift_6 : decode cX4_shift 6 = .ok (.if_icmp .ge 16, 3) := dk_162 0 16 (dk_at dksX4_shift_0 6 rfl rfl)
theorem dX4_shift_9 : decode cX4_shift 9 = .ok (.aload_n 0, 1) := dk_42 (dk_at dksX4_shift_0 9 rfl rfl)
theorem dX4_shift_10 : decode cX4_shift 10 = .ok (.iload_n 1, 1) := dk_27 (dk_at dksX4_shift_0 10 rfl rfl)
theorem dX4_shift_11 : decode cX4_shift 11 = .ok (.iload 4, 2) := dk_21 4 (dk_at dksX4_shift_0 11 rfl rfl)
theorem dX4_shift_13 : decode cX4_shift 13 = .ok (.invokevirtual 221, 3) := dk_182 0 221 (dk_at dksX4_shift_0 13 rfl rfl)
theorem dX4_shift_16 : decode cX4_shift 16 = .ok (.iinc 4 1, 3) := dk_132 4 1 (dk_at dksX4_shift_0 16 rfl rfl)
theorem dX4_shift_19 : decode cX4_shift 19 = .ok (.goto (-16), 3) := dk_167 255 240 (dk_at dksX4_shift_0 19 rfl rfl)
theorem dX4_shift_22 : decode cX4_shift 22 = .ok (.iload_n 2, 1) := dk_28 (dk_at dksX4_shift_0 22 rfl rfl)
theorem dX4_shift_23 : decode cX4_shift 23 = .ok (.istore 4, 2) := dk_54 4 (dk_at dksX4_shift_1 0 rfl rfl)
theorem dX4_shift_25 : decode cX4_shift 25 = .ok (.iload 4, 2) := dk_21 4 (dk_at dksX4_shift_1 2 rfl rfl)
theorem dX4_shift_27 : decode cX4_shift 27 = .ok (.iload_n 3, 1) := dk_29 (dk_at dksX4_shift_1 4 rfl rfl)
theorem dX4_shift_28 : decode cX4_shift 28 = .ok (.if_icmp .le 18, 3) := dk_164 0 18 (dk_at dksX4_shift_1 5 rfl rfl)
theorem dX4_shift_31 : decode cX4_shift 31 = .ok (.aload_n 0, 1) := dk_42 (dk_at dksX4_shift_1 8 rfl rfl)
theorem dX4_shift_32 : decode cX4_shift 32 = .ok (.iload_n 1, 1) := dk_27 (dk_at dksX4_shift_1 9 rfl rfl)
theorem dX4_shift_33 : decode cX4_shift 33 = .ok (.iload 4, 2) := dk_21 4 (dk_at dksX4_shift_1 10 rfl rfl)
theorem dX4_shift_35 : decode cX4_shift 35 = .ok (.iconst 1, 1) := dk_4 (dk_at dksX4_shift_1 12 rfl rfl)
theorem dX4_shift_36 : decode cX4_shift 36 = .ok (.isub, 1) := dk_100 (dk_at dksX4_shift_1 13 rfl rfl)
theorem dX4_shift_37 : decode cX4_shift 37 = .ok (.invokevirtual 221, 3) := dk_182 0 221 (dk_at dksX4_shift_1 14 rfl rfl)
theorem dX4_shift_40 : decode cX4_shift 40 = .ok (.iinc 4 (-1), 3) := dk_132 4 255 (dk_at dksX4_shift_1 17 rfl rfl)
theorem dX4_shift_43 : decode cX4_shift 43 = .ok (.goto (-18), 3) := dk_167 255 238 (dk_at dksX4_shift_1 20 rfl rfl)
theorem dX4_shift_46 : decode cX4_shift 46 = .ok (.return_, 1) := dk_177 (dk_at dksX4_shift_1 23 rfl rfl)
abbrev cX4_dispatch : ByteArray := prog_19_method_64_code
def yX4_dispatch : MethodName := ⟨RX4, "dispatch", "(I)I"⟩
def dkwX4_dispatch_3 : List UInt8 := [132, 2, 1, 167, 255, 241, 42, 27, 3, 182, 0, 241, 42, 182, 0, 188, 172]
abbrev dktX4_dispatch_3 : List UInt8 := dkwX4_dispatch_3 ++ []
def dkwX4_dispatch_2 : List UInt8 := [3, 79, 132, 2, 1, 167, 255, 237, 3, 61, 28, 8, 162, 0, 16, 42, 180, 0, 43, 28, 3, 79]
abbrev dktX4_dispatch_2 : List UInt8 := dkwX4_dispatch_2 ++ dktX4_dispatch_3
def dkwX4_dispatch_1 : List UInt8 := [180, 0, 79, 158, 0, 5, 3, 172, 3, 61, 28, 7, 162, 0, 20, 42, 180, 0, 9, 17, 0, 179, 28, 96]
abbrev dktX4_dispatch_1 : List UInt8 := dkwX4_dispatch_1 ++ dktX4_dispatch_2
def dkwX4_dispatch_0 : List UInt8 := [42, 27, 133, 9, 20, 0, 86, 184, 0, 82, 153, 0, 7, 3, 167, 0, 4, 4, 181, 0, 79, 42]
abbrev dktX4_dispatch_0 : List UInt8 := dkwX4_dispatch_0 ++ dktX4_dispatch_1
theorem dksX4_dispatch_0 : cX4_dispatch.data.toList.drop 0 = dktX4_dispatch_0 := by decide +kernel
theorem dksX4_dispatch_1 : cX4_dispatch.data.toList.drop 22 = dktX4_dispatch_1 := dk_seg dksX4_dispatch_0 22 rfl rfl
theorem dksX4_dispatch_2 : cX4_dispatch.data.toList.drop 46 = dktX4_dispatch_2 := dk_seg dksX4_dispatch_1 24 rfl rfl
theorem dksX4_dispatch_3 : cX4_dispatch.data.toList.drop 68 = dktX4_dispatch_3 := dk_seg dksX4_dispatch_2 22 rfl rfl
theorem dX4_dispatch_0 : decode cX4_dispatch 0 = .ok (.aload_n 0, 1) := dk_42 (dk_at dksX4_dispatch_0 0 rfl rfl)
theorem dX4_dispatch_1 : decode cX4_dispatch 1 = .ok (.iload_n 1, 1) := dk_27 (dk_at dksX4_dispatch_0 1 rfl rfl)
theorem dX4_dispatch_2 : decode cX4_dispatch 2 = .ok (.i2l, 1) := dk_133 (dk_at dksX4_dispatch_0 2 rfl rfl)
theorem dX4_dispatch_3 : decode cX4_dispatch 3 = .ok (.lconst 0, 1) := dk_9 (dk_at dksX4_dispatch_0 3 rfl rfl)
theorem dX4_dispatch_4 : decode cX4_dispatch 4 = .ok (.ldc2_w 86, 3) := dk_20 0 86 (dk_at dksX4_dispatch_0 4 rfl rfl)
theorem dX4_dispatch_7 : decode cX4_dispatch 7 = .ok (.invokestatic 82, 3) := dk_184 0 82 (dk_at dksX4_dispatch_0 7 rfl rfl)
theorem dX4_dispatch_10 : decode cX4_dispatch 10 = .ok (.ifCond .eq 7, 3) := dk_153 0 7 (dk_at dksX4_dispatch_0 10 rfl rfl)
theorem dX4_dispatch_13 : decode cX4_dispatch 13 = .ok (.iconst 0, 1) := dk_3 (dk_at dksX4_dispatch_0 13 rfl rfl)
theorem dX4_dispatch_14 : decode cX4_dispatch 14 = .ok (.goto 4, 3) := dk_167 0 4 (dk_at dksX4_dispatch_0 14 rfl rfl)
theorem dX4_dispatch_17 : decode cX4_dispatch 17 = .ok (.iconst 1, 1) := dk_4 (dk_at dksX4_dispatch_0 17 rfl rfl)
theorem dX4_dispatch_18 : decode cX4_dispatch 18 = .ok (.putfield 79, 3) := dk_181 0 79 (dk_at dksX4_dispatch_0 18 rfl rfl)
theorem dX4_dispatch_21 : decode cX4_dispatch 21 = .ok (.aload_n 0, 1) := dk_42 (dk_at dksX4_dispatch_0 21 rfl rfl)
theorem dX4_dispatch_22 : decode cX4_dispatch 22 = .ok (.getfield 79, 3) := dk_180 0 79 (dk_at dksX4_dispatch_1 0 rfl rfl)
theorem dX4_dispatch_25 : decode cX4_dispatch 25 = .ok (.ifCond .le 5, 3) := dk_158 0 5 (dk_at dksX4_dispatch_1 3 rfl rfl)
theorem dX4_dispatch_28 : decode cX4_dispatch 28 = .ok (.iconst 0, 1) := dk_3 (dk_at dksX4_dispatch_1 6 rfl rfl)
theorem dX4_dispatch_29 : decode cX4_dispatch 29 = .ok (.ireturn, 1) := dk_172 (dk_at dksX4_dispatch_1 7 rfl rfl)
theorem dX4_dispatch_30 : decode cX4_dispatch 30 = .ok (.iconst 0, 1) := dk_3 (dk_at dksX4_dispatch_1 8 rfl rfl)
theorem dX4_dispatch_31 : decode cX4_dispatch 31 = .ok (.istore_n 2, 1) := dk_61 (dk_at dksX4_dispatch_1 9 rfl rfl)
theorem dX4_dispatch_32 : decode cX4_dispatch 32 = .ok (.iload_n 2, 1) := dk_28 (dk_at dksX4_dispatch_1 10 rfl rfl)
theorem dX4_dispatch_33 : decode cX4_dispatch 33 = .ok (.iconst 4, 1) := dk_7 (dk_at dksX4_dispatch_1 11 rfl rfl)
theorem dX4_dispatch_34 : decode cX4_dispatch 34 = .ok (.if_icmp .ge 20, 3) := dk_162 0 20 (dk_at dksX4_dispatch_1 12 rfl rfl)
theorem dX4_dispatch_37 : decode cX4_dispatch 37 = .ok (.aload_n 0, 1) := dk_42 (dk_at dksX4_dispatch_1 15 rfl rfl)
theorem dX4_dispatch_38 : decode cX4_dispatch 38 = .ok (.getfield 9, 3) := dk_180 0 9 (dk_at dksX4_dispatch_1 16 rfl rfl)
theorem dX4_dispatch_41 : decode cX4_dispatch 41 = .ok (.sipush 179, 3) := dk_17 0 179 (dk_at dksX4_dispatch_1 19 rfl rfl)
theorem dX4_dispatch_44 : decode cX4_dispatch 44 = .ok (.iload_n 2, 1) := dk_28 (dk_at dksX4_dispatch_1 22 rfl rfl)
theorem dX4_dispatch_45 : decode cX4_dispatch 45 = .ok (.iadd, 1) := dk_96 (dk_at dksX4_dispatch_1 23 rfl rfl)
theorem dX4_dispatch_46 : decode cX4_dispatch 46 = .ok (.iconst 0, 1) := dk_3 (dk_at dksX4_dispatch_2 0 rfl rfl)
theorem dX4_dispatch_47 : decode cX4_dispatch 47 = .ok (.iastore, 1) := dk_79 (dk_at dksX4_dispatch_2 1 rfl rfl)
theorem dX4_dispatch_48 : decode cX4_dispatch 48 = .ok (.iinc 2 1, 3) := dk_132 2 1 (dk_at dksX4_dispatch_2 2 rfl rfl)
theorem dX4_dispatch_51 : decode cX4_dispatch 51 = .ok (.goto (-19), 3) := dk_167 255 237 (dk_at dksX4_dispatch_2 5 rfl rfl)
theorem dX4_dispatch_54 : decode cX4_dispatch 54 = .ok (.iconst 0, 1) := dk_3 (dk_at dksX4_dispatch_2 8 rfl rfl)
theorem dX4_dispatch_55 : decode cX4_dispatch 55 = .ok (.istore_n 2, 1) := dk_61 (dk_at dksX4_dispatch_2 9 rfl rfl)
theorem dX4_dispatch_56 : decode cX4_dispatch 56 = .ok (.iload_n 2, 1) := dk_28 (dk_at dksX4_dispatch_2 10 rfl rfl)
theorem dX4_dispatch_57 : decode cX4_dispatch 57 = .ok (.iconst 5, 1) := dk_8 (dk_at dksX4_dispatch_2 11 rfl rfl)
theorem dX4_dispatch_58 : decode cX4_dispatch 58 = .ok (.if_icmp .ge 16, 3) := dk_162 0 16 (dk_at dksX4_dispatch_2 12 rfl rfl)
theorem dX4_dispatch_61 : decode cX4_dispatch 61 = .ok (.aload_n 0, 1) := dk_42 (dk_at dksX4_dispatch_2 15 rfl rfl)
theorem dX4_dispatch_62 : decode cX4_dispatch 62 = .ok (.getfield 43, 3) := dk_180 0 43 (dk_at dksX4_dispatch_2 16 rfl rfl)
theorem dX4_dispatch_65 : decode cX4_dispatch 65 = .ok (.iload_n 2, 1) := dk_28 (dk_at dksX4_dispatch_2 19 rfl rfl)
theorem dX4_dispatch_66 : decode cX4_dispatch 66 = .ok (.iconst 0, 1) := dk_3 (dk_at dksX4_dispatch_2 20 rfl rfl)
theorem dX4_dispatch_67 : decode cX4_dispatch 67 = .ok (.iastore, 1) := dk_79 (dk_at dksX4_dispatch_2 21 rfl rfl)
theorem dX4_dispatch_68 : decode cX4_dispatch 68 = .ok (.iinc 2 1, 3) := dk_132 2 1 (dk_at dksX4_dispatch_3 0 rfl rfl)
theorem dX4_dispatch_71 : decode cX4_dispatch 71 = .ok (.goto (-15), 3) := dk_167 255 241 (dk_at dksX4_dispatch_3 3 rfl rfl)
theorem dX4_dispatch_74 : decode cX4_dispatch 74 = .ok (.aload_n 0, 1) := dk_42 (dk_at dksX4_dispatch_3 6 rfl rfl)
theorem dX4_dispatch_75 : decode cX4_dispatch 75 = .ok (.iload_n 1, 1) := dk_27 (dk_at dksX4_dispatch_3 7 rfl rfl)
theorem dX4_dispatch_76 : decode cX4_dispatch 76 = .ok (.iconst 0, 1) := dk_3 (dk_at dksX4_dispatch_3 8 rfl rfl)
theorem dX4_dispatch_77 : decode cX4_dispatch 77 = .ok (.invokevirtual 241, 3) := dk_182 0 241 (dk_at dksX4_dispatch_3 9 rfl rfl)
theorem dX4_dispatch_80 : decode cX4_dispatch 80 = .ok (.aload_n 0, 1) := dk_42 (dk_at dksX4_dispatch_3 12 rfl rfl)
theorem dX4_dispatch_81 : decode cX4_dispatch 81 = .ok (.invokevirtual 188, 3) := dk_182 0 188 (dk_at dksX4_dispatch_3 13 rfl rfl)
theorem dX4_dispatch_84 : decode cX4_dispatch 84 = .ok (.ireturn, 1) := dk_172 (dk_at dksX4_dispatch_3 16 rfl rfl)
abbrev cX4_build : ByteArray := prog_19_method_63_code
def yX4_build : MethodName := ⟨RX4, "build", "(II)V"⟩
def dkwX4_build_8 : List UInt8 := [180, 0, 43, 42, 180, 0, 9, 16, 42, 21, 4, 96, 46, 92, 46, 4, 96, 79, 167, 255, 52, 177]
abbrev dktX4_build_8 : List UInt8 := dkwX4_build_8 ++ []
def dkwX4_build_7 : List UInt8 := [46, 21, 4, 182, 0, 114, 42, 180, 0, 9, 17, 0, 179, 21, 6, 96, 92, 46, 4, 96, 79, 42]
abbrev dktX4_build_7 : List UInt8 := dkwX4_build_7 ++ dktX4_build_8
def dkwX4_build_6 : List UInt8 := [180, 0, 9, 16, 62, 21, 4, 96, 46, 54, 6, 42, 21, 6, 42, 180, 0, 9, 17, 0, 179, 21, 6, 96]
abbrev dktX4_build_6 : List UInt8 := dkwX4_build_6 ++ dktX4_build_7
def dkwX4_build_5 : List UInt8 := [2, 159, 0, 7, 4, 167, 0, 4, 3, 62, 29, 153, 0, 77, 42, 180, 0, 46, 21, 4, 21, 5, 79, 42]
abbrev dktX4_build_5 : List UInt8 := dkwX4_build_5 ++ dktX4_build_6
def dkwX4_build_4 : List UInt8 := [21, 4, 182, 0, 238, 153, 0, 11, 21, 7, 54, 4, 21, 8, 54, 5, 132, 6, 1, 167, 255, 158, 21, 4]
abbrev dktX4_build_4 : List UInt8 := dkwX4_build_4 ++ dktX4_build_5
def dkwX4_build_3 : List UInt8 := [21, 4, 2, 159, 0, 29, 21, 8, 21, 5, 161, 0, 22, 21, 8, 21, 5, 160, 0, 23, 42, 27, 21, 7]
abbrev dktX4_build_3 : List UInt8 := dkwX4_build_3 ++ dktX4_build_4
def dkwX4_build_2 : List UInt8 := [21, 6, 42, 180, 0, 43, 21, 6, 46, 182, 0, 110, 54, 7, 42, 21, 7, 28, 182, 0, 235, 54, 8]
abbrev dktX4_build_2 : List UInt8 := dkwX4_build_2 ++ dktX4_build_3
def dkwX4_build_1 : List UInt8 := [162, 0, 93, 42, 180, 0, 43, 21, 6, 46, 42, 180, 0, 9, 16, 17, 21, 6, 96, 46, 162, 0, 67, 42]
abbrev dktX4_build_1 : List UInt8 := dkwX4_build_1 ++ dktX4_build_2
def dkwX4_build_0 : List UInt8 := [4, 62, 29, 153, 0, 206, 2, 54, 4, 3, 54, 5, 3, 54, 6, 21, 6, 42, 180, 0, 9, 3, 46]
abbrev dktX4_build_0 : List UInt8 := dkwX4_build_0 ++ dktX4_build_1
theorem dksX4_build_0 : cX4_build.data.toList.drop 0 = dktX4_build_0 := by decide +kernel
theorem dksX4_build_1 : cX4_build.data.toList.drop 23 = dktX4_build_1 := dk_seg dksX4_build_0 23 rfl rfl
theorem dksX4_build_2 : cX4_build.data.toList.drop 47 = dktX4_build_2 := dk_seg dksX4_build_1 24 rfl rfl
theorem dksX4_build_3 : cX4_build.data.toList.drop 70 = dktX4_build_3 := dk_seg dksX4_build_2 23 rfl rfl
theorem dksX4_build_4 : cX4_build.data.toList.drop 94 = dktX4_build_4 := dk_seg dksX4_build_3 24 rfl rfl
theorem dksX4_build_5 : cX4_build.data.toList.drop 118 = dktX4_build_5 := dk_seg dksX4_build_4 24 rfl rfl
theorem dksX4_build_6 : cX4_build.data.toList.drop 142 = dktX4_build_6 := dk_seg dksX4_build_5 24 rfl rfl
theorem dksX4_build_7 : cX4_build.data.toList.drop 166 = dktX4_build_7 := dk_seg dksX4_build_6 24 rfl rfl
theorem dksX4_build_8 : cX4_build.data.toList.drop 188 = dktX4_build_8 := dk_seg dksX4_build_7 22 rfl rfl
theorem dX4_build_0 : decode cX4_build 0 = .ok (.iconst 1, 1) := dk_4 (dk_at dksX4_build_0 0 rfl rfl)
theorem dX4_build_1 : decode cX4_build 1 = .ok (.istore_n 3, 1) := dk_62 (dk_at dksX4_build_0 1 rfl rfl)
theorem dX4_build_2 : decode cX4_build 2 = .ok (.iload_n 3, 1) := dk_29 (dk_at dksX4_build_0 2 rfl rfl)
theorem dX4_build_3 : decode cX4_build 3 = .ok (.ifCond .eq 206, 3) := dk_153 0 206 (dk_at dksX4_build_0 3 rfl rfl)
theorem dX4_build_6 : decode cX4_build 6 = .ok (.iconst (-1), 1) := dk_2 (dk_at dksX4_build_0 6 rfl rfl)
theorem dX4_build_7 : decode cX4_build 7 = .ok (.istore 4, 2) := dk_54 4 (dk_at dksX4_build_0 7 rfl rfl)
theorem dX4_build_9 : decode cX4_build 9 = .ok (.iconst 0, 1) := dk_3 (dk_at dksX4_build_0 9 rfl rfl)
theorem dX4_build_10 : decode cX4_build 10 = .ok (.istore 5, 2) := dk_54 5 (dk_at dksX4_build_0 10 rfl rfl)
theorem dX4_build_12 : decode cX4_build 12 = .ok (.iconst 0, 1) := dk_3 (dk_at dksX4_build_0 12 rfl rfl)
theorem dX4_build_13 : decode cX4_build 13 = .ok (.istore 6, 2) := dk_54 6 (dk_at dksX4_build_0 13 rfl rfl)
theorem dX4_build_15 : decode cX4_build 15 = .ok (.iload 6, 2) := dk_21 6 (dk_at dksX4_build_0 15 rfl rfl)
theorem dX4_build_17 : decode cX4_build 17 = .ok (.aload_n 0, 1) := dk_42 (dk_at dksX4_build_0 17 rfl rfl)
theorem dX4_build_18 : decode cX4_build 18 = .ok (.getfield 9, 3) := dk_180 0 9 (dk_at dksX4_build_0 18 rfl rfl)
theorem dX4_build_21 : decode cX4_build 21 = .ok (.iconst 0, 1) := dk_3 (dk_at dksX4_build_0 21 rfl rfl)
theorem dX4_build_22 : decode cX4_build 22 = .ok (.iaload, 1) := dk_46 (dk_at dksX4_build_0 22 rfl rfl)
theorem dX4_build_23 : decode cX4_build 23 = .ok (.if_icmp .ge 93, 3) := dk_162 0 93 (dk_at dksX4_build_1 0 rfl rfl)
theorem dX4_build_26 : decode cX4_build 26 = .ok (.aload_n 0, 1) := dk_42 (dk_at dksX4_build_1 3 rfl rfl)
theorem dX4_build_27 : decode cX4_build 27 = .ok (.getfield 43, 3) := dk_180 0 43 (dk_at dksX4_build_1 4 rfl rfl)
theorem dX4_build_30 : decode cX4_build 30 = .ok (.iload 6, 2) := dk_21 6 (dk_at dksX4_build_1 7 rfl rfl)
theorem dX4_build_32 : decode cX4_build 32 = .ok (.iaload, 1) := dk_46 (dk_at dksX4_build_1 9 rfl rfl)
theorem dX4_build_33 : decode cX4_build 33 = .ok (.aload_n 0, 1) := dk_42 (dk_at dksX4_build_1 10 rfl rfl)
theorem dX4_build_34 : decode cX4_build 34 = .ok (.getfield 9, 3) := dk_180 0 9 (dk_at dksX4_build_1 11 rfl rfl)
theorem dX4_build_37 : decode cX4_build 37 = .ok (.bipush 17, 2) := dk_16 17 (dk_at dksX4_build_1 14 rfl rfl)
theorem dX4_build_39 : decode cX4_build 39 = .ok (.iload 6, 2) := dk_21 6 (dk_at dksX4_build_1 16 rfl rfl)
theorem dX4_build_41 : decode cX4_build 41 = .ok (.iadd, 1) := dk_96 (dk_at dksX4_build_1 18 rfl rfl)
theorem dX4_build_42 : decode cX4_build 42 = .ok (.iaload, 1) := dk_46 (dk_at dksX4_build_1 19 rfl rfl)
theorem dX4_build_43 : decode cX4_build 43 = .ok (.if_icmp .ge 67, 3) := dk_162 0 67 (dk_at dksX4_build_1 20 rfl rfl)
theorem dX4_build_46 : decode cX4_build 46 = .ok (.aload_n 0, 1) := dk_42 (dk_at dksX4_build_1 23 rfl rfl)
theorem dX4_build_47 : decode cX4_build 47 = .ok (.iload 6, 2) := dk_21 6 (dk_at dksX4_build_2 0 rfl rfl)
theorem dX4_build_49 : decode cX4_build 49 = .ok (.aload_n 0, 1) := dk_42 (dk_at dksX4_build_2 2 rfl rfl)
theorem dX4_build_50 : decode cX4_build 50 = .ok (.getfield 43, 3) := dk_180 0 43 (dk_at dksX4_build_2 3 rfl rfl)
theorem dX4_build_53 : decode cX4_build 53 = .ok (.iload 6, 2) := dk_21 6 (dk_at dksX4_build_2 6 rfl rfl)
theorem dX4_build_55 : decode cX4_build 55 = .ok (.iaload, 1) := dk_46 (dk_at dksX4_build_2 8 rfl rfl)
theorem dX4_build_56 : decode cX4_build 56 = .ok (.invokevirtual 110, 3) := dk_182 0 110 (dk_at dksX4_build_2 9 rfl rfl)
theorem dX4_build_59 : decode cX4_build 59 = .ok (.istore 7, 2) := dk_54 7 (dk_at dksX4_build_2 12 rfl rfl)
theorem dX4_build_61 : decode cX4_build 61 = .ok (.aload_n 0, 1) := dk_42 (dk_at dksX4_build_2 14 rfl rfl)
theorem dX4_build_62 : decode cX4_build 62 = .ok (.iload 7, 2) := dk_21 7 (dk_at dksX4_build_2 15 rfl rfl)
theorem dX4_build_64 : decode cX4_build 64 = .ok (.iload_n 2, 1) := dk_28 (dk_at dksX4_build_2 17 rfl rfl)
theorem dX4_build_65 : decode cX4_build 65 = .ok (.invokevirtual 235, 3) := dk_182 0 235 (dk_at dksX4_build_2 18 rfl rfl)
theorem dX4_build_68 : decode cX4_build 68 = .ok (.istore 8, 2) := dk_54 8 (dk_at dksX4_build_2 21 rfl rfl)
theorem dX4_build_70 : decode cX4_build 70 = .ok (.iload 4, 2) := dk_21 4 (dk_at dksX4_build_3 0 rfl rfl)
theorem dX4_build_72 : decode cX4_build 72 = .ok (.iconst (-1), 1) := dk_2 (dk_at dksX4_build_3 2 rfl rfl)
theorem dX4_build_73 : decode cX4_build 73 = .ok (.if_icmp .eq 29, 3) := dk_159 0 29 (dk_at dksX4_build_3 3 rfl rfl)
theorem dX4_build_76 : decode cX4_build 76 = .ok (.iload 8, 2) := dk_21 8 (dk_at dksX4_build_3 6 rfl rfl)
theorem dX4_build_78 : decode cX4_build 78 = .ok (.iload 5, 2) := dk_21 5 (dk_at dksX4_build_3 8 rfl rfl)
theorem dX4_build_80 : decode cX4_build 80 = .ok (.if_icmp .lt 22, 3) := dk_161 0 22 (dk_at dksX4_build_3 10 rfl rfl)
theorem dX4_build_83 : decode cX4_build 83 = .ok (.iload 8, 2) := dk_21 8 (dk_at dksX4_build_3 13 rfl rfl)
theorem dX4_build_85 : decode cX4_build 85 = .ok (.iload 5, 2) := dk_21 5 (dk_at dksX4_build_3 15 rfl rfl)
theorem dX4_build_87 : decode cX4_build 87 = .ok (.if_icmp .ne 23, 3) := dk_160 0 23 (dk_at dksX4_build_3 17 rfl rfl)
theorem dX4_build_90 : decode cX4_build 90 = .ok (.aload_n 0, 1) := dk_42 (dk_at dksX4_build_3 20 rfl rfl)
theorem dX4_build_91 : decode cX4_build 91 = .ok (.iload_n 1, 1) := dk_27 (dk_at dksX4_build_3 21 rfl rfl)
theorem dX4_build_92 : decode cX4_build 92 = .ok (.iload 7, 2) := dk_21 7 (dk_at dksX4_build_3 22 rfl rfl)
theorem dX4_build_94 : decode cX4_build 94 = .ok (.iload 4, 2) := dk_21 4 (dk_at dksX4_build_4 0 rfl rfl)
theorem dX4_build_96 : decode cX4_build 96 = .ok (.invokevirtual 238, 3) := dk_182 0 238 (dk_at dksX4_build_4 2 rfl rfl)
theorem dX4_build_99 : decode cX4_build 99 = .ok (.ifCond .eq 11, 3) := dk_153 0 11 (dk_at dksX4_build_4 5 rfl rfl)
theorem dX4_build_102 : decode cX4_build 102 = .ok (.iload 7, 2) := dk_21 7 (dk_at dksX4_build_4 8 rfl rfl)
theorem dX4_build_104 : decode cX4_build 104 = .ok (.istore 4, 2) := dk_54 4 (dk_at dksX4_build_4 10 rfl rfl)
theorem dX4_build_106 : decode cX4_build 106 = .ok (.iload 8, 2) := dk_21 8 (dk_at dksX4_build_4 12 rfl rfl)
theorem dX4_build_108 : decode cX4_build 108 = .ok (.istore 5, 2) := dk_54 5 (dk_at dksX4_build_4 14 rfl rfl)
theorem dX4_build_110 : decode cX4_build 110 = .ok (.iinc 6 1, 3) := dk_132 6 1 (dk_at dksX4_build_4 16 rfl rfl)
theorem dX4_build_113 : decode cX4_build 113 = .ok (.goto (-98), 3) := dk_167 255 158 (dk_at dksX4_build_4 19 rfl rfl)
theorem dX4_build_116 : decode cX4_build 116 = .ok (.iload 4, 2) := dk_21 4 (dk_at dksX4_build_4 22 rfl rfl)
theorem dX4_build_118 : decode cX4_build 118 = .ok (.iconst (-1), 1) := dk_2 (dk_at dksX4_build_5 0 rfl rfl)
theorem dX4_build_119 : decode cX4_build 119 = .ok (.if_icmp .eq 7, 3) := dk_159 0 7 (dk_at dksX4_build_5 1 rfl rfl)
theorem dX4_build_122 : decode cX4_build 122 = .ok (.iconst 1, 1) := dk_4 (dk_at dksX4_build_5 4 rfl rfl)
theorem dX4_build_123 : decode cX4_build 123 = .ok (.goto 4, 3) := dk_167 0 4 (dk_at dksX4_build_5 5 rfl rfl)
theorem dX4_build_126 : decode cX4_build 126 = .ok (.iconst 0, 1) := dk_3 (dk_at dksX4_build_5 8 rfl rfl)
theorem dX4_build_127 : decode cX4_build 127 = .ok (.istore_n 3, 1) := dk_62 (dk_at dksX4_build_5 9 rfl rfl)
theorem dX4_build_128 : decode cX4_build 128 = .ok (.iload_n 3, 1) := dk_29 (dk_at dksX4_build_5 10 rfl rfl)
theorem dX4_build_129 : decode cX4_build 129 = .ok (.ifCond .eq 77, 3) := dk_153 0 77 (dk_at dksX4_build_5 11 rfl rfl)
theorem dX4_build_132 : decode cX4_build 132 = .ok (.aload_n 0, 1) := dk_42 (dk_at dksX4_build_5 14 rfl rfl)
theorem dX4_build_133 : decode cX4_build 133 = .ok (.getfield 46, 3) := dk_180 0 46 (dk_at dksX4_build_5 15 rfl rfl)
theorem dX4_build_136 : decode cX4_build 136 = .ok (.iload 4, 2) := dk_21 4 (dk_at dksX4_build_5 18 rfl rfl)
theorem dX4_build_138 : decode cX4_build 138 = .ok (.iload 5, 2) := dk_21 5 (dk_at dksX4_build_5 20 rfl rfl)
theorem dX4_build_140 : decode cX4_build 140 = .ok (.iastore, 1) := dk_79 (dk_at dksX4_build_5 22 rfl rfl)
theorem dX4_build_141 : decode cX4_build 141 = .ok (.aload_n 0, 1) := dk_42 (dk_at dksX4_build_5 23 rfl rfl)
theorem dX4_build_142 : decode cX4_build 142 = .ok (.getfield 9, 3) := dk_180 0 9 (dk_at dksX4_build_6 0 rfl rfl)
theorem dX4_build_145 : decode cX4_build 145 = .ok (.bipush 62, 2) := dk_16 62 (dk_at dksX4_build_6 3 rfl rfl)
theorem dX4_build_147 : decode cX4_build 147 = .ok (.iload 4, 2) := dk_21 4 (dk_at dksX4_build_6 5 rfl rfl)
theorem dX4_build_149 : decode cX4_build 149 = .ok (.iadd, 1) := dk_96 (dk_at dksX4_build_6 7 rfl rfl)
theorem dX4_build_150 : decode cX4_build 150 = .ok (.iaload, 1) := dk_46 (dk_at dksX4_build_6 8 rfl rfl)
theorem dX4_build_151 : decode cX4_build 151 = .ok (.istore 6, 2) := dk_54 6 (dk_at dksX4_build_6 9 rfl rfl)
theorem dX4_build_153 : decode cX4_build 153 = .ok (.aload_n 0, 1) := dk_42 (dk_at dksX4_build_6 11 rfl rfl)
theorem dX4_build_154 : decode cX4_build 154 = .ok (.iload 6, 2) := dk_21 6 (dk_at dksX4_build_6 12 rfl rfl)
theorem dX4_build_156 : decode cX4_build 156 = .ok (.aload_n 0, 1) := dk_42 (dk_at dksX4_build_6 14 rfl rfl)
theorem dX4_build_157 : decode cX4_build 157 = .ok (.getfield 9, 3) := dk_180 0 9 (dk_at dksX4_build_6 15 rfl rfl)
theorem dX4_build_160 : decode cX4_build 160 = .ok (.sipush 179, 3) := dk_17 0 179 (dk_at dksX4_build_6 18 rfl rfl)
theorem dX4_build_163 : decode cX4_build 163 = .ok (.iload 6, 2) := dk_21 6 (dk_at dksX4_build_6 21 rfl rfl)
theorem dX4_build_165 : decode cX4_build 165 = .ok (.iadd, 1) := dk_96 (dk_at dksX4_build_6 23 rfl rfl)
theorem dX4_build_166 : decode cX4_build 166 = .ok (.iaload, 1) := dk_46 (dk_at dksX4_build_7 0 rfl rfl)
theorem dX4_build_167 : decode cX4_build 167 = .ok (.iload 4, 2) := dk_21 4 (dk_at dksX4_build_7 1 rfl rfl)
theorem dX4_build_169 : decode cX4_build 169 = .ok (.invokevirtual 114, 3) := dk_182 0 114 (dk_at dksX4_build_7 3 rfl rfl)
theorem dX4_build_172 : decode cX4_build 172 = .ok (.aload_n 0, 1) := dk_42 (dk_at dksX4_build_7 6 rfl rfl)
theorem dX4_build_173 : decode cX4_build 173 = .ok (.getfield 9, 3) := dk_180 0 9 (dk_at dksX4_build_7 7 rfl rfl)
theorem dX4_build_176 : decode cX4_build 176 = .ok (.sipush 179, 3) := dk_17 0 179 (dk_at dksX4_build_7 10 rfl rfl)
theorem dX4_build_179 : decode cX4_build 179 = .ok (.iload 6, 2) := dk_21 6 (dk_at dksX4_build_7 13 rfl rfl)
theorem dX4_build_181 : decode cX4_build 181 = .ok (.iadd, 1) := dk_96 (dk_at dksX4_build_7 15 rfl rfl)
theorem dX4_build_182 : decode cX4_build 182 = .ok (.dup2, 1) := dk_92 (dk_at dksX4_build_7 16 rfl rfl)
theorem dX4_build_183 : decode cX4_build 183 = .ok (.iaload, 1) := dk_46 (dk_at dksX4_build_7 17 rfl rfl)
theorem dX4_build_184 : decode cX4_build 184 = .ok (.iconst 1, 1) := dk_4 (dk_at dksX4_build_7 18 rfl rfl)
theorem dX4_build_185 : decode cX4_build 185 = .ok (.iadd, 1) := dk_96 (dk_at dksX4_build_7 19 rfl rfl)
theorem dX4_build_186 : decode cX4_build 186 = .ok (.iastore, 1) := dk_79 (dk_at dksX4_build_7 20 rfl rfl)
theorem dX4_build_187 : decode cX4_build 187 = .ok (.aload_n 0, 1) := dk_42 (dk_at dksX4_build_7 21 rfl rfl)
theorem dX4_build_188 : decode cX4_build 188 = .ok (.getfield 43, 3) := dk_180 0 43 (dk_at dksX4_build_8 0 rfl rfl)
theorem dX4_build_191 : decode cX4_build 191 = .ok (.aload_n 0, 1) := dk_42 (dk_at dksX4_build_8 3 rfl rfl)
theorem dX4_build_192 : decode cX4_build 192 = .ok (.getfield 9, 3) := dk_180 0 9 (dk_at dksX4_build_8 4 rfl rfl)
theorem dX4_build_195 : decode cX4_build 195 = .ok (.bipush 42, 2) := dk_16 42 (dk_at dksX4_build_8 7 rfl rfl)
theorem dX4_build_197 : decode cX4_build 197 = .ok (.iload 4, 2) := dk_21 4 (dk_at dksX4_build_8 9 rfl rfl)
theorem dX4_build_199 : decode cX4_build 199 = .ok (.iadd, 1) := dk_96 (dk_at dksX4_build_8 11 rfl rfl)
theorem dX4_build_200 : decode cX4_build 200 = .ok (.iaload, 1) := dk_46 (dk_at dksX4_build_8 12 rfl rfl)
theorem dX4_build_201 : decode cX4_build 201 = .ok (.dup2, 1) := dk_92 (dk_at dksX4_build_8 13 rfl rfl)
theorem dX4_build_202 : decode cX4_build 202 = .ok (.iaload, 1) := dk_46 (dk_at dksX4_build_8 14 rfl rfl)
theorem dX4_build_203 : decode cX4_build 203 = .ok (.iconst 1, 1) := dk_4 (dk_at dksX4_build_8 15 rfl rfl)
theorem dX4_build_204 : decode cX4_build 204 = .ok (.iadd, 1) := dk_96 (dk_at dksX4_build_8 16 rfl rfl)
theorem dX4_build_205 : decode cX4_build 205 = .ok (.iastore, 1) := dk_79 (dk_at dksX4_build_8 17 rfl rfl)
theorem dX4_build_206 : decode cX4_build 206 = .ok (.goto (-204), 3) := dk_167 255 52 (dk_at dksX4_build_8 18 rfl rfl)
theorem dX4_build_209 : decode cX4_build 209 = .ok (.return_, 1) := dk_177 (dk_at dksX4_build_8 21 rfl rfl)
abbrev cX4_candidateStart : ByteArray := prog_19_method_60_code
def yX4_candidateStart : MethodName := ⟨RX4, "candidateStart", "(II)I"⟩
def dkwX4_candidateStart_6 : List UInt8 := [180, 0, 9, 16, 82, 27, 96, 46, 182, 0, 178, 172]
abbrev dktX4_candidateStart_6 : List UInt8 := dkwX4_candidateStart_6 ++ []
def dkwX4_candidateStart_5 : List UInt8 := [21, 7, 96, 46, 96, 42, 21, 7, 27, 182, 0, 172, 96, 184, 0, 167, 54, 5, 42, 29, 21, 5, 42]
abbrev dktX4_candidateStart_5 : List UInt8 := dkwX4_candidateStart_5 ++ dktX4_candidateStart_6
def dkwX4_candidateStart_4 : List UInt8 := [21, 4, 4, 100, 182, 0, 142, 54, 7, 21, 5, 42, 180, 0, 46, 21, 7, 46, 42, 180, 0, 9, 16, 82]
abbrev dktX4_candidateStart_4 : List UInt8 := dkwX4_candidateStart_4 ++ dktX4_candidateStart_5
def dkwX4_candidateStart_3 : List UInt8 := [46, 42, 180, 0, 9, 16, 82, 21, 6, 96, 46, 96, 184, 0, 167, 54, 5, 21, 4, 158, 0, 47, 42, 29]
abbrev dktX4_candidateStart_3 : List UInt8 := dkwX4_candidateStart_3 ++ dktX4_candidateStart_4
def dkwX4_candidateStart_2 : List UInt8 := [182, 0, 151, 54, 6, 21, 6, 2, 160, 0, 8, 21, 5, 167, 0, 26, 21, 5, 42, 180, 0, 46, 21, 6]
abbrev dktX4_candidateStart_2 : List UInt8 := dkwX4_candidateStart_2 ++ dktX4_candidateStart_3
def dkwX4_candidateStart_1 : List UInt8 := [180, 0, 9, 5, 42, 180, 0, 9, 16, 42, 27, 96, 46, 96, 46, 184, 0, 167, 54, 5, 42, 27]
abbrev dktX4_candidateStart_1 : List UInt8 := dkwX4_candidateStart_1 ++ dktX4_candidateStart_2
def dkwX4_candidateStart_0 : List UInt8 := [42, 180, 0, 9, 16, 62, 27, 96, 46, 62, 42, 180, 0, 9, 17, 0, 179, 29, 96, 46, 54, 4, 28, 42]
abbrev dktX4_candidateStart_0 : List UInt8 := dkwX4_candidateStart_0 ++ dktX4_candidateStart_1
theorem dksX4_candidateStart_0 : cX4_candidateStart.data.toList.drop 0 = dktX4_candidateStart_0 := by decide +kernel
theorem dksX4_candidateStart_1 : cX4_candidateStart.data.toList.drop 24 = dktX4_candidateStart_1 := dk_seg dksX4_candidateStart_0 24 rfl rfl
theorem dksX4_candidateStart_2 : cX4_candidateStart.data.toList.drop 46 = dktX4_candidateStart_2 := dk_seg dksX4_candidateStart_1 22 rfl rfl
theorem dksX4_candidateStart_3 : cX4_candidateStart.data.toList.drop 70 = dktX4_candidateStart_3 := dk_seg dksX4_candidateStart_2 24 rfl rfl
theorem dksX4_candidateStart_4 : cX4_candidateStart.data.toList.drop 94 = dktX4_candidateStart_4 := dk_seg dksX4_candidateStart_3 24 rfl rfl
theorem dksX4_candidateStart_5 : cX4_candidateStart.data.toList.drop 118 = dktX4_candidateStart_5 := dk_seg dksX4_candidateStart_4 24 rfl rfl
theorem dksX4_candidateStart_6 : cX4_candidateStart.data.toList.drop 141 = dktX4_candidateStart_6 := dk_seg dksX4_candidateStart_5 23 rfl rfl
theorem dX4_candidateStart_0 : decode cX4_candidateStart 0 = .ok (.aload_n 0, 1) := dk_42 (dk_at dksX4_candidateStart_0 0 rfl rfl)
theorem dX4_candidateStart_1 : decode cX4_candidateStart 1 = .ok (.getfield 9, 3) := dk_180 0 9 (dk_at dksX4_candidateStart_0 1 rfl rfl)
theorem dX4_candidateStart_4 : decode cX4_candidateStart 4 = .ok (.bipush 62, 2) := dk_16 62 (dk_at dksX4_candidateStart_0 4 rfl rfl)
theorem dX4_candidateStart_6 : decode cX4_candidateStart 6 = .ok (.iload_n 1, 1) := dk_27 (dk_at dksX4_candidateStart_0 6 rfl rfl)
theorem dX4_candidateStart_7 : decode cX4_candidateStart 7 = .ok (.iadd, 1) := dk_96 (dk_at dksX4_candidateStart_0 7 rfl rfl)
theorem dX4_candidateStart_8 : decode cX4_candidateStart 8 = .ok (.iaload, 1) := dk_46 (dk_at dksX4_candidateStart_0 8 rfl rfl)
theorem dX4_candidateStart_9 : decode cX4_candidateStart 9 = .ok (.istore_n 3, 1) := dk_62 (dk_at dksX4_candidateStart_0 9 rfl rfl)
theorem dX4_candidateStart_10 : decode cX4_candidateStart 10 = .ok (.aload_n 0, 1) := dk_42 (dk_at dksX4_candidateStart_0 10 rfl rfl)
theorem dX4_candidateStart_11 : decode cX4_candidateStart 11 = .ok (.getfield 9, 3) := dk_180 0 9 (dk_at dksX4_candidateStart_0 11 rfl rfl)
theorem dX4_candidateStart_14 : decode cX4_candidateStart 14 = .ok (.sipush 179, 3) := dk_17 0 179 (dk_at dksX4_candidateStart_0 14 rfl rfl)
theorem dX4_candidateStart_17 : decode cX4_candidateStart 17 = .ok (.iload_n 3, 1) := dk_29 (dk_at dksX4_candidateStart_0 17 rfl rfl)
theorem dX4_candidateStart_18 : decode cX4_candidateStart 18 = .ok (.iadd, 1) := dk_96 (dk_at dksX4_candidateStart_0 18 rfl rfl)
theorem dX4_candidateStart_19 : decode cX4_candidateStart 19 = .ok (.iaload, 1) := dk_46 (dk_at dksX4_candidateStart_0 19 rfl rfl)
theorem dX4_candidateStart_20 : decode cX4_candidateStart 20 = .ok (.istore 4, 2) := dk_54 4 (dk_at dksX4_candidateStart_0 20 rfl rfl)
theorem dX4_candidateStart_22 : decode cX4_candidateStart 22 = .ok (.iload_n 2, 1) := dk_28 (dk_at dksX4_candidateStart_0 22 rfl rfl)
theorem dX4_candidateStart_23 : decode cX4_candidateStart 23 = .ok (.aload_n 0, 1) := dk_42 (dk_at dksX4_candidateStart_0 23 rfl rfl)
theorem dX4_candidateStart_24 : decode cX4_candidateStart 24 = .ok (.getfield 9, 3) := dk_180 0 9 (dk_at dksX4_candidateStart_1 0 rfl rfl)
theorem dX4_candidateStart_27 : decode cX4_candidateStart 27 = .ok (.iconst 2, 1) := dk_5 (dk_at dksX4_candidateStart_1 3 rfl rfl)
theorem dX4_candidateStart_28 : decode cX4_candidateStart 28 = .ok (.aload_n 0, 1) := dk_42 (dk_at dksX4_candidateStart_1 4 rfl rfl)
theorem dX4_candidateStart_29 : decode cX4_candidateStart 29 = .ok (.getfield 9, 3) := dk_180 0 9 (dk_at dksX4_candidateStart_1 5 rfl rfl)
theorem dX4_candidateStart_32 : decode cX4_candidateStart 32 = .ok (.bipush 42, 2) := dk_16 42 (dk_at dksX4_candidateStart_1 8 rfl rfl)
theorem dX4_candidateStart_34 : decode cX4_candidateStart 34 = .ok (.iload_n 1, 1) := dk_27 (dk_at dksX4_candidateStart_1 10 rfl rfl)
theorem dX4_candidateStart_35 : decode cX4_candidateStart 35 = .ok (.iadd, 1) := dk_96 (dk_at dksX4_candidateStart_1 11 rfl rfl)
theorem dX4_candidateStart_36 : decode cX4_candidateStart 36 = .ok (.iaload, 1) := dk_46 (dk_at dksX4_candidateStart_1 12 rfl rfl)
theorem dX4_candidateStart_37 : decode cX4_candidateStart 37 = .ok (.iadd, 1) := dk_96 (dk_at dksX4_candidateStart_1 13 rfl rfl)
theorem dX4_candidateStart_38 : decode cX4_candidateStart 38 = .ok (.iaload, 1) := dk_46 (dk_at dksX4_candidateStart_1 14 rfl rfl)
theorem dX4_candidateStart_39 : decode cX4_candidateStart 39 = .ok (.invokestatic 167, 3) := dk_184 0 167 (dk_at dksX4_candidateStart_1 15 rfl rfl)
theorem dX4_candidateStart_42 : decode cX4_candidateStart 42 = .ok (.istore 5, 2) := dk_54 5 (dk_at dksX4_candidateStart_1 18 rfl rfl)
theorem dX4_candidateStart_44 : decode cX4_candidateStart 44 = .ok (.aload_n 0, 1) := dk_42 (dk_at dksX4_candidateStart_1 20 rfl rfl)
theorem dX4_candidateStart_45 : decode cX4_candidateStart 45 = .ok (.iload_n 1, 1) := dk_27 (dk_at dksX4_candidateStart_1 21 rfl rfl)
theorem dX4_candidateStart_46 : decode cX4_candidateStart 46 = .ok (.invokevirtual 151, 3) := dk_182 0 151 (dk_at dksX4_candidateStart_2 0 rfl rfl)
theorem dX4_candidateStart_49 : decode cX4_candidateStart 49 = .ok (.istore 6, 2) := dk_54 6 (dk_at dksX4_candidateStart_2 3 rfl rfl)
theorem dX4_candidateStart_51 : decode cX4_candidateStart 51 = .ok (.iload 6, 2) := dk_21 6 (dk_at dksX4_candidateStart_2 5 rfl rfl)
theorem dX4_candidateStart_53 : decode cX4_candidateStart 53 = .ok (.iconst (-1), 1) := dk_2 (dk_at dksX4_candidateStart_2 7 rfl rfl)
theorem dX4_candidateStart_54 : decode cX4_candidateStart 54 = .ok (.if_icmp .ne 8, 3) := dk_160 0 8 (dk_at dksX4_candidateStart_2 8 rfl rfl)
theorem dX4_candidateStart_57 : decode cX4_candidateStart 57 = .ok (.iload 5, 2) := dk_21 5 (dk_at dksX4_candidateStart_2 11 rfl rfl)
theorem dX4_candidateStart_59 : decode cX4_candidateStart 59 = .ok (.goto 26, 3) := dk_167 0 26 (dk_at dksX4_candidateStart_2 13 rfl rfl)
theorem dX4_candidateStart_62 : decode cX4_candidateStart 62 = .ok (.iload 5, 2) := dk_21 5 (dk_at dksX4_candidateStart_2 16 rfl rfl)
theorem dX4_candidateStart_64 : decode cX4_candidateStart 64 = .ok (.aload_n 0, 1) := dk_42 (dk_at dksX4_candidateStart_2 18 rfl rfl)
theorem dX4_candidateStart_65 : decode cX4_candidateStart 65 = .ok (.getfield 46, 3) := dk_180 0 46 (dk_at dksX4_candidateStart_2 19 rfl rfl)
theorem dX4_candidateStart_68 : decode cX4_candidateStart 68 = .ok (.iload 6, 2) := dk_21 6 (dk_at dksX4_candidateStart_2 22 rfl rfl)
theorem dX4_candidateStart_70 : decode cX4_candidateStart 70 = .ok (.iaload, 1) := dk_46 (dk_at dksX4_candidateStart_3 0 rfl rfl)
theorem dX4_candidateStart_71 : decode cX4_candidateStart 71 = .ok (.aload_n 0, 1) := dk_42 (dk_at dksX4_candidateStart_3 1 rfl rfl)
theorem dX4_candidateStart_72 : decode cX4_candidateStart 72 = .ok (.getfield 9, 3) := dk_180 0 9 (dk_at dksX4_candidateStart_3 2 rfl rfl)
theorem dX4_candidateStart_75 : decode cX4_candidateStart 75 = .ok (.bipush 82, 2) := dk_16 82 (dk_at dksX4_candidateStart_3 5 rfl rfl)
theorem dX4_candidateStart_77 : decode cX4_candidateStart 77 = .ok (.iload 6, 2) := dk_21 6 (dk_at dksX4_candidateStart_3 7 rfl rfl)
theorem dX4_candidateStart_79 : decode cX4_candidateStart 79 = .ok (.iadd, 1) := dk_96 (dk_at dksX4_candidateStart_3 9 rfl rfl)
theorem dX4_candidateStart_80 : decode cX4_candidateStart 80 = .ok (.iaload, 1) := dk_46 (dk_at dksX4_candidateStart_3 10 rfl rfl)
theorem dX4_candidateStart_81 : decode cX4_candidateStart 81 = .ok (.iadd, 1) := dk_96 (dk_at dksX4_candidateStart_3 11 rfl rfl)
theorem dX4_candidateStart_82 : decode cX4_candidateStart 82 = .ok (.invokestatic 167, 3) := dk_184 0 167 (dk_at dksX4_candidateStart_3 12 rfl rfl)
theorem dX4_candidateStart_85 : decode cX4_candidateStart 85 = .ok (.istore 5, 2) := dk_54 5 (dk_at dksX4_candidateStart_3 15 rfl rfl)
theorem dX4_candidateStart_87 : decode cX4_candidateStart 87 = .ok (.iload 4, 2) := dk_21 4 (dk_at dksX4_candidateStart_3 17 rfl rfl)
theorem dX4_candidateStart_89 : decode cX4_candidateStart 89 = .ok (.ifCond .le 47, 3) := dk_158 0 47 (dk_at dksX4_candidateStart_3 19 rfl rfl)
theorem dX4_candidateStart_92 : decode cX4_candidateStart 92 = .ok (.aload_n 0, 1) := dk_42 (dk_at dksX4_candidateStart_3 22 rfl rfl)
theorem dX4_candidateStart_93 : decode cX4_candidateStart 93 = .ok (.iload_n 3, 1) := dk_29 (dk_at dksX4_candidateStart_3 23 rfl rfl)
theorem dX4_candidateStart_94 : decode cX4_candidateStart 94 = .ok (.iload 4, 2) := dk_21 4 (dk_at dksX4_candidateStart_4 0 rfl rfl)
theorem dX4_candidateStart_96 : decode cX4_candidateStart 96 = .ok (.iconst 1, 1) := dk_4 (dk_at dksX4_candidateStart_4 2 rfl rfl)
theorem dX4_candidateStart_97 : decode cX4_candidateStart 97 = .ok (.isub, 1) := dk_100 (dk_at dksX4_candidateStart_4 3 rfl rfl)
theorem dX4_candidateStart_98 : decode cX4_candidateStart 98 = .ok (.invokevirtual 142, 3) := dk_182 0 142 (dk_at dksX4_candidateStart_4 4 rfl rfl)
theorem dX4_candidateStart_101 : decode cX4_candidateStart 101 = .ok (.istore 7, 2) := dk_54 7 (dk_at dksX4_candidateStart_4 7 rfl rfl)
theorem dX4_candidateStart_103 : decode cX4_candidateStart 103 = .ok (.iload 5, 2) := dk_21 5 (dk_at dksX4_candidateStart_4 9 rfl rfl)
theorem dX4_candidateStart_105 : decode cX4_candidateStart 105 = .ok (.aload_n 0, 1) := dk_42 (dk_at dksX4_candidateStart_4 11 rfl rfl)
theorem dX4_candidateStart_106 : decode cX4_candidateStart 106 = .ok (.getfield 46, 3) := dk_180 0 46 (dk_at dksX4_candidateStart_4 12 rfl rfl)
theorem dX4_candidateStart_109 : decode cX4_candidateStart 109 = .ok (.iload 7, 2) := dk_21 7 (dk_at dksX4_candidateStart_4 15 rfl rfl)
theorem dX4_candidateStart_111 : decode cX4_candidateStart 111 = .ok (.iaload, 1) := dk_46 (dk_at dksX4_candidateStart_4 17 rfl rfl)
theorem dX4_candidateStart_112 : decode cX4_candidateStart 112 = .ok (.aload_n 0, 1) := dk_42 (dk_at dksX4_candidateStart_4 18 rfl rfl)
theorem dX4_candidateStart_113 : decode cX4_candidateStart 113 = .ok (.getfield 9, 3) := dk_180 0 9 (dk_at dksX4_candidateStart_4 19 rfl rfl)
theorem dX4_candidateStart_116 : decode cX4_candidateStart 116 = .ok (.bipush 82, 2) := dk_16 82 (dk_at dksX4_candidateStart_4 22 rfl rfl)
theorem dX4_candidateStart_118 : decode cX4_candidateStart 118 = .ok (.iload 7, 2) := dk_21 7 (dk_at dksX4_candidateStart_5 0 rfl rfl)
theorem dX4_candidateStart_120 : decode cX4_candidateStart 120 = .ok (.iadd, 1) := dk_96 (dk_at dksX4_candidateStart_5 2 rfl rfl)
theorem dX4_candidateStart_121 : decode cX4_candidateStart 121 = .ok (.iaload, 1) := dk_46 (dk_at dksX4_candidateStart_5 3 rfl rfl)
theorem dX4_candidateStart_122 : decode cX4_candidateStart 122 = .ok (.iadd, 1) := dk_96 (dk_at dksX4_candidateStart_5 4 rfl rfl)
theorem dX4_candidateStart_123 : decode cX4_candidateStart 123 = .ok (.aload_n 0, 1) := dk_42 (dk_at dksX4_candidateStart_5 5 rfl rfl)
theorem dX4_candidateStart_124 : decode cX4_candidateStart 124 = .ok (.iload 7, 2) := dk_21 7 (dk_at dksX4_candidateStart_5 6 rfl rfl)
theorem dX4_candidateStart_126 : decode cX4_candidateStart 126 = .ok (.iload_n 1, 1) := dk_27 (dk_at dksX4_candidateStart_5 8 rfl rfl)
theorem dX4_candidateStart_127 : decode cX4_candidateStart 127 = .ok (.invokevirtual 172, 3) := dk_182 0 172 (dk_at dksX4_candidateStart_5 9 rfl rfl)
theorem dX4_candidateStart_130 : decode cX4_candidateStart 130 = .ok (.iadd, 1) := dk_96 (dk_at dksX4_candidateStart_5 12 rfl rfl)
theorem dX4_candidateStart_131 : decode cX4_candidateStart 131 = .ok (.invokestatic 167, 3) := dk_184 0 167 (dk_at dksX4_candidateStart_5 13 rfl rfl)
theorem dX4_candidateStart_134 : decode cX4_candidateStart 134 = .ok (.istore 5, 2) := dk_54 5 (dk_at dksX4_candidateStart_5 16 rfl rfl)
theorem dX4_candidateStart_136 : decode cX4_candidateStart 136 = .ok (.aload_n 0, 1) := dk_42 (dk_at dksX4_candidateStart_5 18 rfl rfl)
theorem dX4_candidateStart_137 : decode cX4_candidateStart 137 = .ok (.iload_n 3, 1) := dk_29 (dk_at dksX4_candidateStart_5 19 rfl rfl)
theorem dX4_candidateStart_138 : decode cX4_candidateStart 138 = .ok (.iload 5, 2) := dk_21 5 (dk_at dksX4_candidateStart_5 20 rfl rfl)
theorem dX4_candidateStart_140 : decode cX4_candidateStart 140 = .ok (.aload_n 0, 1) := dk_42 (dk_at dksX4_candidateStart_5 22 rfl rfl)
theorem dX4_candidateStart_141 : decode cX4_candidateStart 141 = .ok (.getfield 9, 3) := dk_180 0 9 (dk_at dksX4_candidateStart_6 0 rfl rfl)
theorem dX4_candidateStart_144 : decode cX4_candidateStart 144 = .ok (.bipush 82, 2) := dk_16 82 (dk_at dksX4_candidateStart_6 3 rfl rfl)
theorem dX4_candidateStart_146 : decode cX4_candidateStart 146 = .ok (.iload_n 1, 1) := dk_27 (dk_at dksX4_candidateStart_6 5 rfl rfl)
theorem dX4_candidateStart_147 : decode cX4_candidateStart 147 = .ok (.iadd, 1) := dk_96 (dk_at dksX4_candidateStart_6 6 rfl rfl)
theorem dX4_candidateStart_148 : decode cX4_candidateStart 148 = .ok (.iaload, 1) := dk_46 (dk_at dksX4_candidateStart_6 7 rfl rfl)
theorem dX4_candidateStart_149 : decode cX4_candidateStart 149 = .ok (.invokevirtual 178, 3) := dk_182 0 178 (dk_at dksX4_candidateStart_6 8 rfl rfl)
theorem dX4_candidateStart_152 : decode cX4_candidateStart 152 = .ok (.ireturn, 1) := dk_172 (dk_at dksX4_candidateStart_6 11 rfl rfl)
abbrev cX4_prefers : ByteArray := prog_19_method_62_code
def yX4_prefers : MethodName := ⟨RX4, "prefers", "(III)Z"⟩
def dkwX4_prefers_5 : List UInt8 := [180, 0, 9, 16, 42, 29, 96, 46, 96, 46, 162, 0, 7, 4, 167, 0, 4, 3, 172, 3, 172]
abbrev dktX4_prefers_5 : List UInt8 := dkwX4_prefers_5 ++ []
def dkwX4_prefers_4 : List UInt8 := [42, 180, 0, 9, 16, 7, 42, 180, 0, 9, 16, 42, 28, 96, 46, 96, 46, 42, 180, 0, 9, 16, 7, 42]
abbrev dktX4_prefers_4 : List UInt8 := dkwX4_prefers_4 ++ dktX4_prefers_5
def dkwX4_prefers_3 : List UInt8 := [167, 0, 4, 3, 172, 42, 28, 182, 0, 232, 42, 29, 182, 0, 232, 164, 0, 7, 4, 167, 0, 4, 3, 172]
abbrev dktX4_prefers_3 : List UInt8 := dkwX4_prefers_3 ++ dktX4_prefers_4
def dkwX4_prefers_2 : List UInt8 := [42, 180, 0, 9, 16, 82, 28, 96, 46, 42, 180, 0, 9, 16, 82, 29, 96, 46, 162, 0, 7, 4]
abbrev dktX4_prefers_2 : List UInt8 := dkwX4_prefers_2 ++ dktX4_prefers_3
def dkwX4_prefers_1 : List UInt8 := [170, 0, 0, 0, 0, 0, 116, 0, 0, 0, 0, 0, 0, 0, 2, 0, 0, 0, 27, 0, 0, 0, 54, 0, 0, 0, 73]
abbrev dktX4_prefers_1 : List UInt8 := dkwX4_prefers_1 ++ dktX4_prefers_2
def dkwX4_prefers_0 : List UInt8 := [27]
abbrev dktX4_prefers_0 : List UInt8 := dkwX4_prefers_0 ++ dktX4_prefers_1
theorem dksX4_prefers_0 : cX4_prefers.data.toList.drop 0 = dktX4_prefers_0 := by decide +kernel
theorem dksX4_prefers_1 : cX4_prefers.data.toList.drop 1 = dktX4_prefers_1 := dk_seg dksX4_prefers_0 1 rfl rfl
theorem dksX4_prefers_2 : cX4_prefers.data.toList.drop 28 = dktX4_prefers_2 := dk_seg dksX4_prefers_1 27 rfl rfl
theorem dksX4_prefers_3 : cX4_prefers.data.toList.drop 50 = dktX4_prefers_3 := dk_seg dksX4_prefers_2 22 rfl rfl
theorem dksX4_prefers_4 : cX4_prefers.data.toList.drop 74 = dktX4_prefers_4 := dk_seg dksX4_prefers_3 24 rfl rfl
theorem dksX4_prefers_5 : cX4_prefers.data.toList.drop 98 = dktX4_prefers_5 := dk_seg dksX4_prefers_4 24 rfl rfl
theorem dX4_prefers_0 : decode cX4_prefers 0 = .ok (.iload_n 1, 1) := dk_27 (dk_at dksX4_prefers_0 0 rfl rfl)
theorem dX4_prefers_1 : decode cX4_prefers 1 = .ok (.tableswitch 116 0 2 #[27, 54, 73], 27) := by decide +kernel
theorem dX4_prefers_28 : decode cX4_prefers 28 = .ok (.aload_n 0, 1) := dk_42 (dk_at dksX4_prefers_2 0 rfl rfl)
theorem dX4_prefers_29 : decode cX4_prefers 29 = .ok (.getfield 9, 3) := dk_180 0 9 (dk_at dksX4_prefers_2 1 rfl rfl)
theorem dX4_prefers_32 : decode cX4_prefers 32 = .ok (.bipush 82, 2) := dk_16 82 (dk_at dksX4_prefers_2 4 rfl rfl)
theorem dX4_prefers_34 : decode cX4_prefers 34 = .ok (.iload_n 2, 1) := dk_28 (dk_at dksX4_prefers_2 6 rfl rfl)
theorem dX4_prefers_35 : decode cX4_prefers 35 = .ok (.iadd, 1) := dk_96 (dk_at dksX4_prefers_2 7 rfl rfl)
theorem dX4_prefers_36 : decode cX4_prefers 36 = .ok (.iaload, 1) := dk_46 (dk_at dksX4_prefers_2 8 rfl rfl)
theorem dX4_prefers_37 : decode cX4_prefers 37 = .ok (.aload_n 0, 1) := dk_42 (dk_at dksX4_prefers_2 9 rfl rfl)
theorem dX4_prefers_38 : decode cX4_prefers 38 = .ok (.getfield 9, 3) := dk_180 0 9 (dk_at dksX4_prefers_2 10 rfl rfl)
theorem dX4_prefers_41 : decode cX4_prefers 41 = .ok (.bipush 82, 2) := dk_16 82 (dk_at dksX4_prefers_2 13 rfl rfl)
theorem dX4_prefers_43 : decode cX4_prefers 43 = .ok (.iload_n 3, 1) := dk_29 (dk_at dksX4_prefers_2 15 rfl rfl)
theorem dX4_prefers_44 : decode cX4_prefers 44 = .ok (.iadd, 1) := dk_96 (dk_at dksX4_prefers_2 16 rfl rfl)
theorem dX4_prefers_45 : decode cX4_prefers 45 = .ok (.iaload, 1) := dk_46 (dk_at dksX4_prefers_2 17 rfl rfl)
theorem dX4_prefers_46 : decode cX4_prefers 46 = .ok (.if_icmp .ge 7, 3) := dk_162 0 7 (dk_at dksX4_prefers_2 18 rfl rfl)
theorem dX4_prefers_49 : decode cX4_prefers 49 = .ok (.iconst 1, 1) := dk_4 (dk_at dksX4_prefers_2 21 rfl rfl)
theorem dX4_prefers_50 : decode cX4_prefers 50 = .ok (.goto 4, 3) := dk_167 0 4 (dk_at dksX4_prefers_3 0 rfl rfl)
theorem dX4_prefers_53 : decode cX4_prefers 53 = .ok (.iconst 0, 1) := dk_3 (dk_at dksX4_prefers_3 3 rfl rfl)
theorem dX4_prefers_54 : decode cX4_prefers 54 = .ok (.ireturn, 1) := dk_172 (dk_at dksX4_prefers_3 4 rfl rfl)
theorem dX4_prefers_55 : decode cX4_prefers 55 = .ok (.aload_n 0, 1) := dk_42 (dk_at dksX4_prefers_3 5 rfl rfl)
theorem dX4_prefers_56 : decode cX4_prefers 56 = .ok (.iload_n 2, 1) := dk_28 (dk_at dksX4_prefers_3 6 rfl rfl)
theorem dX4_prefers_57 : decode cX4_prefers 57 = .ok (.invokevirtual 232, 3) := dk_182 0 232 (dk_at dksX4_prefers_3 7 rfl rfl)
theorem dX4_prefers_60 : decode cX4_prefers 60 = .ok (.aload_n 0, 1) := dk_42 (dk_at dksX4_prefers_3 10 rfl rfl)
theorem dX4_prefers_61 : decode cX4_prefers 61 = .ok (.iload_n 3, 1) := dk_29 (dk_at dksX4_prefers_3 11 rfl rfl)
theorem dX4_prefers_62 : decode cX4_prefers 62 = .ok (.invokevirtual 232, 3) := dk_182 0 232 (dk_at dksX4_prefers_3 12 rfl rfl)
theorem dX4_prefers_65 : decode cX4_prefers 65 = .ok (.if_icmp .le 7, 3) := dk_164 0 7 (dk_at dksX4_prefers_3 15 rfl rfl)
theorem dX4_prefers_68 : decode cX4_prefers 68 = .ok (.iconst 1, 1) := dk_4 (dk_at dksX4_prefers_3 18 rfl rfl)
theorem dX4_prefers_69 : decode cX4_prefers 69 = .ok (.goto 4, 3) := dk_167 0 4 (dk_at dksX4_prefers_3 19 rfl rfl)
theorem dX4_prefers_72 : decode cX4_prefers 72 = .ok (.iconst 0, 1) := dk_3 (dk_at dksX4_prefers_3 22 rfl rfl)
theorem dX4_prefers_73 : decode cX4_prefers 73 = .ok (.ireturn, 1) := dk_172 (dk_at dksX4_prefers_3 23 rfl rfl)
theorem dX4_prefers_74 : decode cX4_prefers 74 = .ok (.aload_n 0, 1) := dk_42 (dk_at dksX4_prefers_4 0 rfl rfl)
theorem dX4_prefers_75 : decode cX4_prefers 75 = .ok (.getfield 9, 3) := dk_180 0 9 (dk_at dksX4_prefers_4 1 rfl rfl)
theorem dX4_prefers_78 : decode cX4_prefers 78 = .ok (.bipush 7, 2) := dk_16 7 (dk_at dksX4_prefers_4 4 rfl rfl)
theorem dX4_prefers_80 : decode cX4_prefers 80 = .ok (.aload_n 0, 1) := dk_42 (dk_at dksX4_prefers_4 6 rfl rfl)
theorem dX4_prefers_81 : decode cX4_prefers 81 = .ok (.getfield 9, 3) := dk_180 0 9 (dk_at dksX4_prefers_4 7 rfl rfl)
theorem dX4_prefers_84 : decode cX4_prefers 84 = .ok (.bipush 42, 2) := dk_16 42 (dk_at dksX4_prefers_4 10 rfl rfl)
theorem dX4_prefers_86 : decode cX4_prefers 86 = .ok (.iload_n 2, 1) := dk_28 (dk_at dksX4_prefers_4 12 rfl rfl)
theorem dX4_prefers_87 : decode cX4_prefers 87 = .ok (.iadd, 1) := dk_96 (dk_at dksX4_prefers_4 13 rfl rfl)
theorem dX4_prefers_88 : decode cX4_prefers 88 = .ok (.iaload, 1) := dk_46 (dk_at dksX4_prefers_4 14 rfl rfl)
theorem dX4_prefers_89 : decode cX4_prefers 89 = .ok (.iadd, 1) := dk_96 (dk_at dksX4_prefers_4 15 rfl rfl)
theorem dX4_prefers_90 : decode cX4_prefers 90 = .ok (.iaload, 1) := dk_46 (dk_at dksX4_prefers_4 16 rfl rfl)
theorem dX4_prefers_91 : decode cX4_prefers 91 = .ok (.aload_n 0, 1) := dk_42 (dk_at dksX4_prefers_4 17 rfl rfl)
theorem dX4_prefers_92 : decode cX4_prefers 92 = .ok (.getfield 9, 3) := dk_180 0 9 (dk_at dksX4_prefers_4 18 rfl rfl)
theorem dX4_prefers_95 : decode cX4_prefers 95 = .ok (.bipush 7, 2) := dk_16 7 (dk_at dksX4_prefers_4 21 rfl rfl)
theorem dX4_prefers_97 : decode cX4_prefers 97 = .ok (.aload_n 0, 1) := dk_42 (dk_at dksX4_prefers_4 23 rfl rfl)
theorem dX4_prefers_98 : decode cX4_prefers 98 = .ok (.getfield 9, 3) := dk_180 0 9 (dk_at dksX4_prefers_5 0 rfl rfl)
theorem dX4_prefers_101 : decode cX4_prefers 101 = .ok (.bipush 42, 2) := dk_16 42 (dk_at dksX4_prefers_5 3 rfl rfl)
theorem dX4_prefers_103 : decode cX4_prefers 103 = .ok (.iload_n 3, 1) := dk_29 (dk_at dksX4_prefers_5 5 rfl rfl)
theorem dX4_prefers_104 : decode cX4_prefers 104 = .ok (.iadd, 1) := dk_96 (dk_at dksX4_prefers_5 6 rfl rfl)
theorem dX4_prefers_105 : decode cX4_prefers 105 = .ok (.iaload, 1) := dk_46 (dk_at dksX4_prefers_5 7 rfl rfl)
theorem dX4_prefers_106 : decode cX4_prefers 106 = .ok (.iadd, 1) := dk_96 (dk_at dksX4_prefers_5 8 rfl rfl)
theorem dX4_prefers_107 : decode cX4_prefers 107 = .ok (.iaload, 1) := dk_46 (dk_at dksX4_prefers_5 9 rfl rfl)
theorem dX4_prefers_108 : decode cX4_prefers 108 = .ok (.if_icmp .ge 7, 3) := dk_162 0 7 (dk_at dksX4_prefers_5 10 rfl rfl)
theorem dX4_prefers_111 : decode cX4_prefers 111 = .ok (.iconst 1, 1) := dk_4 (dk_at dksX4_prefers_5 13 rfl rfl)
theorem dX4_prefers_112 : decode cX4_prefers 112 = .ok (.goto 4, 3) := dk_167 0 4 (dk_at dksX4_prefers_5 14 rfl rfl)
theorem dX4_prefers_115 : decode cX4_prefers 115 = .ok (.iconst 0, 1) := dk_3 (dk_at dksX4_prefers_5 17 rfl rfl)
theorem dX4_prefers_116 : decode cX4_prefers 116 = .ok (.ireturn, 1) := dk_172 (dk_at dksX4_prefers_5 18 rfl rfl)
theorem dX4_prefers_117 : decode cX4_prefers 117 = .ok (.iconst 0, 1) := dk_3 (dk_at dksX4_prefers_5 19 rfl rfl)
theorem dX4_prefers_118 : decode cX4_prefers 118 = .ok (.ireturn, 1) := dk_172 (dk_at dksX4_prefers_5 20 rfl rfl)
abbrev cX4_restOf : ByteArray := prog_19_method_61_code
def yX4_restOf : MethodName := ⟨RX4, "restOf", "(I)I"⟩
def dkwX4_restOf_2 : List UInt8 := [21, 4, 182, 0, 110, 96, 46, 96, 62, 132, 4, 1, 167, 255, 221, 29, 172]
abbrev dktX4_restOf_2 : List UInt8 := dkwX4_restOf_2 ++ []
def dkwX4_restOf_1 : List UInt8 := [21, 4, 42, 180, 0, 9, 16, 17, 28, 96, 46, 162, 0, 27, 29, 42, 180, 0, 9, 16, 82, 42, 28]
abbrev dktX4_restOf_1 : List UInt8 := dkwX4_restOf_1 ++ dktX4_restOf_2
def dkwX4_restOf_0 : List UInt8 := [42, 180, 0, 9, 16, 42, 27, 96, 46, 61, 3, 62, 42, 180, 0, 9, 16, 122, 27, 96, 46, 54, 4]
abbrev dktX4_restOf_0 : List UInt8 := dkwX4_restOf_0 ++ dktX4_restOf_1
theorem dksX4_restOf_0 : cX4_restOf.data.toList.drop 0 = dktX4_restOf_0 := by decide +kernel
theorem dksX4_restOf_1 : cX4_restOf.data.toList.drop 23 = dktX4_restOf_1 := dk_seg dksX4_restOf_0 23 rfl rfl
theorem dksX4_restOf_2 : cX4_restOf.data.toList.drop 46 = dktX4_restOf_2 := dk_seg dksX4_restOf_1 23 rfl rfl
theorem dX4_restOf_0 : decode cX4_restOf 0 = .ok (.aload_n 0, 1) := dk_42 (dk_at dksX4_restOf_0 0 rfl rfl)
theorem dX4_restOf_1 : decode cX4_restOf 1 = .ok (.getfield 9, 3) := dk_180 0 9 (dk_at dksX4_restOf_0 1 rfl rfl)
theorem dX4_restOf_4 : decode cX4_restOf 4 = .ok (.bipush 42, 2) := dk_16 42 (dk_at dksX4_restOf_0 4 rfl rfl)
theorem dX4_restOf_6 : decode cX4_restOf 6 = .ok (.iload_n 1, 1) := dk_27 (dk_at dksX4_restOf_0 6 rfl rfl)
theorem dX4_restOf_7 : decode cX4_restOf 7 = .ok (.iadd, 1) := dk_96 (dk_at dksX4_restOf_0 7 rfl rfl)
theorem dX4_restOf_8 : decode cX4_restOf 8 = .ok (.iaload, 1) := dk_46 (dk_at dksX4_restOf_0 8 rfl rfl)
theorem dX4_restOf_9 : decode cX4_restOf 9 = .ok (.istore_n 2, 1) := dk_61 (dk_at dksX4_restOf_0 9 rfl rfl)
theorem dX4_restOf_10 : decode cX4_restOf 10 = .ok (.iconst 0, 1) := dk_3 (dk_at dksX4_restOf_0 10 rfl rfl)
theorem dX4_restOf_11 : decode cX4_restOf 11 = .ok (.istore_n 3, 1) := dk_62 (dk_at dksX4_restOf_0 11 rfl rfl)
theorem dX4_restOf_12 : decode cX4_restOf 12 = .ok (.aload_n 0, 1) := dk_42 (dk_at dksX4_restOf_0 12 rfl rfl)
theorem dX4_restOf_13 : decode cX4_restOf 13 = .ok (.getfield 9, 3) := dk_180 0 9 (dk_at dksX4_restOf_0 13 rfl rfl)
theorem dX4_restOf_16 : decode cX4_restOf 16 = .ok (.bipush 122, 2) := dk_16 122 (dk_at dksX4_restOf_0 16 rfl rfl)
theorem dX4_restOf_18 : decode cX4_restOf 18 = .ok (.iload_n 1, 1) := dk_27 (dk_at dksX4_restOf_0 18 rfl rfl)
theorem dX4_restOf_19 : decode cX4_restOf 19 = .ok (.iadd, 1) := dk_96 (dk_at dksX4_restOf_0 19 rfl rfl)
theorem dX4_restOf_20 : decode cX4_restOf 20 = .ok (.iaload, 1) := dk_46 (dk_at dksX4_restOf_0 20 rfl rfl)
theorem dX4_restOf_21 : decode cX4_restOf 21 = .ok (.istore 4, 2) := dk_54 4 (dk_at dksX4_restOf_0 21 rfl rfl)
theorem dX4_restOf_23 : decode cX4_restOf 23 = .ok (.iload 4, 2) := dk_21 4 (dk_at dksX4_restOf_1 0 rfl rfl)
theorem dX4_restOf_25 : decode cX4_restOf 25 = .ok (.aload_n 0, 1) := dk_42 (dk_at dksX4_restOf_1 2 rfl rfl)
theorem dX4_restOf_26 : decode cX4_restOf 26 = .ok (.getfield 9, 3) := dk_180 0 9 (dk_at dksX4_restOf_1 3 rfl rfl)
theorem dX4_restOf_29 : decode cX4_restOf 29 = .ok (.bipush 17, 2) := dk_16 17 (dk_at dksX4_restOf_1 6 rfl rfl)
theorem dX4_restOf_31 : decode cX4_restOf 31 = .ok (.iload_n 2, 1) := dk_28 (dk_at dksX4_restOf_1 8 rfl rfl)
theorem dX4_restOf_32 : decode cX4_restOf 32 = .ok (.iadd, 1) := dk_96 (dk_at dksX4_restOf_1 9 rfl rfl)
theorem dX4_restOf_33 : decode cX4_restOf 33 = .ok (.iaload, 1) := dk_46 (dk_at dksX4_restOf_1 10 rfl rfl)
theorem dX4_restOf_34 : decode cX4_restOf 34 = .ok (.if_icmp .ge 27, 3) := dk_162 0 27 (dk_at dksX4_restOf_1 11 rfl rfl)
theorem dX4_restOf_37 : decode cX4_restOf 37 = .ok (.iload_n 3, 1) := dk_29 (dk_at dksX4_restOf_1 14 rfl rfl)
theorem dX4_restOf_38 : decode cX4_restOf 38 = .ok (.aload_n 0, 1) := dk_42 (dk_at dksX4_restOf_1 15 rfl rfl)
theorem dX4_restOf_39 : decode cX4_restOf 39 = .ok (.getfield 9, 3) := dk_180 0 9 (dk_at dksX4_restOf_1 16 rfl rfl)
theorem dX4_restOf_42 : decode cX4_restOf 42 = .ok (.bipush 82, 2) := dk_16 82 (dk_at dksX4_restOf_1 19 rfl rfl)
theorem dX4_restOf_44 : decode cX4_restOf 44 = .ok (.aload_n 0, 1) := dk_42 (dk_at dksX4_restOf_1 21 rfl rfl)
theorem dX4_restOf_45 : decode cX4_restOf 45 = .ok (.iload_n 2, 1) := dk_28 (dk_at dksX4_restOf_1 22 rfl rfl)
theorem dX4_restOf_46 : decode cX4_restOf 46 = .ok (.iload 4, 2) := dk_21 4 (dk_at dksX4_restOf_2 0 rfl rfl)
theorem dX4_restOf_48 : decode cX4_restOf 48 = .ok (.invokevirtual 110, 3) := dk_182 0 110 (dk_at dksX4_restOf_2 2 rfl rfl)
theorem dX4_restOf_51 : decode cX4_restOf 51 = .ok (.iadd, 1) := dk_96 (dk_at dksX4_restOf_2 5 rfl rfl)
theorem dX4_restOf_52 : decode cX4_restOf 52 = .ok (.iaload, 1) := dk_46 (dk_at dksX4_restOf_2 6 rfl rfl)
theorem dX4_restOf_53 : decode cX4_restOf 53 = .ok (.iadd, 1) := dk_96 (dk_at dksX4_restOf_2 7 rfl rfl)
theorem dX4_restOf_54 : decode cX4_restOf 54 = .ok (.istore_n 3, 1) := dk_62 (dk_at dksX4_restOf_2 8 rfl rfl)
theorem dX4_restOf_55 : decode cX4_restOf 55 = .ok (.iinc 4 1, 3) := dk_132 4 1 (dk_at dksX4_restOf_2 9 rfl rfl)
theorem dX4_restOf_58 : decode cX4_restOf 58 = .ok (.goto (-35), 3) := dk_167 255 221 (dk_at dksX4_restOf_2 12 rfl rfl)
theorem dX4_restOf_61 : decode cX4_restOf 61 = .ok (.iload_n 3, 1) := dk_29 (dk_at dksX4_restOf_2 15 rfl rfl)
theorem dX4_restOf_62 : decode cX4_restOf 62 = .ok (.ireturn, 1) := dk_172 (dk_at dksX4_restOf_2 16 rfl rfl)
abbrev cX4_repair : ByteArray := prog_19_method_65_code
def yX4_repair : MethodName := ⟨RX4, "repair", "(II)I"⟩
def dkwX4_repair_8 : List UInt8 := [182, 0, 241, 42, 182, 0, 188, 172]
abbrev dktX4_repair_8 : List UInt8 := dkwX4_repair_8 ++ []
def dkwX4_repair_7 : List UInt8 := [42, 180, 0, 9, 17, 0, 179, 21, 4, 96, 21, 5, 79, 132, 4, 1, 167, 255, 149, 42, 28, 27]
abbrev dktX4_repair_7 : List UInt8 := dkwX4_repair_7 ++ dktX4_repair_8
def dkwX4_repair_6 : List UInt8 := [180, 0, 43, 42, 180, 0, 9, 16, 42, 21, 6, 96, 46, 92, 46, 4, 96, 79, 132, 5, 1, 167, 255, 177]
abbrev dktX4_repair_6 : List UInt8 := dkwX4_repair_6 ++ dktX4_repair_7
def dkwX4_repair_5 : List UInt8 := [21, 5, 182, 0, 142, 54, 6, 42, 180, 0, 46, 21, 6, 42, 180, 0, 29, 21, 6, 46, 79, 42]
abbrev dktX4_repair_5 : List UInt8 := dkwX4_repair_5 ++ dktX4_repair_6
def dkwX4_repair_4 : List UInt8 := [46, 162, 0, 69, 42, 180, 0, 29, 42, 21, 4, 21, 5, 182, 0, 142, 46, 27, 162, 0, 52, 42, 21, 4]
abbrev dktX4_repair_4 : List UInt8 := dkwX4_repair_4 ++ dktX4_repair_5
def dkwX4_repair_3 : List UInt8 := [3, 54, 4, 21, 4, 7, 162, 0, 107, 3, 54, 5, 21, 5, 42, 180, 0, 9, 17, 0, 179, 21, 4, 96]
abbrev dktX4_repair_3 : List UInt8 := dkwX4_repair_3 ++ dktX4_repair_4
def dkwX4_repair_2 : List UInt8 := [62, 3, 54, 4, 21, 4, 8, 162, 0, 17, 42, 180, 0, 43, 21, 4, 3, 79, 132, 4, 1, 167, 255, 239]
abbrev dktX4_repair_2 : List UInt8 := dkwX4_repair_2 ++ dktX4_repair_3
def dkwX4_repair_1 : List UInt8 := [153, 0, 7, 3, 167, 0, 4, 4, 181, 0, 79, 42, 180, 0, 79, 158, 0, 5, 3, 172, 42, 182, 0, 181]
abbrev dktX4_repair_1 : List UInt8 := dkwX4_repair_1 ++ dktX4_repair_2
def dkwX4_repair_0 : List UInt8 := [42, 27, 133, 9, 20, 0, 244, 184, 0, 82, 153, 0, 19, 28, 133, 9, 20, 0, 86, 184, 0, 82]
abbrev dktX4_repair_0 : List UInt8 := dkwX4_repair_0 ++ dktX4_repair_1
theorem dksX4_repair_0 : cX4_repair.data.toList.drop 0 = dktX4_repair_0 := by decide +kernel
theorem dksX4_repair_1 : cX4_repair.data.toList.drop 22 = dktX4_repair_1 := dk_seg dksX4_repair_0 22 rfl rfl
theorem dksX4_repair_2 : cX4_repair.data.toList.drop 46 = dktX4_repair_2 := dk_seg dksX4_repair_1 24 rfl rfl
theorem dksX4_repair_3 : cX4_repair.data.toList.drop 70 = dktX4_repair_3 := dk_seg dksX4_repair_2 24 rfl rfl
theorem dksX4_repair_4 : cX4_repair.data.toList.drop 94 = dktX4_repair_4 := dk_seg dksX4_repair_3 24 rfl rfl
theorem dksX4_repair_5 : cX4_repair.data.toList.drop 118 = dktX4_repair_5 := dk_seg dksX4_repair_4 24 rfl rfl
theorem dksX4_repair_6 : cX4_repair.data.toList.drop 140 = dktX4_repair_6 := dk_seg dksX4_repair_5 22 rfl rfl
theorem dksX4_repair_7 : cX4_repair.data.toList.drop 164 = dktX4_repair_7 := dk_seg dksX4_repair_6 24 rfl rfl
theorem dksX4_repair_8 : cX4_repair.data.toList.drop 186 = dktX4_repair_8 := dk_seg dksX4_repair_7 22 rfl rfl
theorem dX4_repair_0 : decode cX4_repair 0 = .ok (.aload_n 0, 1) := dk_42 (dk_at dksX4_repair_0 0 rfl rfl)
theorem dX4_repair_1 : decode cX4_repair 1 = .ok (.iload_n 1, 1) := dk_27 (dk_at dksX4_repair_0 1 rfl rfl)
theorem dX4_repair_2 : decode cX4_repair 2 = .ok (.i2l, 1) := dk_133 (dk_at dksX4_repair_0 2 rfl rfl)
theorem dX4_repair_3 : decode cX4_repair 3 = .ok (.lconst 0, 1) := dk_9 (dk_at dksX4_repair_0 3 rfl rfl)
theorem dX4_repair_4 : decode cX4_repair 4 = .ok (.ldc2_w 244, 3) := dk_20 0 244 (dk_at dksX4_repair_0 4 rfl rfl)
theorem dX4_repair_7 : decode cX4_repair 7 = .ok (.invokestatic 82, 3) := dk_184 0 82 (dk_at dksX4_repair_0 7 rfl rfl)
theorem dX4_repair_10 : decode cX4_repair 10 = .ok (.ifCond .eq 19, 3) := dk_153 0 19 (dk_at dksX4_repair_0 10 rfl rfl)
theorem dX4_repair_13 : decode cX4_repair 13 = .ok (.iload_n 2, 1) := dk_28 (dk_at dksX4_repair_0 13 rfl rfl)
theorem dX4_repair_14 : decode cX4_repair 14 = .ok (.i2l, 1) := dk_133 (dk_at dksX4_repair_0 14 rfl rfl)
theorem dX4_repair_15 : decode cX4_repair 15 = .ok (.lconst 0, 1) := dk_9 (dk_at dksX4_repair_0 15 rfl rfl)
theorem dX4_repair_16 : decode cX4_repair 16 = .ok (.ldc2_w 86, 3) := dk_20 0 86 (dk_at dksX4_repair_0 16 rfl rfl)
theorem dX4_repair_19 : decode cX4_repair 19 = .ok (.invokestatic 82, 3) := dk_184 0 82 (dk_at dksX4_repair_0 19 rfl rfl)
theorem dX4_repair_22 : decode cX4_repair 22 = .ok (.ifCond .eq 7, 3) := dk_153 0 7 (dk_at dksX4_repair_1 0 rfl rfl)
theorem dX4_repair_25 : decode cX4_repair 25 = .ok (.iconst 0, 1) := dk_3 (dk_at dksX4_repair_1 3 rfl rfl)
theorem dX4_repair_26 : decode cX4_repair 26 = .ok (.goto 4, 3) := dk_167 0 4 (dk_at dksX4_repair_1 4 rfl rfl)
theorem dX4_repair_29 : decode cX4_repair 29 = .ok (.iconst 1, 1) := dk_4 (dk_at dksX4_repair_1 7 rfl rfl)
theorem dX4_repair_30 : decode cX4_repair 30 = .ok (.putfield 79, 3) := dk_181 0 79 (dk_at dksX4_repair_1 8 rfl rfl)
theorem dX4_repair_33 : decode cX4_repair 33 = .ok (.aload_n 0, 1) := dk_42 (dk_at dksX4_repair_1 11 rfl rfl)
theorem dX4_repair_34 : decode cX4_repair 34 = .ok (.getfield 79, 3) := dk_180 0 79 (dk_at dksX4_repair_1 12 rfl rfl)
theorem dX4_repair_37 : decode cX4_repair 37 = .ok (.ifCond .le 5, 3) := dk_158 0 5 (dk_at dksX4_repair_1 15 rfl rfl)
theorem dX4_repair_40 : decode cX4_repair 40 = .ok (.iconst 0, 1) := dk_3 (dk_at dksX4_repair_1 18 rfl rfl)
theorem dX4_repair_41 : decode cX4_repair 41 = .ok (.ireturn, 1) := dk_172 (dk_at dksX4_repair_1 19 rfl rfl)
theorem dX4_repair_42 : decode cX4_repair 42 = .ok (.aload_n 0, 1) := dk_42 (dk_at dksX4_repair_1 20 rfl rfl)
theorem dX4_repair_43 : decode cX4_repair 43 = .ok (.invokevirtual 181, 3) := dk_182 0 181 (dk_at dksX4_repair_1 21 rfl rfl)
theorem dX4_repair_46 : decode cX4_repair 46 = .ok (.istore_n 3, 1) := dk_62 (dk_at dksX4_repair_2 0 rfl rfl)
theorem dX4_repair_47 : decode cX4_repair 47 = .ok (.iconst 0, 1) := dk_3 (dk_at dksX4_repair_2 1 rfl rfl)
theorem dX4_repair_48 : decode cX4_repair 48 = .ok (.istore 4, 2) := dk_54 4 (dk_at dksX4_repair_2 2 rfl rfl)
theorem dX4_repair_50 : decode cX4_repair 50 = .ok (.iload 4, 2) := dk_21 4 (dk_at dksX4_repair_2 4 rfl rfl)
theorem dX4_repair_52 : decode cX4_repair 52 = .ok (.iconst 5, 1) := dk_8 (dk_at dksX4_repair_2 6 rfl rfl)
theorem dX4_repair_53 : decode cX4_repair 53 = .ok (.if_icmp .ge 17, 3) := dk_162 0 17 (dk_at dksX4_repair_2 7 rfl rfl)
theorem dX4_repair_56 : decode cX4_repair 56 = .ok (.aload_n 0, 1) := dk_42 (dk_at dksX4_repair_2 10 rfl rfl)
theorem dX4_repair_57 : decode cX4_repair 57 = .ok (.getfield 43, 3) := dk_180 0 43 (dk_at dksX4_repair_2 11 rfl rfl)
theorem dX4_repair_60 : decode cX4_repair 60 = .ok (.iload 4, 2) := dk_21 4 (dk_at dksX4_repair_2 14 rfl rfl)
theorem dX4_repair_62 : decode cX4_repair 62 = .ok (.iconst 0, 1) := dk_3 (dk_at dksX4_repair_2 16 rfl rfl)
theorem dX4_repair_63 : decode cX4_repair 63 = .ok (.iastore, 1) := dk_79 (dk_at dksX4_repair_2 17 rfl rfl)
theorem dX4_repair_64 : decode cX4_repair 64 = .ok (.iinc 4 1, 3) := dk_132 4 1 (dk_at dksX4_repair_2 18 rfl rfl)
theorem dX4_repair_67 : decode cX4_repair 67 = .ok (.goto (-17), 3) := dk_167 255 239 (dk_at dksX4_repair_2 21 rfl rfl)
theorem dX4_repair_70 : decode cX4_repair 70 = .ok (.iconst 0, 1) := dk_3 (dk_at dksX4_repair_3 0 rfl rfl)
theorem dX4_repair_71 : decode cX4_repair 71 = .ok (.istore 4, 2) := dk_54 4 (dk_at dksX4_repair_3 1 rfl rfl)
theorem dX4_repair_73 : decode cX4_repair 73 = .ok (.iload 4, 2) := dk_21 4 (dk_at dksX4_repair_3 3 rfl rfl)
theorem dX4_repair_75 : decode cX4_repair 75 = .ok (.iconst 4, 1) := dk_7 (dk_at dksX4_repair_3 5 rfl rfl)
theorem dX4_repair_76 : decode cX4_repair 76 = .ok (.if_icmp .ge 107, 3) := dk_162 0 107 (dk_at dksX4_repair_3 6 rfl rfl)
theorem dX4_repair_79 : decode cX4_repair 79 = .ok (.iconst 0, 1) := dk_3 (dk_at dksX4_repair_3 9 rfl rfl)
theorem dX4_repair_80 : decode cX4_repair 80 = .ok (.istore 5, 2) := dk_54 5 (dk_at dksX4_repair_3 10 rfl rfl)
theorem dX4_repair_82 : decode cX4_repair 82 = .ok (.iload 5, 2) := dk_21 5 (dk_at dksX4_repair_3 12 rfl rfl)
theorem dX4_repair_84 : decode cX4_repair 84 = .ok (.aload_n 0, 1) := dk_42 (dk_at dksX4_repair_3 14 rfl rfl)
theorem dX4_repair_85 : decode cX4_repair 85 = .ok (.getfield 9, 3) := dk_180 0 9 (dk_at dksX4_repair_3 15 rfl rfl)
theorem dX4_repair_88 : decode cX4_repair 88 = .ok (.sipush 179, 3) := dk_17 0 179 (dk_at dksX4_repair_3 18 rfl rfl)
theorem dX4_repair_91 : decode cX4_repair 91 = .ok (.iload 4, 2) := dk_21 4 (dk_at dksX4_repair_3 21 rfl rfl)
theorem dX4_repair_93 : decode cX4_repair 93 = .ok (.iadd, 1) := dk_96 (dk_at dksX4_repair_3 23 rfl rfl)
theorem dX4_repair_94 : decode cX4_repair 94 = .ok (.iaload, 1) := dk_46 (dk_at dksX4_repair_4 0 rfl rfl)
theorem dX4_repair_95 : decode cX4_repair 95 = .ok (.if_icmp .ge 69, 3) := dk_162 0 69 (dk_at dksX4_repair_4 1 rfl rfl)
theorem dX4_repair_98 : decode cX4_repair 98 = .ok (.aload_n 0, 1) := dk_42 (dk_at dksX4_repair_4 4 rfl rfl)
theorem dX4_repair_99 : decode cX4_repair 99 = .ok (.getfield 29, 3) := dk_180 0 29 (dk_at dksX4_repair_4 5 rfl rfl)
theorem dX4_repair_102 : decode cX4_repair 102 = .ok (.aload_n 0, 1) := dk_42 (dk_at dksX4_repair_4 8 rfl rfl)
theorem dX4_repair_103 : decode cX4_repair 103 = .ok (.iload 4, 2) := dk_21 4 (dk_at dksX4_repair_4 9 rfl rfl)
theorem dX4_repair_105 : decode cX4_repair 105 = .ok (.iload 5, 2) := dk_21 5 (dk_at dksX4_repair_4 11 rfl rfl)
theorem dX4_repair_107 : decode cX4_repair 107 = .ok (.invokevirtual 142, 3) := dk_182 0 142 (dk_at dksX4_repair_4 13 rfl rfl)
theorem dX4_repair_110 : decode cX4_repair 110 = .ok (.iaload, 1) := dk_46 (dk_at dksX4_repair_4 16 rfl rfl)
theorem dX4_repair_111 : decode cX4_repair 111 = .ok (.iload_n 1, 1) := dk_27 (dk_at dksX4_repair_4 17 rfl rfl)
theorem dX4_repair_112 : decode cX4_repair 112 = .ok (.if_icmp .ge 52, 3) := dk_162 0 52 (dk_at dksX4_repair_4 18 rfl rfl)
theorem dX4_repair_115 : decode cX4_repair 115 = .ok (.aload_n 0, 1) := dk_42 (dk_at dksX4_repair_4 21 rfl rfl)
theorem dX4_repair_116 : decode cX4_repair 116 = .ok (.iload 4, 2) := dk_21 4 (dk_at dksX4_repair_4 22 rfl rfl)
theorem dX4_repair_118 : decode cX4_repair 118 = .ok (.iload 5, 2) := dk_21 5 (dk_at dksX4_repair_5 0 rfl rfl)
theorem dX4_repair_120 : decode cX4_repair 120 = .ok (.invokevirtual 142, 3) := dk_182 0 142 (dk_at dksX4_repair_5 2 rfl rfl)
theorem dX4_repair_123 : decode cX4_repair 123 = .ok (.istore 6, 2) := dk_54 6 (dk_at dksX4_repair_5 5 rfl rfl)
theorem dX4_repair_125 : decode cX4_repair 125 = .ok (.aload_n 0, 1) := dk_42 (dk_at dksX4_repair_5 7 rfl rfl)
theorem dX4_repair_126 : decode cX4_repair 126 = .ok (.getfield 46, 3) := dk_180 0 46 (dk_at dksX4_repair_5 8 rfl rfl)
theorem dX4_repair_129 : decode cX4_repair 129 = .ok (.iload 6, 2) := dk_21 6 (dk_at dksX4_repair_5 11 rfl rfl)
theorem dX4_repair_131 : decode cX4_repair 131 = .ok (.aload_n 0, 1) := dk_42 (dk_at dksX4_repair_5 13 rfl rfl)
theorem dX4_repair_132 : decode cX4_repair 132 = .ok (.getfield 29, 3) := dk_180 0 29 (dk_at dksX4_repair_5 14 rfl rfl)
theorem dX4_repair_135 : decode cX4_repair 135 = .ok (.iload 6, 2) := dk_21 6 (dk_at dksX4_repair_5 17 rfl rfl)
theorem dX4_repair_137 : decode cX4_repair 137 = .ok (.iaload, 1) := dk_46 (dk_at dksX4_repair_5 19 rfl rfl)
theorem dX4_repair_138 : decode cX4_repair 138 = .ok (.iastore, 1) := dk_79 (dk_at dksX4_repair_5 20 rfl rfl)
theorem dX4_repair_139 : decode cX4_repair 139 = .ok (.aload_n 0, 1) := dk_42 (dk_at dksX4_repair_5 21 rfl rfl)
theorem dX4_repair_140 : decode cX4_repair 140 = .ok (.getfield 43, 3) := dk_180 0 43 (dk_at dksX4_repair_6 0 rfl rfl)
theorem dX4_repair_143 : decode cX4_repair 143 = .ok (.aload_n 0, 1) := dk_42 (dk_at dksX4_repair_6 3 rfl rfl)
theorem dX4_repair_144 : decode cX4_repair 144 = .ok (.getfield 9, 3) := dk_180 0 9 (dk_at dksX4_repair_6 4 rfl rfl)
theorem dX4_repair_147 : decode cX4_repair 147 = .ok (.bipush 42, 2) := dk_16 42 (dk_at dksX4_repair_6 7 rfl rfl)
theorem dX4_repair_149 : decode cX4_repair 149 = .ok (.iload 6, 2) := dk_21 6 (dk_at dksX4_repair_6 9 rfl rfl)
theorem dX4_repair_151 : decode cX4_repair 151 = .ok (.iadd, 1) := dk_96 (dk_at dksX4_repair_6 11 rfl rfl)
theorem dX4_repair_152 : decode cX4_repair 152 = .ok (.iaload, 1) := dk_46 (dk_at dksX4_repair_6 12 rfl rfl)
theorem dX4_repair_153 : decode cX4_repair 153 = .ok (.dup2, 1) := dk_92 (dk_at dksX4_repair_6 13 rfl rfl)
theorem dX4_repair_154 : decode cX4_repair 154 = .ok (.iaload, 1) := dk_46 (dk_at dksX4_repair_6 14 rfl rfl)
theorem dX4_repair_155 : decode cX4_repair 155 = .ok (.iconst 1, 1) := dk_4 (dk_at dksX4_repair_6 15 rfl rfl)
theorem dX4_repair_156 : decode cX4_repair 156 = .ok (.iadd, 1) := dk_96 (dk_at dksX4_repair_6 16 rfl rfl)
theorem dX4_repair_157 : decode cX4_repair 157 = .ok (.iastore, 1) := dk_79 (dk_at dksX4_repair_6 17 rfl rfl)
theorem dX4_repair_158 : decode cX4_repair 158 = .ok (.iinc 5 1, 3) := dk_132 5 1 (dk_at dksX4_repair_6 18 rfl rfl)
theorem dX4_repair_161 : decode cX4_repair 161 = .ok (.goto (-79), 3) := dk_167 255 177 (dk_at dksX4_repair_6 21 rfl rfl)
theorem dX4_repair_164 : decode cX4_repair 164 = .ok (.aload_n 0, 1) := dk_42 (dk_at dksX4_repair_7 0 rfl rfl)
theorem dX4_repair_165 : decode cX4_repair 165 = .ok (.getfield 9, 3) := dk_180 0 9 (dk_at dksX4_repair_7 1 rfl rfl)
theorem dX4_repair_168 : decode cX4_repair 168 = .ok (.sipush 179, 3) := dk_17 0 179 (dk_at dksX4_repair_7 4 rfl rfl)
theorem dX4_repair_171 : decode cX4_repair 171 = .ok (.iload 4, 2) := dk_21 4 (dk_at dksX4_repair_7 7 rfl rfl)
theorem dX4_repair_173 : decode cX4_repair 173 = .ok (.iadd, 1) := dk_96 (dk_at dksX4_repair_7 9 rfl rfl)
theorem dX4_repair_174 : decode cX4_repair 174 = .ok (.iload 5, 2) := dk_21 5 (dk_at dksX4_repair_7 10 rfl rfl)
theorem dX4_repair_176 : decode cX4_repair 176 = .ok (.iastore, 1) := dk_79 (dk_at dksX4_repair_7 12 rfl rfl)
theorem dX4_repair_177 : decode cX4_repair 177 = .ok (.iinc 4 1, 3) := dk_132 4 1 (dk_at dksX4_repair_7 13 rfl rfl)
theorem dX4_repair_180 : decode cX4_repair 180 = .ok (.goto (-107), 3) := dk_167 255 149 (dk_at dksX4_repair_7 16 rfl rfl)
theorem dX4_repair_183 : decode cX4_repair 183 = .ok (.aload_n 0, 1) := dk_42 (dk_at dksX4_repair_7 19 rfl rfl)
theorem dX4_repair_184 : decode cX4_repair 184 = .ok (.iload_n 2, 1) := dk_28 (dk_at dksX4_repair_7 20 rfl rfl)
theorem dX4_repair_185 : decode cX4_repair 185 = .ok (.iload_n 1, 1) := dk_27 (dk_at dksX4_repair_7 21 rfl rfl)
theorem dX4_repair_186 : decode cX4_repair 186 = .ok (.invokevirtual 241, 3) := dk_182 0 241 (dk_at dksX4_repair_8 0 rfl rfl)
theorem dX4_repair_189 : decode cX4_repair 189 = .ok (.aload_n 0, 1) := dk_42 (dk_at dksX4_repair_8 3 rfl rfl)
theorem dX4_repair_190 : decode cX4_repair 190 = .ok (.invokevirtual 188, 3) := dk_182 0 188 (dk_at dksX4_repair_8 4 rfl rfl)
theorem dX4_repair_193 : decode cX4_repair 193 = .ok (.ireturn, 1) := dk_172 (dk_at dksX4_repair_8 7 rfl rfl)
abbrev cX4_best : ByteArray := prog_19_method_69_code
def yX4_best : MethodName := ⟨RX4, "best", "(I)I"⟩
def dkwX4_best_1 : List UInt8 := [172, 42, 27, 182, 0, 252, 42, 180, 0, 246, 172]
abbrev dktX4_best_1 : List UInt8 := dkwX4_best_1 ++ []
def dkwX4_best_0 : List UInt8 := [42, 27, 184, 0, 122, 153, 0, 7, 3, 167, 0, 4, 4, 181, 0, 79, 42, 180, 0, 79, 158, 0, 5, 3]
abbrev dktX4_best_0 : List UInt8 := dkwX4_best_0 ++ dktX4_best_1
theorem dksX4_best_0 : cX4_best.data.toList.drop 0 = dktX4_best_0 := by decide +kernel
theorem dksX4_best_1 : cX4_best.data.toList.drop 24 = dktX4_best_1 := dk_seg dksX4_best_0 24 rfl rfl
theorem dX4_best_0 : decode cX4_best 0 = .ok (.aload_n 0, 1) := dk_42 (dk_at dksX4_best_0 0 rfl rfl)
theorem dX4_best_1 : decode cX4_best 1 = .ok (.iload_n 1, 1) := dk_27 (dk_at dksX4_best_0 1 rfl rfl)
theorem dX4_best_2 : decode cX4_best 2 = .ok (.invokestatic 122, 3) := dk_184 0 122 (dk_at dksX4_best_0 2 rfl rfl)
theorem dX4_best_5 : decode cX4_best 5 = .ok (.ifCond .eq 7, 3) := dk_153 0 7 (dk_at dksX4_best_0 5 rfl rfl)
theorem dX4_best_8 : decode cX4_best 8 = .ok (.iconst 0, 1) := dk_3 (dk_at dksX4_best_0 8 rfl rfl)
theorem dX4_best_9 : decode cX4_best 9 = .ok (.goto 4, 3) := dk_167 0 4 (dk_at dksX4_best_0 9 rfl rfl)
theorem dX4_best_12 : decode cX4_best 12 = .ok (.iconst 1, 1) := dk_4 (dk_at dksX4_best_0 12 rfl rfl)
theorem dX4_best_13 : decode cX4_best 13 = .ok (.putfield 79, 3) := dk_181 0 79 (dk_at dksX4_best_0 13 rfl rfl)
theorem dX4_best_16 : decode cX4_best 16 = .ok (.aload_n 0, 1) := dk_42 (dk_at dksX4_best_0 16 rfl rfl)
theorem dX4_best_17 : decode cX4_best 17 = .ok (.getfield 79, 3) := dk_180 0 79 (dk_at dksX4_best_0 17 rfl rfl)
theorem dX4_best_20 : decode cX4_best 20 = .ok (.ifCond .le 5, 3) := dk_158 0 5 (dk_at dksX4_best_0 20 rfl rfl)
theorem dX4_best_23 : decode cX4_best 23 = .ok (.iconst 0, 1) := dk_3 (dk_at dksX4_best_0 23 rfl rfl)
theorem dX4_best_24 : decode cX4_best 24 = .ok (.ireturn, 1) := dk_172 (dk_at dksX4_best_1 0 rfl rfl)
theorem dX4_best_25 : decode cX4_best 25 = .ok (.aload_n 0, 1) := dk_42 (dk_at dksX4_best_1 1 rfl rfl)
theorem dX4_best_26 : decode cX4_best 26 = .ok (.iload_n 1, 1) := dk_27 (dk_at dksX4_best_1 2 rfl rfl)
theorem dX4_best_27 : decode cX4_best 27 = .ok (.invokevirtual 252, 3) := dk_182 0 252 (dk_at dksX4_best_1 3 rfl rfl)
theorem dX4_best_30 : decode cX4_best 30 = .ok (.aload_n 0, 1) := dk_42 (dk_at dksX4_best_1 6 rfl rfl)
theorem dX4_best_31 : decode cX4_best 31 = .ok (.getfield 246, 3) := dk_180 0 246 (dk_at dksX4_best_1 7 rfl rfl)
theorem dX4_best_34 : decode cX4_best 34 = .ok (.ireturn, 1) := dk_172 (dk_at dksX4_best_1 10 rfl rfl)
abbrev cX4_findBest : ByteArray := prog_19_method_67_code
def yX4_findBest : MethodName := ⟨RX4, "findBest", "(I)V"⟩
def dkwX4_findBest_3 : List UInt8 := [177]
abbrev dktX4_findBest_3 : List UInt8 := dkwX4_findBest_3 ++ []
def dkwX4_findBest_2 : List UInt8 := [62, 29, 28, 162, 0, 21, 42, 27, 29, 42, 180, 0, 55, 29, 46, 182, 0, 114, 132, 3, 1, 167, 255, 236]
abbrev dktX4_findBest_2 : List UInt8 := dkwX4_findBest_2 ++ dktX4_findBest_3
def dkwX4_findBest_1 : List UInt8 := [27, 29, 182, 0, 142, 79, 132, 3, 1, 167, 255, 236, 42, 2, 181, 0, 246, 42, 27, 3, 182, 0, 249, 3]
abbrev dktX4_findBest_1 : List UInt8 := dkwX4_findBest_1 ++ dktX4_findBest_2
def dkwX4_findBest_0 : List UInt8 := [42, 180, 0, 9, 17, 0, 179, 27, 96, 46, 61, 3, 62, 29, 28, 162, 0, 21, 42, 180, 0, 55, 29, 42]
abbrev dktX4_findBest_0 : List UInt8 := dkwX4_findBest_0 ++ dktX4_findBest_1
theorem dksX4_findBest_0 : cX4_findBest.data.toList.drop 0 = dktX4_findBest_0 := by decide +kernel
theorem dksX4_findBest_1 : cX4_findBest.data.toList.drop 24 = dktX4_findBest_1 := dk_seg dksX4_findBest_0 24 rfl rfl
theorem dksX4_findBest_2 : cX4_findBest.data.toList.drop 48 = dktX4_findBest_2 := dk_seg dksX4_findBest_1 24 rfl rfl
theorem dksX4_findBest_3 : cX4_findBest.data.toList.drop 72 = dktX4_findBest_3 := dk_seg dksX4_findBest_2 24 rfl rfl
theorem dX4_findBest_0 : decode cX4_findBest 0 = .ok (.aload_n 0, 1) := dk_42 (dk_at dksX4_findBest_0 0 rfl rfl)
theorem dX4_findBest_1 : decode cX4_findBest 1 = .ok (.getfield 9, 3) := dk_180 0 9 (dk_at dksX4_findBest_0 1 rfl rfl)
theorem dX4_findBest_4 : decode cX4_findBest 4 = .ok (.sipush 179, 3) := dk_17 0 179 (dk_at dksX4_findBest_0 4 rfl rfl)
theorem dX4_findBest_7 : decode cX4_findBest 7 = .ok (.iload_n 1, 1) := dk_27 (dk_at dksX4_findBest_0 7 rfl rfl)
theorem dX4_findBest_8 : decode cX4_findBest 8 = .ok (.iadd, 1) := dk_96 (dk_at dksX4_findBest_0 8 rfl rfl)
theorem dX4_findBest_9 : decode cX4_findBest 9 = .ok (.iaload, 1) := dk_46 (dk_at dksX4_findBest_0 9 rfl rfl)
theorem dX4_findBest_10 : decode cX4_findBest 10 = .ok (.istore_n 2, 1) := dk_61 (dk_at dksX4_findBest_0 10 rfl rfl)
theorem dX4_findBest_11 : decode cX4_findBest 11 = .ok (.iconst 0, 1) := dk_3 (dk_at dksX4_findBest_0 11 rfl rfl)
theorem dX4_findBest_12 : decode cX4_findBest 12 = .ok (.istore_n 3, 1) := dk_62 (dk_at dksX4_findBest_0 12 rfl rfl)
theorem dX4_findBest_13 : decode cX4_findBest 13 = .ok (.iload_n 3, 1) := dk_29 (dk_at dksX4_findBest_0 13 rfl rfl)
theorem dX4_findBest_14 : decode cX4_findBest 14 = .ok (.iload_n 2, 1) := dk_28 (dk_at dksX4_findBest_0 14 rfl rfl)
theorem dX4_findBest_15 : decode cX4_findBest 15 = .ok (.if_icmp .ge 21, 3) := dk_162 0 21 (dk_at dksX4_findBest_0 15 rfl rfl)
theorem dX4_findBest_18 : decode cX4_findBest 18 = .ok (.aload_n 0, 1) := dk_42 (dk_at dksX4_findBest_0 18 rfl rfl)
theorem dX4_findBest_19 : decode cX4_findBest 19 = .ok (.getfield 55, 3) := dk_180 0 55 (dk_at dksX4_findBest_0 19 rfl rfl)
theorem dX4_findBest_22 : decode cX4_findBest 22 = .ok (.iload_n 3, 1) := dk_29 (dk_at dksX4_findBest_0 22 rfl rfl)
theorem dX4_findBest_23 : decode cX4_findBest 23 = .ok (.aload_n 0, 1) := dk_42 (dk_at dksX4_findBest_0 23 rfl rfl)
theorem dX4_findBest_24 : decode cX4_findBest 24 = .ok (.iload_n 1, 1) := dk_27 (dk_at dksX4_findBest_1 0 rfl rfl)
theorem dX4_findBest_25 : decode cX4_findBest 25 = .ok (.iload_n 3, 1) := dk_29 (dk_at dksX4_findBest_1 1 rfl rfl)
theorem dX4_findBest_26 : decode cX4_findBest 26 = .ok (.invokevirtual 142, 3) := dk_182 0 142 (dk_at dksX4_findBest_1 2 rfl rfl)
theorem dX4_findBest_29 : decode cX4_findBest 29 = .ok (.iastore, 1) := dk_79 (dk_at dksX4_findBest_1 5 rfl rfl)
theorem dX4_findBest_30 : decode cX4_findBest 30 = .ok (.iinc 3 1, 3) := dk_132 3 1 (dk_at dksX4_findBest_1 6 rfl rfl)
theorem dX4_findBest_33 : decode cX4_findBest 33 = .ok (.goto (-20), 3) := dk_167 255 236 (dk_at dksX4_findBest_1 9 rfl rfl)
theorem dX4_findBest_36 : decode cX4_findBest 36 = .ok (.aload_n 0, 1) := dk_42 (dk_at dksX4_findBest_1 12 rfl rfl)
theorem dX4_findBest_37 : decode cX4_findBest 37 = .ok (.iconst (-1), 1) := dk_2 (dk_at dksX4_findBest_1 13 rfl rfl)
theorem dX4_findBest_38 : decode cX4_findBest 38 = .ok (.putfield 246, 3) := dk_181 0 246 (dk_at dksX4_findBest_1 14 rfl rfl)
theorem dX4_findBest_41 : decode cX4_findBest 41 = .ok (.aload_n 0, 1) := dk_42 (dk_at dksX4_findBest_1 17 rfl rfl)
theorem dX4_findBest_42 : decode cX4_findBest 42 = .ok (.iload_n 1, 1) := dk_27 (dk_at dksX4_findBest_1 18 rfl rfl)
theorem dX4_findBest_43 : decode cX4_findBest 43 = .ok (.iconst 0, 1) := dk_3 (dk_at dksX4_findBest_1 19 rfl rfl)
theorem dX4_findBest_44 : decode cX4_findBest 44 = .ok (.invokevirtual 249, 3) := dk_182 0 249 (dk_at dksX4_findBest_1 20 rfl rfl)
theorem dX4_findBest_47 : decode cX4_findBest 47 = .ok (.iconst 0, 1) := dk_3 (dk_at dksX4_findBest_1 23 rfl rfl)
theorem dX4_findBest_48 : decode cX4_findBest 48 = .ok (.istore_n 3, 1) := dk_62 (dk_at dksX4_findBest_2 0 rfl rfl)
theorem dX4_findBest_49 : decode cX4_findBest 49 = .ok (.iload_n 3, 1) := dk_29 (dk_at dksX4_findBest_2 1 rfl rfl)
theorem dX4_findBest_50 : decode cX4_findBest 50 = .ok (.iload_n 2, 1) := dk_28 (dk_at dksX4_findBest_2 2 rfl rfl)
theorem dX4_findBest_51 : decode cX4_findBest 51 = .ok (.if_icmp .ge 21, 3) := dk_162 0 21 (dk_at dksX4_findBest_2 3 rfl rfl)
theorem dX4_findBest_54 : decode cX4_findBest 54 = .ok (.aload_n 0, 1) := dk_42 (dk_at dksX4_findBest_2 6 rfl rfl)
theorem dX4_findBest_55 : decode cX4_findBest 55 = .ok (.iload_n 1, 1) := dk_27 (dk_at dksX4_findBest_2 7 rfl rfl)
theorem dX4_findBest_56 : decode cX4_findBest 56 = .ok (.iload_n 3, 1) := dk_29 (dk_at dksX4_findBest_2 8 rfl rfl)
theorem dX4_findBest_57 : decode cX4_findBest 57 = .ok (.aload_n 0, 1) := dk_42 (dk_at dksX4_findBest_2 9 rfl rfl)
theorem dX4_findBest_58 : decode cX4_findBest 58 = .ok (.getfield 55, 3) := dk_180 0 55 (dk_at dksX4_findBest_2 10 rfl rfl)
theorem dX4_findBest_61 : decode cX4_findBest 61 = .ok (.iload_n 3, 1) := dk_29 (dk_at dksX4_findBest_2 13 rfl rfl)
theorem dX4_findBest_62 : decode cX4_findBest 62 = .ok (.iaload, 1) := dk_46 (dk_at dksX4_findBest_2 14 rfl rfl)
theorem dX4_findBest_63 : decode cX4_findBest 63 = .ok (.invokevirtual 114, 3) := dk_182 0 114 (dk_at dksX4_findBest_2 15 rfl rfl)
theorem dX4_findBest_66 : decode cX4_findBest 66 = .ok (.iinc 3 1, 3) := dk_132 3 1 (dk_at dksX4_findBest_2 18 rfl rfl)
theorem dX4_findBest_69 : decode cX4_findBest 69 = .ok (.goto (-20), 3) := dk_167 255 236 (dk_at dksX4_findBest_2 21 rfl rfl)
theorem dX4_findBest_72 : decode cX4_findBest 72 = .ok (.return_, 1) := dk_177 (dk_at dksX4_findBest_3 0 rfl rfl)
abbrev cX4_tryOrders : ByteArray := prog_19_method_66_code
def yX4_tryOrders : MethodName := ⟨RX4, "tryOrders", "(II)V"⟩
def dkwX4_tryOrders_6 : List UInt8 := [182, 0, 249, 42, 180, 0, 52, 21, 4, 3, 84, 132, 4, 1, 167, 255, 186, 177]
abbrev dktX4_tryOrders_6 : List UInt8 := dkwX4_tryOrders_6 ++ []
def dkwX4_tryOrders_5 : List UInt8 := [154, 0, 35, 42, 180, 0, 52, 21, 4, 4, 84, 42, 27, 28, 21, 4, 182, 0, 114, 42, 27, 28, 4, 96]
abbrev dktX4_tryOrders_5 : List UInt8 := dkwX4_tryOrders_5 ++ dktX4_tryOrders_6
def dkwX4_tryOrders_4 : List UInt8 := [162, 0, 65, 42, 180, 0, 9, 16, 62, 21, 4, 96, 46, 27, 160, 0, 45, 42, 180, 0, 52, 21, 4, 51]
abbrev dktX4_tryOrders_4 : List UInt8 := dkwX4_tryOrders_4 ++ dktX4_tryOrders_5
def dkwX4_tryOrders_3 : List UInt8 := [182, 0, 142, 79, 132, 5, 1, 167, 255, 233, 177, 3, 54, 4, 21, 4, 42, 180, 0, 9, 4, 46]
abbrev dktX4_tryOrders_3 : List UInt8 := dkwX4_tryOrders_3 ++ dktX4_tryOrders_4
def dkwX4_tryOrders_2 : List UInt8 := [181, 0, 246, 3, 54, 5, 21, 5, 29, 162, 0, 23, 42, 180, 0, 49, 21, 5, 42, 27, 21, 5]
abbrev dktX4_tryOrders_2 : List UInt8 := dkwX4_tryOrders_2 ++ dktX4_tryOrders_3
def dkwX4_tryOrders_1 : List UInt8 := [155, 0, 54, 42, 180, 0, 246, 155, 0, 12, 21, 4, 42, 180, 0, 246, 162, 0, 38, 42, 21, 4]
abbrev dktX4_tryOrders_1 : List UInt8 := dkwX4_tryOrders_1 ++ dktX4_tryOrders_2
def dkwX4_tryOrders_0 : List UInt8 := [42, 180, 0, 9, 17, 0, 179, 27, 96, 46, 62, 28, 29, 160, 0, 66, 42, 182, 0, 188, 54, 4, 21, 4]
abbrev dktX4_tryOrders_0 : List UInt8 := dkwX4_tryOrders_0 ++ dktX4_tryOrders_1
theorem dksX4_tryOrders_0 : cX4_tryOrders.data.toList.drop 0 = dktX4_tryOrders_0 := by decide +kernel
theorem dksX4_tryOrders_1 : cX4_tryOrders.data.toList.drop 24 = dktX4_tryOrders_1 := dk_seg dksX4_tryOrders_0 24 rfl rfl
theorem dksX4_tryOrders_2 : cX4_tryOrders.data.toList.drop 46 = dktX4_tryOrders_2 := dk_seg dksX4_tryOrders_1 22 rfl rfl
theorem dksX4_tryOrders_3 : cX4_tryOrders.data.toList.drop 68 = dktX4_tryOrders_3 := dk_seg dksX4_tryOrders_2 22 rfl rfl
theorem dksX4_tryOrders_4 : cX4_tryOrders.data.toList.drop 90 = dktX4_tryOrders_4 := dk_seg dksX4_tryOrders_3 22 rfl rfl
theorem dksX4_tryOrders_5 : cX4_tryOrders.data.toList.drop 114 = dktX4_tryOrders_5 := dk_seg dksX4_tryOrders_4 24 rfl rfl
theorem dksX4_tryOrders_6 : cX4_tryOrders.data.toList.drop 138 = dktX4_tryOrders_6 := dk_seg dksX4_tryOrders_5 24 rfl rfl
theorem dX4_tryOrders_0 : decode cX4_tryOrders 0 = .ok (.aload_n 0, 1) := dk_42 (dk_at dksX4_tryOrders_0 0 rfl rfl)
theorem dX4_tryOrders_1 : decode cX4_tryOrders 1 = .ok (.getfield 9, 3) := dk_180 0 9 (dk_at dksX4_tryOrders_0 1 rfl rfl)
theorem dX4_tryOrders_4 : decode cX4_tryOrders 4 = .ok (.sipush 179, 3) := dk_17 0 179 (dk_at dksX4_tryOrders_0 4 rfl rfl)
theorem dX4_tryOrders_7 : decode cX4_tryOrders 7 = .ok (.iload_n 1, 1) := dk_27 (dk_at dksX4_tryOrders_0 7 rfl rfl)
theorem dX4_tryOrders_8 : decode cX4_tryOrders 8 = .ok (.iadd, 1) := dk_96 (dk_at dksX4_tryOrders_0 8 rfl rfl)
theorem dX4_tryOrders_9 : decode cX4_tryOrders 9 = .ok (.iaload, 1) := dk_46 (dk_at dksX4_tryOrders_0 9 rfl rfl)
theorem dX4_tryOrders_10 : decode cX4_tryOrders 10 = .ok (.istore_n 3, 1) := dk_62 (dk_at dksX4_tryOrders_0 10 rfl rfl)
theorem dX4_tryOrders_11 : decode cX4_tryOrders 11 = .ok (.iload_n 2, 1) := dk_28 (dk_at dksX4_tryOrders_0 11 rfl rfl)
theorem dX4_tryOrders_12 : decode cX4_tryOrders 12 = .ok (.iload_n 3, 1) := dk_29 (dk_at dksX4_tryOrders_0 12 rfl rfl)
theorem dX4_tryOrders_13 : decode cX4_tryOrders 13 = .ok (.if_icmp .ne 66, 3) := dk_160 0 66 (dk_at dksX4_tryOrders_0 13 rfl rfl)
theorem dX4_tryOrders_16 : decode cX4_tryOrders 16 = .ok (.aload_n 0, 1) := dk_42 (dk_at dksX4_tryOrders_0 16 rfl rfl)
theorem dX4_tryOrders_17 : decode cX4_tryOrders 17 = .ok (.invokevirtual 188, 3) := dk_182 0 188 (dk_at dksX4_tryOrders_0 17 rfl rfl)
theorem dX4_tryOrders_20 : decode cX4_tryOrders 20 = .ok (.istore 4, 2) := dk_54 4 (dk_at dksX4_tryOrders_0 20 rfl rfl)
theorem dX4_tryOrders_22 : decode cX4_tryOrders 22 = .ok (.iload 4, 2) := dk_21 4 (dk_at dksX4_tryOrders_0 22 rfl rfl)
theorem dX4_tryOrders_24 : decode cX4_tryOrders 24 = .ok (.ifCond .lt 54, 3) := dk_155 0 54 (dk_at dksX4_tryOrders_1 0 rfl rfl)
theorem dX4_tryOrders_27 : decode cX4_tryOrders 27 = .ok (.aload_n 0, 1) := dk_42 (dk_at dksX4_tryOrders_1 3 rfl rfl)
theorem dX4_tryOrders_28 : decode cX4_tryOrders 28 = .ok (.getfield 246, 3) := dk_180 0 246 (dk_at dksX4_tryOrders_1 4 rfl rfl)
theorem dX4_tryOrders_31 : decode cX4_tryOrders 31 = .ok (.ifCond .lt 12, 3) := dk_155 0 12 (dk_at dksX4_tryOrders_1 7 rfl rfl)
theorem dX4_tryOrders_34 : decode cX4_tryOrders 34 = .ok (.iload 4, 2) := dk_21 4 (dk_at dksX4_tryOrders_1 10 rfl rfl)
theorem dX4_tryOrders_36 : decode cX4_tryOrders 36 = .ok (.aload_n 0, 1) := dk_42 (dk_at dksX4_tryOrders_1 12 rfl rfl)
theorem dX4_tryOrders_37 : decode cX4_tryOrders 37 = .ok (.getfield 246, 3) := dk_180 0 246 (dk_at dksX4_tryOrders_1 13 rfl rfl)
theorem dX4_tryOrders_40 : decode cX4_tryOrders 40 = .ok (.if_icmp .ge 38, 3) := dk_162 0 38 (dk_at dksX4_tryOrders_1 16 rfl rfl)
theorem dX4_tryOrders_43 : decode cX4_tryOrders 43 = .ok (.aload_n 0, 1) := dk_42 (dk_at dksX4_tryOrders_1 19 rfl rfl)
theorem dX4_tryOrders_44 : decode cX4_tryOrders 44 = .ok (.iload 4, 2) := dk_21 4 (dk_at dksX4_tryOrders_1 20 rfl rfl)
theorem dX4_tryOrders_46 : decode cX4_tryOrders 46 = .ok (.putfield 246, 3) := dk_181 0 246 (dk_at dksX4_tryOrders_2 0 rfl rfl)
theorem dX4_tryOrders_49 : decode cX4_tryOrders 49 = .ok (.iconst 0, 1) := dk_3 (dk_at dksX4_tryOrders_2 3 rfl rfl)
theorem dX4_tryOrders_50 : decode cX4_tryOrders 50 = .ok (.istore 5, 2) := dk_54 5 (dk_at dksX4_tryOrders_2 4 rfl rfl)
theorem dX4_tryOrders_52 : decode cX4_tryOrders 52 = .ok (.iload 5, 2) := dk_21 5 (dk_at dksX4_tryOrders_2 6 rfl rfl)
theorem dX4_tryOrders_54 : decode cX4_tryOrders 54 = .ok (.iload_n 3, 1) := dk_29 (dk_at dksX4_tryOrders_2 8 rfl rfl)
theorem dX4_tryOrders_55 : decode cX4_tryOrders 55 = .ok (.if_icmp .ge 23, 3) := dk_162 0 23 (dk_at dksX4_tryOrders_2 9 rfl rfl)
theorem dX4_tryOrders_58 : decode cX4_tryOrders 58 = .ok (.aload_n 0, 1) := dk_42 (dk_at dksX4_tryOrders_2 12 rfl rfl)
theorem dX4_tryOrders_59 : decode cX4_tryOrders 59 = .ok (.getfield 49, 3) := dk_180 0 49 (dk_at dksX4_tryOrders_2 13 rfl rfl)
theorem dX4_tryOrders_62 : decode cX4_tryOrders 62 = .ok (.iload 5, 2) := dk_21 5 (dk_at dksX4_tryOrders_2 16 rfl rfl)
theorem dX4_tryOrders_64 : decode cX4_tryOrders 64 = .ok (.aload_n 0, 1) := dk_42 (dk_at dksX4_tryOrders_2 18 rfl rfl)
theorem dX4_tryOrders_65 : decode cX4_tryOrders 65 = .ok (.iload_n 1, 1) := dk_27 (dk_at dksX4_tryOrders_2 19 rfl rfl)
theorem dX4_tryOrders_66 : decode cX4_tryOrders 66 = .ok (.iload 5, 2) := dk_21 5 (dk_at dksX4_tryOrders_2 20 rfl rfl)
theorem dX4_tryOrders_68 : decode cX4_tryOrders 68 = .ok (.invokevirtual 142, 3) := dk_182 0 142 (dk_at dksX4_tryOrders_3 0 rfl rfl)
theorem dX4_tryOrders_71 : decode cX4_tryOrders 71 = .ok (.iastore, 1) := dk_79 (dk_at dksX4_tryOrders_3 3 rfl rfl)
theorem dX4_tryOrders_72 : decode cX4_tryOrders 72 = .ok (.iinc 5 1, 3) := dk_132 5 1 (dk_at dksX4_tryOrders_3 4 rfl rfl)
theorem dX4_tryOrders_75 : decode cX4_tryOrders 75 = .ok (.goto (-23), 3) := dk_167 255 233 (dk_at dksX4_tryOrders_3 7 rfl rfl)
theorem dX4_tryOrders_78 : decode cX4_tryOrders 78 = .ok (.return_, 1) := dk_177 (dk_at dksX4_tryOrders_3 10 rfl rfl)
theorem dX4_tryOrders_79 : decode cX4_tryOrders 79 = .ok (.iconst 0, 1) := dk_3 (dk_at dksX4_tryOrders_3 11 rfl rfl)
theorem dX4_tryOrders_80 : decode cX4_tryOrders 80 = .ok (.istore 4, 2) := dk_54 4 (dk_at dksX4_tryOrders_3 12 rfl rfl)
theorem dX4_tryOrders_82 : decode cX4_tryOrders 82 = .ok (.iload 4, 2) := dk_21 4 (dk_at dksX4_tryOrders_3 14 rfl rfl)
theorem dX4_tryOrders_84 : decode cX4_tryOrders 84 = .ok (.aload_n 0, 1) := dk_42 (dk_at dksX4_tryOrders_3 16 rfl rfl)
theorem dX4_tryOrders_85 : decode cX4_tryOrders 85 = .ok (.getfield 9, 3) := dk_180 0 9 (dk_at dksX4_tryOrders_3 17 rfl rfl)
theorem dX4_tryOrders_88 : decode cX4_tryOrders 88 = .ok (.iconst 1, 1) := dk_4 (dk_at dksX4_tryOrders_3 20 rfl rfl)
theorem dX4_tryOrders_89 : decode cX4_tryOrders 89 = .ok (.iaload, 1) := dk_46 (dk_at dksX4_tryOrders_3 21 rfl rfl)
theorem dX4_tryOrders_90 : decode cX4_tryOrders 90 = .ok (.if_icmp .ge 65, 3) := dk_162 0 65 (dk_at dksX4_tryOrders_4 0 rfl rfl)
theorem dX4_tryOrders_93 : decode cX4_tryOrders 93 = .ok (.aload_n 0, 1) := dk_42 (dk_at dksX4_tryOrders_4 3 rfl rfl)
theorem dX4_tryOrders_94 : decode cX4_tryOrders 94 = .ok (.getfield 9, 3) := dk_180 0 9 (dk_at dksX4_tryOrders_4 4 rfl rfl)
theorem dX4_tryOrders_97 : decode cX4_tryOrders 97 = .ok (.bipush 62, 2) := dk_16 62 (dk_at dksX4_tryOrders_4 7 rfl rfl)
theorem dX4_tryOrders_99 : decode cX4_tryOrders 99 = .ok (.iload 4, 2) := dk_21 4 (dk_at dksX4_tryOrders_4 9 rfl rfl)
theorem dX4_tryOrders_101 : decode cX4_tryOrders 101 = .ok (.iadd, 1) := dk_96 (dk_at dksX4_tryOrders_4 11 rfl rfl)
theorem dX4_tryOrders_102 : decode cX4_tryOrders 102 = .ok (.iaload, 1) := dk_46 (dk_at dksX4_tryOrders_4 12 rfl rfl)
theorem dX4_tryOrders_103 : decode cX4_tryOrders 103 = .ok (.iload_n 1, 1) := dk_27 (dk_at dksX4_tryOrders_4 13 rfl rfl)
theorem dX4_tryOrders_104 : decode cX4_tryOrders 104 = .ok (.if_icmp .ne 45, 3) := dk_160 0 45 (dk_at dksX4_tryOrders_4 14 rfl rfl)
theorem dX4_tryOrders_107 : decode cX4_tryOrders 107 = .ok (.aload_n 0, 1) := dk_42 (dk_at dksX4_tryOrders_4 17 rfl rfl)
theorem dX4_tryOrders_108 : decode cX4_tryOrders 108 = .ok (.getfield 52, 3) := dk_180 0 52 (dk_at dksX4_tryOrders_4 18 rfl rfl)
theorem dX4_tryOrders_111 : decode cX4_tryOrders 111 = .ok (.iload 4, 2) := dk_21 4 (dk_at dksX4_tryOrders_4 21 rfl rfl)
theorem dX4_tryOrders_113 : decode cX4_tryOrders 113 = .ok (.baload, 1) := dk_51 (dk_at dksX4_tryOrders_4 23 rfl rfl)
theorem dX4_tryOrders_114 : decode cX4_tryOrders 114 = .ok (.ifCond .ne 35, 3) := dk_154 0 35 (dk_at dksX4_tryOrders_5 0 rfl rfl)
theorem dX4_tryOrders_117 : decode cX4_tryOrders 117 = .ok (.aload_n 0, 1) := dk_42 (dk_at dksX4_tryOrders_5 3 rfl rfl)
theorem dX4_tryOrders_118 : decode cX4_tryOrders 118 = .ok (.getfield 52, 3) := dk_180 0 52 (dk_at dksX4_tryOrders_5 4 rfl rfl)
theorem dX4_tryOrders_121 : decode cX4_tryOrders 121 = .ok (.iload 4, 2) := dk_21 4 (dk_at dksX4_tryOrders_5 7 rfl rfl)
theorem dX4_tryOrders_123 : decode cX4_tryOrders 123 = .ok (.iconst 1, 1) := dk_4 (dk_at dksX4_tryOrders_5 9 rfl rfl)
theorem dX4_tryOrders_124 : decode cX4_tryOrders 124 = .ok (.bastore, 1) := dk_84 (dk_at dksX4_tryOrders_5 10 rfl rfl)
theorem dX4_tryOrders_125 : decode cX4_tryOrders 125 = .ok (.aload_n 0, 1) := dk_42 (dk_at dksX4_tryOrders_5 11 rfl rfl)
theorem dX4_tryOrders_126 : decode cX4_tryOrders 126 = .ok (.iload_n 1, 1) := dk_27 (dk_at dksX4_tryOrders_5 12 rfl rfl)
theorem dX4_tryOrders_127 : decode cX4_tryOrders 127 = .ok (.iload_n 2, 1) := dk_28 (dk_at dksX4_tryOrders_5 13 rfl rfl)
theorem dX4_tryOrders_128 : decode cX4_tryOrders 128 = .ok (.iload 4, 2) := dk_21 4 (dk_at dksX4_tryOrders_5 14 rfl rfl)
theorem dX4_tryOrders_130 : decode cX4_tryOrders 130 = .ok (.invokevirtual 114, 3) := dk_182 0 114 (dk_at dksX4_tryOrders_5 16 rfl rfl)
theorem dX4_tryOrders_133 : decode cX4_tryOrders 133 = .ok (.aload_n 0, 1) := dk_42 (dk_at dksX4_tryOrders_5 19 rfl rfl)
theorem dX4_tryOrders_134 : decode cX4_tryOrders 134 = .ok (.iload_n 1, 1) := dk_27 (dk_at dksX4_tryOrders_5 20 rfl rfl)
theorem dX4_tryOrders_135 : decode cX4_tryOrders 135 = .ok (.iload_n 2, 1) := dk_28 (dk_at dksX4_tryOrders_5 21 rfl rfl)
theorem dX4_tryOrders_136 : decode cX4_tryOrders 136 = .ok (.iconst 1, 1) := dk_4 (dk_at dksX4_tryOrders_5 22 rfl rfl)
theorem dX4_tryOrders_137 : decode cX4_tryOrders 137 = .ok (.iadd, 1) := dk_96 (dk_at dksX4_tryOrders_5 23 rfl rfl)
theorem dX4_tryOrders_138 : decode cX4_tryOrders 138 = .ok (.invokevirtual 249, 3) := dk_182 0 249 (dk_at dksX4_tryOrders_6 0 rfl rfl)
theorem dX4_tryOrders_141 : decode cX4_tryOrders 141 = .ok (.aload_n 0, 1) := dk_42 (dk_at dksX4_tryOrders_6 3 rfl rfl)
theorem dX4_tryOrders_142 : decode cX4_tryOrders 142 = .ok (.getfield 52, 3) := dk_180 0 52 (dk_at dksX4_tryOrders_6 4 rfl rfl)
theorem dX4_tryOrders_145 : decode cX4_tryOrders 145 = .ok (.iload 4, 2) := dk_21 4 (dk_at dksX4_tryOrders_6 7 rfl rfl)
theorem dX4_tryOrders_147 : decode cX4_tryOrders 147 = .ok (.iconst 0, 1) := dk_3 (dk_at dksX4_tryOrders_6 9 rfl rfl)
theorem dX4_tryOrders_148 : decode cX4_tryOrders 148 = .ok (.bastore, 1) := dk_84 (dk_at dksX4_tryOrders_6 10 rfl rfl)
theorem dX4_tryOrders_149 : decode cX4_tryOrders 149 = .ok (.iinc 4 1, 3) := dk_132 4 1 (dk_at dksX4_tryOrders_6 11 rfl rfl)
theorem dX4_tryOrders_152 : decode cX4_tryOrders 152 = .ok (.goto (-70), 3) := dk_167 255 186 (dk_at dksX4_tryOrders_6 14 rfl rfl)
theorem dX4_tryOrders_155 : decode cX4_tryOrders 155 = .ok (.return_, 1) := dk_177 (dk_at dksX4_tryOrders_6 17 rfl rfl)
abbrev cX4_reoptimize : ByteArray := prog_19_method_70_code
def yX4_reoptimize : MethodName := ⟨RX4, "reoptimize", "(I)I"⟩
def dkwX4_reoptimize_1 : List UInt8 := [172, 42, 27, 182, 0, 252, 42, 27, 182, 0, 255, 172]
abbrev dktX4_reoptimize_1 : List UInt8 := dkwX4_reoptimize_1 ++ []
def dkwX4_reoptimize_0 : List UInt8 := [42, 27, 184, 0, 122, 153, 0, 7, 3, 167, 0, 4, 4, 181, 0, 79, 42, 180, 0, 79, 158, 0, 5, 3]
abbrev dktX4_reoptimize_0 : List UInt8 := dkwX4_reoptimize_0 ++ dktX4_reoptimize_1
theorem dksX4_reoptimize_0 : cX4_reoptimize.data.toList.drop 0 = dktX4_reoptimize_0 := by decide +kernel
theorem dksX4_reoptimize_1 : cX4_reoptimize.data.toList.drop 24 = dktX4_reoptimize_1 := dk_seg dksX4_reoptimize_0 24 rfl rfl
theorem dX4_reoptimize_0 : decode cX4_reoptimize 0 = .ok (.aload_n 0, 1) := dk_42 (dk_at dksX4_reoptimize_0 0 rfl rfl)
theorem dX4_reoptimize_1 : decode cX4_reoptimize 1 = .ok (.iload_n 1, 1) := dk_27 (dk_at dksX4_reoptimize_0 1 rfl rfl)
theorem dX4_reoptimize_2 : decode cX4_reoptimize 2 = .ok (.invokestatic 122, 3) := dk_184 0 122 (dk_at dksX4_reoptimize_0 2 rfl rfl)
theorem dX4_reoptimize_5 : decode cX4_reoptimize 5 = .ok (.ifCond .eq 7, 3) := dk_153 0 7 (dk_at dksX4_reoptimize_0 5 rfl rfl)
theorem dX4_reoptimize_8 : decode cX4_reoptimize 8 = .ok (.iconst 0, 1) := dk_3 (dk_at dksX4_reoptimize_0 8 rfl rfl)
theorem dX4_reoptimize_9 : decode cX4_reoptimize 9 = .ok (.goto 4, 3) := dk_167 0 4 (dk_at dksX4_reoptimize_0 9 rfl rfl)
theorem dX4_reoptimize_12 : decode cX4_reoptimize 12 = .ok (.iconst 1, 1) := dk_4 (dk_at dksX4_reoptimize_0 12 rfl rfl)
theorem dX4_reoptimize_13 : decode cX4_reoptimize 13 = .ok (.putfield 79, 3) := dk_181 0 79 (dk_at dksX4_reoptimize_0 13 rfl rfl)
theorem dX4_reoptimize_16 : decode cX4_reoptimize 16 = .ok (.aload_n 0, 1) := dk_42 (dk_at dksX4_reoptimize_0 16 rfl rfl)
theorem dX4_reoptimize_17 : decode cX4_reoptimize 17 = .ok (.getfield 79, 3) := dk_180 0 79 (dk_at dksX4_reoptimize_0 17 rfl rfl)
theorem dX4_reoptimize_20 : decode cX4_reoptimize 20 = .ok (.ifCond .le 5, 3) := dk_158 0 5 (dk_at dksX4_reoptimize_0 20 rfl rfl)
theorem dX4_reoptimize_23 : decode cX4_reoptimize 23 = .ok (.iconst 0, 1) := dk_3 (dk_at dksX4_reoptimize_0 23 rfl rfl)
theorem dX4_reoptimize_24 : decode cX4_reoptimize 24 = .ok (.ireturn, 1) := dk_172 (dk_at dksX4_reoptimize_1 0 rfl rfl)
theorem dX4_reoptimize_25 : decode cX4_reoptimize 25 = .ok (.aload_n 0, 1) := dk_42 (dk_at dksX4_reoptimize_1 1 rfl rfl)
theorem dX4_reoptimize_26 : decode cX4_reoptimize 26 = .ok (.iload_n 1, 1) := dk_27 (dk_at dksX4_reoptimize_1 2 rfl rfl)
theorem dX4_reoptimize_27 : decode cX4_reoptimize 27 = .ok (.invokevirtual 252, 3) := dk_182 0 252 (dk_at dksX4_reoptimize_1 3 rfl rfl)
theorem dX4_reoptimize_30 : decode cX4_reoptimize 30 = .ok (.aload_n 0, 1) := dk_42 (dk_at dksX4_reoptimize_1 6 rfl rfl)
theorem dX4_reoptimize_31 : decode cX4_reoptimize 31 = .ok (.iload_n 1, 1) := dk_27 (dk_at dksX4_reoptimize_1 7 rfl rfl)
theorem dX4_reoptimize_32 : decode cX4_reoptimize 32 = .ok (.invokevirtual 255, 3) := dk_182 0 255 (dk_at dksX4_reoptimize_1 8 rfl rfl)
theorem dX4_reoptimize_35 : decode cX4_reoptimize 35 = .ok (.ireturn, 1) := dk_172 (dk_at dksX4_reoptimize_1 11 rfl rfl)
abbrev cX4_takeBest : ByteArray := prog_19_method_68_code
def yX4_takeBest : MethodName := ⟨RX4, "takeBest", "(I)I"⟩
def dkwX4_takeBest_2 : List UInt8 := [180, 0, 49, 29, 46, 182, 0, 114, 132, 3, 1, 167, 255, 204, 28, 172]
abbrev dktX4_takeBest_2 : List UInt8 := dkwX4_takeBest_2 ++ []
def dkwX4_takeBest_1 : List UInt8 := [182, 0, 142, 42, 180, 0, 49, 29, 46, 159, 0, 7, 4, 167, 0, 4, 3, 96, 61, 42, 27, 29, 42]
abbrev dktX4_takeBest_1 : List UInt8 := dkwX4_takeBest_1 ++ dktX4_takeBest_2
def dkwX4_takeBest_0 : List UInt8 := [3, 61, 3, 62, 29, 42, 180, 0, 9, 17, 0, 179, 27, 96, 46, 162, 0, 44, 28, 42, 27, 29]
abbrev dktX4_takeBest_0 : List UInt8 := dkwX4_takeBest_0 ++ dktX4_takeBest_1
theorem dksX4_takeBest_0 : cX4_takeBest.data.toList.drop 0 = dktX4_takeBest_0 := by decide +kernel
theorem dksX4_takeBest_1 : cX4_takeBest.data.toList.drop 22 = dktX4_takeBest_1 := dk_seg dksX4_takeBest_0 22 rfl rfl
theorem dksX4_takeBest_2 : cX4_takeBest.data.toList.drop 45 = dktX4_takeBest_2 := dk_seg dksX4_takeBest_1 23 rfl rfl
theorem dX4_takeBest_0 : decode cX4_takeBest 0 = .ok (.iconst 0, 1) := dk_3 (dk_at dksX4_takeBest_0 0 rfl rfl)
theorem dX4_takeBest_1 : decode cX4_takeBest 1 = .ok (.istore_n 2, 1) := dk_61 (dk_at dksX4_takeBest_0 1 rfl rfl)
theorem dX4_takeBest_2 : decode cX4_takeBest 2 = .ok (.iconst 0, 1) := dk_3 (dk_at dksX4_takeBest_0 2 rfl rfl)
theorem dX4_takeBest_3 : decode cX4_takeBest 3 = .ok (.istore_n 3, 1) := dk_62 (dk_at dksX4_takeBest_0 3 rfl rfl)
theorem dX4_takeBest_4 : decode cX4_takeBest 4 = .ok (.iload_n 3, 1) := dk_29 (dk_at dksX4_takeBest_0 4 rfl rfl)
theorem dX4_takeBest_5 : decode cX4_takeBest 5 = .ok (.aload_n 0, 1) := dk_42 (dk_at dksX4_takeBest_0 5 rfl rfl)
theorem dX4_takeBest_6 : decode cX4_takeBest 6 = .ok (.getfield 9, 3) := dk_180 0 9 (dk_at dksX4_takeBest_0 6 rfl rfl)
theorem dX4_takeBest_9 : decode cX4_takeBest 9 = .ok (.sipush 179, 3) := dk_17 0 179 (dk_at dksX4_takeBest_0 9 rfl rfl)
theorem dX4_takeBest_12 : decode cX4_takeBest 12 = .ok (.iload_n 1, 1) := dk_27 (dk_at dksX4_takeBest_0 12 rfl rfl)
theorem dX4_takeBest_13 : decode cX4_takeBest 13 = .ok (.iadd, 1) := dk_96 (dk_at dksX4_takeBest_0 13 rfl rfl)
theorem dX4_takeBest_14 : decode cX4_takeBest 14 = .ok (.iaload, 1) := dk_46 (dk_at dksX4_takeBest_0 14 rfl rfl)
theorem dX4_takeBest_15 : decode cX4_takeBest 15 = .ok (.if_icmp .ge 44, 3) := dk_162 0 44 (dk_at dksX4_takeBest_0 15 rfl rfl)
theorem dX4_takeBest_18 : decode cX4_takeBest 18 = .ok (.iload_n 2, 1) := dk_28 (dk_at dksX4_takeBest_0 18 rfl rfl)
theorem dX4_takeBest_19 : decode cX4_takeBest 19 = .ok (.aload_n 0, 1) := dk_42 (dk_at dksX4_takeBest_0 19 rfl rfl)
theorem dX4_takeBest_20 : decode cX4_takeBest 20 = .ok (.iload_n 1, 1) := dk_27 (dk_at dksX4_takeBest_0 20 rfl rfl)
theorem dX4_takeBest_21 : decode cX4_takeBest 21 = .ok (.iload_n 3, 1) := dk_29 (dk_at dksX4_takeBest_0 21 rfl rfl)
theorem dX4_takeBest_22 : decode cX4_takeBest 22 = .ok (.invokevirtual 142, 3) := dk_182 0 142 (dk_at dksX4_takeBest_1 0 rfl rfl)
theorem dX4_takeBest_25 : decode cX4_takeBest 25 = .ok (.aload_n 0, 1) := dk_42 (dk_at dksX4_takeBest_1 3 rfl rfl)
theorem dX4_takeBest_26 : decode cX4_takeBest 26 = .ok (.getfield 49, 3) := dk_180 0 49 (dk_at dksX4_takeBest_1 4 rfl rfl)
theorem dX4_takeBest_29 : decode cX4_takeBest 29 = .ok (.iload_n 3, 1) := dk_29 (dk_at dksX4_takeBest_1 7 rfl rfl)
theorem dX4_takeBest_30 : decode cX4_takeBest 30 = .ok (.iaload, 1) := dk_46 (dk_at dksX4_takeBest_1 8 rfl rfl)
theorem dX4_takeBest_31 : decode cX4_takeBest 31 = .ok (.if_icmp .eq 7, 3) := dk_159 0 7 (dk_at dksX4_takeBest_1 9 rfl rfl)
theorem dX4_takeBest_34 : decode cX4_takeBest 34 = .ok (.iconst 1, 1) := dk_4 (dk_at dksX4_takeBest_1 12 rfl rfl)
theorem dX4_takeBest_35 : decode cX4_takeBest 35 = .ok (.goto 4, 3) := dk_167 0 4 (dk_at dksX4_takeBest_1 13 rfl rfl)
theorem dX4_takeBest_38 : decode cX4_takeBest 38 = .ok (.iconst 0, 1) := dk_3 (dk_at dksX4_takeBest_1 16 rfl rfl)
theorem dX4_takeBest_39 : decode cX4_takeBest 39 = .ok (.iadd, 1) := dk_96 (dk_at dksX4_takeBest_1 17 rfl rfl)
theorem dX4_takeBest_40 : decode cX4_takeBest 40 = .ok (.istore_n 2, 1) := dk_61 (dk_at dksX4_takeBest_1 18 rfl rfl)
theorem dX4_takeBest_41 : decode cX4_takeBest 41 = .ok (.aload_n 0, 1) := dk_42 (dk_at dksX4_takeBest_1 19 rfl rfl)
theorem dX4_takeBest_42 : decode cX4_takeBest 42 = .ok (.iload_n 1, 1) := dk_27 (dk_at dksX4_takeBest_1 20 rfl rfl)
theorem dX4_takeBest_43 : decode cX4_takeBest 43 = .ok (.iload_n 3, 1) := dk_29 (dk_at dksX4_takeBest_1 21 rfl rfl)
theorem dX4_takeBest_44 : decode cX4_takeBest 44 = .ok (.aload_n 0, 1) := dk_42 (dk_at dksX4_takeBest_1 22 rfl rfl)
theorem dX4_takeBest_45 : decode cX4_takeBest 45 = .ok (.getfield 49, 3) := dk_180 0 49 (dk_at dksX4_takeBest_2 0 rfl rfl)
theorem dX4_takeBest_48 : decode cX4_takeBest 48 = .ok (.iload_n 3, 1) := dk_29 (dk_at dksX4_takeBest_2 3 rfl rfl)
theorem dX4_takeBest_49 : decode cX4_takeBest 49 = .ok (.iaload, 1) := dk_46 (dk_at dksX4_takeBest_2 4 rfl rfl)
theorem dX4_takeBest_50 : decode cX4_takeBest 50 = .ok (.invokevirtual 114, 3) := dk_182 0 114 (dk_at dksX4_takeBest_2 5 rfl rfl)
theorem dX4_takeBest_53 : decode cX4_takeBest 53 = .ok (.iinc 3 1, 3) := dk_132 3 1 (dk_at dksX4_takeBest_2 8 rfl rfl)
theorem dX4_takeBest_56 : decode cX4_takeBest 56 = .ok (.goto (-52), 3) := dk_167 255 204 (dk_at dksX4_takeBest_2 11 rfl rfl)
theorem dX4_takeBest_59 : decode cX4_takeBest 59 = .ok (.iload_n 2, 1) := dk_28 (dk_at dksX4_takeBest_2 14 rfl rfl)
theorem dX4_takeBest_60 : decode cX4_takeBest 60 = .ok (.ireturn, 1) := dk_172 (dk_at dksX4_takeBest_2 15 rfl rfl)
abbrev cX4_shiftBottlenecks : ByteArray := prog_19_method_71_code
def yX4_shiftBottlenecks : MethodName := ⟨RX4, "shiftBottlenecks", "()I"⟩
def dkwX4_shiftBottlenecks_8 : List UInt8 := [42, 182, 0, 188, 172]
abbrev dktX4_shiftBottlenecks_8 : List UInt8 := dkwX4_shiftBottlenecks_8 ++ []
def dkwX4_shiftBottlenecks_7 : List UInt8 := [132, 5, 1, 167, 255, 220, 42, 180, 0, 23, 27, 28, 79, 132, 1, 1, 167, 255, 105, 42, 4, 181, 1, 2]
abbrev dktX4_shiftBottlenecks_7 : List UInt8 := dkwX4_shiftBottlenecks_7 ++ dktX4_shiftBottlenecks_8
def dkwX4_shiftBottlenecks_6 : List UInt8 := [21, 5, 46, 182, 0, 252, 21, 4, 42, 42, 180, 0, 23, 21, 5, 46, 182, 0, 255, 96, 54, 4]
abbrev dktX4_shiftBottlenecks_6 : List UInt8 := dkwX4_shiftBottlenecks_6 ++ dktX4_shiftBottlenecks_7
def dkwX4_shiftBottlenecks_5 : List UInt8 := [182, 0, 252, 42, 28, 182, 0, 255, 54, 4, 3, 54, 5, 21, 5, 27, 162, 0, 36, 42, 42, 180, 0, 23]
abbrev dktX4_shiftBottlenecks_5 : List UInt8 := dkwX4_shiftBottlenecks_5 ++ dktX4_shiftBottlenecks_6
def dkwX4_shiftBottlenecks_4 : List UInt8 := [180, 0, 246, 184, 0, 167, 62, 132, 4, 1, 167, 255, 191, 42, 180, 0, 32, 28, 3, 84, 42, 28]
abbrev dktX4_shiftBottlenecks_4 : List UInt8 := dkwX4_shiftBottlenecks_4 ++ dktX4_shiftBottlenecks_5
def dkwX4_shiftBottlenecks_3 : List UInt8 := [180, 0, 32, 21, 4, 4, 84, 42, 180, 0, 246, 29, 164, 0, 8, 21, 4, 167, 0, 4, 28, 61, 29, 42]
abbrev dktX4_shiftBottlenecks_3 : List UInt8 := dkwX4_shiftBottlenecks_3 ++ dktX4_shiftBottlenecks_4
def dkwX4_shiftBottlenecks_2 : List UInt8 := [180, 0, 32, 21, 4, 51, 153, 0, 49, 42, 180, 0, 32, 21, 4, 3, 84, 42, 21, 4, 182, 0, 252, 42]
abbrev dktX4_shiftBottlenecks_2 : List UInt8 := dkwX4_shiftBottlenecks_2 ++ dktX4_shiftBottlenecks_3
def dkwX4_shiftBottlenecks_1 : List UInt8 := [167, 255, 241, 3, 60, 27, 7, 162, 0, 152, 2, 61, 2, 62, 3, 54, 4, 21, 4, 7, 162, 0, 65, 42]
abbrev dktX4_shiftBottlenecks_1 : List UInt8 := dkwX4_shiftBottlenecks_1 ++ dktX4_shiftBottlenecks_2
def dkwX4_shiftBottlenecks_0 : List UInt8 := [42, 3, 181, 0, 79, 3, 60, 27, 7, 162, 0, 16, 42, 180, 0, 32, 27, 4, 84, 132, 1, 1]
abbrev dktX4_shiftBottlenecks_0 : List UInt8 := dkwX4_shiftBottlenecks_0 ++ dktX4_shiftBottlenecks_1
theorem dksX4_shiftBottlenecks_0 : cX4_shiftBottlenecks.data.toList.drop 0 = dktX4_shiftBottlenecks_0 := by decide +kernel
theorem dksX4_shiftBottlenecks_1 : cX4_shiftBottlenecks.data.toList.drop 22 = dktX4_shiftBottlenecks_1 := dk_seg dksX4_shiftBottlenecks_0 22 rfl rfl
theorem dksX4_shiftBottlenecks_2 : cX4_shiftBottlenecks.data.toList.drop 46 = dktX4_shiftBottlenecks_2 := dk_seg dksX4_shiftBottlenecks_1 24 rfl rfl
theorem dksX4_shiftBottlenecks_3 : cX4_shiftBottlenecks.data.toList.drop 70 = dktX4_shiftBottlenecks_3 := dk_seg dksX4_shiftBottlenecks_2 24 rfl rfl
theorem dksX4_shiftBottlenecks_4 : cX4_shiftBottlenecks.data.toList.drop 94 = dktX4_shiftBottlenecks_4 := dk_seg dksX4_shiftBottlenecks_3 24 rfl rfl
theorem dksX4_shiftBottlenecks_5 : cX4_shiftBottlenecks.data.toList.drop 116 = dktX4_shiftBottlenecks_5 := dk_seg dksX4_shiftBottlenecks_4 22 rfl rfl
theorem dksX4_shiftBottlenecks_6 : cX4_shiftBottlenecks.data.toList.drop 140 = dktX4_shiftBottlenecks_6 := dk_seg dksX4_shiftBottlenecks_5 24 rfl rfl
theorem dksX4_shiftBottlenecks_7 : cX4_shiftBottlenecks.data.toList.drop 162 = dktX4_shiftBottlenecks_7 := dk_seg dksX4_shiftBottlenecks_6 22 rfl rfl
theorem dksX4_shiftBottlenecks_8 : cX4_shiftBottlenecks.data.toList.drop 186 = dktX4_shiftBottlenecks_8 := dk_seg dksX4_shiftBottlenecks_7 24 rfl rfl
theorem dX4_shiftBottlenecks_0 : decode cX4_shiftBottlenecks 0 = .ok (.aload_n 0, 1) := dk_42 (dk_at dksX4_shiftBottlenecks_0 0 rfl rfl)
theorem dX4_shiftBottlenecks_1 : decode cX4_shiftBottlenecks 1 = .ok (.iconst 0, 1) := dk_3 (dk_at dksX4_shiftBottlenecks_0 1 rfl rfl)
theorem dX4_shiftBottlenecks_2 : decode cX4_shiftBottlenecks 2 = .ok (.putfield 79, 3) := dk_181 0 79 (dk_at dksX4_shiftBottlenecks_0 2 rfl rfl)
theorem dX4_shiftBottlenecks_5 : decode cX4_shiftBottlenecks 5 = .ok (.iconst 0, 1) := dk_3 (dk_at dksX4_shiftBottlenecks_0 5 rfl rfl)
theorem dX4_shiftBottlenecks_6 : decode cX4_shiftBottlenecks 6 = .ok (.istore_n 1, 1) := dk_60 (dk_at dksX4_shiftBottlenecks_0 6 rfl rfl)
theorem dX4_shiftBottlenecks_7 : decode cX4_shiftBottlenecks 7 = .ok (.iload_n 1, 1) := dk_27 (dk_at dksX4_shiftBottlenecks_0 7 rfl rfl)
theorem dX4_shiftBottlenecks_8 : decode cX4_shiftBottlenecks 8 = .ok (.iconst 4, 1) := dk_7 (dk_at dksX4_shiftBottlenecks_0 8 rfl rfl)
theorem dX4_shiftBottlenecks_9 : decode cX4_shiftBottlenecks 9 = .ok (.if_icmp .ge 16, 3) := dk_162 0 16 (dk_at dksX4_shiftBottlenecks_0 9 rfl rfl)
theorem dX4_shiftBottlenecks_12 : decode cX4_shiftBottlenecks 12 = .ok (.aload_n 0, 1) := dk_42 (dk_at dksX4_shiftBottlenecks_0 12 rfl rfl)
theorem dX4_shiftBottlenecks_13 : decode cX4_shiftBottlenecks 13 = .ok (.getfield 32, 3) := dk_180 0 32 (dk_at dksX4_shiftBottlenecks_0 13 rfl rfl)
theorem dX4_shiftBottlenecks_16 : decode cX4_shiftBottlenecks 16 = .ok (.iload_n 1, 1) := dk_27 (dk_at dksX4_shiftBottlenecks_0 16 rfl rfl)
theorem dX4_shiftBottlenecks_17 : decode cX4_shiftBottlenecks 17 = .ok (.iconst 1, 1) := dk_4 (dk_at dksX4_shiftBottlenecks_0 17 rfl rfl)
theorem dX4_shiftBottlenecks_18 : decode cX4_shiftBottlenecks 18 = .ok (.bastore, 1) := dk_84 (dk_at dksX4_shiftBottlenecks_0 18 rfl rfl)
theorem dX4_shiftBottlenecks_19 : decode cX4_shiftBottlenecks 19 = .ok (.iinc 1 1, 3) := dk_132 1 1 (dk_at dksX4_shiftBottlenecks_0 19 rfl rfl)
theorem dX4_shiftBottlenecks_22 : decode cX4_shiftBottlenecks 22 = .ok (.goto (-15), 3) := dk_167 255 241 (dk_at dksX4_shiftBottlenecks_1 0 rfl rfl)
theorem dX4_shiftBottlenecks_25 : decode cX4_shiftBottlenecks 25 = .ok (.iconst 0, 1) := dk_3 (dk_at dksX4_shiftBottlenecks_1 3 rfl rfl)
theorem dX4_shiftBottlenecks_26 : decode cX4_shiftBottlenecks 26 = .ok (.istore_n 1, 1) := dk_60 (dk_at dksX4_shiftBottlenecks_1 4 rfl rfl)
theorem dX4_shiftBottlenecks_27 : decode cX4_shiftBottlenecks 27 = .ok (.iload_n 1, 1) := dk_27 (dk_at dksX4_shiftBottlenecks_1 5 rfl rfl)
theorem dX4_shiftBottlenecks_28 : decode cX4_shiftBottlenecks 28 = .ok (.iconst 4, 1) := dk_7 (dk_at dksX4_shiftBottlenecks_1 6 rfl rfl)
theorem dX4_shiftBottlenecks_29 : decode cX4_shiftBottlenecks 29 = .ok (.if_icmp .ge 152, 3) := dk_162 0 152 (dk_at dksX4_shiftBottlenecks_1 7 rfl rfl)
theorem dX4_shiftBottlenecks_32 : decode cX4_shiftBottlenecks 32 = .ok (.iconst (-1), 1) := dk_2 (dk_at dksX4_shiftBottlenecks_1 10 rfl rfl)
theorem dX4_shiftBottlenecks_33 : decode cX4_shiftBottlenecks 33 = .ok (.istore_n 2, 1) := dk_61 (dk_at dksX4_shiftBottlenecks_1 11 rfl rfl)
theorem dX4_shiftBottlenecks_34 : decode cX4_shiftBottlenecks 34 = .ok (.iconst (-1), 1) := dk_2 (dk_at dksX4_shiftBottlenecks_1 12 rfl rfl)
theorem dX4_shiftBottlenecks_35 : decode cX4_shiftBottlenecks 35 = .ok (.istore_n 3, 1) := dk_62 (dk_at dksX4_shiftBottlenecks_1 13 rfl rfl)
theorem dX4_shiftBottlenecks_36 : decode cX4_shiftBottlenecks 36 = .ok (.iconst 0, 1) := dk_3 (dk_at dksX4_shiftBottlenecks_1 14 rfl rfl)
theorem dX4_shiftBottlenecks_37 : decode cX4_shiftBottlenecks 37 = .ok (.istore 4, 2) := dk_54 4 (dk_at dksX4_shiftBottlenecks_1 15 rfl rfl)
theorem dX4_shiftBottlenecks_39 : decode cX4_shiftBottlenecks 39 = .ok (.iload 4, 2) := dk_21 4 (dk_at dksX4_shiftBottlenecks_1 17 rfl rfl)
theorem dX4_shiftBottlenecks_41 : decode cX4_shiftBottlenecks 41 = .ok (.iconst 4, 1) := dk_7 (dk_at dksX4_shiftBottlenecks_1 19 rfl rfl)
theorem dX4_shiftBottlenecks_42 : decode cX4_shiftBottlenecks 42 = .ok (.if_icmp .ge 65, 3) := dk_162 0 65 (dk_at dksX4_shiftBottlenecks_1 20 rfl rfl)
theorem dX4_shiftBottlenecks_45 : decode cX4_shiftBottlenecks 45 = .ok (.aload_n 0, 1) := dk_42 (dk_at dksX4_shiftBottlenecks_1 23 rfl rfl)
theorem dX4_shiftBottlenecks_46 : decode cX4_shiftBottlenecks 46 = .ok (.getfield 32, 3) := dk_180 0 32 (dk_at dksX4_shiftBottlenecks_2 0 rfl rfl)
theorem dX4_shiftBottlenecks_49 : decode cX4_shiftBottlenecks 49 = .ok (.iload 4, 2) := dk_21 4 (dk_at dksX4_shiftBottlenecks_2 3 rfl rfl)
theorem dX4_shiftBottlenecks_51 : decode cX4_shiftBottlenecks 51 = .ok (.baload, 1) := dk_51 (dk_at dksX4_shiftBottlenecks_2 5 rfl rfl)
theorem dX4_shiftBottlenecks_52 : decode cX4_shiftBottlenecks 52 = .ok (.ifCond .eq 49, 3) := dk_153 0 49 (dk_at dksX4_shiftBottlenecks_2 6 rfl rfl)
theorem dX4_shiftBottlenecks_55 : decode cX4_shiftBottlenecks 55 = .ok (.aload_n 0, 1) := dk_42 (dk_at dksX4_shiftBottlenecks_2 9 rfl rfl)
theorem dX4_shiftBottlenecks_56 : decode cX4_shiftBottlenecks 56 = .ok (.getfield 32, 3) := dk_180 0 32 (dk_at dksX4_shiftBottlenecks_2 10 rfl rfl)
theorem dX4_shiftBottlenecks_59 : decode cX4_shiftBottlenecks 59 = .ok (.iload 4, 2) := dk_21 4 (dk_at dksX4_shiftBottlenecks_2 13 rfl rfl)
theorem dX4_shiftBottlenecks_61 : decode cX4_shiftBottlenecks 61 = .ok (.iconst 0, 1) := dk_3 (dk_at dksX4_shiftBottlenecks_2 15 rfl rfl)
theorem dX4_shiftBottlenecks_62 : decode cX4_shiftBottlenecks 62 = .ok (.bastore, 1) := dk_84 (dk_at dksX4_shiftBottlenecks_2 16 rfl rfl)
theorem dX4_shiftBottlenecks_63 : decode cX4_shiftBottlenecks 63 = .ok (.aload_n 0, 1) := dk_42 (dk_at dksX4_shiftBottlenecks_2 17 rfl rfl)
theorem dX4_shiftBottlenecks_64 : decode cX4_shiftBottlenecks 64 = .ok (.iload 4, 2) := dk_21 4 (dk_at dksX4_shiftBottlenecks_2 18 rfl rfl)
theorem dX4_shiftBottlenecks_66 : decode cX4_shiftBottlenecks 66 = .ok (.invokevirtual 252, 3) := dk_182 0 252 (dk_at dksX4_shiftBottlenecks_2 20 rfl rfl)
theorem dX4_shiftBottlenecks_69 : decode cX4_shiftBottlenecks 69 = .ok (.aload_n 0, 1) := dk_42 (dk_at dksX4_shiftBottlenecks_2 23 rfl rfl)
theorem dX4_shiftBottlenecks_70 : decode cX4_shiftBottlenecks 70 = .ok (.getfield 32, 3) := dk_180 0 32 (dk_at dksX4_shiftBottlenecks_3 0 rfl rfl)
theorem dX4_shiftBottlenecks_73 : decode cX4_shiftBottlenecks 73 = .ok (.iload 4, 2) := dk_21 4 (dk_at dksX4_shiftBottlenecks_3 3 rfl rfl)
theorem dX4_shiftBottlenecks_75 : decode cX4_shiftBottlenecks 75 = .ok (.iconst 1, 1) := dk_4 (dk_at dksX4_shiftBottlenecks_3 5 rfl rfl)
theorem dX4_shiftBottlenecks_76 : decode cX4_shiftBottlenecks 76 = .ok (.bastore, 1) := dk_84 (dk_at dksX4_shiftBottlenecks_3 6 rfl rfl)
theorem dX4_shiftBottlenecks_77 : decode cX4_shiftBottlenecks 77 = .ok (.aload_n 0, 1) := dk_42 (dk_at dksX4_shiftBottlenecks_3 7 rfl rfl)
theorem dX4_shiftBottlenecks_78 : decode cX4_shiftBottlenecks 78 = .ok (.getfield 246, 3) := dk_180 0 246 (dk_at dksX4_shiftBottlenecks_3 8 rfl rfl)
theorem dX4_shiftBottlenecks_81 : decode cX4_shiftBottlenecks 81 = .ok (.iload_n 3, 1) := dk_29 (dk_at dksX4_shiftBottlenecks_3 11 rfl rfl)
theorem dX4_shiftBottlenecks_82 : decode cX4_shiftBottlenecks 82 = .ok (.if_icmp .le 8, 3) := dk_164 0 8 (dk_at dksX4_shiftBottlenecks_3 12 rfl rfl)
theorem dX4_shiftBottlenecks_85 : decode cX4_shiftBottlenecks 85 = .ok (.iload 4, 2) := dk_21 4 (dk_at dksX4_shiftBottlenecks_3 15 rfl rfl)
theorem dX4_shiftBottlenecks_87 : decode cX4_shiftBottlenecks 87 = .ok (.goto 4, 3) := dk_167 0 4 (dk_at dksX4_shiftBottlenecks_3 17 rfl rfl)
theorem dX4_shiftBottlenecks_90 : decode cX4_shiftBottlenecks 90 = .ok (.iload_n 2, 1) := dk_28 (dk_at dksX4_shiftBottlenecks_3 20 rfl rfl)
theorem dX4_shiftBottlenecks_91 : decode cX4_shiftBottlenecks 91 = .ok (.istore_n 2, 1) := dk_61 (dk_at dksX4_shiftBottlenecks_3 21 rfl rfl)
theorem dX4_shiftBottlenecks_92 : decode cX4_shiftBottlenecks 92 = .ok (.iload_n 3, 1) := dk_29 (dk_at dksX4_shiftBottlenecks_3 22 rfl rfl)
theorem dX4_shiftBottlenecks_93 : decode cX4_shiftBottlenecks 93 = .ok (.aload_n 0, 1) := dk_42 (dk_at dksX4_shiftBottlenecks_3 23 rfl rfl)
theorem dX4_shiftBottlenecks_94 : decode cX4_shiftBottlenecks 94 = .ok (.getfield 246, 3) := dk_180 0 246 (dk_at dksX4_shiftBottlenecks_4 0 rfl rfl)
theorem dX4_shiftBottlenecks_97 : decode cX4_shiftBottlenecks 97 = .ok (.invokestatic 167, 3) := dk_184 0 167 (dk_at dksX4_shiftBottlenecks_4 3 rfl rfl)
theorem dX4_shiftBottlenecks_100 : decode cX4_shiftBottlenecks 100 = .ok (.istore_n 3, 1) := dk_62 (dk_at dksX4_shiftBottlenecks_4 6 rfl rfl)
theorem dX4_shiftBottlenecks_101 : decode cX4_shiftBottlenecks 101 = .ok (.iinc 4 1, 3) := dk_132 4 1 (dk_at dksX4_shiftBottlenecks_4 7 rfl rfl)
theorem dX4_shiftBottlenecks_104 : decode cX4_shiftBottlenecks 104 = .ok (.goto (-65), 3) := dk_167 255 191 (dk_at dksX4_shiftBottlenecks_4 10 rfl rfl)
theorem dX4_shiftBottlenecks_107 : decode cX4_shiftBottlenecks 107 = .ok (.aload_n 0, 1) := dk_42 (dk_at dksX4_shiftBottlenecks_4 13 rfl rfl)
theorem dX4_shiftBottlenecks_108 : decode cX4_shiftBottlenecks 108 = .ok (.getfield 32, 3) := dk_180 0 32 (dk_at dksX4_shiftBottlenecks_4 14 rfl rfl)
theorem dX4_shiftBottlenecks_111 : decode cX4_shiftBottlenecks 111 = .ok (.iload_n 2, 1) := dk_28 (dk_at dksX4_shiftBottlenecks_4 17 rfl rfl)
theorem dX4_shiftBottlenecks_112 : decode cX4_shiftBottlenecks 112 = .ok (.iconst 0, 1) := dk_3 (dk_at dksX4_shiftBottlenecks_4 18 rfl rfl)
theorem dX4_shiftBottlenecks_113 : decode cX4_shiftBottlenecks 113 = .ok (.bastore, 1) := dk_84 (dk_at dksX4_shiftBottlenecks_4 19 rfl rfl)
theorem dX4_shiftBottlenecks_114 : decode cX4_shiftBottlenecks 114 = .ok (.aload_n 0, 1) := dk_42 (dk_at dksX4_shiftBottlenecks_4 20 rfl rfl)
theorem dX4_shiftBottlenecks_115 : decode cX4_shiftBottlenecks 115 = .ok (.iload_n 2, 1) := dk_28 (dk_at dksX4_shiftBottlenecks_4 21 rfl rfl)
theorem dX4_shiftBottlenecks_116 : decode cX4_shiftBottlenecks 116 = .ok (.invokevirtual 252, 3) := dk_182 0 252 (dk_at dksX4_shiftBottlenecks_5 0 rfl rfl)
theorem dX4_shiftBottlenecks_119 : decode cX4_shiftBottlenecks 119 = .ok (.aload_n 0, 1) := dk_42 (dk_at dksX4_shiftBottlenecks_5 3 rfl rfl)
theorem dX4_shiftBottlenecks_120 : decode cX4_shiftBottlenecks 120 = .ok (.iload_n 2, 1) := dk_28 (dk_at dksX4_shiftBottlenecks_5 4 rfl rfl)
theorem dX4_shiftBottlenecks_121 : decode cX4_shiftBottlenecks 121 = .ok (.invokevirtual 255, 3) := dk_182 0 255 (dk_at dksX4_shiftBottlenecks_5 5 rfl rfl)
theorem dX4_shiftBottlenecks_124 : decode cX4_shiftBottlenecks 124 = .ok (.istore 4, 2) := dk_54 4 (dk_at dksX4_shiftBottlenecks_5 8 rfl rfl)
theorem dX4_shiftBottlenecks_126 : decode cX4_shiftBottlenecks 126 = .ok (.iconst 0, 1) := dk_3 (dk_at dksX4_shiftBottlenecks_5 10 rfl rfl)
theorem dX4_shiftBottlenecks_127 : decode cX4_shiftBottlenecks 127 = .ok (.istore 5, 2) := dk_54 5 (dk_at dksX4_shiftBottlenecks_5 11 rfl rfl)
theorem dX4_shiftBottlenecks_129 : decode cX4_shiftBottlenecks 129 = .ok (.iload 5, 2) := dk_21 5 (dk_at dksX4_shiftBottlenecks_5 13 rfl rfl)
theorem dX4_shiftBottlenecks_131 : decode cX4_shiftBottlenecks 131 = .ok (.iload_n 1, 1) := dk_27 (dk_at dksX4_shiftBottlenecks_5 15 rfl rfl)
theorem dX4_shiftBottlenecks_132 : decode cX4_shiftBottlenecks 132 = .ok (.if_icmp .ge 36, 3) := dk_162 0 36 (dk_at dksX4_shiftBottlenecks_5 16 rfl rfl)
theorem dX4_shiftBottlenecks_135 : decode cX4_shiftBottlenecks 135 = .ok (.aload_n 0, 1) := dk_42 (dk_at dksX4_shiftBottlenecks_5 19 rfl rfl)
theorem dX4_shiftBottlenecks_136 : decode cX4_shiftBottlenecks 136 = .ok (.aload_n 0, 1) := dk_42 (dk_at dksX4_shiftBottlenecks_5 20 rfl rfl)
theorem dX4_shiftBottlenecks_137 : decode cX4_shiftBottlenecks 137 = .ok (.getfield 23, 3) := dk_180 0 23 (dk_at dksX4_shiftBottlenecks_5 21 rfl rfl)
theorem dX4_shiftBottlenecks_140 : decode cX4_shiftBottlenecks 140 = .ok (.iload 5, 2) := dk_21 5 (dk_at dksX4_shiftBottlenecks_6 0 rfl rfl)
theorem dX4_shiftBottlenecks_142 : decode cX4_shiftBottlenecks 142 = .ok (.iaload, 1) := dk_46 (dk_at dksX4_shiftBottlenecks_6 2 rfl rfl)
theorem dX4_shiftBottlenecks_143 : decode cX4_shiftBottlenecks 143 = .ok (.invokevirtual 252, 3) := dk_182 0 252 (dk_at dksX4_shiftBottlenecks_6 3 rfl rfl)
theorem dX4_shiftBottlenecks_146 : decode cX4_shiftBottlenecks 146 = .ok (.iload 4, 2) := dk_21 4 (dk_at dksX4_shiftBottlenecks_6 6 rfl rfl)
theorem dX4_shiftBottlenecks_148 : decode cX4_shiftBottlenecks 148 = .ok (.aload_n 0, 1) := dk_42 (dk_at dksX4_shiftBottlenecks_6 8 rfl rfl)
theorem dX4_shiftBottlenecks_149 : decode cX4_shiftBottlenecks 149 = .ok (.aload_n 0, 1) := dk_42 (dk_at dksX4_shiftBottlenecks_6 9 rfl rfl)
theorem dX4_shiftBottlenecks_150 : decode cX4_shiftBottlenecks 150 = .ok (.getfield 23, 3) := dk_180 0 23 (dk_at dksX4_shiftBottlenecks_6 10 rfl rfl)
theorem dX4_shiftBottlenecks_153 : decode cX4_shiftBottlenecks 153 = .ok (.iload 5, 2) := dk_21 5 (dk_at dksX4_shiftBottlenecks_6 13 rfl rfl)
theorem dX4_shiftBottlenecks_155 : decode cX4_shiftBottlenecks 155 = .ok (.iaload, 1) := dk_46 (dk_at dksX4_shiftBottlenecks_6 15 rfl rfl)
theorem dX4_shiftBottlenecks_156 : decode cX4_shiftBottlenecks 156 = .ok (.invokevirtual 255, 3) := dk_182 0 255 (dk_at dksX4_shiftBottlenecks_6 16 rfl rfl)
theorem dX4_shiftBottlenecks_159 : decode cX4_shiftBottlenecks 159 = .ok (.iadd, 1) := dk_96 (dk_at dksX4_shiftBottlenecks_6 19 rfl rfl)
theorem dX4_shiftBottlenecks_160 : decode cX4_shiftBottlenecks 160 = .ok (.istore 4, 2) := dk_54 4 (dk_at dksX4_shiftBottlenecks_6 20 rfl rfl)
theorem dX4_shiftBottlenecks_162 : decode cX4_shiftBottlenecks 162 = .ok (.iinc 5 1, 3) := dk_132 5 1 (dk_at dksX4_shiftBottlenecks_7 0 rfl rfl)
theorem dX4_shiftBottlenecks_165 : decode cX4_shiftBottlenecks 165 = .ok (.goto (-36), 3) := dk_167 255 220 (dk_at dksX4_shiftBottlenecks_7 3 rfl rfl)
theorem dX4_shiftBottlenecks_168 : decode cX4_shiftBottlenecks 168 = .ok (.aload_n 0, 1) := dk_42 (dk_at dksX4_shiftBottlenecks_7 6 rfl rfl)
theorem dX4_shiftBottlenecks_169 : decode cX4_shiftBottlenecks 169 = .ok (.getfield 23, 3) := dk_180 0 23 (dk_at dksX4_shiftBottlenecks_7 7 rfl rfl)
theorem dX4_shiftBottlenecks_172 : decode cX4_shiftBottlenecks 172 = .ok (.iload_n 1, 1) := dk_27 (dk_at dksX4_shiftBottlenecks_7 10 rfl rfl)
theorem dX4_shiftBottlenecks_173 : decode cX4_shiftBottlenecks 173 = .ok (.iload_n 2, 1) := dk_28 (dk_at dksX4_shiftBottlenecks_7 11 rfl rfl)
theorem dX4_shiftBottlenecks_174 : decode cX4_shiftBottlenecks 174 = .ok (.iastore, 1) := dk_79 (dk_at dksX4_shiftBottlenecks_7 12 rfl rfl)
theorem dX4_shiftBottlenecks_175 : decode cX4_shiftBottlenecks 175 = .ok (.iinc 1 1, 3) := dk_132 1 1 (dk_at dksX4_shiftBottlenecks_7 13 rfl rfl)
theorem dX4_shiftBottlenecks_178 : decode cX4_shiftBottlenecks 178 = .ok (.goto (-151), 3) := dk_167 255 105 (dk_at dksX4_shiftBottlenecks_7 16 rfl rfl)
theorem dX4_shiftBottlenecks_181 : decode cX4_shiftBottlenecks 181 = .ok (.aload_n 0, 1) := dk_42 (dk_at dksX4_shiftBottlenecks_7 19 rfl rfl)
theorem dX4_shiftBottlenecks_182 : decode cX4_shiftBottlenecks 182 = .ok (.iconst 1, 1) := dk_4 (dk_at dksX4_shiftBottlenecks_7 20 rfl rfl)
theorem dX4_shiftBottlenecks_183 : decode cX4_shiftBottlenecks 183 = .ok (.putfield 258, 3) := dk_181 1 2 (dk_at dksX4_shiftBottlenecks_7 21 rfl rfl)
theorem dX4_shiftBottlenecks_186 : decode cX4_shiftBottlenecks 186 = .ok (.aload_n 0, 1) := dk_42 (dk_at dksX4_shiftBottlenecks_8 0 rfl rfl)
theorem dX4_shiftBottlenecks_187 : decode cX4_shiftBottlenecks 187 = .ok (.invokevirtual 188, 3) := dk_182 0 188 (dk_at dksX4_shiftBottlenecks_8 1 rfl rfl)
theorem dX4_shiftBottlenecks_190 : decode cX4_shiftBottlenecks 190 = .ok (.ireturn, 1) := dk_172 (dk_at dksX4_shiftBottlenecks_8 4 rfl rfl)
abbrev cX4_bottleneck : ByteArray := prog_19_method_72_code
def yX4_bottleneck : MethodName := ⟨RX4, "bottleneck", "(I)I"⟩
def dkwX4_bottleneck_1 : List UInt8 := [4, 181, 0, 79, 42, 180, 0, 79, 158, 0, 7, 3, 167, 0, 9, 42, 180, 0, 23, 27, 46, 172]
abbrev dktX4_bottleneck_1 : List UInt8 := dkwX4_bottleneck_1 ++ []
def dkwX4_bottleneck_0 : List UInt8 := [42, 42, 180, 1, 2, 153, 0, 19, 27, 133, 9, 20, 0, 86, 184, 0, 82, 153, 0, 7, 3, 167, 0, 4]
abbrev dktX4_bottleneck_0 : List UInt8 := dkwX4_bottleneck_0 ++ dktX4_bottleneck_1
theorem dksX4_bottleneck_0 : cX4_bottleneck.data.toList.drop 0 = dktX4_bottleneck_0 := by decide +kernel
theorem dksX4_bottleneck_1 : cX4_bottleneck.data.toList.drop 24 = dktX4_bottleneck_1 := dk_seg dksX4_bottleneck_0 24 rfl rfl
theorem dX4_bottleneck_0 : decode cX4_bottleneck 0 = .ok (.aload_n 0, 1) := dk_42 (dk_at dksX4_bottleneck_0 0 rfl rfl)
theorem dX4_bottleneck_1 : decode cX4_bottleneck 1 = .ok (.aload_n 0, 1) := dk_42 (dk_at dksX4_bottleneck_0 1 rfl rfl)
theorem dX4_bottleneck_2 : decode cX4_bottleneck 2 = .ok (.getfield 258, 3) := dk_180 1 2 (dk_at dksX4_bottleneck_0 2 rfl rfl)
theorem dX4_bottleneck_5 : decode cX4_bottleneck 5 = .ok (.ifCond .eq 19, 3) := dk_153 0 19 (dk_at dksX4_bottleneck_0 5 rfl rfl)
theorem dX4_bottleneck_8 : decode cX4_bottleneck 8 = .ok (.iload_n 1, 1) := dk_27 (dk_at dksX4_bottleneck_0 8 rfl rfl)
theorem dX4_bottleneck_9 : decode cX4_bottleneck 9 = .ok (.i2l, 1) := dk_133 (dk_at dksX4_bottleneck_0 9 rfl rfl)
theorem dX4_bottleneck_10 : decode cX4_bottleneck 10 = .ok (.lconst 0, 1) := dk_9 (dk_at dksX4_bottleneck_0 10 rfl rfl)
theorem dX4_bottleneck_11 : decode cX4_bottleneck 11 = .ok (.ldc2_w 86, 3) := dk_20 0 86 (dk_at dksX4_bottleneck_0 11 rfl rfl)
theorem dX4_bottleneck_14 : decode cX4_bottleneck 14 = .ok (.invokestatic 82, 3) := dk_184 0 82 (dk_at dksX4_bottleneck_0 14 rfl rfl)
theorem dX4_bottleneck_17 : decode cX4_bottleneck 17 = .ok (.ifCond .eq 7, 3) := dk_153 0 7 (dk_at dksX4_bottleneck_0 17 rfl rfl)
theorem dX4_bottleneck_20 : decode cX4_bottleneck 20 = .ok (.iconst 0, 1) := dk_3 (dk_at dksX4_bottleneck_0 20 rfl rfl)
theorem dX4_bottleneck_21 : decode cX4_bottleneck 21 = .ok (.goto 4, 3) := dk_167 0 4 (dk_at dksX4_bottleneck_0 21 rfl rfl)
theorem dX4_bottleneck_24 : decode cX4_bottleneck 24 = .ok (.iconst 1, 1) := dk_4 (dk_at dksX4_bottleneck_1 0 rfl rfl)
theorem dX4_bottleneck_25 : decode cX4_bottleneck 25 = .ok (.putfield 79, 3) := dk_181 0 79 (dk_at dksX4_bottleneck_1 1 rfl rfl)
theorem dX4_bottleneck_28 : decode cX4_bottleneck 28 = .ok (.aload_n 0, 1) := dk_42 (dk_at dksX4_bottleneck_1 4 rfl rfl)
theorem dX4_bottleneck_29 : decode cX4_bottleneck 29 = .ok (.getfield 79, 3) := dk_180 0 79 (dk_at dksX4_bottleneck_1 5 rfl rfl)
theorem dX4_bottleneck_32 : decode cX4_bottleneck 32 = .ok (.ifCond .le 7, 3) := dk_158 0 7 (dk_at dksX4_bottleneck_1 8 rfl rfl)
theorem dX4_bottleneck_35 : decode cX4_bottleneck 35 = .ok (.iconst 0, 1) := dk_3 (dk_at dksX4_bottleneck_1 11 rfl rfl)
theorem dX4_bottleneck_36 : decode cX4_bottleneck 36 = .ok (.goto 9, 3) := dk_167 0 9 (dk_at dksX4_bottleneck_1 12 rfl rfl)
theorem dX4_bottleneck_39 : decode cX4_bottleneck 39 = .ok (.aload_n 0, 1) := dk_42 (dk_at dksX4_bottleneck_1 15 rfl rfl)
theorem dX4_bottleneck_40 : decode cX4_bottleneck 40 = .ok (.getfield 23, 3) := dk_180 0 23 (dk_at dksX4_bottleneck_1 16 rfl rfl)
theorem dX4_bottleneck_43 : decode cX4_bottleneck 43 = .ok (.iload_n 1, 1) := dk_27 (dk_at dksX4_bottleneck_1 19 rfl rfl)
theorem dX4_bottleneck_44 : decode cX4_bottleneck 44 = .ok (.iaload, 1) := dk_46 (dk_at dksX4_bottleneck_1 20 rfl rfl)
theorem dX4_bottleneck_45 : decode cX4_bottleneck 45 = .ok (.ireturn, 1) := dk_172 (dk_at dksX4_bottleneck_1 21 rfl rfl)
abbrev cX4_tabu : ByteArray := prog_19_method_74_code
def yX4_tabu : MethodName := ⟨RX4, "tabu", "(II)I"⟩
def dkwX4_tabu_17 : List UInt8 := [172]
abbrev dktX4_tabu_17 : List UInt8 := dkwX4_tabu_17 ++ []
def dkwX4_tabu_16 : List UInt8 := [167, 254, 235, 42, 180, 0, 61, 3, 42, 180, 0, 9, 17, 0, 183, 16, 20, 184, 1, 8, 42, 182, 0, 188]
abbrev dktX4_tabu_16 : List UInt8 := dkwX4_tabu_16 ++ dktX4_tabu_17
def dkwX4_tabu_15 : List UInt8 := [162, 0, 23, 21, 7, 62, 42, 180, 0, 9, 17, 0, 183, 42, 180, 0, 61, 3, 16, 20, 184, 1, 8]
abbrev dktX4_tabu_15 : List UInt8 := dkwX4_tabu_15 ++ dktX4_tabu_16
def dkwX4_tabu_14 : List UInt8 := [21, 8, 21, 9, 4, 96, 182, 0, 142, 96, 21, 5, 79, 42, 21, 5, 181, 1, 14, 21, 7, 29]
abbrev dktX4_tabu_14 : List UInt8 := dkwX4_tabu_14 ++ dktX4_tabu_15
def dkwX4_tabu_13 : List UInt8 := [21, 8, 21, 9, 182, 0, 221, 42, 180, 0, 58, 16, 20, 42, 21, 8, 21, 9, 182, 0, 142, 104, 42]
abbrev dktX4_tabu_13 : List UInt8 := dkwX4_tabu_13 ++ dktX4_tabu_14
def dkwX4_tabu_12 : List UInt8 := [167, 0, 4, 3, 54, 4, 21, 4, 153, 0, 84, 21, 6, 8, 108, 54, 8, 21, 6, 8, 112, 54, 9, 42]
abbrev dktX4_tabu_12 : List UInt8 := dkwX4_tabu_12 ++ dktX4_tabu_13
def dkwX4_tabu_11 : List UInt8 := [162, 0, 11, 21, 8, 54, 6, 21, 12, 54, 7, 132, 8, 1, 167, 255, 115, 21, 6, 2, 159, 0, 7, 4]
abbrev dktX4_tabu_11 : List UInt8 := dkwX4_tabu_11 ++ dktX4_tabu_12
def dkwX4_tabu_10 : List UInt8 := [54, 13, 21, 12, 155, 0, 29, 21, 13, 154, 0, 24, 21, 6, 2, 159, 0, 10, 21, 12, 21, 7]
abbrev dktX4_tabu_10 : List UInt8 := dkwX4_tabu_10 ++ dktX4_tabu_11
def dkwX4_tabu_9 : List UInt8 := [158, 0, 22, 21, 11, 21, 5, 28, 100, 161, 0, 13, 21, 12, 29, 161, 0, 7, 4, 167, 0, 4, 3]
abbrev dktX4_tabu_9 : List UInt8 := dkwX4_tabu_9 ++ dktX4_tabu_10
def dkwX4_tabu_8 : List UInt8 := [21, 9, 21, 10, 182, 0, 221, 42, 182, 0, 188, 54, 12, 42, 21, 9, 21, 10, 182, 0, 221, 21, 11]
abbrev dktX4_tabu_8 : List UInt8 := dkwX4_tabu_8 ++ dktX4_tabu_9
def dkwX4_tabu_7 : List UInt8 := [42, 21, 9, 21, 10, 182, 0, 142, 104, 42, 21, 9, 21, 10, 4, 96, 182, 0, 142, 96, 46, 54, 11, 42]
abbrev dktX4_tabu_7 : List UInt8 := dkwX4_tabu_7 ++ dktX4_tabu_8
def dkwX4_tabu_6 : List UInt8 := [21, 8, 51, 153, 0, 124, 21, 8, 8, 108, 54, 9, 21, 8, 8, 112, 54, 10, 42, 180, 0, 58, 16, 20]
abbrev dktX4_tabu_6 : List UInt8 := dkwX4_tabu_6 ++ dktX4_tabu_7
def dkwX4_tabu_5 : List UInt8 := [182, 1, 17, 2, 54, 6, 3, 54, 7, 3, 54, 8, 21, 8, 16, 20, 162, 0, 140, 42, 180, 0, 64]
abbrev dktX4_tabu_5 : List UInt8 := dkwX4_tabu_5 ++ dktX4_tabu_6
def dkwX4_tabu_4 : List UInt8 := [54, 4, 21, 4, 153, 1, 22, 42, 180, 1, 14, 27, 162, 1, 14, 42, 180, 1, 14, 4, 96, 54, 5, 42]
abbrev dktX4_tabu_4 : List UInt8 := dkwX4_tabu_4 ++ dktX4_tabu_5
def dkwX4_tabu_3 : List UInt8 := [17, 0, 183, 42, 180, 0, 61, 3, 16, 20, 184, 1, 8, 42, 182, 0, 188, 62, 42, 3, 181, 1, 14, 4]
abbrev dktX4_tabu_3 : List UInt8 := dkwX4_tabu_3 ++ dktX4_tabu_4
def dkwX4_tabu_2 : List UInt8 := [17, 1, 144, 162, 0, 16, 42, 180, 0, 58, 29, 3, 79, 132, 3, 1, 167, 255, 239, 42, 180, 0, 9]
abbrev dktX4_tabu_2 : List UInt8 := dkwX4_tabu_2 ++ dktX4_tabu_3
def dkwX4_tabu_1 : List UInt8 := [153, 0, 7, 3, 167, 0, 4, 4, 181, 0, 79, 42, 180, 0, 79, 158, 0, 5, 3, 172, 3, 62, 29]
abbrev dktX4_tabu_1 : List UInt8 := dkwX4_tabu_1 ++ dktX4_tabu_2
def dkwX4_tabu_0 : List UInt8 := [42, 27, 133, 9, 20, 1, 6, 184, 0, 82, 153, 0, 19, 28, 133, 9, 20, 0, 92, 184, 0, 82]
abbrev dktX4_tabu_0 : List UInt8 := dkwX4_tabu_0 ++ dktX4_tabu_1
theorem dksX4_tabu_0 : cX4_tabu.data.toList.drop 0 = dktX4_tabu_0 := by decide +kernel
theorem dksX4_tabu_1 : cX4_tabu.data.toList.drop 22 = dktX4_tabu_1 := dk_seg dksX4_tabu_0 22 rfl rfl
theorem dksX4_tabu_2 : cX4_tabu.data.toList.drop 45 = dktX4_tabu_2 := dk_seg dksX4_tabu_1 23 rfl rfl
theorem dksX4_tabu_3 : cX4_tabu.data.toList.drop 68 = dktX4_tabu_3 := dk_seg dksX4_tabu_2 23 rfl rfl
theorem dksX4_tabu_4 : cX4_tabu.data.toList.drop 92 = dktX4_tabu_4 := dk_seg dksX4_tabu_3 24 rfl rfl
theorem dksX4_tabu_5 : cX4_tabu.data.toList.drop 116 = dktX4_tabu_5 := dk_seg dksX4_tabu_4 24 rfl rfl
theorem dksX4_tabu_6 : cX4_tabu.data.toList.drop 139 = dktX4_tabu_6 := dk_seg dksX4_tabu_5 23 rfl rfl
theorem dksX4_tabu_7 : cX4_tabu.data.toList.drop 163 = dktX4_tabu_7 := dk_seg dksX4_tabu_6 24 rfl rfl
theorem dksX4_tabu_8 : cX4_tabu.data.toList.drop 187 = dktX4_tabu_8 := dk_seg dksX4_tabu_7 24 rfl rfl
theorem dksX4_tabu_9 : cX4_tabu.data.toList.drop 210 = dktX4_tabu_9 := dk_seg dksX4_tabu_8 23 rfl rfl
theorem dksX4_tabu_10 : cX4_tabu.data.toList.drop 233 = dktX4_tabu_10 := dk_seg dksX4_tabu_9 23 rfl rfl
theorem dksX4_tabu_11 : cX4_tabu.data.toList.drop 255 = dktX4_tabu_11 := dk_seg dksX4_tabu_10 22 rfl rfl
theorem dksX4_tabu_12 : cX4_tabu.data.toList.drop 279 = dktX4_tabu_12 := dk_seg dksX4_tabu_11 24 rfl rfl
theorem dksX4_tabu_13 : cX4_tabu.data.toList.drop 303 = dktX4_tabu_13 := dk_seg dksX4_tabu_12 24 rfl rfl
theorem dksX4_tabu_14 : cX4_tabu.data.toList.drop 326 = dktX4_tabu_14 := dk_seg dksX4_tabu_13 23 rfl rfl
theorem dksX4_tabu_15 : cX4_tabu.data.toList.drop 348 = dktX4_tabu_15 := dk_seg dksX4_tabu_14 22 rfl rfl
theorem dksX4_tabu_16 : cX4_tabu.data.toList.drop 371 = dktX4_tabu_16 := dk_seg dksX4_tabu_15 23 rfl rfl
theorem dksX4_tabu_17 : cX4_tabu.data.toList.drop 395 = dktX4_tabu_17 := dk_seg dksX4_tabu_16 24 rfl rfl
theorem dX4_tabu_0 : decode cX4_tabu 0 = .ok (.aload_n 0, 1) := dk_42 (dk_at dksX4_tabu_0 0 rfl rfl)
theorem dX4_tabu_1 : decode cX4_tabu 1 = .ok (.iload_n 1, 1) := dk_27 (dk_at dksX4_tabu_0 1 rfl rfl)
theorem dX4_tabu_2 : decode cX4_tabu 2 = .ok (.i2l, 1) := dk_133 (dk_at dksX4_tabu_0 2 rfl rfl)
theorem dX4_tabu_3 : decode cX4_tabu 3 = .ok (.lconst 0, 1) := dk_9 (dk_at dksX4_tabu_0 3 rfl rfl)
theorem dX4_tabu_4 : decode cX4_tabu 4 = .ok (.ldc2_w 262, 3) := dk_20 1 6 (dk_at dksX4_tabu_0 4 rfl rfl)
theorem dX4_tabu_7 : decode cX4_tabu 7 = .ok (.invokestatic 82, 3) := dk_184 0 82 (dk_at dksX4_tabu_0 7 rfl rfl)
theorem dX4_tabu_10 : decode cX4_tabu 10 = .ok (.ifCond .eq 19, 3) := dk_153 0 19 (dk_at dksX4_tabu_0 10 rfl rfl)
theorem dX4_tabu_13 : decode cX4_tabu 13 = .ok (.iload_n 2, 1) := dk_28 (dk_at dksX4_tabu_0 13 rfl rfl)
theorem dX4_tabu_14 : decode cX4_tabu 14 = .ok (.i2l, 1) := dk_133 (dk_at dksX4_tabu_0 14 rfl rfl)
theorem dX4_tabu_15 : decode cX4_tabu 15 = .ok (.lconst 0, 1) := dk_9 (dk_at dksX4_tabu_0 15 rfl rfl)
theorem dX4_tabu_16 : decode cX4_tabu 16 = .ok (.ldc2_w 92, 3) := dk_20 0 92 (dk_at dksX4_tabu_0 16 rfl rfl)
theorem dX4_tabu_19 : decode cX4_tabu 19 = .ok (.invokestatic 82, 3) := dk_184 0 82 (dk_at dksX4_tabu_0 19 rfl rfl)
theorem dX4_tabu_22 : decode cX4_tabu 22 = .ok (.ifCond .eq 7, 3) := dk_153 0 7 (dk_at dksX4_tabu_1 0 rfl rfl)
theorem dX4_tabu_25 : decode cX4_tabu 25 = .ok (.iconst 0, 1) := dk_3 (dk_at dksX4_tabu_1 3 rfl rfl)
theorem dX4_tabu_26 : decode cX4_tabu 26 = .ok (.goto 4, 3) := dk_167 0 4 (dk_at dksX4_tabu_1 4 rfl rfl)
theorem dX4_tabu_29 : decode cX4_tabu 29 = .ok (.iconst 1, 1) := dk_4 (dk_at dksX4_tabu_1 7 rfl rfl)
theorem dX4_tabu_30 : decode cX4_tabu 30 = .ok (.putfield 79, 3) := dk_181 0 79 (dk_at dksX4_tabu_1 8 rfl rfl)
theorem dX4_tabu_33 : decode cX4_tabu 33 = .ok (.aload_n 0, 1) := dk_42 (dk_at dksX4_tabu_1 11 rfl rfl)
theorem dX4_tabu_34 : decode cX4_tabu 34 = .ok (.getfield 79, 3) := dk_180 0 79 (dk_at dksX4_tabu_1 12 rfl rfl)
theorem dX4_tabu_37 : decode cX4_tabu 37 = .ok (.ifCond .le 5, 3) := dk_158 0 5 (dk_at dksX4_tabu_1 15 rfl rfl)
theorem dX4_tabu_40 : decode cX4_tabu 40 = .ok (.iconst 0, 1) := dk_3 (dk_at dksX4_tabu_1 18 rfl rfl)
theorem dX4_tabu_41 : decode cX4_tabu 41 = .ok (.ireturn, 1) := dk_172 (dk_at dksX4_tabu_1 19 rfl rfl)
theorem dX4_tabu_42 : decode cX4_tabu 42 = .ok (.iconst 0, 1) := dk_3 (dk_at dksX4_tabu_1 20 rfl rfl)
theorem dX4_tabu_43 : decode cX4_tabu 43 = .ok (.istore_n 3, 1) := dk_62 (dk_at dksX4_tabu_1 21 rfl rfl)
theorem dX4_tabu_44 : decode cX4_tabu 44 = .ok (.iload_n 3, 1) := dk_29 (dk_at dksX4_tabu_1 22 rfl rfl)
theorem dX4_tabu_45 : decode cX4_tabu 45 = .ok (.sipush 400, 3) := dk_17 1 144 (dk_at dksX4_tabu_2 0 rfl rfl)
theorem dX4_tabu_48 : decode cX4_tabu 48 = .ok (.if_icmp .ge 16, 3) := dk_162 0 16 (dk_at dksX4_tabu_2 3 rfl rfl)
theorem dX4_tabu_51 : decode cX4_tabu 51 = .ok (.aload_n 0, 1) := dk_42 (dk_at dksX4_tabu_2 6 rfl rfl)
theorem dX4_tabu_52 : decode cX4_tabu 52 = .ok (.getfield 58, 3) := dk_180 0 58 (dk_at dksX4_tabu_2 7 rfl rfl)
theorem dX4_tabu_55 : decode cX4_tabu 55 = .ok (.iload_n 3, 1) := dk_29 (dk_at dksX4_tabu_2 10 rfl rfl)
theorem dX4_tabu_56 : decode cX4_tabu 56 = .ok (.iconst 0, 1) := dk_3 (dk_at dksX4_tabu_2 11 rfl rfl)
theorem dX4_tabu_57 : decode cX4_tabu 57 = .ok (.iastore, 1) := dk_79 (dk_at dksX4_tabu_2 12 rfl rfl)
theorem dX4_tabu_58 : decode cX4_tabu 58 = .ok (.iinc 3 1, 3) := dk_132 3 1 (dk_at dksX4_tabu_2 13 rfl rfl)
theorem dX4_tabu_61 : decode cX4_tabu 61 = .ok (.goto (-17), 3) := dk_167 255 239 (dk_at dksX4_tabu_2 16 rfl rfl)
theorem dX4_tabu_64 : decode cX4_tabu 64 = .ok (.aload_n 0, 1) := dk_42 (dk_at dksX4_tabu_2 19 rfl rfl)
theorem dX4_tabu_65 : decode cX4_tabu 65 = .ok (.getfield 9, 3) := dk_180 0 9 (dk_at dksX4_tabu_2 20 rfl rfl)
theorem dX4_tabu_68 : decode cX4_tabu 68 = .ok (.sipush 183, 3) := dk_17 0 183 (dk_at dksX4_tabu_3 0 rfl rfl)
theorem dX4_tabu_71 : decode cX4_tabu 71 = .ok (.aload_n 0, 1) := dk_42 (dk_at dksX4_tabu_3 3 rfl rfl)
theorem dX4_tabu_72 : decode cX4_tabu 72 = .ok (.getfield 61, 3) := dk_180 0 61 (dk_at dksX4_tabu_3 4 rfl rfl)
theorem dX4_tabu_75 : decode cX4_tabu 75 = .ok (.iconst 0, 1) := dk_3 (dk_at dksX4_tabu_3 7 rfl rfl)
theorem dX4_tabu_76 : decode cX4_tabu 76 = .ok (.bipush 20, 2) := dk_16 20 (dk_at dksX4_tabu_3 8 rfl rfl)
theorem dX4_tabu_78 : decode cX4_tabu 78 = .ok (.invokestatic 264, 3) := dk_184 1 8 (dk_at dksX4_tabu_3 10 rfl rfl)
theorem dX4_tabu_81 : decode cX4_tabu 81 = .ok (.aload_n 0, 1) := dk_42 (dk_at dksX4_tabu_3 13 rfl rfl)
theorem dX4_tabu_82 : decode cX4_tabu 82 = .ok (.invokevirtual 188, 3) := dk_182 0 188 (dk_at dksX4_tabu_3 14 rfl rfl)
theorem dX4_tabu_85 : decode cX4_tabu 85 = .ok (.istore_n 3, 1) := dk_62 (dk_at dksX4_tabu_3 17 rfl rfl)
theorem dX4_tabu_86 : decode cX4_tabu 86 = .ok (.aload_n 0, 1) := dk_42 (dk_at dksX4_tabu_3 18 rfl rfl)
theorem dX4_tabu_87 : decode cX4_tabu 87 = .ok (.iconst 0, 1) := dk_3 (dk_at dksX4_tabu_3 19 rfl rfl)
theorem dX4_tabu_88 : decode cX4_tabu 88 = .ok (.putfield 270, 3) := dk_181 1 14 (dk_at dksX4_tabu_3 20 rfl rfl)
theorem dX4_tabu_91 : decode cX4_tabu 91 = .ok (.iconst 1, 1) := dk_4 (dk_at dksX4_tabu_3 23 rfl rfl)
theorem dX4_tabu_92 : decode cX4_tabu 92 = .ok (.istore 4, 2) := dk_54 4 (dk_at dksX4_tabu_4 0 rfl rfl)
theorem dX4_tabu_94 : decode cX4_tabu 94 = .ok (.iload 4, 2) := dk_21 4 (dk_at dksX4_tabu_4 2 rfl rfl)
theorem dX4_tabu_96 : decode cX4_tabu 96 = .ok (.ifCond .eq 278, 3) := dk_153 1 22 (dk_at dksX4_tabu_4 4 rfl rfl)
theorem dX4_tabu_99 : decode cX4_tabu 99 = .ok (.aload_n 0, 1) := dk_42 (dk_at dksX4_tabu_4 7 rfl rfl)
theorem dX4_tabu_100 : decode cX4_tabu 100 = .ok (.getfield 270, 3) := dk_180 1 14 (dk_at dksX4_tabu_4 8 rfl rfl)
theorem dX4_tabu_103 : decode cX4_tabu 103 = .ok (.iload_n 1, 1) := dk_27 (dk_at dksX4_tabu_4 11 rfl rfl)
theorem dX4_tabu_104 : decode cX4_tabu 104 = .ok (.if_icmp .ge 270, 3) := dk_162 1 14 (dk_at dksX4_tabu_4 12 rfl rfl)
theorem dX4_tabu_107 : decode cX4_tabu 107 = .ok (.aload_n 0, 1) := dk_42 (dk_at dksX4_tabu_4 15 rfl rfl)
theorem dX4_tabu_108 : decode cX4_tabu 108 = .ok (.getfield 270, 3) := dk_180 1 14 (dk_at dksX4_tabu_4 16 rfl rfl)
theorem dX4_tabu_111 : decode cX4_tabu 111 = .ok (.iconst 1, 1) := dk_4 (dk_at dksX4_tabu_4 19 rfl rfl)
theorem dX4_tabu_112 : decode cX4_tabu 112 = .ok (.iadd, 1) := dk_96 (dk_at dksX4_tabu_4 20 rfl rfl)
theorem dX4_tabu_113 : decode cX4_tabu 113 = .ok (.istore 5, 2) := dk_54 5 (dk_at dksX4_tabu_4 21 rfl rfl)
theorem dX4_tabu_115 : decode cX4_tabu 115 = .ok (.aload_n 0, 1) := dk_42 (dk_at dksX4_tabu_4 23 rfl rfl)
theorem dX4_tabu_116 : decode cX4_tabu 116 = .ok (.invokevirtual 273, 3) := dk_182 1 17 (dk_at dksX4_tabu_5 0 rfl rfl)
theorem dX4_tabu_119 : decode cX4_tabu 119 = .ok (.iconst (-1), 1) := dk_2 (dk_at dksX4_tabu_5 3 rfl rfl)
theorem dX4_tabu_120 : decode cX4_tabu 120 = .ok (.istore 6, 2) := dk_54 6 (dk_at dksX4_tabu_5 4 rfl rfl)
theorem dX4_tabu_122 : decode cX4_tabu 122 = .ok (.iconst 0, 1) := dk_3 (dk_at dksX4_tabu_5 6 rfl rfl)
theorem dX4_tabu_123 : decode cX4_tabu 123 = .ok (.istore 7, 2) := dk_54 7 (dk_at dksX4_tabu_5 7 rfl rfl)
theorem dX4_tabu_125 : decode cX4_tabu 125 = .ok (.iconst 0, 1) := dk_3 (dk_at dksX4_tabu_5 9 rfl rfl)
theorem dX4_tabu_126 : decode cX4_tabu 126 = .ok (.istore 8, 2) := dk_54 8 (dk_at dksX4_tabu_5 10 rfl rfl)
theorem dX4_tabu_128 : decode cX4_tabu 128 = .ok (.iload 8, 2) := dk_21 8 (dk_at dksX4_tabu_5 12 rfl rfl)
theorem dX4_tabu_130 : decode cX4_tabu 130 = .ok (.bipush 20, 2) := dk_16 20 (dk_at dksX4_tabu_5 14 rfl rfl)
theorem dX4_tabu_132 : decode cX4_tabu 132 = .ok (.if_icmp .ge 140, 3) := dk_162 0 140 (dk_at dksX4_tabu_5 16 rfl rfl)
theorem dX4_tabu_135 : decode cX4_tabu 135 = .ok (.aload_n 0, 1) := dk_42 (dk_at dksX4_tabu_5 19 rfl rfl)
theorem dX4_tabu_136 : decode cX4_tabu 136 = .ok (.getfield 64, 3) := dk_180 0 64 (dk_at dksX4_tabu_5 20 rfl rfl)
theorem dX4_tabu_139 : decode cX4_tabu 139 = .ok (.iload 8, 2) := dk_21 8 (dk_at dksX4_tabu_6 0 rfl rfl)
theorem dX4_tabu_141 : decode cX4_tabu 141 = .ok (.baload, 1) := dk_51 (dk_at dksX4_tabu_6 2 rfl rfl)
theorem dX4_tabu_142 : decode cX4_tabu 142 = .ok (.ifCond .eq 124, 3) := dk_153 0 124 (dk_at dksX4_tabu_6 3 rfl rfl)
theorem dX4_tabu_145 : decode cX4_tabu 145 = .ok (.iload 8, 2) := dk_21 8 (dk_at dksX4_tabu_6 6 rfl rfl)
theorem dX4_tabu_147 : decode cX4_tabu 147 = .ok (.iconst 5, 1) := dk_8 (dk_at dksX4_tabu_6 8 rfl rfl)
theorem dX4_tabu_148 : decode cX4_tabu 148 = .ok (.idiv, 1) := dk_108 (dk_at dksX4_tabu_6 9 rfl rfl)
theorem dX4_tabu_149 : decode cX4_tabu 149 = .ok (.istore 9, 2) := dk_54 9 (dk_at dksX4_tabu_6 10 rfl rfl)
theorem dX4_tabu_151 : decode cX4_tabu 151 = .ok (.iload 8, 2) := dk_21 8 (dk_at dksX4_tabu_6 12 rfl rfl)
theorem dX4_tabu_153 : decode cX4_tabu 153 = .ok (.iconst 5, 1) := dk_8 (dk_at dksX4_tabu_6 14 rfl rfl)
theorem dX4_tabu_154 : decode cX4_tabu 154 = .ok (.irem, 1) := dk_112 (dk_at dksX4_tabu_6 15 rfl rfl)
theorem dX4_tabu_155 : decode cX4_tabu 155 = .ok (.istore 10, 2) := dk_54 10 (dk_at dksX4_tabu_6 16 rfl rfl)
theorem dX4_tabu_157 : decode cX4_tabu 157 = .ok (.aload_n 0, 1) := dk_42 (dk_at dksX4_tabu_6 18 rfl rfl)
theorem dX4_tabu_158 : decode cX4_tabu 158 = .ok (.getfield 58, 3) := dk_180 0 58 (dk_at dksX4_tabu_6 19 rfl rfl)
theorem dX4_tabu_161 : decode cX4_tabu 161 = .ok (.bipush 20, 2) := dk_16 20 (dk_at dksX4_tabu_6 22 rfl rfl)
theorem dX4_tabu_163 : decode cX4_tabu 163 = .ok (.aload_n 0, 1) := dk_42 (dk_at dksX4_tabu_7 0 rfl rfl)
theorem dX4_tabu_164 : decode cX4_tabu 164 = .ok (.iload 9, 2) := dk_21 9 (dk_at dksX4_tabu_7 1 rfl rfl)
theorem dX4_tabu_166 : decode cX4_tabu 166 = .ok (.iload 10, 2) := dk_21 10 (dk_at dksX4_tabu_7 3 rfl rfl)
theorem dX4_tabu_168 : decode cX4_tabu 168 = .ok (.invokevirtual 142, 3) := dk_182 0 142 (dk_at dksX4_tabu_7 5 rfl rfl)
theorem dX4_tabu_171 : decode cX4_tabu 171 = .ok (.imul, 1) := dk_104 (dk_at dksX4_tabu_7 8 rfl rfl)
theorem dX4_tabu_172 : decode cX4_tabu 172 = .ok (.aload_n 0, 1) := dk_42 (dk_at dksX4_tabu_7 9 rfl rfl)
theorem dX4_tabu_173 : decode cX4_tabu 173 = .ok (.iload 9, 2) := dk_21 9 (dk_at dksX4_tabu_7 10 rfl rfl)
theorem dX4_tabu_175 : decode cX4_tabu 175 = .ok (.iload 10, 2) := dk_21 10 (dk_at dksX4_tabu_7 12 rfl rfl)
theorem dX4_tabu_177 : decode cX4_tabu 177 = .ok (.iconst 1, 1) := dk_4 (dk_at dksX4_tabu_7 14 rfl rfl)
theorem dX4_tabu_178 : decode cX4_tabu 178 = .ok (.iadd, 1) := dk_96 (dk_at dksX4_tabu_7 15 rfl rfl)
theorem dX4_tabu_179 : decode cX4_tabu 179 = .ok (.invokevirtual 142, 3) := dk_182 0 142 (dk_at dksX4_tabu_7 16 rfl rfl)
theorem dX4_tabu_182 : decode cX4_tabu 182 = .ok (.iadd, 1) := dk_96 (dk_at dksX4_tabu_7 19 rfl rfl)
theorem dX4_tabu_183 : decode cX4_tabu 183 = .ok (.iaload, 1) := dk_46 (dk_at dksX4_tabu_7 20 rfl rfl)
theorem dX4_tabu_184 : decode cX4_tabu 184 = .ok (.istore 11, 2) := dk_54 11 (dk_at dksX4_tabu_7 21 rfl rfl)
theorem dX4_tabu_186 : decode cX4_tabu 186 = .ok (.aload_n 0, 1) := dk_42 (dk_at dksX4_tabu_7 23 rfl rfl)
theorem dX4_tabu_187 : decode cX4_tabu 187 = .ok (.iload 9, 2) := dk_21 9 (dk_at dksX4_tabu_8 0 rfl rfl)
theorem dX4_tabu_189 : decode cX4_tabu 189 = .ok (.iload 10, 2) := dk_21 10 (dk_at dksX4_tabu_8 2 rfl rfl)
theorem dX4_tabu_191 : decode cX4_tabu 191 = .ok (.invokevirtual 221, 3) := dk_182 0 221 (dk_at dksX4_tabu_8 4 rfl rfl)
theorem dX4_tabu_194 : decode cX4_tabu 194 = .ok (.aload_n 0, 1) := dk_42 (dk_at dksX4_tabu_8 7 rfl rfl)
theorem dX4_tabu_195 : decode cX4_tabu 195 = .ok (.invokevirtual 188, 3) := dk_182 0 188 (dk_at dksX4_tabu_8 8 rfl rfl)
theorem dX4_tabu_198 : decode cX4_tabu 198 = .ok (.istore 12, 2) := dk_54 12 (dk_at dksX4_tabu_8 11 rfl rfl)
theorem dX4_tabu_200 : decode cX4_tabu 200 = .ok (.aload_n 0, 1) := dk_42 (dk_at dksX4_tabu_8 13 rfl rfl)
theorem dX4_tabu_201 : decode cX4_tabu 201 = .ok (.iload 9, 2) := dk_21 9 (dk_at dksX4_tabu_8 14 rfl rfl)
theorem dX4_tabu_203 : decode cX4_tabu 203 = .ok (.iload 10, 2) := dk_21 10 (dk_at dksX4_tabu_8 16 rfl rfl)
theorem dX4_tabu_205 : decode cX4_tabu 205 = .ok (.invokevirtual 221, 3) := dk_182 0 221 (dk_at dksX4_tabu_8 18 rfl rfl)
theorem dX4_tabu_208 : decode cX4_tabu 208 = .ok (.iload 11, 2) := dk_21 11 (dk_at dksX4_tabu_8 21 rfl rfl)
theorem dX4_tabu_210 : decode cX4_tabu 210 = .ok (.ifCond .le 22, 3) := dk_158 0 22 (dk_at dksX4_tabu_9 0 rfl rfl)
theorem dX4_tabu_213 : decode cX4_tabu 213 = .ok (.iload 11, 2) := dk_21 11 (dk_at dksX4_tabu_9 3 rfl rfl)
theorem dX4_tabu_215 : decode cX4_tabu 215 = .ok (.iload 5, 2) := dk_21 5 (dk_at dksX4_tabu_9 5 rfl rfl)
theorem dX4_tabu_217 : decode cX4_tabu 217 = .ok (.iload_n 2, 1) := dk_28 (dk_at dksX4_tabu_9 7 rfl rfl)
theorem dX4_tabu_218 : decode cX4_tabu 218 = .ok (.isub, 1) := dk_100 (dk_at dksX4_tabu_9 8 rfl rfl)
theorem dX4_tabu_219 : decode cX4_tabu 219 = .ok (.if_icmp .lt 13, 3) := dk_161 0 13 (dk_at dksX4_tabu_9 9 rfl rfl)
theorem dX4_tabu_222 : decode cX4_tabu 222 = .ok (.iload 12, 2) := dk_21 12 (dk_at dksX4_tabu_9 12 rfl rfl)
theorem dX4_tabu_224 : decode cX4_tabu 224 = .ok (.iload_n 3, 1) := dk_29 (dk_at dksX4_tabu_9 14 rfl rfl)
theorem dX4_tabu_225 : decode cX4_tabu 225 = .ok (.if_icmp .lt 7, 3) := dk_161 0 7 (dk_at dksX4_tabu_9 15 rfl rfl)
theorem dX4_tabu_228 : decode cX4_tabu 228 = .ok (.iconst 1, 1) := dk_4 (dk_at dksX4_tabu_9 18 rfl rfl)
theorem dX4_tabu_229 : decode cX4_tabu 229 = .ok (.goto 4, 3) := dk_167 0 4 (dk_at dksX4_tabu_9 19 rfl rfl)
theorem dX4_tabu_232 : decode cX4_tabu 232 = .ok (.iconst 0, 1) := dk_3 (dk_at dksX4_tabu_9 22 rfl rfl)
theorem dX4_tabu_233 : decode cX4_tabu 233 = .ok (.istore 13, 2) := dk_54 13 (dk_at dksX4_tabu_10 0 rfl rfl)
theorem dX4_tabu_235 : decode cX4_tabu 235 = .ok (.iload 12, 2) := dk_21 12 (dk_at dksX4_tabu_10 2 rfl rfl)
theorem dX4_tabu_237 : decode cX4_tabu 237 = .ok (.ifCond .lt 29, 3) := dk_155 0 29 (dk_at dksX4_tabu_10 4 rfl rfl)
theorem dX4_tabu_240 : decode cX4_tabu 240 = .ok (.iload 13, 2) := dk_21 13 (dk_at dksX4_tabu_10 7 rfl rfl)
theorem dX4_tabu_242 : decode cX4_tabu 242 = .ok (.ifCond .ne 24, 3) := dk_154 0 24 (dk_at dksX4_tabu_10 9 rfl rfl)
theorem dX4_tabu_245 : decode cX4_tabu 245 = .ok (.iload 6, 2) := dk_21 6 (dk_at dksX4_tabu_10 12 rfl rfl)
theorem dX4_tabu_247 : decode cX4_tabu 247 = .ok (.iconst (-1), 1) := dk_2 (dk_at dksX4_tabu_10 14 rfl rfl)
theorem dX4_tabu_248 : decode cX4_tabu 248 = .ok (.if_icmp .eq 10, 3) := dk_159 0 10 (dk_at dksX4_tabu_10 15 rfl rfl)
theorem dX4_tabu_251 : decode cX4_tabu 251 = .ok (.iload 12, 2) := dk_21 12 (dk_at dksX4_tabu_10 18 rfl rfl)
theorem dX4_tabu_253 : decode cX4_tabu 253 = .ok (.iload 7, 2) := dk_21 7 (dk_at dksX4_tabu_10 20 rfl rfl)
theorem dX4_tabu_255 : decode cX4_tabu 255 = .ok (.if_icmp .ge 11, 3) := dk_162 0 11 (dk_at dksX4_tabu_11 0 rfl rfl)
theorem dX4_tabu_258 : decode cX4_tabu 258 = .ok (.iload 8, 2) := dk_21 8 (dk_at dksX4_tabu_11 3 rfl rfl)
theorem dX4_tabu_260 : decode cX4_tabu 260 = .ok (.istore 6, 2) := dk_54 6 (dk_at dksX4_tabu_11 5 rfl rfl)
theorem dX4_tabu_262 : decode cX4_tabu 262 = .ok (.iload 12, 2) := dk_21 12 (dk_at dksX4_tabu_11 7 rfl rfl)
theorem dX4_tabu_264 : decode cX4_tabu 264 = .ok (.istore 7, 2) := dk_54 7 (dk_at dksX4_tabu_11 9 rfl rfl)
theorem dX4_tabu_266 : decode cX4_tabu 266 = .ok (.iinc 8 1, 3) := dk_132 8 1 (dk_at dksX4_tabu_11 11 rfl rfl)
theorem dX4_tabu_269 : decode cX4_tabu 269 = .ok (.goto (-141), 3) := dk_167 255 115 (dk_at dksX4_tabu_11 14 rfl rfl)
theorem dX4_tabu_272 : decode cX4_tabu 272 = .ok (.iload 6, 2) := dk_21 6 (dk_at dksX4_tabu_11 17 rfl rfl)
theorem dX4_tabu_274 : decode cX4_tabu 274 = .ok (.iconst (-1), 1) := dk_2 (dk_at dksX4_tabu_11 19 rfl rfl)
theorem dX4_tabu_275 : decode cX4_tabu 275 = .ok (.if_icmp .eq 7, 3) := dk_159 0 7 (dk_at dksX4_tabu_11 20 rfl rfl)
theorem dX4_tabu_278 : decode cX4_tabu 278 = .ok (.iconst 1, 1) := dk_4 (dk_at dksX4_tabu_11 23 rfl rfl)
theorem dX4_tabu_279 : decode cX4_tabu 279 = .ok (.goto 4, 3) := dk_167 0 4 (dk_at dksX4_tabu_12 0 rfl rfl)
theorem dX4_tabu_282 : decode cX4_tabu 282 = .ok (.iconst 0, 1) := dk_3 (dk_at dksX4_tabu_12 3 rfl rfl)
theorem dX4_tabu_283 : decode cX4_tabu 283 = .ok (.istore 4, 2) := dk_54 4 (dk_at dksX4_tabu_12 4 rfl rfl)
theorem dX4_tabu_285 : decode cX4_tabu 285 = .ok (.iload 4, 2) := dk_21 4 (dk_at dksX4_tabu_12 6 rfl rfl)
theorem dX4_tabu_287 : decode cX4_tabu 287 = .ok (.ifCond .eq 84, 3) := dk_153 0 84 (dk_at dksX4_tabu_12 8 rfl rfl)
theorem dX4_tabu_290 : decode cX4_tabu 290 = .ok (.iload 6, 2) := dk_21 6 (dk_at dksX4_tabu_12 11 rfl rfl)
theorem dX4_tabu_292 : decode cX4_tabu 292 = .ok (.iconst 5, 1) := dk_8 (dk_at dksX4_tabu_12 13 rfl rfl)
theorem dX4_tabu_293 : decode cX4_tabu 293 = .ok (.idiv, 1) := dk_108 (dk_at dksX4_tabu_12 14 rfl rfl)
theorem dX4_tabu_294 : decode cX4_tabu 294 = .ok (.istore 8, 2) := dk_54 8 (dk_at dksX4_tabu_12 15 rfl rfl)
theorem dX4_tabu_296 : decode cX4_tabu 296 = .ok (.iload 6, 2) := dk_21 6 (dk_at dksX4_tabu_12 17 rfl rfl)
theorem dX4_tabu_298 : decode cX4_tabu 298 = .ok (.iconst 5, 1) := dk_8 (dk_at dksX4_tabu_12 19 rfl rfl)
theorem dX4_tabu_299 : decode cX4_tabu 299 = .ok (.irem, 1) := dk_112 (dk_at dksX4_tabu_12 20 rfl rfl)
theorem dX4_tabu_300 : decode cX4_tabu 300 = .ok (.istore 9, 2) := dk_54 9 (dk_at dksX4_tabu_12 21 rfl rfl)
theorem dX4_tabu_302 : decode cX4_tabu 302 = .ok (.aload_n 0, 1) := dk_42 (dk_at dksX4_tabu_12 23 rfl rfl)
theorem dX4_tabu_303 : decode cX4_tabu 303 = .ok (.iload 8, 2) := dk_21 8 (dk_at dksX4_tabu_13 0 rfl rfl)
theorem dX4_tabu_305 : decode cX4_tabu 305 = .ok (.iload 9, 2) := dk_21 9 (dk_at dksX4_tabu_13 2 rfl rfl)
theorem dX4_tabu_307 : decode cX4_tabu 307 = .ok (.invokevirtual 221, 3) := dk_182 0 221 (dk_at dksX4_tabu_13 4 rfl rfl)
theorem dX4_tabu_310 : decode cX4_tabu 310 = .ok (.aload_n 0, 1) := dk_42 (dk_at dksX4_tabu_13 7 rfl rfl)
theorem dX4_tabu_311 : decode cX4_tabu 311 = .ok (.getfield 58, 3) := dk_180 0 58 (dk_at dksX4_tabu_13 8 rfl rfl)
theorem dX4_tabu_314 : decode cX4_tabu 314 = .ok (.bipush 20, 2) := dk_16 20 (dk_at dksX4_tabu_13 11 rfl rfl)
theorem dX4_tabu_316 : decode cX4_tabu 316 = .ok (.aload_n 0, 1) := dk_42 (dk_at dksX4_tabu_13 13 rfl rfl)
theorem dX4_tabu_317 : decode cX4_tabu 317 = .ok (.iload 8, 2) := dk_21 8 (dk_at dksX4_tabu_13 14 rfl rfl)
theorem dX4_tabu_319 : decode cX4_tabu 319 = .ok (.iload 9, 2) := dk_21 9 (dk_at dksX4_tabu_13 16 rfl rfl)
theorem dX4_tabu_321 : decode cX4_tabu 321 = .ok (.invokevirtual 142, 3) := dk_182 0 142 (dk_at dksX4_tabu_13 18 rfl rfl)
theorem dX4_tabu_324 : decode cX4_tabu 324 = .ok (.imul, 1) := dk_104 (dk_at dksX4_tabu_13 21 rfl rfl)
theorem dX4_tabu_325 : decode cX4_tabu 325 = .ok (.aload_n 0, 1) := dk_42 (dk_at dksX4_tabu_13 22 rfl rfl)
theorem dX4_tabu_326 : decode cX4_tabu 326 = .ok (.iload 8, 2) := dk_21 8 (dk_at dksX4_tabu_14 0 rfl rfl)
theorem dX4_tabu_328 : decode cX4_tabu 328 = .ok (.iload 9, 2) := dk_21 9 (dk_at dksX4_tabu_14 2 rfl rfl)
theorem dX4_tabu_330 : decode cX4_tabu 330 = .ok (.iconst 1, 1) := dk_4 (dk_at dksX4_tabu_14 4 rfl rfl)
theorem dX4_tabu_331 : decode cX4_tabu 331 = .ok (.iadd, 1) := dk_96 (dk_at dksX4_tabu_14 5 rfl rfl)
theorem dX4_tabu_332 : decode cX4_tabu 332 = .ok (.invokevirtual 142, 3) := dk_182 0 142 (dk_at dksX4_tabu_14 6 rfl rfl)
theorem dX4_tabu_335 : decode cX4_tabu 335 = .ok (.iadd, 1) := dk_96 (dk_at dksX4_tabu_14 9 rfl rfl)
theorem dX4_tabu_336 : decode cX4_tabu 336 = .ok (.iload 5, 2) := dk_21 5 (dk_at dksX4_tabu_14 10 rfl rfl)
theorem dX4_tabu_338 : decode cX4_tabu 338 = .ok (.iastore, 1) := dk_79 (dk_at dksX4_tabu_14 12 rfl rfl)
theorem dX4_tabu_339 : decode cX4_tabu 339 = .ok (.aload_n 0, 1) := dk_42 (dk_at dksX4_tabu_14 13 rfl rfl)
theorem dX4_tabu_340 : decode cX4_tabu 340 = .ok (.iload 5, 2) := dk_21 5 (dk_at dksX4_tabu_14 14 rfl rfl)
theorem dX4_tabu_342 : decode cX4_tabu 342 = .ok (.putfield 270, 3) := dk_181 1 14 (dk_at dksX4_tabu_14 16 rfl rfl)
theorem dX4_tabu_345 : decode cX4_tabu 345 = .ok (.iload 7, 2) := dk_21 7 (dk_at dksX4_tabu_14 19 rfl rfl)
theorem dX4_tabu_347 : decode cX4_tabu 347 = .ok (.iload_n 3, 1) := dk_29 (dk_at dksX4_tabu_14 21 rfl rfl)
theorem dX4_tabu_348 : decode cX4_tabu 348 = .ok (.if_icmp .ge 23, 3) := dk_162 0 23 (dk_at dksX4_tabu_15 0 rfl rfl)
theorem dX4_tabu_351 : decode cX4_tabu 351 = .ok (.iload 7, 2) := dk_21 7 (dk_at dksX4_tabu_15 3 rfl rfl)
theorem dX4_tabu_353 : decode cX4_tabu 353 = .ok (.istore_n 3, 1) := dk_62 (dk_at dksX4_tabu_15 5 rfl rfl)
theorem dX4_tabu_354 : decode cX4_tabu 354 = .ok (.aload_n 0, 1) := dk_42 (dk_at dksX4_tabu_15 6 rfl rfl)
theorem dX4_tabu_355 : decode cX4_tabu 355 = .ok (.getfield 9, 3) := dk_180 0 9 (dk_at dksX4_tabu_15 7 rfl rfl)
theorem dX4_tabu_358 : decode cX4_tabu 358 = .ok (.sipush 183, 3) := dk_17 0 183 (dk_at dksX4_tabu_15 10 rfl rfl)
theorem dX4_tabu_361 : decode cX4_tabu 361 = .ok (.aload_n 0, 1) := dk_42 (dk_at dksX4_tabu_15 13 rfl rfl)
theorem dX4_tabu_362 : decode cX4_tabu 362 = .ok (.getfield 61, 3) := dk_180 0 61 (dk_at dksX4_tabu_15 14 rfl rfl)
theorem dX4_tabu_365 : decode cX4_tabu 365 = .ok (.iconst 0, 1) := dk_3 (dk_at dksX4_tabu_15 17 rfl rfl)
theorem dX4_tabu_366 : decode cX4_tabu 366 = .ok (.bipush 20, 2) := dk_16 20 (dk_at dksX4_tabu_15 18 rfl rfl)
theorem dX4_tabu_368 : decode cX4_tabu 368 = .ok (.invokestatic 264, 3) := dk_184 1 8 (dk_at dksX4_tabu_15 20 rfl rfl)
theorem dX4_tabu_371 : decode cX4_tabu 371 = .ok (.goto (-277), 3) := dk_167 254 235 (dk_at dksX4_tabu_16 0 rfl rfl)
theorem dX4_tabu_374 : decode cX4_tabu 374 = .ok (.aload_n 0, 1) := dk_42 (dk_at dksX4_tabu_16 3 rfl rfl)
theorem dX4_tabu_375 : decode cX4_tabu 375 = .ok (.getfield 61, 3) := dk_180 0 61 (dk_at dksX4_tabu_16 4 rfl rfl)
theorem dX4_tabu_378 : decode cX4_tabu 378 = .ok (.iconst 0, 1) := dk_3 (dk_at dksX4_tabu_16 7 rfl rfl)
theorem dX4_tabu_379 : decode cX4_tabu 379 = .ok (.aload_n 0, 1) := dk_42 (dk_at dksX4_tabu_16 8 rfl rfl)
theorem dX4_tabu_380 : decode cX4_tabu 380 = .ok (.getfield 9, 3) := dk_180 0 9 (dk_at dksX4_tabu_16 9 rfl rfl)
theorem dX4_tabu_383 : decode cX4_tabu 383 = .ok (.sipush 183, 3) := dk_17 0 183 (dk_at dksX4_tabu_16 12 rfl rfl)
theorem dX4_tabu_386 : decode cX4_tabu 386 = .ok (.bipush 20, 2) := dk_16 20 (dk_at dksX4_tabu_16 15 rfl rfl)
theorem dX4_tabu_388 : decode cX4_tabu 388 = .ok (.invokestatic 264, 3) := dk_184 1 8 (dk_at dksX4_tabu_16 17 rfl rfl)
theorem dX4_tabu_391 : decode cX4_tabu 391 = .ok (.aload_n 0, 1) := dk_42 (dk_at dksX4_tabu_16 20 rfl rfl)
theorem dX4_tabu_392 : decode cX4_tabu 392 = .ok (.invokevirtual 188, 3) := dk_182 0 188 (dk_at dksX4_tabu_16 21 rfl rfl)
theorem dX4_tabu_395 : decode cX4_tabu 395 = .ok (.ireturn, 1) := dk_172 (dk_at dksX4_tabu_17 0 rfl rfl)
abbrev cX4_findSwaps : ByteArray := prog_19_method_73_code
def yX4_findSwaps : MethodName := ⟨RX4, "findSwaps", "()V"⟩
def dkwX4_findSwaps_5 : List UInt8 := [167, 255, 166, 177]
abbrev dktX4_findSwaps_5 : List UInt8 := dkwX4_findSwaps_5 ++ []
def dkwX4_findSwaps_4 : List UInt8 := [180, 0, 64, 8, 28, 104, 42, 42, 27, 4, 100, 182, 0, 205, 182, 0, 147, 96, 4, 84, 132, 1, 1]
abbrev dktX4_findSwaps_4 : List UInt8 := dkwX4_findSwaps_4 ++ dktX4_findSwaps_5
def dkwX4_findSwaps_3 : List UInt8 := [27, 182, 0, 205, 182, 0, 147, 42, 42, 27, 4, 100, 182, 0, 205, 182, 0, 147, 4, 96, 160, 0, 24, 42]
abbrev dktX4_findSwaps_3 : List UInt8 := dkwX4_findSwaps_3 ++ dktX4_findSwaps_4
def dkwX4_findSwaps_2 : List UInt8 := [96, 46, 61, 42, 180, 0, 9, 16, 62, 42, 27, 4, 100, 182, 0, 205, 96, 46, 28, 160, 0, 49, 42, 42]
abbrev dktX4_findSwaps_2 : List UInt8 := dkwX4_findSwaps_2 ++ dktX4_findSwaps_3
def dkwX4_findSwaps_1 : List UInt8 := [167, 255, 240, 4, 60, 27, 42, 180, 0, 199, 162, 0, 88, 42, 180, 0, 9, 16, 62, 42, 27, 182, 0, 205]
abbrev dktX4_findSwaps_1 : List UInt8 := dkwX4_findSwaps_1 ++ dktX4_findSwaps_2
def dkwX4_findSwaps_0 : List UInt8 := [42, 182, 0, 202, 3, 60, 27, 16, 20, 162, 0, 16, 42, 180, 0, 64, 27, 3, 84, 132, 1, 1]
abbrev dktX4_findSwaps_0 : List UInt8 := dkwX4_findSwaps_0 ++ dktX4_findSwaps_1
theorem dksX4_findSwaps_0 : cX4_findSwaps.data.toList.drop 0 = dktX4_findSwaps_0 := by decide +kernel
theorem dksX4_findSwaps_1 : cX4_findSwaps.data.toList.drop 22 = dktX4_findSwaps_1 := dk_seg dksX4_findSwaps_0 22 rfl rfl
theorem dksX4_findSwaps_2 : cX4_findSwaps.data.toList.drop 46 = dktX4_findSwaps_2 := dk_seg dksX4_findSwaps_1 24 rfl rfl
theorem dksX4_findSwaps_3 : cX4_findSwaps.data.toList.drop 70 = dktX4_findSwaps_3 := dk_seg dksX4_findSwaps_2 24 rfl rfl
theorem dksX4_findSwaps_4 : cX4_findSwaps.data.toList.drop 94 = dktX4_findSwaps_4 := dk_seg dksX4_findSwaps_3 24 rfl rfl
theorem dksX4_findSwaps_5 : cX4_findSwaps.data.toList.drop 117 = dktX4_findSwaps_5 := dk_seg dksX4_findSwaps_4 23 rfl rfl
theorem dX4_findSwaps_0 : decode cX4_findSwaps 0 = .ok (.aload_n 0, 1) := dk_42 (dk_at dksX4_findSwaps_0 0 rfl rfl)
theorem dX4_findSwaps_1 : decode cX4_findSwaps 1 = .ok (.invokevirtual 202, 3) := dk_182 0 202 (dk_at dksX4_findSwaps_0 1 rfl rfl)
theorem dX4_findSwaps_4 : decode cX4_findSwaps 4 = .ok (.iconst 0, 1) := dk_3 (dk_at dksX4_findSwaps_0 4 rfl rfl)
theorem dX4_findSwaps_5 : decode cX4_findSwaps 5 = .ok (.istore_n 1, 1) := dk_60 (dk_at dksX4_findSwaps_0 5 rfl rfl)
theorem dX4_findSwaps_6 : decode cX4_findSwaps 6 = .ok (.iload_n 1, 1) := dk_27 (dk_at dksX4_findSwaps_0 6 rfl rfl)
theorem dX4_findSwaps_7 : decode cX4_findSwaps 7 = .ok (.bipush 20, 2) := dk_16 20 (dk_at dksX4_findSwaps_0 7 rfl rfl)
theorem dX4_findSwaps_9 : decode cX4_findSwaps 9 = .ok (.if_icmp .ge 16, 3) := dk_162 0 16 (dk_at dksX4_findSwaps_0 9 rfl rfl)
theorem dX4_findSwaps_12 : decode cX4_findSwaps 12 = .ok (.aload_n 0, 1) := dk_42 (dk_at dksX4_findSwaps_0 12 rfl rfl)
theorem dX4_findSwaps_13 : decode cX4_findSwaps 13 = .ok (.getfield 64, 3) := dk_180 0 64 (dk_at dksX4_findSwaps_0 13 rfl rfl)
theorem dX4_findSwaps_16 : decode cX4_findSwaps 16 = .ok (.iload_n 1, 1) := dk_27 (dk_at dksX4_findSwaps_0 16 rfl rfl)
theorem dX4_findSwaps_17 : decode cX4_findSwaps 17 = .ok (.iconst 0, 1) := dk_3 (dk_at dksX4_findSwaps_0 17 rfl rfl)
theorem dX4_findSwaps_18 : decode cX4_findSwaps 18 = .ok (.bastore, 1) := dk_84 (dk_at dksX4_findSwaps_0 18 rfl rfl)
theorem dX4_findSwaps_19 : decode cX4_findSwaps 19 = .ok (.iinc 1 1, 3) := dk_132 1 1 (dk_at dksX4_findSwaps_0 19 rfl rfl)
theorem dX4_findSwaps_22 : decode cX4_findSwaps 22 = .ok (.goto (-16), 3) := dk_167 255 240 (dk_at dksX4_findSwaps_1 0 rfl rfl)
theorem dX4_findSwaps_25 : decode cX4_findSwaps 25 = .ok (.iconst 1, 1) := dk_4 (dk_at dksX4_findSwaps_1 3 rfl rfl)
theorem dX4_findSwaps_26 : decode cX4_findSwaps 26 = .ok (.istore_n 1, 1) := dk_60 (dk_at dksX4_findSwaps_1 4 rfl rfl)
theorem dX4_findSwaps_27 : decode cX4_findSwaps 27 = .ok (.iload_n 1, 1) := dk_27 (dk_at dksX4_findSwaps_1 5 rfl rfl)
theorem dX4_findSwaps_28 : decode cX4_findSwaps 28 = .ok (.aload_n 0, 1) := dk_42 (dk_at dksX4_findSwaps_1 6 rfl rfl)
theorem dX4_findSwaps_29 : decode cX4_findSwaps 29 = .ok (.getfield 199, 3) := dk_180 0 199 (dk_at dksX4_findSwaps_1 7 rfl rfl)
theorem dX4_findSwaps_32 : decode cX4_findSwaps 32 = .ok (.if_icmp .ge 88, 3) := dk_162 0 88 (dk_at dksX4_findSwaps_1 10 rfl rfl)
theorem dX4_findSwaps_35 : decode cX4_findSwaps 35 = .ok (.aload_n 0, 1) := dk_42 (dk_at dksX4_findSwaps_1 13 rfl rfl)
theorem dX4_findSwaps_36 : decode cX4_findSwaps 36 = .ok (.getfield 9, 3) := dk_180 0 9 (dk_at dksX4_findSwaps_1 14 rfl rfl)
theorem dX4_findSwaps_39 : decode cX4_findSwaps 39 = .ok (.bipush 62, 2) := dk_16 62 (dk_at dksX4_findSwaps_1 17 rfl rfl)
theorem dX4_findSwaps_41 : decode cX4_findSwaps 41 = .ok (.aload_n 0, 1) := dk_42 (dk_at dksX4_findSwaps_1 19 rfl rfl)
theorem dX4_findSwaps_42 : decode cX4_findSwaps 42 = .ok (.iload_n 1, 1) := dk_27 (dk_at dksX4_findSwaps_1 20 rfl rfl)
theorem dX4_findSwaps_43 : decode cX4_findSwaps 43 = .ok (.invokevirtual 205, 3) := dk_182 0 205 (dk_at dksX4_findSwaps_1 21 rfl rfl)
theorem dX4_findSwaps_46 : decode cX4_findSwaps 46 = .ok (.iadd, 1) := dk_96 (dk_at dksX4_findSwaps_2 0 rfl rfl)
theorem dX4_findSwaps_47 : decode cX4_findSwaps 47 = .ok (.iaload, 1) := dk_46 (dk_at dksX4_findSwaps_2 1 rfl rfl)
theorem dX4_findSwaps_48 : decode cX4_findSwaps 48 = .ok (.istore_n 2, 1) := dk_61 (dk_at dksX4_findSwaps_2 2 rfl rfl)
theorem dX4_findSwaps_49 : decode cX4_findSwaps 49 = .ok (.aload_n 0, 1) := dk_42 (dk_at dksX4_findSwaps_2 3 rfl rfl)
theorem dX4_findSwaps_50 : decode cX4_findSwaps 50 = .ok (.getfield 9, 3) := dk_180 0 9 (dk_at dksX4_findSwaps_2 4 rfl rfl)
theorem dX4_findSwaps_53 : decode cX4_findSwaps 53 = .ok (.bipush 62, 2) := dk_16 62 (dk_at dksX4_findSwaps_2 7 rfl rfl)
theorem dX4_findSwaps_55 : decode cX4_findSwaps 55 = .ok (.aload_n 0, 1) := dk_42 (dk_at dksX4_findSwaps_2 9 rfl rfl)
theorem dX4_findSwaps_56 : decode cX4_findSwaps 56 = .ok (.iload_n 1, 1) := dk_27 (dk_at dksX4_findSwaps_2 10 rfl rfl)
theorem dX4_findSwaps_57 : decode cX4_findSwaps 57 = .ok (.iconst 1, 1) := dk_4 (dk_at dksX4_findSwaps_2 11 rfl rfl)
theorem dX4_findSwaps_58 : decode cX4_findSwaps 58 = .ok (.isub, 1) := dk_100 (dk_at dksX4_findSwaps_2 12 rfl rfl)
theorem dX4_findSwaps_59 : decode cX4_findSwaps 59 = .ok (.invokevirtual 205, 3) := dk_182 0 205 (dk_at dksX4_findSwaps_2 13 rfl rfl)
theorem dX4_findSwaps_62 : decode cX4_findSwaps 62 = .ok (.iadd, 1) := dk_96 (dk_at dksX4_findSwaps_2 16 rfl rfl)
theorem dX4_findSwaps_63 : decode cX4_findSwaps 63 = .ok (.iaload, 1) := dk_46 (dk_at dksX4_findSwaps_2 17 rfl rfl)
theorem dX4_findSwaps_64 : decode cX4_findSwaps 64 = .ok (.iload_n 2, 1) := dk_28 (dk_at dksX4_findSwaps_2 18 rfl rfl)
theorem dX4_findSwaps_65 : decode cX4_findSwaps 65 = .ok (.if_icmp .ne 49, 3) := dk_160 0 49 (dk_at dksX4_findSwaps_2 19 rfl rfl)
theorem dX4_findSwaps_68 : decode cX4_findSwaps 68 = .ok (.aload_n 0, 1) := dk_42 (dk_at dksX4_findSwaps_2 22 rfl rfl)
theorem dX4_findSwaps_69 : decode cX4_findSwaps 69 = .ok (.aload_n 0, 1) := dk_42 (dk_at dksX4_findSwaps_2 23 rfl rfl)
theorem dX4_findSwaps_70 : decode cX4_findSwaps 70 = .ok (.iload_n 1, 1) := dk_27 (dk_at dksX4_findSwaps_3 0 rfl rfl)
theorem dX4_findSwaps_71 : decode cX4_findSwaps 71 = .ok (.invokevirtual 205, 3) := dk_182 0 205 (dk_at dksX4_findSwaps_3 1 rfl rfl)
theorem dX4_findSwaps_74 : decode cX4_findSwaps 74 = .ok (.invokevirtual 147, 3) := dk_182 0 147 (dk_at dksX4_findSwaps_3 4 rfl rfl)
theorem dX4_findSwaps_77 : decode cX4_findSwaps 77 = .ok (.aload_n 0, 1) := dk_42 (dk_at dksX4_findSwaps_3 7 rfl rfl)
theorem dX4_findSwaps_78 : decode cX4_findSwaps 78 = .ok (.aload_n 0, 1) := dk_42 (dk_at dksX4_findSwaps_3 8 rfl rfl)
theorem dX4_findSwaps_79 : decode cX4_findSwaps 79 = .ok (.iload_n 1, 1) := dk_27 (dk_at dksX4_findSwaps_3 9 rfl rfl)
theorem dX4_findSwaps_80 : decode cX4_findSwaps 80 = .ok (.iconst 1, 1) := dk_4 (dk_at dksX4_findSwaps_3 10 rfl rfl)
theorem dX4_findSwaps_81 : decode cX4_findSwaps 81 = .ok (.isub, 1) := dk_100 (dk_at dksX4_findSwaps_3 11 rfl rfl)
theorem dX4_findSwaps_82 : decode cX4_findSwaps 82 = .ok (.invokevirtual 205, 3) := dk_182 0 205 (dk_at dksX4_findSwaps_3 12 rfl rfl)
theorem dX4_findSwaps_85 : decode cX4_findSwaps 85 = .ok (.invokevirtual 147, 3) := dk_182 0 147 (dk_at dksX4_findSwaps_3 15 rfl rfl)
theorem dX4_findSwaps_88 : decode cX4_findSwaps 88 = .ok (.iconst 1, 1) := dk_4 (dk_at dksX4_findSwaps_3 18 rfl rfl)
theorem dX4_findSwaps_89 : decode cX4_findSwaps 89 = .ok (.iadd, 1) := dk_96 (dk_at dksX4_findSwaps_3 19 rfl rfl)
theorem dX4_findSwaps_90 : decode cX4_findSwaps 90 = .ok (.if_icmp .ne 24, 3) := dk_160 0 24 (dk_at dksX4_findSwaps_3 20 rfl rfl)
theorem dX4_findSwaps_93 : decode cX4_findSwaps 93 = .ok (.aload_n 0, 1) := dk_42 (dk_at dksX4_findSwaps_3 23 rfl rfl)
theorem dX4_findSwaps_94 : decode cX4_findSwaps 94 = .ok (.getfield 64, 3) := dk_180 0 64 (dk_at dksX4_findSwaps_4 0 rfl rfl)
theorem dX4_findSwaps_97 : decode cX4_findSwaps 97 = .ok (.iconst 5, 1) := dk_8 (dk_at dksX4_findSwaps_4 3 rfl rfl)
theorem dX4_findSwaps_98 : decode cX4_findSwaps 98 = .ok (.iload_n 2, 1) := dk_28 (dk_at dksX4_findSwaps_4 4 rfl rfl)
theorem dX4_findSwaps_99 : decode cX4_findSwaps 99 = .ok (.imul, 1) := dk_104 (dk_at dksX4_findSwaps_4 5 rfl rfl)
theorem dX4_findSwaps_100 : decode cX4_findSwaps 100 = .ok (.aload_n 0, 1) := dk_42 (dk_at dksX4_findSwaps_4 6 rfl rfl)
theorem dX4_findSwaps_101 : decode cX4_findSwaps 101 = .ok (.aload_n 0, 1) := dk_42 (dk_at dksX4_findSwaps_4 7 rfl rfl)
theorem dX4_findSwaps_102 : decode cX4_findSwaps 102 = .ok (.iload_n 1, 1) := dk_27 (dk_at dksX4_findSwaps_4 8 rfl rfl)
theorem dX4_findSwaps_103 : decode cX4_findSwaps 103 = .ok (.iconst 1, 1) := dk_4 (dk_at dksX4_findSwaps_4 9 rfl rfl)
theorem dX4_findSwaps_104 : decode cX4_findSwaps 104 = .ok (.isub, 1) := dk_100 (dk_at dksX4_findSwaps_4 10 rfl rfl)
theorem dX4_findSwaps_105 : decode cX4_findSwaps 105 = .ok (.invokevirtual 205, 3) := dk_182 0 205 (dk_at dksX4_findSwaps_4 11 rfl rfl)
theorem dX4_findSwaps_108 : decode cX4_findSwaps 108 = .ok (.invokevirtual 147, 3) := dk_182 0 147 (dk_at dksX4_findSwaps_4 14 rfl rfl)
theorem dX4_findSwaps_111 : decode cX4_findSwaps 111 = .ok (.iadd, 1) := dk_96 (dk_at dksX4_findSwaps_4 17 rfl rfl)
theorem dX4_findSwaps_112 : decode cX4_findSwaps 112 = .ok (.iconst 1, 1) := dk_4 (dk_at dksX4_findSwaps_4 18 rfl rfl)
theorem dX4_findSwaps_113 : decode cX4_findSwaps 113 = .ok (.bastore, 1) := dk_84 (dk_at dksX4_findSwaps_4 19 rfl rfl)
theorem dX4_findSwaps_114 : decode cX4_findSwaps 114 = .ok (.iinc 1 1, 3) := dk_132 1 1 (dk_at dksX4_findSwaps_4 20 rfl rfl)
theorem dX4_findSwaps_117 : decode cX4_findSwaps 117 = .ok (.goto (-90), 3) := dk_167 255 166 (dk_at dksX4_findSwaps_5 0 rfl rfl)
theorem dX4_findSwaps_120 : decode cX4_findSwaps 120 = .ok (.return_, 1) := dk_177 (dk_at dksX4_findSwaps_5 3 rfl rfl)
abbrev cX4_tabuSteps : ByteArray := prog_19_method_75_code
def yX4_tabuSteps : MethodName := ⟨RX4, "tabuSteps", "()I"⟩
def dkwX4_tabuSteps_0 : List UInt8 := [42, 3, 181, 0, 79, 42, 180, 1, 14, 172]
abbrev dktX4_tabuSteps_0 : List UInt8 := dkwX4_tabuSteps_0 ++ []
theorem dksX4_tabuSteps_0 : cX4_tabuSteps.data.toList.drop 0 = dktX4_tabuSteps_0 := by decide +kernel
theorem dX4_tabuSteps_0 : decode cX4_tabuSteps 0 = .ok (.aload_n 0, 1) := dk_42 (dk_at dksX4_tabuSteps_0 0 rfl rfl)
theorem dX4_tabuSteps_1 : decode cX4_tabuSteps 1 = .ok (.iconst 0, 1) := dk_3 (dk_at dksX4_tabuSteps_0 1 rfl rfl)
theorem dX4_tabuSteps_2 : decode cX4_tabuSteps 2 = .ok (.putfield 79, 3) := dk_181 0 79 (dk_at dksX4_tabuSteps_0 2 rfl rfl)
theorem dX4_tabuSteps_5 : decode cX4_tabuSteps 5 = .ok (.aload_n 0, 1) := dk_42 (dk_at dksX4_tabuSteps_0 5 rfl rfl)
theorem dX4_tabuSteps_6 : decode cX4_tabuSteps 6 = .ok (.getfield 270, 3) := dk_180 1 14 (dk_at dksX4_tabuSteps_0 6 rfl rfl)
theorem dX4_tabuSteps_9 : decode cX4_tabuSteps 9 = .ok (.ireturn, 1) := dk_172 (dk_at dksX4_tabuSteps_0 9 rfl rfl)
abbrev cX4_bound : ByteArray := prog_19_method_77_code
def yX4_bound : MethodName := ⟨RX4, "bound", "(I)I"⟩
def dkwX4_bound_1 : List UInt8 := [167, 0, 8, 42, 27, 182, 1, 20, 172]
abbrev dktX4_bound_1 : List UInt8 := dkwX4_bound_1 ++ []
def dkwX4_bound_0 : List UInt8 := [42, 27, 184, 0, 122, 153, 0, 7, 3, 167, 0, 4, 4, 181, 0, 79, 42, 180, 0, 79, 158, 0, 7, 3]
abbrev dktX4_bound_0 : List UInt8 := dkwX4_bound_0 ++ dktX4_bound_1
theorem dksX4_bound_0 : cX4_bound.data.toList.drop 0 = dktX4_bound_0 := by decide +kernel
theorem dksX4_bound_1 : cX4_bound.data.toList.drop 24 = dktX4_bound_1 := dk_seg dksX4_bound_0 24 rfl rfl
theorem dX4_bound_0 : decode cX4_bound 0 = .ok (.aload_n 0, 1) := dk_42 (dk_at dksX4_bound_0 0 rfl rfl)
theorem dX4_bound_1 : decode cX4_bound 1 = .ok (.iload_n 1, 1) := dk_27 (dk_at dksX4_bound_0 1 rfl rfl)
theorem dX4_bound_2 : decode cX4_bound 2 = .ok (.invokestatic 122, 3) := dk_184 0 122 (dk_at dksX4_bound_0 2 rfl rfl)
theorem dX4_bound_5 : decode cX4_bound 5 = .ok (.ifCond .eq 7, 3) := dk_153 0 7 (dk_at dksX4_bound_0 5 rfl rfl)
theorem dX4_bound_8 : decode cX4_bound 8 = .ok (.iconst 0, 1) := dk_3 (dk_at dksX4_bound_0 8 rfl rfl)
theorem dX4_bound_9 : decode cX4_bound 9 = .ok (.goto 4, 3) := dk_167 0 4 (dk_at dksX4_bound_0 9 rfl rfl)
theorem dX4_bound_12 : decode cX4_bound 12 = .ok (.iconst 1, 1) := dk_4 (dk_at dksX4_bound_0 12 rfl rfl)
theorem dX4_bound_13 : decode cX4_bound 13 = .ok (.putfield 79, 3) := dk_181 0 79 (dk_at dksX4_bound_0 13 rfl rfl)
theorem dX4_bound_16 : decode cX4_bound 16 = .ok (.aload_n 0, 1) := dk_42 (dk_at dksX4_bound_0 16 rfl rfl)
theorem dX4_bound_17 : decode cX4_bound 17 = .ok (.getfield 79, 3) := dk_180 0 79 (dk_at dksX4_bound_0 17 rfl rfl)
theorem dX4_bound_20 : decode cX4_bound 20 = .ok (.ifCond .le 7, 3) := dk_158 0 7 (dk_at dksX4_bound_0 20 rfl rfl)
theorem dX4_bound_23 : decode cX4_bound 23 = .ok (.iconst 0, 1) := dk_3 (dk_at dksX4_bound_0 23 rfl rfl)
theorem dX4_bound_24 : decode cX4_bound 24 = .ok (.goto 8, 3) := dk_167 0 8 (dk_at dksX4_bound_1 0 rfl rfl)
theorem dX4_bound_27 : decode cX4_bound 27 = .ok (.aload_n 0, 1) := dk_42 (dk_at dksX4_bound_1 3 rfl rfl)
theorem dX4_bound_28 : decode cX4_bound 28 = .ok (.iload_n 1, 1) := dk_27 (dk_at dksX4_bound_1 4 rfl rfl)
theorem dX4_bound_29 : decode cX4_bound 29 = .ok (.invokevirtual 276, 3) := dk_182 1 20 (dk_at dksX4_bound_1 5 rfl rfl)
theorem dX4_bound_32 : decode cX4_bound 32 = .ok (.ireturn, 1) := dk_172 (dk_at dksX4_bound_1 8 rfl rfl)
abbrev cX4_boundOf : ByteArray := prog_19_method_76_code
def yX4_boundOf : MethodName := ⟨RX4, "boundOf", "(I)I"⟩
def dkwX4_boundOf_13 : List UInt8 := [21, 5, 46, 96, 184, 0, 167, 62, 132, 4, 1, 167, 255, 99, 29, 172]
abbrev dktX4_boundOf_13 : List UInt8 := dkwX4_boundOf_13 ++ []
def dkwX4_boundOf_12 : List UInt8 := [79, 42, 180, 0, 73, 21, 5, 46, 154, 0, 23, 132, 2, 255, 29, 21, 4, 4, 96, 42, 180, 0, 70]
abbrev dktX4_boundOf_12 : List UInt8 := dkwX4_boundOf_12 ++ dktX4_boundOf_13
def dkwX4_boundOf_11 : List UInt8 := [54, 5, 132, 6, 1, 167, 255, 162, 21, 5, 2, 159, 0, 44, 42, 180, 0, 73, 21, 5, 92, 46, 4, 100]
abbrev dktX4_boundOf_11 : List UInt8 := dkwX4_boundOf_11 ++ dktX4_boundOf_12
def dkwX4_boundOf_10 : List UInt8 := [180, 0, 70, 21, 6, 46, 42, 180, 0, 70, 21, 5, 46, 164, 0, 8, 21, 6, 167, 0, 5, 21, 5]
abbrev dktX4_boundOf_10 : List UInt8 := dkwX4_boundOf_10 ++ dktX4_boundOf_11
def dkwX4_boundOf_9 : List UInt8 := [163, 0, 7, 4, 167, 0, 4, 3, 54, 7, 21, 7, 153, 0, 31, 21, 5, 2, 159, 0, 20, 42]
abbrev dktX4_boundOf_9 : List UInt8 := dkwX4_boundOf_9 ++ dktX4_boundOf_10
def dkwX4_boundOf_8 : List UInt8 := [160, 0, 29, 42, 180, 0, 73, 21, 6, 46, 158, 0, 19, 42, 180, 0, 67, 21, 6, 46, 21, 4]
abbrev dktX4_boundOf_8 : List UInt8 := dkwX4_boundOf_8 ++ dktX4_boundOf_9
def dkwX4_boundOf_7 : List UInt8 := [54, 6, 21, 6, 42, 180, 0, 9, 4, 46, 162, 0, 89, 42, 180, 0, 9, 16, 62, 21, 6, 96, 46, 27]
abbrev dktX4_boundOf_7 : List UInt8 := dkwX4_boundOf_7 ++ dktX4_boundOf_8
def dkwX4_boundOf_6 : List UInt8 := [79, 132, 2, 1, 132, 3, 1, 167, 255, 109, 3, 62, 3, 54, 4, 28, 158, 0, 159, 2, 54, 5, 3]
abbrev dktX4_boundOf_6 : List UInt8 := dkwX4_boundOf_6 ++ dktX4_boundOf_7
def dkwX4_boundOf_5 : List UInt8 := [96, 79, 132, 6, 1, 167, 255, 212, 42, 180, 0, 73, 21, 4, 42, 180, 0, 9, 16, 82, 21, 4, 96, 46]
abbrev dktX4_boundOf_5 : List UInt8 := dkwX4_boundOf_5 ++ dktX4_boundOf_6
def dkwX4_boundOf_4 : List UInt8 := [42, 180, 0, 67, 21, 4, 92, 46, 42, 180, 0, 9, 16, 82, 42, 21, 5, 21, 6, 182, 0, 110, 96, 46]
abbrev dktX4_boundOf_4 : List UInt8 := dkwX4_boundOf_4 ++ dktX4_boundOf_5
def dkwX4_boundOf_3 : List UInt8 := [21, 4, 96, 46, 100, 79, 3, 54, 6, 21, 6, 42, 180, 0, 9, 16, 122, 21, 4, 96, 46, 162, 0, 35]
abbrev dktX4_boundOf_3 : List UInt8 := dkwX4_boundOf_3 ++ dktX4_boundOf_4
def dkwX4_boundOf_2 : List UInt8 := [5, 21, 5, 96, 46, 79, 42, 180, 0, 70, 21, 4, 42, 21, 4, 182, 0, 232, 42, 180, 0, 9, 16, 82]
abbrev dktX4_boundOf_2 : List UInt8 := dkwX4_boundOf_2 ++ dktX4_boundOf_3
def dkwX4_boundOf_1 : List UInt8 := [54, 4, 42, 180, 0, 9, 16, 42, 21, 4, 96, 46, 54, 5, 42, 180, 0, 67, 21, 4, 42, 180, 0, 9]
abbrev dktX4_boundOf_1 : List UInt8 := dkwX4_boundOf_1 ++ dktX4_boundOf_2
def dkwX4_boundOf_0 : List UInt8 := [3, 61, 3, 62, 29, 42, 180, 0, 9, 17, 0, 179, 27, 96, 46, 162, 0, 139, 42, 27, 29, 182, 0, 142]
abbrev dktX4_boundOf_0 : List UInt8 := dkwX4_boundOf_0 ++ dktX4_boundOf_1
theorem dksX4_boundOf_0 : cX4_boundOf.data.toList.drop 0 = dktX4_boundOf_0 := by decide +kernel
theorem dksX4_boundOf_1 : cX4_boundOf.data.toList.drop 24 = dktX4_boundOf_1 := dk_seg dksX4_boundOf_0 24 rfl rfl
theorem dksX4_boundOf_2 : cX4_boundOf.data.toList.drop 48 = dktX4_boundOf_2 := dk_seg dksX4_boundOf_1 24 rfl rfl
theorem dksX4_boundOf_3 : cX4_boundOf.data.toList.drop 72 = dktX4_boundOf_3 := dk_seg dksX4_boundOf_2 24 rfl rfl
theorem dksX4_boundOf_4 : cX4_boundOf.data.toList.drop 96 = dktX4_boundOf_4 := dk_seg dksX4_boundOf_3 24 rfl rfl
theorem dksX4_boundOf_5 : cX4_boundOf.data.toList.drop 120 = dktX4_boundOf_5 := dk_seg dksX4_boundOf_4 24 rfl rfl
theorem dksX4_boundOf_6 : cX4_boundOf.data.toList.drop 144 = dktX4_boundOf_6 := dk_seg dksX4_boundOf_5 24 rfl rfl
theorem dksX4_boundOf_7 : cX4_boundOf.data.toList.drop 167 = dktX4_boundOf_7 := dk_seg dksX4_boundOf_6 23 rfl rfl
theorem dksX4_boundOf_8 : cX4_boundOf.data.toList.drop 191 = dktX4_boundOf_8 := dk_seg dksX4_boundOf_7 24 rfl rfl
theorem dksX4_boundOf_9 : cX4_boundOf.data.toList.drop 213 = dktX4_boundOf_9 := dk_seg dksX4_boundOf_8 22 rfl rfl
theorem dksX4_boundOf_10 : cX4_boundOf.data.toList.drop 235 = dktX4_boundOf_10 := dk_seg dksX4_boundOf_9 22 rfl rfl
theorem dksX4_boundOf_11 : cX4_boundOf.data.toList.drop 258 = dktX4_boundOf_11 := dk_seg dksX4_boundOf_10 23 rfl rfl
theorem dksX4_boundOf_12 : cX4_boundOf.data.toList.drop 282 = dktX4_boundOf_12 := dk_seg dksX4_boundOf_11 24 rfl rfl
theorem dksX4_boundOf_13 : cX4_boundOf.data.toList.drop 305 = dktX4_boundOf_13 := dk_seg dksX4_boundOf_12 23 rfl rfl
theorem dX4_boundOf_0 : decode cX4_boundOf 0 = .ok (.iconst 0, 1) := dk_3 (dk_at dksX4_boundOf_0 0 rfl rfl)
theorem dX4_boundOf_1 : decode cX4_boundOf 1 = .ok (.istore_n 2, 1) := dk_61 (dk_at dksX4_boundOf_0 1 rfl rfl)
theorem dX4_boundOf_2 : decode cX4_boundOf 2 = .ok (.iconst 0, 1) := dk_3 (dk_at dksX4_boundOf_0 2 rfl rfl)
theorem dX4_boundOf_3 : decode cX4_boundOf 3 = .ok (.istore_n 3, 1) := dk_62 (dk_at dksX4_boundOf_0 3 rfl rfl)
theorem dX4_boundOf_4 : decode cX4_boundOf 4 = .ok (.iload_n 3, 1) := dk_29 (dk_at dksX4_boundOf_0 4 rfl rfl)
theorem dX4_boundOf_5 : decode cX4_boundOf 5 = .ok (.aload_n 0, 1) := dk_42 (dk_at dksX4_boundOf_0 5 rfl rfl)
theorem dX4_boundOf_6 : decode cX4_boundOf 6 = .ok (.getfield 9, 3) := dk_180 0 9 (dk_at dksX4_boundOf_0 6 rfl rfl)
theorem dX4_boundOf_9 : decode cX4_boundOf 9 = .ok (.sipush 179, 3) := dk_17 0 179 (dk_at dksX4_boundOf_0 9 rfl rfl)
theorem dX4_boundOf_12 : decode cX4_boundOf 12 = .ok (.iload_n 1, 1) := dk_27 (dk_at dksX4_boundOf_0 12 rfl rfl)
theorem dX4_boundOf_13 : decode cX4_boundOf 13 = .ok (.iadd, 1) := dk_96 (dk_at dksX4_boundOf_0 13 rfl rfl)
theorem dX4_boundOf_14 : decode cX4_boundOf 14 = .ok (.iaload, 1) := dk_46 (dk_at dksX4_boundOf_0 14 rfl rfl)
theorem dX4_boundOf_15 : decode cX4_boundOf 15 = .ok (.if_icmp .ge 139, 3) := dk_162 0 139 (dk_at dksX4_boundOf_0 15 rfl rfl)
theorem dX4_boundOf_18 : decode cX4_boundOf 18 = .ok (.aload_n 0, 1) := dk_42 (dk_at dksX4_boundOf_0 18 rfl rfl)
theorem dX4_boundOf_19 : decode cX4_boundOf 19 = .ok (.iload_n 1, 1) := dk_27 (dk_at dksX4_boundOf_0 19 rfl rfl)
theorem dX4_boundOf_20 : decode cX4_boundOf 20 = .ok (.iload_n 3, 1) := dk_29 (dk_at dksX4_boundOf_0 20 rfl rfl)
theorem dX4_boundOf_21 : decode cX4_boundOf 21 = .ok (.invokevirtual 142, 3) := dk_182 0 142 (dk_at dksX4_boundOf_0 21 rfl rfl)
theorem dX4_boundOf_24 : decode cX4_boundOf 24 = .ok (.istore 4, 2) := dk_54 4 (dk_at dksX4_boundOf_1 0 rfl rfl)
theorem dX4_boundOf_26 : decode cX4_boundOf 26 = .ok (.aload_n 0, 1) := dk_42 (dk_at dksX4_boundOf_1 2 rfl rfl)
theorem dX4_boundOf_27 : decode cX4_boundOf 27 = .ok (.getfield 9, 3) := dk_180 0 9 (dk_at dksX4_boundOf_1 3 rfl rfl)
theorem dX4_boundOf_30 : decode cX4_boundOf 30 = .ok (.bipush 42, 2) := dk_16 42 (dk_at dksX4_boundOf_1 6 rfl rfl)
theorem dX4_boundOf_32 : decode cX4_boundOf 32 = .ok (.iload 4, 2) := dk_21 4 (dk_at dksX4_boundOf_1 8 rfl rfl)
theorem dX4_boundOf_34 : decode cX4_boundOf 34 = .ok (.iadd, 1) := dk_96 (dk_at dksX4_boundOf_1 10 rfl rfl)
theorem dX4_boundOf_35 : decode cX4_boundOf 35 = .ok (.iaload, 1) := dk_46 (dk_at dksX4_boundOf_1 11 rfl rfl)
theorem dX4_boundOf_36 : decode cX4_boundOf 36 = .ok (.istore 5, 2) := dk_54 5 (dk_at dksX4_boundOf_1 12 rfl rfl)
theorem dX4_boundOf_38 : decode cX4_boundOf 38 = .ok (.aload_n 0, 1) := dk_42 (dk_at dksX4_boundOf_1 14 rfl rfl)
theorem dX4_boundOf_39 : decode cX4_boundOf 39 = .ok (.getfield 67, 3) := dk_180 0 67 (dk_at dksX4_boundOf_1 15 rfl rfl)
theorem dX4_boundOf_42 : decode cX4_boundOf 42 = .ok (.iload 4, 2) := dk_21 4 (dk_at dksX4_boundOf_1 18 rfl rfl)
theorem dX4_boundOf_44 : decode cX4_boundOf 44 = .ok (.aload_n 0, 1) := dk_42 (dk_at dksX4_boundOf_1 20 rfl rfl)
theorem dX4_boundOf_45 : decode cX4_boundOf 45 = .ok (.getfield 9, 3) := dk_180 0 9 (dk_at dksX4_boundOf_1 21 rfl rfl)
theorem dX4_boundOf_48 : decode cX4_boundOf 48 = .ok (.iconst 2, 1) := dk_5 (dk_at dksX4_boundOf_2 0 rfl rfl)
theorem dX4_boundOf_49 : decode cX4_boundOf 49 = .ok (.iload 5, 2) := dk_21 5 (dk_at dksX4_boundOf_2 1 rfl rfl)
theorem dX4_boundOf_51 : decode cX4_boundOf 51 = .ok (.iadd, 1) := dk_96 (dk_at dksX4_boundOf_2 3 rfl rfl)
theorem dX4_boundOf_52 : decode cX4_boundOf 52 = .ok (.iaload, 1) := dk_46 (dk_at dksX4_boundOf_2 4 rfl rfl)
theorem dX4_boundOf_53 : decode cX4_boundOf 53 = .ok (.iastore, 1) := dk_79 (dk_at dksX4_boundOf_2 5 rfl rfl)
theorem dX4_boundOf_54 : decode cX4_boundOf 54 = .ok (.aload_n 0, 1) := dk_42 (dk_at dksX4_boundOf_2 6 rfl rfl)
theorem dX4_boundOf_55 : decode cX4_boundOf 55 = .ok (.getfield 70, 3) := dk_180 0 70 (dk_at dksX4_boundOf_2 7 rfl rfl)
theorem dX4_boundOf_58 : decode cX4_boundOf 58 = .ok (.iload 4, 2) := dk_21 4 (dk_at dksX4_boundOf_2 10 rfl rfl)
theorem dX4_boundOf_60 : decode cX4_boundOf 60 = .ok (.aload_n 0, 1) := dk_42 (dk_at dksX4_boundOf_2 12 rfl rfl)
theorem dX4_boundOf_61 : decode cX4_boundOf 61 = .ok (.iload 4, 2) := dk_21 4 (dk_at dksX4_boundOf_2 13 rfl rfl)
theorem dX4_boundOf_63 : decode cX4_boundOf 63 = .ok (.invokevirtual 232, 3) := dk_182 0 232 (dk_at dksX4_boundOf_2 15 rfl rfl)
theorem dX4_boundOf_66 : decode cX4_boundOf 66 = .ok (.aload_n 0, 1) := dk_42 (dk_at dksX4_boundOf_2 18 rfl rfl)
theorem dX4_boundOf_67 : decode cX4_boundOf 67 = .ok (.getfield 9, 3) := dk_180 0 9 (dk_at dksX4_boundOf_2 19 rfl rfl)
theorem dX4_boundOf_70 : decode cX4_boundOf 70 = .ok (.bipush 82, 2) := dk_16 82 (dk_at dksX4_boundOf_2 22 rfl rfl)
theorem dX4_boundOf_72 : decode cX4_boundOf 72 = .ok (.iload 4, 2) := dk_21 4 (dk_at dksX4_boundOf_3 0 rfl rfl)
theorem dX4_boundOf_74 : decode cX4_boundOf 74 = .ok (.iadd, 1) := dk_96 (dk_at dksX4_boundOf_3 2 rfl rfl)
theorem dX4_boundOf_75 : decode cX4_boundOf 75 = .ok (.iaload, 1) := dk_46 (dk_at dksX4_boundOf_3 3 rfl rfl)
theorem dX4_boundOf_76 : decode cX4_boundOf 76 = .ok (.isub, 1) := dk_100 (dk_at dksX4_boundOf_3 4 rfl rfl)
theorem dX4_boundOf_77 : decode cX4_boundOf 77 = .ok (.iastore, 1) := dk_79 (dk_at dksX4_boundOf_3 5 rfl rfl)
theorem dX4_boundOf_78 : decode cX4_boundOf 78 = .ok (.iconst 0, 1) := dk_3 (dk_at dksX4_boundOf_3 6 rfl rfl)
theorem dX4_boundOf_79 : decode cX4_boundOf 79 = .ok (.istore 6, 2) := dk_54 6 (dk_at dksX4_boundOf_3 7 rfl rfl)
theorem dX4_boundOf_81 : decode cX4_boundOf 81 = .ok (.iload 6, 2) := dk_21 6 (dk_at dksX4_boundOf_3 9 rfl rfl)
theorem dX4_boundOf_83 : decode cX4_boundOf 83 = .ok (.aload_n 0, 1) := dk_42 (dk_at dksX4_boundOf_3 11 rfl rfl)
theorem dX4_boundOf_84 : decode cX4_boundOf 84 = .ok (.getfield 9, 3) := dk_180 0 9 (dk_at dksX4_boundOf_3 12 rfl rfl)
theorem dX4_boundOf_87 : decode cX4_boundOf 87 = .ok (.bipush 122, 2) := dk_16 122 (dk_at dksX4_boundOf_3 15 rfl rfl)
theorem dX4_boundOf_89 : decode cX4_boundOf 89 = .ok (.iload 4, 2) := dk_21 4 (dk_at dksX4_boundOf_3 17 rfl rfl)
theorem dX4_boundOf_91 : decode cX4_boundOf 91 = .ok (.iadd, 1) := dk_96 (dk_at dksX4_boundOf_3 19 rfl rfl)
theorem dX4_boundOf_92 : decode cX4_boundOf 92 = .ok (.iaload, 1) := dk_46 (dk_at dksX4_boundOf_3 20 rfl rfl)
theorem dX4_boundOf_93 : decode cX4_boundOf 93 = .ok (.if_icmp .ge 35, 3) := dk_162 0 35 (dk_at dksX4_boundOf_3 21 rfl rfl)
theorem dX4_boundOf_96 : decode cX4_boundOf 96 = .ok (.aload_n 0, 1) := dk_42 (dk_at dksX4_boundOf_4 0 rfl rfl)
theorem dX4_boundOf_97 : decode cX4_boundOf 97 = .ok (.getfield 67, 3) := dk_180 0 67 (dk_at dksX4_boundOf_4 1 rfl rfl)
theorem dX4_boundOf_100 : decode cX4_boundOf 100 = .ok (.iload 4, 2) := dk_21 4 (dk_at dksX4_boundOf_4 4 rfl rfl)
theorem dX4_boundOf_102 : decode cX4_boundOf 102 = .ok (.dup2, 1) := dk_92 (dk_at dksX4_boundOf_4 6 rfl rfl)
theorem dX4_boundOf_103 : decode cX4_boundOf 103 = .ok (.iaload, 1) := dk_46 (dk_at dksX4_boundOf_4 7 rfl rfl)
theorem dX4_boundOf_104 : decode cX4_boundOf 104 = .ok (.aload_n 0, 1) := dk_42 (dk_at dksX4_boundOf_4 8 rfl rfl)
theorem dX4_boundOf_105 : decode cX4_boundOf 105 = .ok (.getfield 9, 3) := dk_180 0 9 (dk_at dksX4_boundOf_4 9 rfl rfl)
theorem dX4_boundOf_108 : decode cX4_boundOf 108 = .ok (.bipush 82, 2) := dk_16 82 (dk_at dksX4_boundOf_4 12 rfl rfl)
theorem dX4_boundOf_110 : decode cX4_boundOf 110 = .ok (.aload_n 0, 1) := dk_42 (dk_at dksX4_boundOf_4 14 rfl rfl)
theorem dX4_boundOf_111 : decode cX4_boundOf 111 = .ok (.iload 5, 2) := dk_21 5 (dk_at dksX4_boundOf_4 15 rfl rfl)
theorem dX4_boundOf_113 : decode cX4_boundOf 113 = .ok (.iload 6, 2) := dk_21 6 (dk_at dksX4_boundOf_4 17 rfl rfl)
theorem dX4_boundOf_115 : decode cX4_boundOf 115 = .ok (.invokevirtual 110, 3) := dk_182 0 110 (dk_at dksX4_boundOf_4 19 rfl rfl)
theorem dX4_boundOf_118 : decode cX4_boundOf 118 = .ok (.iadd, 1) := dk_96 (dk_at dksX4_boundOf_4 22 rfl rfl)
theorem dX4_boundOf_119 : decode cX4_boundOf 119 = .ok (.iaload, 1) := dk_46 (dk_at dksX4_boundOf_4 23 rfl rfl)
theorem dX4_boundOf_120 : decode cX4_boundOf 120 = .ok (.iadd, 1) := dk_96 (dk_at dksX4_boundOf_5 0 rfl rfl)
theorem dX4_boundOf_121 : decode cX4_boundOf 121 = .ok (.iastore, 1) := dk_79 (dk_at dksX4_boundOf_5 1 rfl rfl)
theorem dX4_boundOf_122 : decode cX4_boundOf 122 = .ok (.iinc 6 1, 3) := dk_132 6 1 (dk_at dksX4_boundOf_5 2 rfl rfl)
theorem dX4_boundOf_125 : decode cX4_boundOf 125 = .ok (.goto (-44), 3) := dk_167 255 212 (dk_at dksX4_boundOf_5 5 rfl rfl)
theorem dX4_boundOf_128 : decode cX4_boundOf 128 = .ok (.aload_n 0, 1) := dk_42 (dk_at dksX4_boundOf_5 8 rfl rfl)
theorem dX4_boundOf_129 : decode cX4_boundOf 129 = .ok (.getfield 73, 3) := dk_180 0 73 (dk_at dksX4_boundOf_5 9 rfl rfl)
theorem dX4_boundOf_132 : decode cX4_boundOf 132 = .ok (.iload 4, 2) := dk_21 4 (dk_at dksX4_boundOf_5 12 rfl rfl)
theorem dX4_boundOf_134 : decode cX4_boundOf 134 = .ok (.aload_n 0, 1) := dk_42 (dk_at dksX4_boundOf_5 14 rfl rfl)
theorem dX4_boundOf_135 : decode cX4_boundOf 135 = .ok (.getfield 9, 3) := dk_180 0 9 (dk_at dksX4_boundOf_5 15 rfl rfl)
theorem dX4_boundOf_138 : decode cX4_boundOf 138 = .ok (.bipush 82, 2) := dk_16 82 (dk_at dksX4_boundOf_5 18 rfl rfl)
theorem dX4_boundOf_140 : decode cX4_boundOf 140 = .ok (.iload 4, 2) := dk_21 4 (dk_at dksX4_boundOf_5 20 rfl rfl)
theorem dX4_boundOf_142 : decode cX4_boundOf 142 = .ok (.iadd, 1) := dk_96 (dk_at dksX4_boundOf_5 22 rfl rfl)
theorem dX4_boundOf_143 : decode cX4_boundOf 143 = .ok (.iaload, 1) := dk_46 (dk_at dksX4_boundOf_5 23 rfl rfl)
theorem dX4_boundOf_144 : decode cX4_boundOf 144 = .ok (.iastore, 1) := dk_79 (dk_at dksX4_boundOf_6 0 rfl rfl)
theorem dX4_boundOf_145 : decode cX4_boundOf 145 = .ok (.iinc 2 1, 3) := dk_132 2 1 (dk_at dksX4_boundOf_6 1 rfl rfl)
theorem dX4_boundOf_148 : decode cX4_boundOf 148 = .ok (.iinc 3 1, 3) := dk_132 3 1 (dk_at dksX4_boundOf_6 4 rfl rfl)
theorem dX4_boundOf_151 : decode cX4_boundOf 151 = .ok (.goto (-147), 3) := dk_167 255 109 (dk_at dksX4_boundOf_6 7 rfl rfl)
theorem dX4_boundOf_154 : decode cX4_boundOf 154 = .ok (.iconst 0, 1) := dk_3 (dk_at dksX4_boundOf_6 10 rfl rfl)
theorem dX4_boundOf_155 : decode cX4_boundOf 155 = .ok (.istore_n 3, 1) := dk_62 (dk_at dksX4_boundOf_6 11 rfl rfl)
theorem dX4_boundOf_156 : decode cX4_boundOf 156 = .ok (.iconst 0, 1) := dk_3 (dk_at dksX4_boundOf_6 12 rfl rfl)
theorem dX4_boundOf_157 : decode cX4_boundOf 157 = .ok (.istore 4, 2) := dk_54 4 (dk_at dksX4_boundOf_6 13 rfl rfl)
theorem dX4_boundOf_159 : decode cX4_boundOf 159 = .ok (.iload_n 2, 1) := dk_28 (dk_at dksX4_boundOf_6 15 rfl rfl)
theorem dX4_boundOf_160 : decode cX4_boundOf 160 = .ok (.ifCond .le 159, 3) := dk_158 0 159 (dk_at dksX4_boundOf_6 16 rfl rfl)
theorem dX4_boundOf_163 : decode cX4_boundOf 163 = .ok (.iconst (-1), 1) := dk_2 (dk_at dksX4_boundOf_6 19 rfl rfl)
theorem dX4_boundOf_164 : decode cX4_boundOf 164 = .ok (.istore 5, 2) := dk_54 5 (dk_at dksX4_boundOf_6 20 rfl rfl)
theorem dX4_boundOf_166 : decode cX4_boundOf 166 = .ok (.iconst 0, 1) := dk_3 (dk_at dksX4_boundOf_6 22 rfl rfl)
theorem dX4_boundOf_167 : decode cX4_boundOf 167 = .ok (.istore 6, 2) := dk_54 6 (dk_at dksX4_boundOf_7 0 rfl rfl)
theorem dX4_boundOf_169 : decode cX4_boundOf 169 = .ok (.iload 6, 2) := dk_21 6 (dk_at dksX4_boundOf_7 2 rfl rfl)
theorem dX4_boundOf_171 : decode cX4_boundOf 171 = .ok (.aload_n 0, 1) := dk_42 (dk_at dksX4_boundOf_7 4 rfl rfl)
theorem dX4_boundOf_172 : decode cX4_boundOf 172 = .ok (.getfield 9, 3) := dk_180 0 9 (dk_at dksX4_boundOf_7 5 rfl rfl)
theorem dX4_boundOf_175 : decode cX4_boundOf 175 = .ok (.iconst 1, 1) := dk_4 (dk_at dksX4_boundOf_7 8 rfl rfl)
theorem dX4_boundOf_176 : decode cX4_boundOf 176 = .ok (.iaload, 1) := dk_46 (dk_at dksX4_boundOf_7 9 rfl rfl)
theorem dX4_boundOf_177 : decode cX4_boundOf 177 = .ok (.if_icmp .ge 89, 3) := dk_162 0 89 (dk_at dksX4_boundOf_7 10 rfl rfl)
theorem dX4_boundOf_180 : decode cX4_boundOf 180 = .ok (.aload_n 0, 1) := dk_42 (dk_at dksX4_boundOf_7 13 rfl rfl)
theorem dX4_boundOf_181 : decode cX4_boundOf 181 = .ok (.getfield 9, 3) := dk_180 0 9 (dk_at dksX4_boundOf_7 14 rfl rfl)
theorem dX4_boundOf_184 : decode cX4_boundOf 184 = .ok (.bipush 62, 2) := dk_16 62 (dk_at dksX4_boundOf_7 17 rfl rfl)
theorem dX4_boundOf_186 : decode cX4_boundOf 186 = .ok (.iload 6, 2) := dk_21 6 (dk_at dksX4_boundOf_7 19 rfl rfl)
theorem dX4_boundOf_188 : decode cX4_boundOf 188 = .ok (.iadd, 1) := dk_96 (dk_at dksX4_boundOf_7 21 rfl rfl)
theorem dX4_boundOf_189 : decode cX4_boundOf 189 = .ok (.iaload, 1) := dk_46 (dk_at dksX4_boundOf_7 22 rfl rfl)
theorem dX4_boundOf_190 : decode cX4_boundOf 190 = .ok (.iload_n 1, 1) := dk_27 (dk_at dksX4_boundOf_7 23 rfl rfl)
theorem dX4_boundOf_191 : decode cX4_boundOf 191 = .ok (.if_icmp .ne 29, 3) := dk_160 0 29 (dk_at dksX4_boundOf_8 0 rfl rfl)
theorem dX4_boundOf_194 : decode cX4_boundOf 194 = .ok (.aload_n 0, 1) := dk_42 (dk_at dksX4_boundOf_8 3 rfl rfl)
theorem dX4_boundOf_195 : decode cX4_boundOf 195 = .ok (.getfield 73, 3) := dk_180 0 73 (dk_at dksX4_boundOf_8 4 rfl rfl)
theorem dX4_boundOf_198 : decode cX4_boundOf 198 = .ok (.iload 6, 2) := dk_21 6 (dk_at dksX4_boundOf_8 7 rfl rfl)
theorem dX4_boundOf_200 : decode cX4_boundOf 200 = .ok (.iaload, 1) := dk_46 (dk_at dksX4_boundOf_8 9 rfl rfl)
theorem dX4_boundOf_201 : decode cX4_boundOf 201 = .ok (.ifCond .le 19, 3) := dk_158 0 19 (dk_at dksX4_boundOf_8 10 rfl rfl)
theorem dX4_boundOf_204 : decode cX4_boundOf 204 = .ok (.aload_n 0, 1) := dk_42 (dk_at dksX4_boundOf_8 13 rfl rfl)
theorem dX4_boundOf_205 : decode cX4_boundOf 205 = .ok (.getfield 67, 3) := dk_180 0 67 (dk_at dksX4_boundOf_8 14 rfl rfl)
theorem dX4_boundOf_208 : decode cX4_boundOf 208 = .ok (.iload 6, 2) := dk_21 6 (dk_at dksX4_boundOf_8 17 rfl rfl)
theorem dX4_boundOf_210 : decode cX4_boundOf 210 = .ok (.iaload, 1) := dk_46 (dk_at dksX4_boundOf_8 19 rfl rfl)
theorem dX4_boundOf_211 : decode cX4_boundOf 211 = .ok (.iload 4, 2) := dk_21 4 (dk_at dksX4_boundOf_8 20 rfl rfl)
theorem dX4_boundOf_213 : decode cX4_boundOf 213 = .ok (.if_icmp .gt 7, 3) := dk_163 0 7 (dk_at dksX4_boundOf_9 0 rfl rfl)
theorem dX4_boundOf_216 : decode cX4_boundOf 216 = .ok (.iconst 1, 1) := dk_4 (dk_at dksX4_boundOf_9 3 rfl rfl)
theorem dX4_boundOf_217 : decode cX4_boundOf 217 = .ok (.goto 4, 3) := dk_167 0 4 (dk_at dksX4_boundOf_9 4 rfl rfl)
theorem dX4_boundOf_220 : decode cX4_boundOf 220 = .ok (.iconst 0, 1) := dk_3 (dk_at dksX4_boundOf_9 7 rfl rfl)
theorem dX4_boundOf_221 : decode cX4_boundOf 221 = .ok (.istore 7, 2) := dk_54 7 (dk_at dksX4_boundOf_9 8 rfl rfl)
theorem dX4_boundOf_223 : decode cX4_boundOf 223 = .ok (.iload 7, 2) := dk_21 7 (dk_at dksX4_boundOf_9 10 rfl rfl)
theorem dX4_boundOf_225 : decode cX4_boundOf 225 = .ok (.ifCond .eq 31, 3) := dk_153 0 31 (dk_at dksX4_boundOf_9 12 rfl rfl)
theorem dX4_boundOf_228 : decode cX4_boundOf 228 = .ok (.iload 5, 2) := dk_21 5 (dk_at dksX4_boundOf_9 15 rfl rfl)
theorem dX4_boundOf_230 : decode cX4_boundOf 230 = .ok (.iconst (-1), 1) := dk_2 (dk_at dksX4_boundOf_9 17 rfl rfl)
theorem dX4_boundOf_231 : decode cX4_boundOf 231 = .ok (.if_icmp .eq 20, 3) := dk_159 0 20 (dk_at dksX4_boundOf_9 18 rfl rfl)
theorem dX4_boundOf_234 : decode cX4_boundOf 234 = .ok (.aload_n 0, 1) := dk_42 (dk_at dksX4_boundOf_9 21 rfl rfl)
theorem dX4_boundOf_235 : decode cX4_boundOf 235 = .ok (.getfield 70, 3) := dk_180 0 70 (dk_at dksX4_boundOf_10 0 rfl rfl)
theorem dX4_boundOf_238 : decode cX4_boundOf 238 = .ok (.iload 6, 2) := dk_21 6 (dk_at dksX4_boundOf_10 3 rfl rfl)
theorem dX4_boundOf_240 : decode cX4_boundOf 240 = .ok (.iaload, 1) := dk_46 (dk_at dksX4_boundOf_10 5 rfl rfl)
theorem dX4_boundOf_241 : decode cX4_boundOf 241 = .ok (.aload_n 0, 1) := dk_42 (dk_at dksX4_boundOf_10 6 rfl rfl)
theorem dX4_boundOf_242 : decode cX4_boundOf 242 = .ok (.getfield 70, 3) := dk_180 0 70 (dk_at dksX4_boundOf_10 7 rfl rfl)
theorem dX4_boundOf_245 : decode cX4_boundOf 245 = .ok (.iload 5, 2) := dk_21 5 (dk_at dksX4_boundOf_10 10 rfl rfl)
theorem dX4_boundOf_247 : decode cX4_boundOf 247 = .ok (.iaload, 1) := dk_46 (dk_at dksX4_boundOf_10 12 rfl rfl)
theorem dX4_boundOf_248 : decode cX4_boundOf 248 = .ok (.if_icmp .le 8, 3) := dk_164 0 8 (dk_at dksX4_boundOf_10 13 rfl rfl)
theorem dX4_boundOf_251 : decode cX4_boundOf 251 = .ok (.iload 6, 2) := dk_21 6 (dk_at dksX4_boundOf_10 16 rfl rfl)
theorem dX4_boundOf_253 : decode cX4_boundOf 253 = .ok (.goto 5, 3) := dk_167 0 5 (dk_at dksX4_boundOf_10 18 rfl rfl)
theorem dX4_boundOf_256 : decode cX4_boundOf 256 = .ok (.iload 5, 2) := dk_21 5 (dk_at dksX4_boundOf_10 21 rfl rfl)
theorem dX4_boundOf_258 : decode cX4_boundOf 258 = .ok (.istore 5, 2) := dk_54 5 (dk_at dksX4_boundOf_11 0 rfl rfl)
theorem dX4_boundOf_260 : decode cX4_boundOf 260 = .ok (.iinc 6 1, 3) := dk_132 6 1 (dk_at dksX4_boundOf_11 2 rfl rfl)
theorem dX4_boundOf_263 : decode cX4_boundOf 263 = .ok (.goto (-94), 3) := dk_167 255 162 (dk_at dksX4_boundOf_11 5 rfl rfl)
theorem dX4_boundOf_266 : decode cX4_boundOf 266 = .ok (.iload 5, 2) := dk_21 5 (dk_at dksX4_boundOf_11 8 rfl rfl)
theorem dX4_boundOf_268 : decode cX4_boundOf 268 = .ok (.iconst (-1), 1) := dk_2 (dk_at dksX4_boundOf_11 10 rfl rfl)
theorem dX4_boundOf_269 : decode cX4_boundOf 269 = .ok (.if_icmp .eq 44, 3) := dk_159 0 44 (dk_at dksX4_boundOf_11 11 rfl rfl)
theorem dX4_boundOf_272 : decode cX4_boundOf 272 = .ok (.aload_n 0, 1) := dk_42 (dk_at dksX4_boundOf_11 14 rfl rfl)
theorem dX4_boundOf_273 : decode cX4_boundOf 273 = .ok (.getfield 73, 3) := dk_180 0 73 (dk_at dksX4_boundOf_11 15 rfl rfl)
theorem dX4_boundOf_276 : decode cX4_boundOf 276 = .ok (.iload 5, 2) := dk_21 5 (dk_at dksX4_boundOf_11 18 rfl rfl)
theorem dX4_boundOf_278 : decode cX4_boundOf 278 = .ok (.dup2, 1) := dk_92 (dk_at dksX4_boundOf_11 20 rfl rfl)
theorem dX4_boundOf_279 : decode cX4_boundOf 279 = .ok (.iaload, 1) := dk_46 (dk_at dksX4_boundOf_11 21 rfl rfl)
theorem dX4_boundOf_280 : decode cX4_boundOf 280 = .ok (.iconst 1, 1) := dk_4 (dk_at dksX4_boundOf_11 22 rfl rfl)
theorem dX4_boundOf_281 : decode cX4_boundOf 281 = .ok (.isub, 1) := dk_100 (dk_at dksX4_boundOf_11 23 rfl rfl)
theorem dX4_boundOf_282 : decode cX4_boundOf 282 = .ok (.iastore, 1) := dk_79 (dk_at dksX4_boundOf_12 0 rfl rfl)
theorem dX4_boundOf_283 : decode cX4_boundOf 283 = .ok (.aload_n 0, 1) := dk_42 (dk_at dksX4_boundOf_12 1 rfl rfl)
theorem dX4_boundOf_284 : decode cX4_boundOf 284 = .ok (.getfield 73, 3) := dk_180 0 73 (dk_at dksX4_boundOf_12 2 rfl rfl)
theorem dX4_boundOf_287 : decode cX4_boundOf 287 = .ok (.iload 5, 2) := dk_21 5 (dk_at dksX4_boundOf_12 5 rfl rfl)
theorem dX4_boundOf_289 : decode cX4_boundOf 289 = .ok (.iaload, 1) := dk_46 (dk_at dksX4_boundOf_12 7 rfl rfl)
theorem dX4_boundOf_290 : decode cX4_boundOf 290 = .ok (.ifCond .ne 23, 3) := dk_154 0 23 (dk_at dksX4_boundOf_12 8 rfl rfl)
theorem dX4_boundOf_293 : decode cX4_boundOf 293 = .ok (.iinc 2 (-1), 3) := dk_132 2 255 (dk_at dksX4_boundOf_12 11 rfl rfl)
theorem dX4_boundOf_296 : decode cX4_boundOf 296 = .ok (.iload_n 3, 1) := dk_29 (dk_at dksX4_boundOf_12 14 rfl rfl)
theorem dX4_boundOf_297 : decode cX4_boundOf 297 = .ok (.iload 4, 2) := dk_21 4 (dk_at dksX4_boundOf_12 15 rfl rfl)
theorem dX4_boundOf_299 : decode cX4_boundOf 299 = .ok (.iconst 1, 1) := dk_4 (dk_at dksX4_boundOf_12 17 rfl rfl)
theorem dX4_boundOf_300 : decode cX4_boundOf 300 = .ok (.iadd, 1) := dk_96 (dk_at dksX4_boundOf_12 18 rfl rfl)
theorem dX4_boundOf_301 : decode cX4_boundOf 301 = .ok (.aload_n 0, 1) := dk_42 (dk_at dksX4_boundOf_12 19 rfl rfl)
theorem dX4_boundOf_302 : decode cX4_boundOf 302 = .ok (.getfield 70, 3) := dk_180 0 70 (dk_at dksX4_boundOf_12 20 rfl rfl)
theorem dX4_boundOf_305 : decode cX4_boundOf 305 = .ok (.iload 5, 2) := dk_21 5 (dk_at dksX4_boundOf_13 0 rfl rfl)
theorem dX4_boundOf_307 : decode cX4_boundOf 307 = .ok (.iaload, 1) := dk_46 (dk_at dksX4_boundOf_13 2 rfl rfl)
theorem dX4_boundOf_308 : decode cX4_boundOf 308 = .ok (.iadd, 1) := dk_96 (dk_at dksX4_boundOf_13 3 rfl rfl)
theorem dX4_boundOf_309 : decode cX4_boundOf 309 = .ok (.invokestatic 167, 3) := dk_184 0 167 (dk_at dksX4_boundOf_13 4 rfl rfl)
theorem dX4_boundOf_312 : decode cX4_boundOf 312 = .ok (.istore_n 3, 1) := dk_62 (dk_at dksX4_boundOf_13 7 rfl rfl)
theorem dX4_boundOf_313 : decode cX4_boundOf 313 = .ok (.iinc 4 1, 3) := dk_132 4 1 (dk_at dksX4_boundOf_13 8 rfl rfl)
theorem dX4_boundOf_316 : decode cX4_boundOf 316 = .ok (.goto (-157), 3) := dk_167 255 99 (dk_at dksX4_boundOf_13 11 rfl rfl)
theorem dX4_boundOf_319 : decode cX4_boundOf 319 = .ok (.iload_n 3, 1) := dk_29 (dk_at dksX4_boundOf_13 14 rfl rfl)
theorem dX4_boundOf_320 : decode cX4_boundOf 320 = .ok (.ireturn, 1) := dk_172 (dk_at dksX4_boundOf_13 15 rfl rfl)
abbrev cX4_lowerBound : ByteArray := prog_19_method_78_code
def yX4_lowerBound : MethodName := ⟨RX4, "lowerBound", "()I"⟩
def dkwX4_lowerBound_3 : List UInt8 := [182, 0, 232, 96, 184, 0, 167, 60, 132, 2, 1, 167, 255, 207, 27, 172]
abbrev dktX4_lowerBound_3 : List UInt8 := dkwX4_lowerBound_3 ++ []
def dkwX4_lowerBound_2 : List UInt8 := [28, 96, 46, 158, 0, 27, 27, 42, 180, 0, 9, 5, 28, 96, 46, 42, 42, 28, 3, 182, 0, 110]
abbrev dktX4_lowerBound_2 : List UInt8 := dkwX4_lowerBound_2 ++ dktX4_lowerBound_3
def dkwX4_lowerBound_1 : List UInt8 := [132, 2, 1, 167, 255, 238, 3, 61, 28, 42, 180, 0, 9, 3, 46, 162, 0, 45, 42, 180, 0, 9, 16, 17]
abbrev dktX4_lowerBound_1 : List UInt8 := dkwX4_lowerBound_1 ++ dktX4_lowerBound_2
def dkwX4_lowerBound_0 : List UInt8 := [42, 3, 181, 0, 79, 3, 60, 3, 61, 28, 7, 162, 0, 19, 27, 42, 28, 182, 1, 20, 184, 0, 167, 60]
abbrev dktX4_lowerBound_0 : List UInt8 := dkwX4_lowerBound_0 ++ dktX4_lowerBound_1
theorem dksX4_lowerBound_0 : cX4_lowerBound.data.toList.drop 0 = dktX4_lowerBound_0 := by decide +kernel
theorem dksX4_lowerBound_1 : cX4_lowerBound.data.toList.drop 24 = dktX4_lowerBound_1 := dk_seg dksX4_lowerBound_0 24 rfl rfl
theorem dksX4_lowerBound_2 : cX4_lowerBound.data.toList.drop 48 = dktX4_lowerBound_2 := dk_seg dksX4_lowerBound_1 24 rfl rfl
theorem dksX4_lowerBound_3 : cX4_lowerBound.data.toList.drop 70 = dktX4_lowerBound_3 := dk_seg dksX4_lowerBound_2 22 rfl rfl
theorem dX4_lowerBound_0 : decode cX4_lowerBound 0 = .ok (.aload_n 0, 1) := dk_42 (dk_at dksX4_lowerBound_0 0 rfl rfl)
theorem dX4_lowerBound_1 : decode cX4_lowerBound 1 = .ok (.iconst 0, 1) := dk_3 (dk_at dksX4_lowerBound_0 1 rfl rfl)
theorem dX4_lowerBound_2 : decode cX4_lowerBound 2 = .ok (.putfield 79, 3) := dk_181 0 79 (dk_at dksX4_lowerBound_0 2 rfl rfl)
theorem dX4_lowerBound_5 : decode cX4_lowerBound 5 = .ok (.iconst 0, 1) := dk_3 (dk_at dksX4_lowerBound_0 5 rfl rfl)
theorem dX4_lowerBound_6 : decode cX4_lowerBound 6 = .ok (.istore_n 1, 1) := dk_60 (dk_at dksX4_lowerBound_0 6 rfl rfl)
theorem dX4_lowerBound_7 : decode cX4_lowerBound 7 = .ok (.iconst 0, 1) := dk_3 (dk_at dksX4_lowerBound_0 7 rfl rfl)
theorem dX4_lowerBound_8 : decode cX4_lowerBound 8 = .ok (.istore_n 2, 1) := dk_61 (dk_at dksX4_lowerBound_0 8 rfl rfl)
theorem dX4_lowerBound_9 : decode cX4_lowerBound 9 = .ok (.iload_n 2, 1) := dk_28 (dk_at dksX4_lowerBound_0 9 rfl rfl)
theorem dX4_lowerBound_10 : decode cX4_lowerBound 10 = .ok (.iconst 4, 1) := dk_7 (dk_at dksX4_lowerBound_0 10 rfl rfl)
theorem dX4_lowerBound_11 : decode cX4_lowerBound 11 = .ok (.if_icmp .ge 19, 3) := dk_162 0 19 (dk_at dksX4_lowerBound_0 11 rfl rfl)
theorem dX4_lowerBound_14 : decode cX4_lowerBound 14 = .ok (.iload_n 1, 1) := dk_27 (dk_at dksX4_lowerBound_0 14 rfl rfl)
theorem dX4_lowerBound_15 : decode cX4_lowerBound 15 = .ok (.aload_n 0, 1) := dk_42 (dk_at dksX4_lowerBound_0 15 rfl rfl)
theorem dX4_lowerBound_16 : decode cX4_lowerBound 16 = .ok (.iload_n 2, 1) := dk_28 (dk_at dksX4_lowerBound_0 16 rfl rfl)
theorem dX4_lowerBound_17 : decode cX4_lowerBound 17 = .ok (.invokevirtual 276, 3) := dk_182 1 20 (dk_at dksX4_lowerBound_0 17 rfl rfl)
theorem dX4_lowerBound_20 : decode cX4_lowerBound 20 = .ok (.invokestatic 167, 3) := dk_184 0 167 (dk_at dksX4_lowerBound_0 20 rfl rfl)
theorem dX4_lowerBound_23 : decode cX4_lowerBound 23 = .ok (.istore_n 1, 1) := dk_60 (dk_at dksX4_lowerBound_0 23 rfl rfl)
theorem dX4_lowerBound_24 : decode cX4_lowerBound 24 = .ok (.iinc 2 1, 3) := dk_132 2 1 (dk_at dksX4_lowerBound_1 0 rfl rfl)
theorem dX4_lowerBound_27 : decode cX4_lowerBound 27 = .ok (.goto (-18), 3) := dk_167 255 238 (dk_at dksX4_lowerBound_1 3 rfl rfl)
theorem dX4_lowerBound_30 : decode cX4_lowerBound 30 = .ok (.iconst 0, 1) := dk_3 (dk_at dksX4_lowerBound_1 6 rfl rfl)
theorem dX4_lowerBound_31 : decode cX4_lowerBound 31 = .ok (.istore_n 2, 1) := dk_61 (dk_at dksX4_lowerBound_1 7 rfl rfl)
theorem dX4_lowerBound_32 : decode cX4_lowerBound 32 = .ok (.iload_n 2, 1) := dk_28 (dk_at dksX4_lowerBound_1 8 rfl rfl)
theorem dX4_lowerBound_33 : decode cX4_lowerBound 33 = .ok (.aload_n 0, 1) := dk_42 (dk_at dksX4_lowerBound_1 9 rfl rfl)
theorem dX4_lowerBound_34 : decode cX4_lowerBound 34 = .ok (.getfield 9, 3) := dk_180 0 9 (dk_at dksX4_lowerBound_1 10 rfl rfl)
theorem dX4_lowerBound_37 : decode cX4_lowerBound 37 = .ok (.iconst 0, 1) := dk_3 (dk_at dksX4_lowerBound_1 13 rfl rfl)
theorem dX4_lowerBound_38 : decode cX4_lowerBound 38 = .ok (.iaload, 1) := dk_46 (dk_at dksX4_lowerBound_1 14 rfl rfl)
theorem dX4_lowerBound_39 : decode cX4_lowerBound 39 = .ok (.if_icmp .ge 45, 3) := dk_162 0 45 (dk_at dksX4_lowerBound_1 15 rfl rfl)
theorem dX4_lowerBound_42 : decode cX4_lowerBound 42 = .ok (.aload_n 0, 1) := dk_42 (dk_at dksX4_lowerBound_1 18 rfl rfl)
theorem dX4_lowerBound_43 : decode cX4_lowerBound 43 = .ok (.getfield 9, 3) := dk_180 0 9 (dk_at dksX4_lowerBound_1 19 rfl rfl)
theorem dX4_lowerBound_46 : decode cX4_lowerBound 46 = .ok (.bipush 17, 2) := dk_16 17 (dk_at dksX4_lowerBound_1 22 rfl rfl)
theorem dX4_lowerBound_48 : decode cX4_lowerBound 48 = .ok (.iload_n 2, 1) := dk_28 (dk_at dksX4_lowerBound_2 0 rfl rfl)
theorem dX4_lowerBound_49 : decode cX4_lowerBound 49 = .ok (.iadd, 1) := dk_96 (dk_at dksX4_lowerBound_2 1 rfl rfl)
theorem dX4_lowerBound_50 : decode cX4_lowerBound 50 = .ok (.iaload, 1) := dk_46 (dk_at dksX4_lowerBound_2 2 rfl rfl)
theorem dX4_lowerBound_51 : decode cX4_lowerBound 51 = .ok (.ifCond .le 27, 3) := dk_158 0 27 (dk_at dksX4_lowerBound_2 3 rfl rfl)
theorem dX4_lowerBound_54 : decode cX4_lowerBound 54 = .ok (.iload_n 1, 1) := dk_27 (dk_at dksX4_lowerBound_2 6 rfl rfl)
theorem dX4_lowerBound_55 : decode cX4_lowerBound 55 = .ok (.aload_n 0, 1) := dk_42 (dk_at dksX4_lowerBound_2 7 rfl rfl)
theorem dX4_lowerBound_56 : decode cX4_lowerBound 56 = .ok (.getfield 9, 3) := dk_180 0 9 (dk_at dksX4_lowerBound_2 8 rfl rfl)
theorem dX4_lowerBound_59 : decode cX4_lowerBound 59 = .ok (.iconst 2, 1) := dk_5 (dk_at dksX4_lowerBound_2 11 rfl rfl)
theorem dX4_lowerBound_60 : decode cX4_lowerBound 60 = .ok (.iload_n 2, 1) := dk_28 (dk_at dksX4_lowerBound_2 12 rfl rfl)
theorem dX4_lowerBound_61 : decode cX4_lowerBound 61 = .ok (.iadd, 1) := dk_96 (dk_at dksX4_lowerBound_2 13 rfl rfl)
theorem dX4_lowerBound_62 : decode cX4_lowerBound 62 = .ok (.iaload, 1) := dk_46 (dk_at dksX4_lowerBound_2 14 rfl rfl)
theorem dX4_lowerBound_63 : decode cX4_lowerBound 63 = .ok (.aload_n 0, 1) := dk_42 (dk_at dksX4_lowerBound_2 15 rfl rfl)
theorem dX4_lowerBound_64 : decode cX4_lowerBound 64 = .ok (.aload_n 0, 1) := dk_42 (dk_at dksX4_lowerBound_2 16 rfl rfl)
theorem dX4_lowerBound_65 : decode cX4_lowerBound 65 = .ok (.iload_n 2, 1) := dk_28 (dk_at dksX4_lowerBound_2 17 rfl rfl)
theorem dX4_lowerBound_66 : decode cX4_lowerBound 66 = .ok (.iconst 0, 1) := dk_3 (dk_at dksX4_lowerBound_2 18 rfl rfl)
theorem dX4_lowerBound_67 : decode cX4_lowerBound 67 = .ok (.invokevirtual 110, 3) := dk_182 0 110 (dk_at dksX4_lowerBound_2 19 rfl rfl)
theorem dX4_lowerBound_70 : decode cX4_lowerBound 70 = .ok (.invokevirtual 232, 3) := dk_182 0 232 (dk_at dksX4_lowerBound_3 0 rfl rfl)
theorem dX4_lowerBound_73 : decode cX4_lowerBound 73 = .ok (.iadd, 1) := dk_96 (dk_at dksX4_lowerBound_3 3 rfl rfl)
theorem dX4_lowerBound_74 : decode cX4_lowerBound 74 = .ok (.invokestatic 167, 3) := dk_184 0 167 (dk_at dksX4_lowerBound_3 4 rfl rfl)
theorem dX4_lowerBound_77 : decode cX4_lowerBound 77 = .ok (.istore_n 1, 1) := dk_60 (dk_at dksX4_lowerBound_3 7 rfl rfl)
theorem dX4_lowerBound_78 : decode cX4_lowerBound 78 = .ok (.iinc 2 1, 3) := dk_132 2 1 (dk_at dksX4_lowerBound_3 8 rfl rfl)
theorem dX4_lowerBound_81 : decode cX4_lowerBound 81 = .ok (.goto (-49), 3) := dk_167 255 207 (dk_at dksX4_lowerBound_3 11 rfl rfl)
theorem dX4_lowerBound_84 : decode cX4_lowerBound 84 = .ok (.iload_n 1, 1) := dk_27 (dk_at dksX4_lowerBound_3 14 rfl rfl)
theorem dX4_lowerBound_85 : decode cX4_lowerBound 85 = .ok (.ireturn, 1) := dk_172 (dk_at dksX4_lowerBound_3 15 rfl rfl)
abbrev cX4_append : ByteArray := prog_19_method_79_code
def yX4_append : MethodName := ⟨RX4, "append", "(C)V"⟩
def dkwX4_append_1 : List UInt8 := [154, 0, 23, 42, 180, 0, 16, 42, 180, 1, 23, 27, 85, 42, 89, 180, 1, 23, 4, 96, 181, 1, 23, 177]
abbrev dktX4_append_1 : List UInt8 := dkwX4_append_1 ++ []
def dkwX4_append_0 : List UInt8 := [42, 42, 180, 1, 23, 16, 80, 160, 0, 7, 4, 167, 0, 4, 3, 181, 0, 79, 42, 180, 0, 79]
abbrev dktX4_append_0 : List UInt8 := dkwX4_append_0 ++ dktX4_append_1
theorem dksX4_append_0 : cX4_append.data.toList.drop 0 = dktX4_append_0 := by decide +kernel
theorem dksX4_append_1 : cX4_append.data.toList.drop 22 = dktX4_append_1 := dk_seg dksX4_append_0 22 rfl rfl
theorem dX4_append_0 : decode cX4_append 0 = .ok (.aload_n 0, 1) := dk_42 (dk_at dksX4_append_0 0 rfl rfl)
theorem dX4_append_1 : decode cX4_append 1 = .ok (.aload_n 0, 1) := dk_42 (dk_at dksX4_append_0 1 rfl rfl)
theorem dX4_append_2 : decode cX4_append 2 = .ok (.getfield 279, 3) := dk_180 1 23 (dk_at dksX4_append_0 2 rfl rfl)
theorem dX4_append_5 : decode cX4_append 5 = .ok (.bipush 80, 2) := dk_16 80 (dk_at dksX4_append_0 5 rfl rfl)
theorem dX4_append_7 : decode cX4_append 7 = .ok (.if_icmp .ne 7, 3) := dk_160 0 7 (dk_at dksX4_append_0 7 rfl rfl)
theorem dX4_append_10 : decode cX4_append 10 = .ok (.iconst 1, 1) := dk_4 (dk_at dksX4_append_0 10 rfl rfl)
theorem dX4_append_11 : decode cX4_append 11 = .ok (.goto 4, 3) := dk_167 0 4 (dk_at dksX4_append_0 11 rfl rfl)
theorem dX4_append_14 : decode cX4_append 14 = .ok (.iconst 0, 1) := dk_3 (dk_at dksX4_append_0 14 rfl rfl)
theorem dX4_append_15 : decode cX4_append 15 = .ok (.putfield 79, 3) := dk_181 0 79 (dk_at dksX4_append_0 15 rfl rfl)
theorem dX4_append_18 : decode cX4_append 18 = .ok (.aload_n 0, 1) := dk_42 (dk_at dksX4_append_0 18 rfl rfl)
theorem dX4_append_19 : decode cX4_append 19 = .ok (.getfield 79, 3) := dk_180 0 79 (dk_at dksX4_append_0 19 rfl rfl)
theorem dX4_append_22 : decode cX4_append 22 = .ok (.ifCond .ne 23, 3) := dk_154 0 23 (dk_at dksX4_append_1 0 rfl rfl)
theorem dX4_append_25 : decode cX4_append 25 = .ok (.aload_n 0, 1) := dk_42 (dk_at dksX4_append_1 3 rfl rfl)
theorem dX4_append_26 : decode cX4_append 26 = .ok (.getfield 16, 3) := dk_180 0 16 (dk_at dksX4_append_1 4 rfl rfl)
theorem dX4_append_29 : decode cX4_append 29 = .ok (.aload_n 0, 1) := dk_42 (dk_at dksX4_append_1 7 rfl rfl)
theorem dX4_append_30 : decode cX4_append 30 = .ok (.getfield 279, 3) := dk_180 1 23 (dk_at dksX4_append_1 8 rfl rfl)
theorem dX4_append_33 : decode cX4_append 33 = .ok (.iload_n 1, 1) := dk_27 (dk_at dksX4_append_1 11 rfl rfl)
theorem dX4_append_34 : decode cX4_append 34 = .ok (.castore, 1) := dk_85 (dk_at dksX4_append_1 12 rfl rfl)
theorem dX4_append_35 : decode cX4_append 35 = .ok (.aload_n 0, 1) := dk_42 (dk_at dksX4_append_1 13 rfl rfl)
theorem dX4_append_36 : decode cX4_append 36 = .ok (.dup, 1) := dk_89 (dk_at dksX4_append_1 14 rfl rfl)
theorem dX4_append_37 : decode cX4_append 37 = .ok (.getfield 279, 3) := dk_180 1 23 (dk_at dksX4_append_1 15 rfl rfl)
theorem dX4_append_40 : decode cX4_append 40 = .ok (.iconst 1, 1) := dk_4 (dk_at dksX4_append_1 18 rfl rfl)
theorem dX4_append_41 : decode cX4_append 41 = .ok (.iadd, 1) := dk_96 (dk_at dksX4_append_1 19 rfl rfl)
theorem dX4_append_42 : decode cX4_append 42 = .ok (.putfield 279, 3) := dk_181 1 23 (dk_at dksX4_append_1 20 rfl rfl)
theorem dX4_append_45 : decode cX4_append 45 = .ok (.return_, 1) := dk_177 (dk_at dksX4_append_1 23 rfl rfl)
abbrev cX4_read : ByteArray := prog_19_method_87_code
def yX4_read : MethodName := ⟨RX4, "read", "()I"⟩
def dkwX4_read_8 : List UInt8 := [16, 100, 42, 180, 1, 46, 96, 42, 180, 1, 49, 16, 100, 42, 180, 1, 52, 96, 182, 0, 217, 3, 172]
abbrev dktX4_read_8 : List UInt8 := dkwX4_read_8 ++ []
def dkwX4_read_7 : List UInt8 := [3, 3, 182, 0, 217, 167, 0, 39, 42, 42, 180, 1, 49, 6, 160, 0, 7, 7, 167, 0, 4, 6, 6]
abbrev dktX4_read_7 : List UInt8 := dkwX4_read_7 ++ dktX4_read_8
def dkwX4_read_6 : List UInt8 := [17, 0, 203, 184, 1, 8, 42, 180, 0, 79, 4, 160, 0, 21, 42, 5, 5, 16, 100, 42, 180, 1, 36, 96]
abbrev dktX4_read_6 : List UInt8 := dkwX4_read_6 ++ dktX4_read_7
def dkwX4_read_5 : List UInt8 := [3, 181, 0, 79, 42, 180, 0, 79, 154, 0, 5, 27, 172, 42, 180, 0, 76, 3, 42, 180, 0, 9, 3]
abbrev dktX4_read_5 : List UInt8 := dkwX4_read_5 ++ dktX4_read_6
def dkwX4_read_4 : List UInt8 := [42, 42, 180, 1, 36, 155, 0, 7, 4, 167, 0, 16, 42, 180, 1, 46, 2, 159, 0, 7, 5, 167, 0, 4]
abbrev dktX4_read_4 : List UInt8 := dkwX4_read_4 ++ dktX4_read_5
def dkwX4_read_3 : List UInt8 := [42, 180, 1, 26, 42, 180, 1, 23, 162, 0, 11, 42, 42, 180, 1, 26, 181, 1, 36, 42, 3, 181, 1, 23]
abbrev dktX4_read_3 : List UInt8 := dkwX4_read_3 ++ dktX4_read_4
def dkwX4_read_2 : List UInt8 := [27, 182, 1, 68, 132, 1, 1, 42, 16, 59, 182, 1, 42, 61, 167, 255, 230, 42, 180, 1, 36, 156, 0, 22]
abbrev dktX4_read_2 : List UInt8 := dkwX4_read_2 ++ dktX4_read_3
def dkwX4_read_1 : List UInt8 := [181, 1, 36, 42, 2, 181, 1, 46, 3, 60, 4, 61, 28, 153, 0, 28, 42, 180, 1, 36, 156, 0, 21, 42]
abbrev dktX4_read_1 : List UInt8 := dkwX4_read_1 ++ dktX4_read_2
def dkwX4_read_0 : List UInt8 := [42, 180, 0, 9, 3, 42, 180, 0, 76, 3, 17, 0, 203, 184, 1, 8, 42, 3, 181, 1, 26, 42, 2]
abbrev dktX4_read_0 : List UInt8 := dkwX4_read_0 ++ dktX4_read_1
theorem dksX4_read_0 : cX4_read.data.toList.drop 0 = dktX4_read_0 := by decide +kernel
theorem dksX4_read_1 : cX4_read.data.toList.drop 23 = dktX4_read_1 := dk_seg dksX4_read_0 23 rfl rfl
theorem dksX4_read_2 : cX4_read.data.toList.drop 47 = dktX4_read_2 := dk_seg dksX4_read_1 24 rfl rfl
theorem dksX4_read_3 : cX4_read.data.toList.drop 71 = dktX4_read_3 := dk_seg dksX4_read_2 24 rfl rfl
theorem dksX4_read_4 : cX4_read.data.toList.drop 95 = dktX4_read_4 := dk_seg dksX4_read_3 24 rfl rfl
theorem dksX4_read_5 : cX4_read.data.toList.drop 119 = dktX4_read_5 := dk_seg dksX4_read_4 24 rfl rfl
theorem dksX4_read_6 : cX4_read.data.toList.drop 142 = dktX4_read_6 := dk_seg dksX4_read_5 23 rfl rfl
theorem dksX4_read_7 : cX4_read.data.toList.drop 166 = dktX4_read_7 := dk_seg dksX4_read_6 24 rfl rfl
theorem dksX4_read_8 : cX4_read.data.toList.drop 189 = dktX4_read_8 := dk_seg dksX4_read_7 23 rfl rfl
theorem dX4_read_0 : decode cX4_read 0 = .ok (.aload_n 0, 1) := dk_42 (dk_at dksX4_read_0 0 rfl rfl)
theorem dX4_read_1 : decode cX4_read 1 = .ok (.getfield 9, 3) := dk_180 0 9 (dk_at dksX4_read_0 1 rfl rfl)
theorem dX4_read_4 : decode cX4_read 4 = .ok (.iconst 0, 1) := dk_3 (dk_at dksX4_read_0 4 rfl rfl)
theorem dX4_read_5 : decode cX4_read 5 = .ok (.aload_n 0, 1) := dk_42 (dk_at dksX4_read_0 5 rfl rfl)
theorem dX4_read_6 : decode cX4_read 6 = .ok (.getfield 76, 3) := dk_180 0 76 (dk_at dksX4_read_0 6 rfl rfl)
theorem dX4_read_9 : decode cX4_read 9 = .ok (.iconst 0, 1) := dk_3 (dk_at dksX4_read_0 9 rfl rfl)
theorem dX4_read_10 : decode cX4_read 10 = .ok (.sipush 203, 3) := dk_17 0 203 (dk_at dksX4_read_0 10 rfl rfl)
theorem dX4_read_13 : decode cX4_read 13 = .ok (.invokestatic 264, 3) := dk_184 1 8 (dk_at dksX4_read_0 13 rfl rfl)
theorem dX4_read_16 : decode cX4_read 16 = .ok (.aload_n 0, 1) := dk_42 (dk_at dksX4_read_0 16 rfl rfl)
theorem dX4_read_17 : decode cX4_read 17 = .ok (.iconst 0, 1) := dk_3 (dk_at dksX4_read_0 17 rfl rfl)
theorem dX4_read_18 : decode cX4_read 18 = .ok (.putfield 282, 3) := dk_181 1 26 (dk_at dksX4_read_0 18 rfl rfl)
theorem dX4_read_21 : decode cX4_read 21 = .ok (.aload_n 0, 1) := dk_42 (dk_at dksX4_read_0 21 rfl rfl)
theorem dX4_read_22 : decode cX4_read 22 = .ok (.iconst (-1), 1) := dk_2 (dk_at dksX4_read_0 22 rfl rfl)
theorem dX4_read_23 : decode cX4_read 23 = .ok (.putfield 292, 3) := dk_181 1 36 (dk_at dksX4_read_1 0 rfl rfl)
theorem dX4_read_26 : decode cX4_read 26 = .ok (.aload_n 0, 1) := dk_42 (dk_at dksX4_read_1 3 rfl rfl)
theorem dX4_read_27 : decode cX4_read 27 = .ok (.iconst (-1), 1) := dk_2 (dk_at dksX4_read_1 4 rfl rfl)
theorem dX4_read_28 : decode cX4_read 28 = .ok (.putfield 302, 3) := dk_181 1 46 (dk_at dksX4_read_1 5 rfl rfl)
theorem dX4_read_31 : decode cX4_read 31 = .ok (.iconst 0, 1) := dk_3 (dk_at dksX4_read_1 8 rfl rfl)
theorem dX4_read_32 : decode cX4_read 32 = .ok (.istore_n 1, 1) := dk_60 (dk_at dksX4_read_1 9 rfl rfl)
theorem dX4_read_33 : decode cX4_read 33 = .ok (.iconst 1, 1) := dk_4 (dk_at dksX4_read_1 10 rfl rfl)
theorem dX4_read_34 : decode cX4_read 34 = .ok (.istore_n 2, 1) := dk_61 (dk_at dksX4_read_1 11 rfl rfl)
theorem dX4_read_35 : decode cX4_read 35 = .ok (.iload_n 2, 1) := dk_28 (dk_at dksX4_read_1 12 rfl rfl)
theorem dX4_read_36 : decode cX4_read 36 = .ok (.ifCond .eq 28, 3) := dk_153 0 28 (dk_at dksX4_read_1 13 rfl rfl)
theorem dX4_read_39 : decode cX4_read 39 = .ok (.aload_n 0, 1) := dk_42 (dk_at dksX4_read_1 16 rfl rfl)
theorem dX4_read_40 : decode cX4_read 40 = .ok (.getfield 292, 3) := dk_180 1 36 (dk_at dksX4_read_1 17 rfl rfl)
theorem dX4_read_43 : decode cX4_read 43 = .ok (.ifCond .ge 21, 3) := dk_156 0 21 (dk_at dksX4_read_1 20 rfl rfl)
theorem dX4_read_46 : decode cX4_read 46 = .ok (.aload_n 0, 1) := dk_42 (dk_at dksX4_read_1 23 rfl rfl)
theorem dX4_read_47 : decode cX4_read 47 = .ok (.iload_n 1, 1) := dk_27 (dk_at dksX4_read_2 0 rfl rfl)
theorem dX4_read_48 : decode cX4_read 48 = .ok (.invokevirtual 324, 3) := dk_182 1 68 (dk_at dksX4_read_2 1 rfl rfl)
theorem dX4_read_51 : decode cX4_read 51 = .ok (.iinc 1 1, 3) := dk_132 1 1 (dk_at dksX4_read_2 4 rfl rfl)
theorem dX4_read_54 : decode cX4_read 54 = .ok (.aload_n 0, 1) := dk_42 (dk_at dksX4_read_2 7 rfl rfl)
theorem dX4_read_55 : decode cX4_read 55 = .ok (.bipush 59, 2) := dk_16 59 (dk_at dksX4_read_2 8 rfl rfl)
theorem dX4_read_57 : decode cX4_read 57 = .ok (.invokevirtual 298, 3) := dk_182 1 42 (dk_at dksX4_read_2 10 rfl rfl)
theorem dX4_read_60 : decode cX4_read 60 = .ok (.istore_n 2, 1) := dk_61 (dk_at dksX4_read_2 13 rfl rfl)
theorem dX4_read_61 : decode cX4_read 61 = .ok (.goto (-26), 3) := dk_167 255 230 (dk_at dksX4_read_2 14 rfl rfl)
theorem dX4_read_64 : decode cX4_read 64 = .ok (.aload_n 0, 1) := dk_42 (dk_at dksX4_read_2 17 rfl rfl)
theorem dX4_read_65 : decode cX4_read 65 = .ok (.getfield 292, 3) := dk_180 1 36 (dk_at dksX4_read_2 18 rfl rfl)
theorem dX4_read_68 : decode cX4_read 68 = .ok (.ifCond .ge 22, 3) := dk_156 0 22 (dk_at dksX4_read_2 21 rfl rfl)
theorem dX4_read_71 : decode cX4_read 71 = .ok (.aload_n 0, 1) := dk_42 (dk_at dksX4_read_3 0 rfl rfl)
theorem dX4_read_72 : decode cX4_read 72 = .ok (.getfield 282, 3) := dk_180 1 26 (dk_at dksX4_read_3 1 rfl rfl)
theorem dX4_read_75 : decode cX4_read 75 = .ok (.aload_n 0, 1) := dk_42 (dk_at dksX4_read_3 4 rfl rfl)
theorem dX4_read_76 : decode cX4_read 76 = .ok (.getfield 279, 3) := dk_180 1 23 (dk_at dksX4_read_3 5 rfl rfl)
theorem dX4_read_79 : decode cX4_read 79 = .ok (.if_icmp .ge 11, 3) := dk_162 0 11 (dk_at dksX4_read_3 8 rfl rfl)
theorem dX4_read_82 : decode cX4_read 82 = .ok (.aload_n 0, 1) := dk_42 (dk_at dksX4_read_3 11 rfl rfl)
theorem dX4_read_83 : decode cX4_read 83 = .ok (.aload_n 0, 1) := dk_42 (dk_at dksX4_read_3 12 rfl rfl)
theorem dX4_read_84 : decode cX4_read 84 = .ok (.getfield 282, 3) := dk_180 1 26 (dk_at dksX4_read_3 13 rfl rfl)
theorem dX4_read_87 : decode cX4_read 87 = .ok (.putfield 292, 3) := dk_181 1 36 (dk_at dksX4_read_3 16 rfl rfl)
theorem dX4_read_90 : decode cX4_read 90 = .ok (.aload_n 0, 1) := dk_42 (dk_at dksX4_read_3 19 rfl rfl)
theorem dX4_read_91 : decode cX4_read 91 = .ok (.iconst 0, 1) := dk_3 (dk_at dksX4_read_3 20 rfl rfl)
theorem dX4_read_92 : decode cX4_read 92 = .ok (.putfield 279, 3) := dk_181 1 23 (dk_at dksX4_read_3 21 rfl rfl)
theorem dX4_read_95 : decode cX4_read 95 = .ok (.aload_n 0, 1) := dk_42 (dk_at dksX4_read_4 0 rfl rfl)
theorem dX4_read_96 : decode cX4_read 96 = .ok (.aload_n 0, 1) := dk_42 (dk_at dksX4_read_4 1 rfl rfl)
theorem dX4_read_97 : decode cX4_read 97 = .ok (.getfield 292, 3) := dk_180 1 36 (dk_at dksX4_read_4 2 rfl rfl)
theorem dX4_read_100 : decode cX4_read 100 = .ok (.ifCond .lt 7, 3) := dk_155 0 7 (dk_at dksX4_read_4 5 rfl rfl)
theorem dX4_read_103 : decode cX4_read 103 = .ok (.iconst 1, 1) := dk_4 (dk_at dksX4_read_4 8 rfl rfl)
theorem dX4_read_104 : decode cX4_read 104 = .ok (.goto 16, 3) := dk_167 0 16 (dk_at dksX4_read_4 9 rfl rfl)
theorem dX4_read_107 : decode cX4_read 107 = .ok (.aload_n 0, 1) := dk_42 (dk_at dksX4_read_4 12 rfl rfl)
theorem dX4_read_108 : decode cX4_read 108 = .ok (.getfield 302, 3) := dk_180 1 46 (dk_at dksX4_read_4 13 rfl rfl)
theorem dX4_read_111 : decode cX4_read 111 = .ok (.iconst (-1), 1) := dk_2 (dk_at dksX4_read_4 16 rfl rfl)
theorem dX4_read_112 : decode cX4_read 112 = .ok (.if_icmp .eq 7, 3) := dk_159 0 7 (dk_at dksX4_read_4 17 rfl rfl)
theorem dX4_read_115 : decode cX4_read 115 = .ok (.iconst 2, 1) := dk_5 (dk_at dksX4_read_4 20 rfl rfl)
theorem dX4_read_116 : decode cX4_read 116 = .ok (.goto 4, 3) := dk_167 0 4 (dk_at dksX4_read_4 21 rfl rfl)
theorem dX4_read_119 : decode cX4_read 119 = .ok (.iconst 0, 1) := dk_3 (dk_at dksX4_read_5 0 rfl rfl)
theorem dX4_read_120 : decode cX4_read 120 = .ok (.putfield 79, 3) := dk_181 0 79 (dk_at dksX4_read_5 1 rfl rfl)
theorem dX4_read_123 : decode cX4_read 123 = .ok (.aload_n 0, 1) := dk_42 (dk_at dksX4_read_5 4 rfl rfl)
theorem dX4_read_124 : decode cX4_read 124 = .ok (.getfield 79, 3) := dk_180 0 79 (dk_at dksX4_read_5 5 rfl rfl)
theorem dX4_read_127 : decode cX4_read 127 = .ok (.ifCond .ne 5, 3) := dk_154 0 5 (dk_at dksX4_read_5 8 rfl rfl)
theorem dX4_read_130 : decode cX4_read 130 = .ok (.iload_n 1, 1) := dk_27 (dk_at dksX4_read_5 11 rfl rfl)
theorem dX4_read_131 : decode cX4_read 131 = .ok (.ireturn, 1) := dk_172 (dk_at dksX4_read_5 12 rfl rfl)
theorem dX4_read_132 : decode cX4_read 132 = .ok (.aload_n 0, 1) := dk_42 (dk_at dksX4_read_5 13 rfl rfl)
theorem dX4_read_133 : decode cX4_read 133 = .ok (.getfield 76, 3) := dk_180 0 76 (dk_at dksX4_read_5 14 rfl rfl)
theorem dX4_read_136 : decode cX4_read 136 = .ok (.iconst 0, 1) := dk_3 (dk_at dksX4_read_5 17 rfl rfl)
theorem dX4_read_137 : decode cX4_read 137 = .ok (.aload_n 0, 1) := dk_42 (dk_at dksX4_read_5 18 rfl rfl)
theorem dX4_read_138 : decode cX4_read 138 = .ok (.getfield 9, 3) := dk_180 0 9 (dk_at dksX4_read_5 19 rfl rfl)
theorem dX4_read_141 : decode cX4_read 141 = .ok (.iconst 0, 1) := dk_3 (dk_at dksX4_read_5 22 rfl rfl)
theorem dX4_read_142 : decode cX4_read 142 = .ok (.sipush 203, 3) := dk_17 0 203 (dk_at dksX4_read_6 0 rfl rfl)
theorem dX4_read_145 : decode cX4_read 145 = .ok (.invokestatic 264, 3) := dk_184 1 8 (dk_at dksX4_read_6 3 rfl rfl)
theorem dX4_read_148 : decode cX4_read 148 = .ok (.aload_n 0, 1) := dk_42 (dk_at dksX4_read_6 6 rfl rfl)
theorem dX4_read_149 : decode cX4_read 149 = .ok (.getfield 79, 3) := dk_180 0 79 (dk_at dksX4_read_6 7 rfl rfl)
theorem dX4_read_152 : decode cX4_read 152 = .ok (.iconst 1, 1) := dk_4 (dk_at dksX4_read_6 10 rfl rfl)
theorem dX4_read_153 : decode cX4_read 153 = .ok (.if_icmp .ne 21, 3) := dk_160 0 21 (dk_at dksX4_read_6 11 rfl rfl)
theorem dX4_read_156 : decode cX4_read 156 = .ok (.aload_n 0, 1) := dk_42 (dk_at dksX4_read_6 14 rfl rfl)
theorem dX4_read_157 : decode cX4_read 157 = .ok (.iconst 2, 1) := dk_5 (dk_at dksX4_read_6 15 rfl rfl)
theorem dX4_read_158 : decode cX4_read 158 = .ok (.iconst 2, 1) := dk_5 (dk_at dksX4_read_6 16 rfl rfl)
theorem dX4_read_159 : decode cX4_read 159 = .ok (.bipush 100, 2) := dk_16 100 (dk_at dksX4_read_6 17 rfl rfl)
theorem dX4_read_161 : decode cX4_read 161 = .ok (.aload_n 0, 1) := dk_42 (dk_at dksX4_read_6 19 rfl rfl)
theorem dX4_read_162 : decode cX4_read 162 = .ok (.getfield 292, 3) := dk_180 1 36 (dk_at dksX4_read_6 20 rfl rfl)
theorem dX4_read_165 : decode cX4_read 165 = .ok (.iadd, 1) := dk_96 (dk_at dksX4_read_6 23 rfl rfl)
theorem dX4_read_166 : decode cX4_read 166 = .ok (.iconst 0, 1) := dk_3 (dk_at dksX4_read_7 0 rfl rfl)
theorem dX4_read_167 : decode cX4_read 167 = .ok (.iconst 0, 1) := dk_3 (dk_at dksX4_read_7 1 rfl rfl)
theorem dX4_read_168 : decode cX4_read 168 = .ok (.invokevirtual 217, 3) := dk_182 0 217 (dk_at dksX4_read_7 2 rfl rfl)
theorem dX4_read_171 : decode cX4_read 171 = .ok (.goto 39, 3) := dk_167 0 39 (dk_at dksX4_read_7 5 rfl rfl)
theorem dX4_read_174 : decode cX4_read 174 = .ok (.aload_n 0, 1) := dk_42 (dk_at dksX4_read_7 8 rfl rfl)
theorem dX4_read_175 : decode cX4_read 175 = .ok (.aload_n 0, 1) := dk_42 (dk_at dksX4_read_7 9 rfl rfl)
theorem dX4_read_176 : decode cX4_read 176 = .ok (.getfield 305, 3) := dk_180 1 49 (dk_at dksX4_read_7 10 rfl rfl)
theorem dX4_read_179 : decode cX4_read 179 = .ok (.iconst 3, 1) := dk_6 (dk_at dksX4_read_7 13 rfl rfl)
theorem dX4_read_180 : decode cX4_read 180 = .ok (.if_icmp .ne 7, 3) := dk_160 0 7 (dk_at dksX4_read_7 14 rfl rfl)
theorem dX4_read_183 : decode cX4_read 183 = .ok (.iconst 4, 1) := dk_7 (dk_at dksX4_read_7 17 rfl rfl)
theorem dX4_read_184 : decode cX4_read 184 = .ok (.goto 4, 3) := dk_167 0 4 (dk_at dksX4_read_7 18 rfl rfl)
theorem dX4_read_187 : decode cX4_read 187 = .ok (.iconst 3, 1) := dk_6 (dk_at dksX4_read_7 21 rfl rfl)
theorem dX4_read_188 : decode cX4_read 188 = .ok (.iconst 3, 1) := dk_6 (dk_at dksX4_read_7 22 rfl rfl)
theorem dX4_read_189 : decode cX4_read 189 = .ok (.bipush 100, 2) := dk_16 100 (dk_at dksX4_read_8 0 rfl rfl)
theorem dX4_read_191 : decode cX4_read 191 = .ok (.aload_n 0, 1) := dk_42 (dk_at dksX4_read_8 2 rfl rfl)
theorem dX4_read_192 : decode cX4_read 192 = .ok (.getfield 302, 3) := dk_180 1 46 (dk_at dksX4_read_8 3 rfl rfl)
theorem dX4_read_195 : decode cX4_read 195 = .ok (.iadd, 1) := dk_96 (dk_at dksX4_read_8 6 rfl rfl)
theorem dX4_read_196 : decode cX4_read 196 = .ok (.aload_n 0, 1) := dk_42 (dk_at dksX4_read_8 7 rfl rfl)
theorem dX4_read_197 : decode cX4_read 197 = .ok (.getfield 305, 3) := dk_180 1 49 (dk_at dksX4_read_8 8 rfl rfl)
theorem dX4_read_200 : decode cX4_read 200 = .ok (.bipush 100, 2) := dk_16 100 (dk_at dksX4_read_8 11 rfl rfl)
theorem dX4_read_202 : decode cX4_read 202 = .ok (.aload_n 0, 1) := dk_42 (dk_at dksX4_read_8 13 rfl rfl)
theorem dX4_read_203 : decode cX4_read 203 = .ok (.getfield 308, 3) := dk_180 1 52 (dk_at dksX4_read_8 14 rfl rfl)
theorem dX4_read_206 : decode cX4_read 206 = .ok (.iadd, 1) := dk_96 (dk_at dksX4_read_8 17 rfl rfl)
theorem dX4_read_207 : decode cX4_read 207 = .ok (.invokevirtual 217, 3) := dk_182 0 217 (dk_at dksX4_read_8 18 rfl rfl)
theorem dX4_read_210 : decode cX4_read 210 = .ok (.iconst 0, 1) := dk_3 (dk_at dksX4_read_8 21 rfl rfl)
theorem dX4_read_211 : decode cX4_read 211 = .ok (.ireturn, 1) := dk_172 (dk_at dksX4_read_8 22 rfl rfl)
abbrev cX4_readJob : ByteArray := prog_19_method_86_code
def yX4_readJob : MethodName := ⟨RX4, "readJob", "(I)V"⟩
def dkwX4_readJob_6 : List UInt8 := [132, 6, 1, 42, 16, 47, 182, 1, 42, 54, 7, 167, 255, 224, 177]
abbrev dktX4_readJob_6 : List UInt8 := dkwX4_readJob_6 ++ []
def dkwX4_readJob_5 : List UInt8 := [4, 54, 7, 21, 7, 153, 0, 33, 42, 180, 1, 36, 156, 0, 26, 42, 27, 21, 6, 21, 5, 182, 1, 65]
abbrev dktX4_readJob_5 : List UInt8 := dkwX4_readJob_5 ++ dktX4_readJob_6
def dkwX4_readJob_4 : List UInt8 := [42, 180, 1, 36, 156, 0, 14, 42, 28, 29, 21, 4, 182, 0, 102, 167, 0, 4, 3, 54, 5, 3, 54, 6]
abbrev dktX4_readJob_4 : List UInt8 := dkwX4_readJob_4 ++ dktX4_readJob_5
def dkwX4_readJob_3 : List UInt8 := [29, 21, 4, 184, 0, 98, 154, 0, 10, 42, 27, 5, 3, 182, 1, 62, 42, 180, 1, 46, 2, 160, 0, 21]
abbrev dktX4_readJob_3 : List UInt8 := dkwX4_readJob_3 ++ dktX4_readJob_4
def dkwX4_readJob_2 : List UInt8 := [182, 1, 58, 42, 180, 0, 9, 3, 46, 8, 160, 0, 13, 42, 27, 4, 3, 182, 1, 62, 167, 0, 20, 28]
abbrev dktX4_readJob_2 : List UInt8 := dkwX4_readJob_2 ++ dktX4_readJob_3
def dkwX4_readJob_1 : List UInt8 := [180, 1, 33, 62, 42, 16, 44, 182, 1, 58, 42, 6, 182, 1, 55, 42, 180, 1, 33, 54, 4, 42, 16, 58]
abbrev dktX4_readJob_1 : List UInt8 := dkwX4_readJob_1 ++ dktX4_readJob_2
def dkwX4_readJob_0 : List UInt8 := [42, 6, 182, 1, 55, 42, 180, 1, 33, 61, 42, 16, 44, 182, 1, 58, 42, 6, 182, 1, 55, 42]
abbrev dktX4_readJob_0 : List UInt8 := dkwX4_readJob_0 ++ dktX4_readJob_1
theorem dksX4_readJob_0 : cX4_readJob.data.toList.drop 0 = dktX4_readJob_0 := by decide +kernel
theorem dksX4_readJob_1 : cX4_readJob.data.toList.drop 22 = dktX4_readJob_1 := dk_seg dksX4_readJob_0 22 rfl rfl
theorem dksX4_readJob_2 : cX4_readJob.data.toList.drop 46 = dktX4_readJob_2 := dk_seg dksX4_readJob_1 24 rfl rfl
theorem dksX4_readJob_3 : cX4_readJob.data.toList.drop 70 = dktX4_readJob_3 := dk_seg dksX4_readJob_2 24 rfl rfl
theorem dksX4_readJob_4 : cX4_readJob.data.toList.drop 94 = dktX4_readJob_4 := dk_seg dksX4_readJob_3 24 rfl rfl
theorem dksX4_readJob_5 : cX4_readJob.data.toList.drop 118 = dktX4_readJob_5 := dk_seg dksX4_readJob_4 24 rfl rfl
theorem dksX4_readJob_6 : cX4_readJob.data.toList.drop 142 = dktX4_readJob_6 := dk_seg dksX4_readJob_5 24 rfl rfl
theorem dX4_readJob_0 : decode cX4_readJob 0 = .ok (.aload_n 0, 1) := dk_42 (dk_at dksX4_readJob_0 0 rfl rfl)
theorem dX4_readJob_1 : decode cX4_readJob 1 = .ok (.iconst 3, 1) := dk_6 (dk_at dksX4_readJob_0 1 rfl rfl)
theorem dX4_readJob_2 : decode cX4_readJob 2 = .ok (.invokevirtual 311, 3) := dk_182 1 55 (dk_at dksX4_readJob_0 2 rfl rfl)
theorem dX4_readJob_5 : decode cX4_readJob 5 = .ok (.aload_n 0, 1) := dk_42 (dk_at dksX4_readJob_0 5 rfl rfl)
theorem dX4_readJob_6 : decode cX4_readJob 6 = .ok (.getfield 289, 3) := dk_180 1 33 (dk_at dksX4_readJob_0 6 rfl rfl)
theorem dX4_readJob_9 : decode cX4_readJob 9 = .ok (.istore_n 2, 1) := dk_61 (dk_at dksX4_readJob_0 9 rfl rfl)
theorem dX4_readJob_10 : decode cX4_readJob 10 = .ok (.aload_n 0, 1) := dk_42 (dk_at dksX4_readJob_0 10 rfl rfl)
theorem dX4_readJob_11 : decode cX4_readJob 11 = .ok (.bipush 44, 2) := dk_16 44 (dk_at dksX4_readJob_0 11 rfl rfl)
theorem dX4_readJob_13 : decode cX4_readJob 13 = .ok (.invokevirtual 314, 3) := dk_182 1 58 (dk_at dksX4_readJob_0 13 rfl rfl)
theorem dX4_readJob_16 : decode cX4_readJob 16 = .ok (.aload_n 0, 1) := dk_42 (dk_at dksX4_readJob_0 16 rfl rfl)
theorem dX4_readJob_17 : decode cX4_readJob 17 = .ok (.iconst 3, 1) := dk_6 (dk_at dksX4_readJob_0 17 rfl rfl)
theorem dX4_readJob_18 : decode cX4_readJob 18 = .ok (.invokevirtual 311, 3) := dk_182 1 55 (dk_at dksX4_readJob_0 18 rfl rfl)
theorem dX4_readJob_21 : decode cX4_readJob 21 = .ok (.aload_n 0, 1) := dk_42 (dk_at dksX4_readJob_0 21 rfl rfl)
theorem dX4_readJob_22 : decode cX4_readJob 22 = .ok (.getfield 289, 3) := dk_180 1 33 (dk_at dksX4_readJob_1 0 rfl rfl)
theorem dX4_readJob_25 : decode cX4_readJob 25 = .ok (.istore_n 3, 1) := dk_62 (dk_at dksX4_readJob_1 3 rfl rfl)
theorem dX4_readJob_26 : decode cX4_readJob 26 = .ok (.aload_n 0, 1) := dk_42 (dk_at dksX4_readJob_1 4 rfl rfl)
theorem dX4_readJob_27 : decode cX4_readJob 27 = .ok (.bipush 44, 2) := dk_16 44 (dk_at dksX4_readJob_1 5 rfl rfl)
theorem dX4_readJob_29 : decode cX4_readJob 29 = .ok (.invokevirtual 314, 3) := dk_182 1 58 (dk_at dksX4_readJob_1 7 rfl rfl)
theorem dX4_readJob_32 : decode cX4_readJob 32 = .ok (.aload_n 0, 1) := dk_42 (dk_at dksX4_readJob_1 10 rfl rfl)
theorem dX4_readJob_33 : decode cX4_readJob 33 = .ok (.iconst 3, 1) := dk_6 (dk_at dksX4_readJob_1 11 rfl rfl)
theorem dX4_readJob_34 : decode cX4_readJob 34 = .ok (.invokevirtual 311, 3) := dk_182 1 55 (dk_at dksX4_readJob_1 12 rfl rfl)
theorem dX4_readJob_37 : decode cX4_readJob 37 = .ok (.aload_n 0, 1) := dk_42 (dk_at dksX4_readJob_1 15 rfl rfl)
theorem dX4_readJob_38 : decode cX4_readJob 38 = .ok (.getfield 289, 3) := dk_180 1 33 (dk_at dksX4_readJob_1 16 rfl rfl)
theorem dX4_readJob_41 : decode cX4_readJob 41 = .ok (.istore 4, 2) := dk_54 4 (dk_at dksX4_readJob_1 19 rfl rfl)
theorem dX4_readJob_43 : decode cX4_readJob 43 = .ok (.aload_n 0, 1) := dk_42 (dk_at dksX4_readJob_1 21 rfl rfl)
theorem dX4_readJob_44 : decode cX4_readJob 44 = .ok (.bipush 58, 2) := dk_16 58 (dk_at dksX4_readJob_1 22 rfl rfl)
theorem dX4_readJob_46 : decode cX4_readJob 46 = .ok (.invokevirtual 314, 3) := dk_182 1 58 (dk_at dksX4_readJob_2 0 rfl rfl)
theorem dX4_readJob_49 : decode cX4_readJob 49 = .ok (.aload_n 0, 1) := dk_42 (dk_at dksX4_readJob_2 3 rfl rfl)
theorem dX4_readJob_50 : decode cX4_readJob 50 = .ok (.getfield 9, 3) := dk_180 0 9 (dk_at dksX4_readJob_2 4 rfl rfl)
theorem dX4_readJob_53 : decode cX4_readJob 53 = .ok (.iconst 0, 1) := dk_3 (dk_at dksX4_readJob_2 7 rfl rfl)
theorem dX4_readJob_54 : decode cX4_readJob 54 = .ok (.iaload, 1) := dk_46 (dk_at dksX4_readJob_2 8 rfl rfl)
theorem dX4_readJob_55 : decode cX4_readJob 55 = .ok (.iconst 5, 1) := dk_8 (dk_at dksX4_readJob_2 9 rfl rfl)
theorem dX4_readJob_56 : decode cX4_readJob 56 = .ok (.if_icmp .ne 13, 3) := dk_160 0 13 (dk_at dksX4_readJob_2 10 rfl rfl)
theorem dX4_readJob_59 : decode cX4_readJob 59 = .ok (.aload_n 0, 1) := dk_42 (dk_at dksX4_readJob_2 13 rfl rfl)
theorem dX4_readJob_60 : decode cX4_readJob 60 = .ok (.iload_n 1, 1) := dk_27 (dk_at dksX4_readJob_2 14 rfl rfl)
theorem dX4_readJob_61 : decode cX4_readJob 61 = .ok (.iconst 1, 1) := dk_4 (dk_at dksX4_readJob_2 15 rfl rfl)
theorem dX4_readJob_62 : decode cX4_readJob 62 = .ok (.iconst 0, 1) := dk_3 (dk_at dksX4_readJob_2 16 rfl rfl)
theorem dX4_readJob_63 : decode cX4_readJob 63 = .ok (.invokevirtual 318, 3) := dk_182 1 62 (dk_at dksX4_readJob_2 17 rfl rfl)
theorem dX4_readJob_66 : decode cX4_readJob 66 = .ok (.goto 20, 3) := dk_167 0 20 (dk_at dksX4_readJob_2 20 rfl rfl)
theorem dX4_readJob_69 : decode cX4_readJob 69 = .ok (.iload_n 2, 1) := dk_28 (dk_at dksX4_readJob_2 23 rfl rfl)
theorem dX4_readJob_70 : decode cX4_readJob 70 = .ok (.iload_n 3, 1) := dk_29 (dk_at dksX4_readJob_3 0 rfl rfl)
theorem dX4_readJob_71 : decode cX4_readJob 71 = .ok (.iload 4, 2) := dk_21 4 (dk_at dksX4_readJob_3 1 rfl rfl)
theorem dX4_readJob_73 : decode cX4_readJob 73 = .ok (.invokestatic 98, 3) := dk_184 0 98 (dk_at dksX4_readJob_3 3 rfl rfl)
theorem dX4_readJob_76 : decode cX4_readJob 76 = .ok (.ifCond .ne 10, 3) := dk_154 0 10 (dk_at dksX4_readJob_3 6 rfl rfl)
theorem dX4_readJob_79 : decode cX4_readJob 79 = .ok (.aload_n 0, 1) := dk_42 (dk_at dksX4_readJob_3 9 rfl rfl)
theorem dX4_readJob_80 : decode cX4_readJob 80 = .ok (.iload_n 1, 1) := dk_27 (dk_at dksX4_readJob_3 10 rfl rfl)
theorem dX4_readJob_81 : decode cX4_readJob 81 = .ok (.iconst 2, 1) := dk_5 (dk_at dksX4_readJob_3 11 rfl rfl)
theorem dX4_readJob_82 : decode cX4_readJob 82 = .ok (.iconst 0, 1) := dk_3 (dk_at dksX4_readJob_3 12 rfl rfl)
theorem dX4_readJob_83 : decode cX4_readJob 83 = .ok (.invokevirtual 318, 3) := dk_182 1 62 (dk_at dksX4_readJob_3 13 rfl rfl)
theorem dX4_readJob_86 : decode cX4_readJob 86 = .ok (.aload_n 0, 1) := dk_42 (dk_at dksX4_readJob_3 16 rfl rfl)
theorem dX4_readJob_87 : decode cX4_readJob 87 = .ok (.getfield 302, 3) := dk_180 1 46 (dk_at dksX4_readJob_3 17 rfl rfl)
theorem dX4_readJob_90 : decode cX4_readJob 90 = .ok (.iconst (-1), 1) := dk_2 (dk_at dksX4_readJob_3 20 rfl rfl)
theorem dX4_readJob_91 : decode cX4_readJob 91 = .ok (.if_icmp .ne 21, 3) := dk_160 0 21 (dk_at dksX4_readJob_3 21 rfl rfl)
theorem dX4_readJob_94 : decode cX4_readJob 94 = .ok (.aload_n 0, 1) := dk_42 (dk_at dksX4_readJob_4 0 rfl rfl)
theorem dX4_readJob_95 : decode cX4_readJob 95 = .ok (.getfield 292, 3) := dk_180 1 36 (dk_at dksX4_readJob_4 1 rfl rfl)
theorem dX4_readJob_98 : decode cX4_readJob 98 = .ok (.ifCond .ge 14, 3) := dk_156 0 14 (dk_at dksX4_readJob_4 4 rfl rfl)
theorem dX4_readJob_101 : decode cX4_readJob 101 = .ok (.aload_n 0, 1) := dk_42 (dk_at dksX4_readJob_4 7 rfl rfl)
theorem dX4_readJob_102 : decode cX4_readJob 102 = .ok (.iload_n 2, 1) := dk_28 (dk_at dksX4_readJob_4 8 rfl rfl)
theorem dX4_readJob_103 : decode cX4_readJob 103 = .ok (.iload_n 3, 1) := dk_29 (dk_at dksX4_readJob_4 9 rfl rfl)
theorem dX4_readJob_104 : decode cX4_readJob 104 = .ok (.iload 4, 2) := dk_21 4 (dk_at dksX4_readJob_4 10 rfl rfl)
theorem dX4_readJob_106 : decode cX4_readJob 106 = .ok (.invokevirtual 102, 3) := dk_182 0 102 (dk_at dksX4_readJob_4 12 rfl rfl)
theorem dX4_readJob_109 : decode cX4_readJob 109 = .ok (.goto 4, 3) := dk_167 0 4 (dk_at dksX4_readJob_4 15 rfl rfl)
theorem dX4_readJob_112 : decode cX4_readJob 112 = .ok (.iconst 0, 1) := dk_3 (dk_at dksX4_readJob_4 18 rfl rfl)
theorem dX4_readJob_113 : decode cX4_readJob 113 = .ok (.istore 5, 2) := dk_54 5 (dk_at dksX4_readJob_4 19 rfl rfl)
theorem dX4_readJob_115 : decode cX4_readJob 115 = .ok (.iconst 0, 1) := dk_3 (dk_at dksX4_readJob_4 21 rfl rfl)
theorem dX4_readJob_116 : decode cX4_readJob 116 = .ok (.istore 6, 2) := dk_54 6 (dk_at dksX4_readJob_4 22 rfl rfl)
theorem dX4_readJob_118 : decode cX4_readJob 118 = .ok (.iconst 1, 1) := dk_4 (dk_at dksX4_readJob_5 0 rfl rfl)
theorem dX4_readJob_119 : decode cX4_readJob 119 = .ok (.istore 7, 2) := dk_54 7 (dk_at dksX4_readJob_5 1 rfl rfl)
theorem dX4_readJob_121 : decode cX4_readJob 121 = .ok (.iload 7, 2) := dk_21 7 (dk_at dksX4_readJob_5 3 rfl rfl)
theorem dX4_readJob_123 : decode cX4_readJob 123 = .ok (.ifCond .eq 33, 3) := dk_153 0 33 (dk_at dksX4_readJob_5 5 rfl rfl)
theorem dX4_readJob_126 : decode cX4_readJob 126 = .ok (.aload_n 0, 1) := dk_42 (dk_at dksX4_readJob_5 8 rfl rfl)
theorem dX4_readJob_127 : decode cX4_readJob 127 = .ok (.getfield 292, 3) := dk_180 1 36 (dk_at dksX4_readJob_5 9 rfl rfl)
theorem dX4_readJob_130 : decode cX4_readJob 130 = .ok (.ifCond .ge 26, 3) := dk_156 0 26 (dk_at dksX4_readJob_5 12 rfl rfl)
theorem dX4_readJob_133 : decode cX4_readJob 133 = .ok (.aload_n 0, 1) := dk_42 (dk_at dksX4_readJob_5 15 rfl rfl)
theorem dX4_readJob_134 : decode cX4_readJob 134 = .ok (.iload_n 1, 1) := dk_27 (dk_at dksX4_readJob_5 16 rfl rfl)
theorem dX4_readJob_135 : decode cX4_readJob 135 = .ok (.iload 6, 2) := dk_21 6 (dk_at dksX4_readJob_5 17 rfl rfl)
theorem dX4_readJob_137 : decode cX4_readJob 137 = .ok (.iload 5, 2) := dk_21 5 (dk_at dksX4_readJob_5 19 rfl rfl)
theorem dX4_readJob_139 : decode cX4_readJob 139 = .ok (.invokevirtual 321, 3) := dk_182 1 65 (dk_at dksX4_readJob_5 21 rfl rfl)
theorem dX4_readJob_142 : decode cX4_readJob 142 = .ok (.iinc 6 1, 3) := dk_132 6 1 (dk_at dksX4_readJob_6 0 rfl rfl)
theorem dX4_readJob_145 : decode cX4_readJob 145 = .ok (.aload_n 0, 1) := dk_42 (dk_at dksX4_readJob_6 3 rfl rfl)
theorem dX4_readJob_146 : decode cX4_readJob 146 = .ok (.bipush 47, 2) := dk_16 47 (dk_at dksX4_readJob_6 4 rfl rfl)
theorem dX4_readJob_148 : decode cX4_readJob 148 = .ok (.invokevirtual 298, 3) := dk_182 1 42 (dk_at dksX4_readJob_6 6 rfl rfl)
theorem dX4_readJob_151 : decode cX4_readJob 151 = .ok (.istore 7, 2) := dk_54 7 (dk_at dksX4_readJob_6 9 rfl rfl)
theorem dX4_readJob_153 : decode cX4_readJob 153 = .ok (.goto (-32), 3) := dk_167 255 224 (dk_at dksX4_readJob_6 11 rfl rfl)
theorem dX4_readJob_156 : decode cX4_readJob 156 = .ok (.return_, 1) := dk_177 (dk_at dksX4_readJob_6 14 rfl rfl)
abbrev cX4_readNumber : ByteArray := prog_19_method_81_code
def yX4_readNumber : MethodName := ⟨RX4, "readNumber", "(I)V"⟩
def dkwX4_readNumber_4 : List UInt8 := [42, 180, 1, 36, 156, 0, 19, 42, 180, 1, 26, 28, 160, 0, 11, 42, 42, 180, 1, 26, 181, 1, 36, 177]
abbrev dktX4_readNumber_4 : List UInt8 := dkwX4_readNumber_4 ++ []
def dkwX4_readNumber_3 : List UInt8 := [180, 1, 26, 4, 96, 181, 1, 26, 42, 180, 1, 33, 158, 0, 7, 4, 167, 0, 4, 3, 62, 167, 255, 188]
abbrev dktX4_readNumber_3 : List UInt8 := dkwX4_readNumber_3 ++ dktX4_readNumber_4
def dkwX4_readNumber_2 : List UInt8 := [180, 1, 33, 104, 42, 180, 0, 16, 42, 180, 1, 26, 52, 96, 16, 48, 100, 181, 1, 33, 42, 89]
abbrev dktX4_readNumber_2 : List UInt8 := dkwX4_readNumber_2 ++ dktX4_readNumber_3
def dkwX4_readNumber_1 : List UInt8 := [153, 0, 70, 42, 182, 1, 39, 153, 0, 63, 42, 180, 1, 26, 28, 27, 96, 162, 0, 53, 42, 16, 10, 42]
abbrev dktX4_readNumber_1 : List UInt8 := dkwX4_readNumber_1 ++ dktX4_readNumber_2
def dkwX4_readNumber_0 : List UInt8 := [42, 3, 181, 1, 33, 42, 180, 1, 26, 61, 42, 180, 1, 36, 156, 0, 7, 4, 167, 0, 4, 3, 62, 29]
abbrev dktX4_readNumber_0 : List UInt8 := dkwX4_readNumber_0 ++ dktX4_readNumber_1
theorem dksX4_readNumber_0 : cX4_readNumber.data.toList.drop 0 = dktX4_readNumber_0 := by decide +kernel
theorem dksX4_readNumber_1 : cX4_readNumber.data.toList.drop 24 = dktX4_readNumber_1 := dk_seg dksX4_readNumber_0 24 rfl rfl
theorem dksX4_readNumber_2 : cX4_readNumber.data.toList.drop 48 = dktX4_readNumber_2 := dk_seg dksX4_readNumber_1 24 rfl rfl
theorem dksX4_readNumber_3 : cX4_readNumber.data.toList.drop 70 = dktX4_readNumber_3 := dk_seg dksX4_readNumber_2 22 rfl rfl
theorem dksX4_readNumber_4 : cX4_readNumber.data.toList.drop 94 = dktX4_readNumber_4 := dk_seg dksX4_readNumber_3 24 rfl rfl
theorem dX4_readNumber_0 : decode cX4_readNumber 0 = .ok (.aload_n 0, 1) := dk_42 (dk_at dksX4_readNumber_0 0 rfl rfl)
theorem dX4_readNumber_1 : decode cX4_readNumber 1 = .ok (.iconst 0, 1) := dk_3 (dk_at dksX4_readNumber_0 1 rfl rfl)
theorem dX4_readNumber_2 : decode cX4_readNumber 2 = .ok (.putfield 289, 3) := dk_181 1 33 (dk_at dksX4_readNumber_0 2 rfl rfl)
theorem dX4_readNumber_5 : decode cX4_readNumber 5 = .ok (.aload_n 0, 1) := dk_42 (dk_at dksX4_readNumber_0 5 rfl rfl)
theorem dX4_readNumber_6 : decode cX4_readNumber 6 = .ok (.getfield 282, 3) := dk_180 1 26 (dk_at dksX4_readNumber_0 6 rfl rfl)
theorem dX4_readNumber_9 : decode cX4_readNumber 9 = .ok (.istore_n 2, 1) := dk_61 (dk_at dksX4_readNumber_0 9 rfl rfl)
theorem dX4_readNumber_10 : decode cX4_readNumber 10 = .ok (.aload_n 0, 1) := dk_42 (dk_at dksX4_readNumber_0 10 rfl rfl)
theorem dX4_readNumber_11 : decode cX4_readNumber 11 = .ok (.getfield 292, 3) := dk_180 1 36 (dk_at dksX4_readNumber_0 11 rfl rfl)
theorem dX4_readNumber_14 : decode cX4_readNumber 14 = .ok (.ifCond .ge 7, 3) := dk_156 0 7 (dk_at dksX4_readNumber_0 14 rfl rfl)
theorem dX4_readNumber_17 : decode cX4_readNumber 17 = .ok (.iconst 1, 1) := dk_4 (dk_at dksX4_readNumber_0 17 rfl rfl)
theorem dX4_readNumber_18 : decode cX4_readNumber 18 = .ok (.goto 4, 3) := dk_167 0 4 (dk_at dksX4_readNumber_0 18 rfl rfl)
theorem dX4_readNumber_21 : decode cX4_readNumber 21 = .ok (.iconst 0, 1) := dk_3 (dk_at dksX4_readNumber_0 21 rfl rfl)
theorem dX4_readNumber_22 : decode cX4_readNumber 22 = .ok (.istore_n 3, 1) := dk_62 (dk_at dksX4_readNumber_0 22 rfl rfl)
theorem dX4_readNumber_23 : decode cX4_readNumber 23 = .ok (.iload_n 3, 1) := dk_29 (dk_at dksX4_readNumber_0 23 rfl rfl)
theorem dX4_readNumber_24 : decode cX4_readNumber 24 = .ok (.ifCond .eq 70, 3) := dk_153 0 70 (dk_at dksX4_readNumber_1 0 rfl rfl)
theorem dX4_readNumber_27 : decode cX4_readNumber 27 = .ok (.aload_n 0, 1) := dk_42 (dk_at dksX4_readNumber_1 3 rfl rfl)
theorem dX4_readNumber_28 : decode cX4_readNumber 28 = .ok (.invokevirtual 295, 3) := dk_182 1 39 (dk_at dksX4_readNumber_1 4 rfl rfl)
theorem dX4_readNumber_31 : decode cX4_readNumber 31 = .ok (.ifCond .eq 63, 3) := dk_153 0 63 (dk_at dksX4_readNumber_1 7 rfl rfl)
theorem dX4_readNumber_34 : decode cX4_readNumber 34 = .ok (.aload_n 0, 1) := dk_42 (dk_at dksX4_readNumber_1 10 rfl rfl)
theorem dX4_readNumber_35 : decode cX4_readNumber 35 = .ok (.getfield 282, 3) := dk_180 1 26 (dk_at dksX4_readNumber_1 11 rfl rfl)
theorem dX4_readNumber_38 : decode cX4_readNumber 38 = .ok (.iload_n 2, 1) := dk_28 (dk_at dksX4_readNumber_1 14 rfl rfl)
theorem dX4_readNumber_39 : decode cX4_readNumber 39 = .ok (.iload_n 1, 1) := dk_27 (dk_at dksX4_readNumber_1 15 rfl rfl)
theorem dX4_readNumber_40 : decode cX4_readNumber 40 = .ok (.iadd, 1) := dk_96 (dk_at dksX4_readNumber_1 16 rfl rfl)
theorem dX4_readNumber_41 : decode cX4_readNumber 41 = .ok (.if_icmp .ge 53, 3) := dk_162 0 53 (dk_at dksX4_readNumber_1 17 rfl rfl)
theorem dX4_readNumber_44 : decode cX4_readNumber 44 = .ok (.aload_n 0, 1) := dk_42 (dk_at dksX4_readNumber_1 20 rfl rfl)
theorem dX4_readNumber_45 : decode cX4_readNumber 45 = .ok (.bipush 10, 2) := dk_16 10 (dk_at dksX4_readNumber_1 21 rfl rfl)
theorem dX4_readNumber_47 : decode cX4_readNumber 47 = .ok (.aload_n 0, 1) := dk_42 (dk_at dksX4_readNumber_1 23 rfl rfl)
theorem dX4_readNumber_48 : decode cX4_readNumber 48 = .ok (.getfield 289, 3) := dk_180 1 33 (dk_at dksX4_readNumber_2 0 rfl rfl)
theorem dX4_readNumber_51 : decode cX4_readNumber 51 = .ok (.imul, 1) := dk_104 (dk_at dksX4_readNumber_2 3 rfl rfl)
theorem dX4_readNumber_52 : decode cX4_readNumber 52 = .ok (.aload_n 0, 1) := dk_42 (dk_at dksX4_readNumber_2 4 rfl rfl)
theorem dX4_readNumber_53 : decode cX4_readNumber 53 = .ok (.getfield 16, 3) := dk_180 0 16 (dk_at dksX4_readNumber_2 5 rfl rfl)
theorem dX4_readNumber_56 : decode cX4_readNumber 56 = .ok (.aload_n 0, 1) := dk_42 (dk_at dksX4_readNumber_2 8 rfl rfl)
theorem dX4_readNumber_57 : decode cX4_readNumber 57 = .ok (.getfield 282, 3) := dk_180 1 26 (dk_at dksX4_readNumber_2 9 rfl rfl)
theorem dX4_readNumber_60 : decode cX4_readNumber 60 = .ok (.caload, 1) := dk_52 (dk_at dksX4_readNumber_2 12 rfl rfl)
theorem dX4_readNumber_61 : decode cX4_readNumber 61 = .ok (.iadd, 1) := dk_96 (dk_at dksX4_readNumber_2 13 rfl rfl)
theorem dX4_readNumber_62 : decode cX4_readNumber 62 = .ok (.bipush 48, 2) := dk_16 48 (dk_at dksX4_readNumber_2 14 rfl rfl)
theorem dX4_readNumber_64 : decode cX4_readNumber 64 = .ok (.isub, 1) := dk_100 (dk_at dksX4_readNumber_2 16 rfl rfl)
theorem dX4_readNumber_65 : decode cX4_readNumber 65 = .ok (.putfield 289, 3) := dk_181 1 33 (dk_at dksX4_readNumber_2 17 rfl rfl)
theorem dX4_readNumber_68 : decode cX4_readNumber 68 = .ok (.aload_n 0, 1) := dk_42 (dk_at dksX4_readNumber_2 20 rfl rfl)
theorem dX4_readNumber_69 : decode cX4_readNumber 69 = .ok (.dup, 1) := dk_89 (dk_at dksX4_readNumber_2 21 rfl rfl)
theorem dX4_readNumber_70 : decode cX4_readNumber 70 = .ok (.getfield 282, 3) := dk_180 1 26 (dk_at dksX4_readNumber_3 0 rfl rfl)
theorem dX4_readNumber_73 : decode cX4_readNumber 73 = .ok (.iconst 1, 1) := dk_4 (dk_at dksX4_readNumber_3 3 rfl rfl)
theorem dX4_readNumber_74 : decode cX4_readNumber 74 = .ok (.iadd, 1) := dk_96 (dk_at dksX4_readNumber_3 4 rfl rfl)
theorem dX4_readNumber_75 : decode cX4_readNumber 75 = .ok (.putfield 282, 3) := dk_181 1 26 (dk_at dksX4_readNumber_3 5 rfl rfl)
theorem dX4_readNumber_78 : decode cX4_readNumber 78 = .ok (.aload_n 0, 1) := dk_42 (dk_at dksX4_readNumber_3 8 rfl rfl)
theorem dX4_readNumber_79 : decode cX4_readNumber 79 = .ok (.getfield 289, 3) := dk_180 1 33 (dk_at dksX4_readNumber_3 9 rfl rfl)
theorem dX4_readNumber_82 : decode cX4_readNumber 82 = .ok (.ifCond .le 7, 3) := dk_158 0 7 (dk_at dksX4_readNumber_3 12 rfl rfl)
theorem dX4_readNumber_85 : decode cX4_readNumber 85 = .ok (.iconst 1, 1) := dk_4 (dk_at dksX4_readNumber_3 15 rfl rfl)
theorem dX4_readNumber_86 : decode cX4_readNumber 86 = .ok (.goto 4, 3) := dk_167 0 4 (dk_at dksX4_readNumber_3 16 rfl rfl)
theorem dX4_readNumber_89 : decode cX4_readNumber 89 = .ok (.iconst 0, 1) := dk_3 (dk_at dksX4_readNumber_3 19 rfl rfl)
theorem dX4_readNumber_90 : decode cX4_readNumber 90 = .ok (.istore_n 3, 1) := dk_62 (dk_at dksX4_readNumber_3 20 rfl rfl)
theorem dX4_readNumber_91 : decode cX4_readNumber 91 = .ok (.goto (-68), 3) := dk_167 255 188 (dk_at dksX4_readNumber_3 21 rfl rfl)
theorem dX4_readNumber_94 : decode cX4_readNumber 94 = .ok (.aload_n 0, 1) := dk_42 (dk_at dksX4_readNumber_4 0 rfl rfl)
theorem dX4_readNumber_95 : decode cX4_readNumber 95 = .ok (.getfield 292, 3) := dk_180 1 36 (dk_at dksX4_readNumber_4 1 rfl rfl)
theorem dX4_readNumber_98 : decode cX4_readNumber 98 = .ok (.ifCond .ge 19, 3) := dk_156 0 19 (dk_at dksX4_readNumber_4 4 rfl rfl)
theorem dX4_readNumber_101 : decode cX4_readNumber 101 = .ok (.aload_n 0, 1) := dk_42 (dk_at dksX4_readNumber_4 7 rfl rfl)
theorem dX4_readNumber_102 : decode cX4_readNumber 102 = .ok (.getfield 282, 3) := dk_180 1 26 (dk_at dksX4_readNumber_4 8 rfl rfl)
theorem dX4_readNumber_105 : decode cX4_readNumber 105 = .ok (.iload_n 2, 1) := dk_28 (dk_at dksX4_readNumber_4 11 rfl rfl)
theorem dX4_readNumber_106 : decode cX4_readNumber 106 = .ok (.if_icmp .ne 11, 3) := dk_160 0 11 (dk_at dksX4_readNumber_4 12 rfl rfl)
theorem dX4_readNumber_109 : decode cX4_readNumber 109 = .ok (.aload_n 0, 1) := dk_42 (dk_at dksX4_readNumber_4 15 rfl rfl)
theorem dX4_readNumber_110 : decode cX4_readNumber 110 = .ok (.aload_n 0, 1) := dk_42 (dk_at dksX4_readNumber_4 16 rfl rfl)
theorem dX4_readNumber_111 : decode cX4_readNumber 111 = .ok (.getfield 282, 3) := dk_180 1 26 (dk_at dksX4_readNumber_4 17 rfl rfl)
theorem dX4_readNumber_114 : decode cX4_readNumber 114 = .ok (.putfield 292, 3) := dk_181 1 36 (dk_at dksX4_readNumber_4 20 rfl rfl)
theorem dX4_readNumber_117 : decode cX4_readNumber 117 = .ok (.return_, 1) := dk_177 (dk_at dksX4_readNumber_4 23 rfl rfl)
abbrev cX4_isDigit : ByteArray := prog_19_method_80_code
def yX4_isDigit : MethodName := ⟨RX4, "isDigit", "()Z"⟩
def dkwX4_isDigit_1 : List UInt8 := [20, 1, 31, 184, 0, 82, 153, 0, 7, 4, 167, 0, 4, 3, 172]
abbrev dktX4_isDigit_1 : List UInt8 := dkwX4_isDigit_1 ++ []
def dkwX4_isDigit_0 : List UInt8 := [42, 180, 1, 26, 42, 180, 1, 23, 162, 0, 29, 42, 180, 0, 16, 42, 180, 1, 26, 52, 133, 20, 1, 29]
abbrev dktX4_isDigit_0 : List UInt8 := dkwX4_isDigit_0 ++ dktX4_isDigit_1
theorem dksX4_isDigit_0 : cX4_isDigit.data.toList.drop 0 = dktX4_isDigit_0 := by decide +kernel
theorem dksX4_isDigit_1 : cX4_isDigit.data.toList.drop 24 = dktX4_isDigit_1 := dk_seg dksX4_isDigit_0 24 rfl rfl
theorem dX4_isDigit_0 : decode cX4_isDigit 0 = .ok (.aload_n 0, 1) := dk_42 (dk_at dksX4_isDigit_0 0 rfl rfl)
theorem dX4_isDigit_1 : decode cX4_isDigit 1 = .ok (.getfield 282, 3) := dk_180 1 26 (dk_at dksX4_isDigit_0 1 rfl rfl)
theorem dX4_isDigit_4 : decode cX4_isDigit 4 = .ok (.aload_n 0, 1) := dk_42 (dk_at dksX4_isDigit_0 4 rfl rfl)
theorem dX4_isDigit_5 : decode cX4_isDigit 5 = .ok (.getfield 279, 3) := dk_180 1 23 (dk_at dksX4_isDigit_0 5 rfl rfl)
theorem dX4_isDigit_8 : decode cX4_isDigit 8 = .ok (.if_icmp .ge 29, 3) := dk_162 0 29 (dk_at dksX4_isDigit_0 8 rfl rfl)
theorem dX4_isDigit_11 : decode cX4_isDigit 11 = .ok (.aload_n 0, 1) := dk_42 (dk_at dksX4_isDigit_0 11 rfl rfl)
theorem dX4_isDigit_12 : decode cX4_isDigit 12 = .ok (.getfield 16, 3) := dk_180 0 16 (dk_at dksX4_isDigit_0 12 rfl rfl)
theorem dX4_isDigit_15 : decode cX4_isDigit 15 = .ok (.aload_n 0, 1) := dk_42 (dk_at dksX4_isDigit_0 15 rfl rfl)
theorem dX4_isDigit_16 : decode cX4_isDigit 16 = .ok (.getfield 282, 3) := dk_180 1 26 (dk_at dksX4_isDigit_0 16 rfl rfl)
theorem dX4_isDigit_19 : decode cX4_isDigit 19 = .ok (.caload, 1) := dk_52 (dk_at dksX4_isDigit_0 19 rfl rfl)
theorem dX4_isDigit_20 : decode cX4_isDigit 20 = .ok (.i2l, 1) := dk_133 (dk_at dksX4_isDigit_0 20 rfl rfl)
theorem dX4_isDigit_21 : decode cX4_isDigit 21 = .ok (.ldc2_w 285, 3) := dk_20 1 29 (dk_at dksX4_isDigit_0 21 rfl rfl)
theorem dX4_isDigit_24 : decode cX4_isDigit 24 = .ok (.ldc2_w 287, 3) := dk_20 1 31 (dk_at dksX4_isDigit_1 0 rfl rfl)
theorem dX4_isDigit_27 : decode cX4_isDigit 27 = .ok (.invokestatic 82, 3) := dk_184 0 82 (dk_at dksX4_isDigit_1 3 rfl rfl)
theorem dX4_isDigit_30 : decode cX4_isDigit 30 = .ok (.ifCond .eq 7, 3) := dk_153 0 7 (dk_at dksX4_isDigit_1 6 rfl rfl)
theorem dX4_isDigit_33 : decode cX4_isDigit 33 = .ok (.iconst 1, 1) := dk_4 (dk_at dksX4_isDigit_1 9 rfl rfl)
theorem dX4_isDigit_34 : decode cX4_isDigit 34 = .ok (.goto 4, 3) := dk_167 0 4 (dk_at dksX4_isDigit_1 10 rfl rfl)
theorem dX4_isDigit_37 : decode cX4_isDigit 37 = .ok (.iconst 0, 1) := dk_3 (dk_at dksX4_isDigit_1 13 rfl rfl)
theorem dX4_isDigit_38 : decode cX4_isDigit 38 = .ok (.ireturn, 1) := dk_172 (dk_at dksX4_isDigit_1 14 rfl rfl)
abbrev cX4_wants : ByteArray := prog_19_method_83_code
def yX4_wants : MethodName := ⟨RX4, "wants", "(C)V"⟩
def dkwX4_wants_0 : List UInt8 := [42, 27, 182, 1, 42, 154, 0, 18, 42, 180, 1, 36, 156, 0, 11, 42, 42, 180, 1, 26, 181, 1, 36, 177]
abbrev dktX4_wants_0 : List UInt8 := dkwX4_wants_0 ++ []
theorem dksX4_wants_0 : cX4_wants.data.toList.drop 0 = dktX4_wants_0 := by decide +kernel
theorem dX4_wants_0 : decode cX4_wants 0 = .ok (.aload_n 0, 1) := dk_42 (dk_at dksX4_wants_0 0 rfl rfl)
theorem dX4_wants_1 : decode cX4_wants 1 = .ok (.iload_n 1, 1) := dk_27 (dk_at dksX4_wants_0 1 rfl rfl)
theorem dX4_wants_2 : decode cX4_wants 2 = .ok (.invokevirtual 298, 3) := dk_182 1 42 (dk_at dksX4_wants_0 2 rfl rfl)
theorem dX4_wants_5 : decode cX4_wants 5 = .ok (.ifCond .ne 18, 3) := dk_154 0 18 (dk_at dksX4_wants_0 5 rfl rfl)
theorem dX4_wants_8 : decode cX4_wants 8 = .ok (.aload_n 0, 1) := dk_42 (dk_at dksX4_wants_0 8 rfl rfl)
theorem dX4_wants_9 : decode cX4_wants 9 = .ok (.getfield 292, 3) := dk_180 1 36 (dk_at dksX4_wants_0 9 rfl rfl)
theorem dX4_wants_12 : decode cX4_wants 12 = .ok (.ifCond .ge 11, 3) := dk_156 0 11 (dk_at dksX4_wants_0 12 rfl rfl)
theorem dX4_wants_15 : decode cX4_wants 15 = .ok (.aload_n 0, 1) := dk_42 (dk_at dksX4_wants_0 15 rfl rfl)
theorem dX4_wants_16 : decode cX4_wants 16 = .ok (.aload_n 0, 1) := dk_42 (dk_at dksX4_wants_0 16 rfl rfl)
theorem dX4_wants_17 : decode cX4_wants 17 = .ok (.getfield 282, 3) := dk_180 1 26 (dk_at dksX4_wants_0 17 rfl rfl)
theorem dX4_wants_20 : decode cX4_wants 20 = .ok (.putfield 292, 3) := dk_181 1 36 (dk_at dksX4_wants_0 20 rfl rfl)
theorem dX4_wants_23 : decode cX4_wants 23 = .ok (.return_, 1) := dk_177 (dk_at dksX4_wants_0 23 rfl rfl)
abbrev cX4_takes : ByteArray := prog_19_method_82_code
def yX4_takes : MethodName := ⟨RX4, "takes", "(C)Z"⟩
def dkwX4_takes_2 : List UInt8 := [167, 0, 4, 3, 96, 181, 1, 26, 28, 172]
abbrev dktX4_takes_2 : List UInt8 := dkwX4_takes_2 ++ []
def dkwX4_takes_1 : List UInt8 := [180, 1, 26, 52, 27, 160, 0, 7, 4, 167, 0, 4, 3, 61, 42, 89, 180, 1, 26, 28, 153, 0, 7, 4]
abbrev dktX4_takes_1 : List UInt8 := dkwX4_takes_1 ++ dktX4_takes_2
def dkwX4_takes_0 : List UInt8 := [42, 180, 1, 36, 156, 0, 31, 42, 180, 1, 26, 42, 180, 1, 23, 162, 0, 20, 42, 180, 0, 16, 42]
abbrev dktX4_takes_0 : List UInt8 := dkwX4_takes_0 ++ dktX4_takes_1
theorem dksX4_takes_0 : cX4_takes.data.toList.drop 0 = dktX4_takes_0 := by decide +kernel
theorem dksX4_takes_1 : cX4_takes.data.toList.drop 23 = dktX4_takes_1 := dk_seg dksX4_takes_0 23 rfl rfl
theorem dksX4_takes_2 : cX4_takes.data.toList.drop 47 = dktX4_takes_2 := dk_seg dksX4_takes_1 24 rfl rfl
theorem dX4_takes_0 : decode cX4_takes 0 = .ok (.aload_n 0, 1) := dk_42 (dk_at dksX4_takes_0 0 rfl rfl)
theorem dX4_takes_1 : decode cX4_takes 1 = .ok (.getfield 292, 3) := dk_180 1 36 (dk_at dksX4_takes_0 1 rfl rfl)
theorem dX4_takes_4 : decode cX4_takes 4 = .ok (.ifCond .ge 31, 3) := dk_156 0 31 (dk_at dksX4_takes_0 4 rfl rfl)
theorem dX4_takes_7 : decode cX4_takes 7 = .ok (.aload_n 0, 1) := dk_42 (dk_at dksX4_takes_0 7 rfl rfl)
theorem dX4_takes_8 : decode cX4_takes 8 = .ok (.getfield 282, 3) := dk_180 1 26 (dk_at dksX4_takes_0 8 rfl rfl)
theorem dX4_takes_11 : decode cX4_takes 11 = .ok (.aload_n 0, 1) := dk_42 (dk_at dksX4_takes_0 11 rfl rfl)
theorem dX4_takes_12 : decode cX4_takes 12 = .ok (.getfield 279, 3) := dk_180 1 23 (dk_at dksX4_takes_0 12 rfl rfl)
theorem dX4_takes_15 : decode cX4_takes 15 = .ok (.if_icmp .ge 20, 3) := dk_162 0 20 (dk_at dksX4_takes_0 15 rfl rfl)
theorem dX4_takes_18 : decode cX4_takes 18 = .ok (.aload_n 0, 1) := dk_42 (dk_at dksX4_takes_0 18 rfl rfl)
theorem dX4_takes_19 : decode cX4_takes 19 = .ok (.getfield 16, 3) := dk_180 0 16 (dk_at dksX4_takes_0 19 rfl rfl)
theorem dX4_takes_22 : decode cX4_takes 22 = .ok (.aload_n 0, 1) := dk_42 (dk_at dksX4_takes_0 22 rfl rfl)
theorem dX4_takes_23 : decode cX4_takes 23 = .ok (.getfield 282, 3) := dk_180 1 26 (dk_at dksX4_takes_1 0 rfl rfl)
theorem dX4_takes_26 : decode cX4_takes 26 = .ok (.caload, 1) := dk_52 (dk_at dksX4_takes_1 3 rfl rfl)
theorem dX4_takes_27 : decode cX4_takes 27 = .ok (.iload_n 1, 1) := dk_27 (dk_at dksX4_takes_1 4 rfl rfl)
theorem dX4_takes_28 : decode cX4_takes 28 = .ok (.if_icmp .ne 7, 3) := dk_160 0 7 (dk_at dksX4_takes_1 5 rfl rfl)
theorem dX4_takes_31 : decode cX4_takes 31 = .ok (.iconst 1, 1) := dk_4 (dk_at dksX4_takes_1 8 rfl rfl)
theorem dX4_takes_32 : decode cX4_takes 32 = .ok (.goto 4, 3) := dk_167 0 4 (dk_at dksX4_takes_1 9 rfl rfl)
theorem dX4_takes_35 : decode cX4_takes 35 = .ok (.iconst 0, 1) := dk_3 (dk_at dksX4_takes_1 12 rfl rfl)
theorem dX4_takes_36 : decode cX4_takes 36 = .ok (.istore_n 2, 1) := dk_61 (dk_at dksX4_takes_1 13 rfl rfl)
theorem dX4_takes_37 : decode cX4_takes 37 = .ok (.aload_n 0, 1) := dk_42 (dk_at dksX4_takes_1 14 rfl rfl)
theorem dX4_takes_38 : decode cX4_takes 38 = .ok (.dup, 1) := dk_89 (dk_at dksX4_takes_1 15 rfl rfl)
theorem dX4_takes_39 : decode cX4_takes 39 = .ok (.getfield 282, 3) := dk_180 1 26 (dk_at dksX4_takes_1 16 rfl rfl)
theorem dX4_takes_42 : decode cX4_takes 42 = .ok (.iload_n 2, 1) := dk_28 (dk_at dksX4_takes_1 19 rfl rfl)
theorem dX4_takes_43 : decode cX4_takes 43 = .ok (.ifCond .eq 7, 3) := dk_153 0 7 (dk_at dksX4_takes_1 20 rfl rfl)
theorem dX4_takes_46 : decode cX4_takes 46 = .ok (.iconst 1, 1) := dk_4 (dk_at dksX4_takes_1 23 rfl rfl)
theorem dX4_takes_47 : decode cX4_takes 47 = .ok (.goto 4, 3) := dk_167 0 4 (dk_at dksX4_takes_2 0 rfl rfl)
theorem dX4_takes_50 : decode cX4_takes 50 = .ok (.iconst 0, 1) := dk_3 (dk_at dksX4_takes_2 3 rfl rfl)
theorem dX4_takes_51 : decode cX4_takes 51 = .ok (.iadd, 1) := dk_96 (dk_at dksX4_takes_2 4 rfl rfl)
theorem dX4_takes_52 : decode cX4_takes 52 = .ok (.putfield 282, 3) := dk_181 1 26 (dk_at dksX4_takes_2 5 rfl rfl)
theorem dX4_takes_55 : decode cX4_takes 55 = .ok (.iload_n 2, 1) := dk_28 (dk_at dksX4_takes_2 8 rfl rfl)
theorem dX4_takes_56 : decode cX4_takes 56 = .ok (.ireturn, 1) := dk_172 (dk_at dksX4_takes_2 9 rfl rfl)
abbrev cX4_cannot : ByteArray := prog_19_method_84_code
def yX4_cannot : MethodName := ⟨RX4, "cannot", "(III)V"⟩
def dkwX4_cannot_0 : List UInt8 := [42, 180, 1, 46, 2, 160, 0, 18, 42, 27, 181, 1, 46, 42, 28, 181, 1, 49, 42, 29, 181, 1, 52, 177]
abbrev dktX4_cannot_0 : List UInt8 := dkwX4_cannot_0 ++ []
theorem dksX4_cannot_0 : cX4_cannot.data.toList.drop 0 = dktX4_cannot_0 := by decide +kernel
theorem dX4_cannot_0 : decode cX4_cannot 0 = .ok (.aload_n 0, 1) := dk_42 (dk_at dksX4_cannot_0 0 rfl rfl)
theorem dX4_cannot_1 : decode cX4_cannot 1 = .ok (.getfield 302, 3) := dk_180 1 46 (dk_at dksX4_cannot_0 1 rfl rfl)
theorem dX4_cannot_4 : decode cX4_cannot 4 = .ok (.iconst (-1), 1) := dk_2 (dk_at dksX4_cannot_0 4 rfl rfl)
theorem dX4_cannot_5 : decode cX4_cannot 5 = .ok (.if_icmp .ne 18, 3) := dk_160 0 18 (dk_at dksX4_cannot_0 5 rfl rfl)
theorem dX4_cannot_8 : decode cX4_cannot 8 = .ok (.aload_n 0, 1) := dk_42 (dk_at dksX4_cannot_0 8 rfl rfl)
theorem dX4_cannot_9 : decode cX4_cannot 9 = .ok (.iload_n 1, 1) := dk_27 (dk_at dksX4_cannot_0 9 rfl rfl)
theorem dX4_cannot_10 : decode cX4_cannot 10 = .ok (.putfield 302, 3) := dk_181 1 46 (dk_at dksX4_cannot_0 10 rfl rfl)
theorem dX4_cannot_13 : decode cX4_cannot 13 = .ok (.aload_n 0, 1) := dk_42 (dk_at dksX4_cannot_0 13 rfl rfl)
theorem dX4_cannot_14 : decode cX4_cannot 14 = .ok (.iload_n 2, 1) := dk_28 (dk_at dksX4_cannot_0 14 rfl rfl)
theorem dX4_cannot_15 : decode cX4_cannot 15 = .ok (.putfield 305, 3) := dk_181 1 49 (dk_at dksX4_cannot_0 15 rfl rfl)
theorem dX4_cannot_18 : decode cX4_cannot 18 = .ok (.aload_n 0, 1) := dk_42 (dk_at dksX4_cannot_0 18 rfl rfl)
theorem dX4_cannot_19 : decode cX4_cannot 19 = .ok (.iload_n 3, 1) := dk_29 (dk_at dksX4_cannot_0 19 rfl rfl)
theorem dX4_cannot_20 : decode cX4_cannot 20 = .ok (.putfield 308, 3) := dk_181 1 52 (dk_at dksX4_cannot_0 20 rfl rfl)
theorem dX4_cannot_23 : decode cX4_cannot 23 = .ok (.return_, 1) := dk_177 (dk_at dksX4_cannot_0 23 rfl rfl)
abbrev cX4_readOperation : ByteArray := prog_19_method_85_code
def yX4_readOperation : MethodName := ⟨RX4, "readOperation", "(III)V"⟩
def dkwX4_readOperation_5 : List UInt8 := [180, 1, 33, 182, 0, 131, 54, 6, 177]
abbrev dktX4_readOperation_5 : List UInt8 := dkwX4_readOperation_5 ++ []
def dkwX4_readOperation_4 : List UInt8 := [182, 0, 128, 153, 0, 13, 42, 27, 6, 28, 182, 1, 62, 167, 0, 18, 42, 29, 21, 4, 21, 5, 42]
abbrev dktX4_readOperation_4 : List UInt8 := dkwX4_readOperation_4 ++ dktX4_readOperation_5
def dkwX4_readOperation_3 : List UInt8 := [184, 0, 125, 153, 0, 26, 42, 180, 0, 9, 16, 17, 29, 96, 46, 7, 159, 0, 13, 42, 29, 21, 4]
abbrev dktX4_readOperation_3 : List UInt8 := dkwX4_readOperation_3 ++ dktX4_readOperation_4
def dkwX4_readOperation_2 : List UInt8 := [180, 1, 46, 2, 159, 0, 4, 177, 21, 4, 184, 0, 122, 153, 0, 38, 21, 5, 42, 180, 1, 33]
abbrev dktX4_readOperation_2 : List UInt8 := dkwX4_readOperation_2 ++ dktX4_readOperation_3
def dkwX4_readOperation_1 : List UInt8 := [180, 1, 33, 54, 5, 42, 16, 46, 182, 1, 58, 42, 4, 182, 1, 55, 42, 180, 1, 36, 156, 0, 11, 42]
abbrev dktX4_readOperation_1 : List UInt8 := dkwX4_readOperation_1 ++ dktX4_readOperation_2
def dkwX4_readOperation_0 : List UInt8 := [42, 4, 182, 1, 55, 42, 180, 1, 33, 54, 4, 42, 16, 46, 182, 1, 58, 42, 6, 182, 1, 55, 42]
abbrev dktX4_readOperation_0 : List UInt8 := dkwX4_readOperation_0 ++ dktX4_readOperation_1
theorem dksX4_readOperation_0 : cX4_readOperation.data.toList.drop 0 = dktX4_readOperation_0 := by decide +kernel
theorem dksX4_readOperation_1 : cX4_readOperation.data.toList.drop 23 = dktX4_readOperation_1 := dk_seg dksX4_readOperation_0 23 rfl rfl
theorem dksX4_readOperation_2 : cX4_readOperation.data.toList.drop 47 = dktX4_readOperation_2 := dk_seg dksX4_readOperation_1 24 rfl rfl
theorem dksX4_readOperation_3 : cX4_readOperation.data.toList.drop 69 = dktX4_readOperation_3 := dk_seg dksX4_readOperation_2 22 rfl rfl
theorem dksX4_readOperation_4 : cX4_readOperation.data.toList.drop 92 = dktX4_readOperation_4 := dk_seg dksX4_readOperation_3 23 rfl rfl
theorem dksX4_readOperation_5 : cX4_readOperation.data.toList.drop 115 = dktX4_readOperation_5 := dk_seg dksX4_readOperation_4 23 rfl rfl
theorem dX4_readOperation_0 : decode cX4_readOperation 0 = .ok (.aload_n 0, 1) := dk_42 (dk_at dksX4_readOperation_0 0 rfl rfl)
theorem dX4_readOperation_1 : decode cX4_readOperation 1 = .ok (.iconst 1, 1) := dk_4 (dk_at dksX4_readOperation_0 1 rfl rfl)
theorem dX4_readOperation_2 : decode cX4_readOperation 2 = .ok (.invokevirtual 311, 3) := dk_182 1 55 (dk_at dksX4_readOperation_0 2 rfl rfl)
theorem dX4_readOperation_5 : decode cX4_readOperation 5 = .ok (.aload_n 0, 1) := dk_42 (dk_at dksX4_readOperation_0 5 rfl rfl)
theorem dX4_readOperation_6 : decode cX4_readOperation 6 = .ok (.getfield 289, 3) := dk_180 1 33 (dk_at dksX4_readOperation_0 6 rfl rfl)
theorem dX4_readOperation_9 : decode cX4_readOperation 9 = .ok (.istore 4, 2) := dk_54 4 (dk_at dksX4_readOperation_0 9 rfl rfl)
theorem dX4_readOperation_11 : decode cX4_readOperation 11 = .ok (.aload_n 0, 1) := dk_42 (dk_at dksX4_readOperation_0 11 rfl rfl)
theorem dX4_readOperation_12 : decode cX4_readOperation 12 = .ok (.bipush 46, 2) := dk_16 46 (dk_at dksX4_readOperation_0 12 rfl rfl)
theorem dX4_readOperation_14 : decode cX4_readOperation 14 = .ok (.invokevirtual 314, 3) := dk_182 1 58 (dk_at dksX4_readOperation_0 14 rfl rfl)
theorem dX4_readOperation_17 : decode cX4_readOperation 17 = .ok (.aload_n 0, 1) := dk_42 (dk_at dksX4_readOperation_0 17 rfl rfl)
theorem dX4_readOperation_18 : decode cX4_readOperation 18 = .ok (.iconst 3, 1) := dk_6 (dk_at dksX4_readOperation_0 18 rfl rfl)
theorem dX4_readOperation_19 : decode cX4_readOperation 19 = .ok (.invokevirtual 311, 3) := dk_182 1 55 (dk_at dksX4_readOperation_0 19 rfl rfl)
theorem dX4_readOperation_22 : decode cX4_readOperation 22 = .ok (.aload_n 0, 1) := dk_42 (dk_at dksX4_readOperation_0 22 rfl rfl)
theorem dX4_readOperation_23 : decode cX4_readOperation 23 = .ok (.getfield 289, 3) := dk_180 1 33 (dk_at dksX4_readOperation_1 0 rfl rfl)
theorem dX4_readOperation_26 : decode cX4_readOperation 26 = .ok (.istore 5, 2) := dk_54 5 (dk_at dksX4_readOperation_1 3 rfl rfl)
theorem dX4_readOperation_28 : decode cX4_readOperation 28 = .ok (.aload_n 0, 1) := dk_42 (dk_at dksX4_readOperation_1 5 rfl rfl)
theorem dX4_readOperation_29 : decode cX4_readOperation 29 = .ok (.bipush 46, 2) := dk_16 46 (dk_at dksX4_readOperation_1 6 rfl rfl)
theorem dX4_readOperation_31 : decode cX4_readOperation 31 = .ok (.invokevirtual 314, 3) := dk_182 1 58 (dk_at dksX4_readOperation_1 8 rfl rfl)
theorem dX4_readOperation_34 : decode cX4_readOperation 34 = .ok (.aload_n 0, 1) := dk_42 (dk_at dksX4_readOperation_1 11 rfl rfl)
theorem dX4_readOperation_35 : decode cX4_readOperation 35 = .ok (.iconst 1, 1) := dk_4 (dk_at dksX4_readOperation_1 12 rfl rfl)
theorem dX4_readOperation_36 : decode cX4_readOperation 36 = .ok (.invokevirtual 311, 3) := dk_182 1 55 (dk_at dksX4_readOperation_1 13 rfl rfl)
theorem dX4_readOperation_39 : decode cX4_readOperation 39 = .ok (.aload_n 0, 1) := dk_42 (dk_at dksX4_readOperation_1 16 rfl rfl)
theorem dX4_readOperation_40 : decode cX4_readOperation 40 = .ok (.getfield 292, 3) := dk_180 1 36 (dk_at dksX4_readOperation_1 17 rfl rfl)
theorem dX4_readOperation_43 : decode cX4_readOperation 43 = .ok (.ifCond .ge 11, 3) := dk_156 0 11 (dk_at dksX4_readOperation_1 20 rfl rfl)
theorem dX4_readOperation_46 : decode cX4_readOperation 46 = .ok (.aload_n 0, 1) := dk_42 (dk_at dksX4_readOperation_1 23 rfl rfl)
theorem dX4_readOperation_47 : decode cX4_readOperation 47 = .ok (.getfield 302, 3) := dk_180 1 46 (dk_at dksX4_readOperation_2 0 rfl rfl)
theorem dX4_readOperation_50 : decode cX4_readOperation 50 = .ok (.iconst (-1), 1) := dk_2 (dk_at dksX4_readOperation_2 3 rfl rfl)
theorem dX4_readOperation_51 : decode cX4_readOperation 51 = .ok (.if_icmp .eq 4, 3) := dk_159 0 4 (dk_at dksX4_readOperation_2 4 rfl rfl)
theorem dX4_readOperation_54 : decode cX4_readOperation 54 = .ok (.return_, 1) := dk_177 (dk_at dksX4_readOperation_2 7 rfl rfl)
theorem dX4_readOperation_55 : decode cX4_readOperation 55 = .ok (.iload 4, 2) := dk_21 4 (dk_at dksX4_readOperation_2 8 rfl rfl)
theorem dX4_readOperation_57 : decode cX4_readOperation 57 = .ok (.invokestatic 122, 3) := dk_184 0 122 (dk_at dksX4_readOperation_2 10 rfl rfl)
theorem dX4_readOperation_60 : decode cX4_readOperation 60 = .ok (.ifCond .eq 38, 3) := dk_153 0 38 (dk_at dksX4_readOperation_2 13 rfl rfl)
theorem dX4_readOperation_63 : decode cX4_readOperation 63 = .ok (.iload 5, 2) := dk_21 5 (dk_at dksX4_readOperation_2 16 rfl rfl)
theorem dX4_readOperation_65 : decode cX4_readOperation 65 = .ok (.aload_n 0, 1) := dk_42 (dk_at dksX4_readOperation_2 18 rfl rfl)
theorem dX4_readOperation_66 : decode cX4_readOperation 66 = .ok (.getfield 289, 3) := dk_180 1 33 (dk_at dksX4_readOperation_2 19 rfl rfl)
theorem dX4_readOperation_69 : decode cX4_readOperation 69 = .ok (.invokestatic 125, 3) := dk_184 0 125 (dk_at dksX4_readOperation_3 0 rfl rfl)
theorem dX4_readOperation_72 : decode cX4_readOperation 72 = .ok (.ifCond .eq 26, 3) := dk_153 0 26 (dk_at dksX4_readOperation_3 3 rfl rfl)
theorem dX4_readOperation_75 : decode cX4_readOperation 75 = .ok (.aload_n 0, 1) := dk_42 (dk_at dksX4_readOperation_3 6 rfl rfl)
theorem dX4_readOperation_76 : decode cX4_readOperation 76 = .ok (.getfield 9, 3) := dk_180 0 9 (dk_at dksX4_readOperation_3 7 rfl rfl)
theorem dX4_readOperation_79 : decode cX4_readOperation 79 = .ok (.bipush 17, 2) := dk_16 17 (dk_at dksX4_readOperation_3 10 rfl rfl)
theorem dX4_readOperation_81 : decode cX4_readOperation 81 = .ok (.iload_n 3, 1) := dk_29 (dk_at dksX4_readOperation_3 12 rfl rfl)
theorem dX4_readOperation_82 : decode cX4_readOperation 82 = .ok (.iadd, 1) := dk_96 (dk_at dksX4_readOperation_3 13 rfl rfl)
theorem dX4_readOperation_83 : decode cX4_readOperation 83 = .ok (.iaload, 1) := dk_46 (dk_at dksX4_readOperation_3 14 rfl rfl)
theorem dX4_readOperation_84 : decode cX4_readOperation 84 = .ok (.iconst 4, 1) := dk_7 (dk_at dksX4_readOperation_3 15 rfl rfl)
theorem dX4_readOperation_85 : decode cX4_readOperation 85 = .ok (.if_icmp .eq 13, 3) := dk_159 0 13 (dk_at dksX4_readOperation_3 16 rfl rfl)
theorem dX4_readOperation_88 : decode cX4_readOperation 88 = .ok (.aload_n 0, 1) := dk_42 (dk_at dksX4_readOperation_3 19 rfl rfl)
theorem dX4_readOperation_89 : decode cX4_readOperation 89 = .ok (.iload_n 3, 1) := dk_29 (dk_at dksX4_readOperation_3 20 rfl rfl)
theorem dX4_readOperation_90 : decode cX4_readOperation 90 = .ok (.iload 4, 2) := dk_21 4 (dk_at dksX4_readOperation_3 21 rfl rfl)
theorem dX4_readOperation_92 : decode cX4_readOperation 92 = .ok (.invokevirtual 128, 3) := dk_182 0 128 (dk_at dksX4_readOperation_4 0 rfl rfl)
theorem dX4_readOperation_95 : decode cX4_readOperation 95 = .ok (.ifCond .eq 13, 3) := dk_153 0 13 (dk_at dksX4_readOperation_4 3 rfl rfl)
theorem dX4_readOperation_98 : decode cX4_readOperation 98 = .ok (.aload_n 0, 1) := dk_42 (dk_at dksX4_readOperation_4 6 rfl rfl)
theorem dX4_readOperation_99 : decode cX4_readOperation 99 = .ok (.iload_n 1, 1) := dk_27 (dk_at dksX4_readOperation_4 7 rfl rfl)
theorem dX4_readOperation_100 : decode cX4_readOperation 100 = .ok (.iconst 3, 1) := dk_6 (dk_at dksX4_readOperation_4 8 rfl rfl)
theorem dX4_readOperation_101 : decode cX4_readOperation 101 = .ok (.iload_n 2, 1) := dk_28 (dk_at dksX4_readOperation_4 9 rfl rfl)
theorem dX4_readOperation_102 : decode cX4_readOperation 102 = .ok (.invokevirtual 318, 3) := dk_182 1 62 (dk_at dksX4_readOperation_4 10 rfl rfl)
theorem dX4_readOperation_105 : decode cX4_readOperation 105 = .ok (.goto 18, 3) := dk_167 0 18 (dk_at dksX4_readOperation_4 13 rfl rfl)
theorem dX4_readOperation_108 : decode cX4_readOperation 108 = .ok (.aload_n 0, 1) := dk_42 (dk_at dksX4_readOperation_4 16 rfl rfl)
theorem dX4_readOperation_109 : decode cX4_readOperation 109 = .ok (.iload_n 3, 1) := dk_29 (dk_at dksX4_readOperation_4 17 rfl rfl)
theorem dX4_readOperation_110 : decode cX4_readOperation 110 = .ok (.iload 4, 2) := dk_21 4 (dk_at dksX4_readOperation_4 18 rfl rfl)
theorem dX4_readOperation_112 : decode cX4_readOperation 112 = .ok (.iload 5, 2) := dk_21 5 (dk_at dksX4_readOperation_4 20 rfl rfl)
theorem dX4_readOperation_114 : decode cX4_readOperation 114 = .ok (.aload_n 0, 1) := dk_42 (dk_at dksX4_readOperation_4 22 rfl rfl)
theorem dX4_readOperation_115 : decode cX4_readOperation 115 = .ok (.getfield 289, 3) := dk_180 1 33 (dk_at dksX4_readOperation_5 0 rfl rfl)
theorem dX4_readOperation_118 : decode cX4_readOperation 118 = .ok (.invokevirtual 131, 3) := dk_182 0 131 (dk_at dksX4_readOperation_5 3 rfl rfl)
theorem dX4_readOperation_121 : decode cX4_readOperation 121 = .ok (.istore 6, 2) := dk_54 6 (dk_at dksX4_readOperation_5 6 rfl rfl)
theorem dX4_readOperation_123 : decode cX4_readOperation 123 = .ok (.return_, 1) := dk_177 (dk_at dksX4_readOperation_5 8 rfl rfl)
abbrev cX4_save : ByteArray := prog_19_method_88_code
def yX4_save : MethodName := ⟨RX4, "save", "()V"⟩
def dkwX4_save_1 : List UInt8 := [181, 1, 71, 177]
abbrev dktX4_save_1 : List UInt8 := dkwX4_save_1 ++ []
def dkwX4_save_0 : List UInt8 := [42, 3, 181, 0, 79, 42, 180, 0, 9, 3, 42, 180, 0, 13, 3, 17, 0, 203, 184, 1, 8, 42, 4]
abbrev dktX4_save_0 : List UInt8 := dkwX4_save_0 ++ dktX4_save_1
theorem dksX4_save_0 : cX4_save.data.toList.drop 0 = dktX4_save_0 := by decide +kernel
theorem dksX4_save_1 : cX4_save.data.toList.drop 23 = dktX4_save_1 := dk_seg dksX4_save_0 23 rfl rfl
theorem dX4_save_0 : decode cX4_save 0 = .ok (.aload_n 0, 1) := dk_42 (dk_at dksX4_save_0 0 rfl rfl)
theorem dX4_save_1 : decode cX4_save 1 = .ok (.iconst 0, 1) := dk_3 (dk_at dksX4_save_0 1 rfl rfl)
theorem dX4_save_2 : decode cX4_save 2 = .ok (.putfield 79, 3) := dk_181 0 79 (dk_at dksX4_save_0 2 rfl rfl)
theorem dX4_save_5 : decode cX4_save 5 = .ok (.aload_n 0, 1) := dk_42 (dk_at dksX4_save_0 5 rfl rfl)
theorem dX4_save_6 : decode cX4_save 6 = .ok (.getfield 9, 3) := dk_180 0 9 (dk_at dksX4_save_0 6 rfl rfl)
theorem dX4_save_9 : decode cX4_save 9 = .ok (.iconst 0, 1) := dk_3 (dk_at dksX4_save_0 9 rfl rfl)
theorem dX4_save_10 : decode cX4_save 10 = .ok (.aload_n 0, 1) := dk_42 (dk_at dksX4_save_0 10 rfl rfl)
theorem dX4_save_11 : decode cX4_save 11 = .ok (.getfield 13, 3) := dk_180 0 13 (dk_at dksX4_save_0 11 rfl rfl)
theorem dX4_save_14 : decode cX4_save 14 = .ok (.iconst 0, 1) := dk_3 (dk_at dksX4_save_0 14 rfl rfl)
theorem dX4_save_15 : decode cX4_save 15 = .ok (.sipush 203, 3) := dk_17 0 203 (dk_at dksX4_save_0 15 rfl rfl)
theorem dX4_save_18 : decode cX4_save 18 = .ok (.invokestatic 264, 3) := dk_184 1 8 (dk_at dksX4_save_0 18 rfl rfl)
theorem dX4_save_21 : decode cX4_save 21 = .ok (.aload_n 0, 1) := dk_42 (dk_at dksX4_save_0 21 rfl rfl)
theorem dX4_save_22 : decode cX4_save 22 = .ok (.iconst 1, 1) := dk_4 (dk_at dksX4_save_0 22 rfl rfl)
theorem dX4_save_23 : decode cX4_save 23 = .ok (.putfield 327, 3) := dk_181 1 71 (dk_at dksX4_save_1 0 rfl rfl)
theorem dX4_save_26 : decode cX4_save 26 = .ok (.return_, 1) := dk_177 (dk_at dksX4_save_1 3 rfl rfl)
abbrev cX4_restore : ByteArray := prog_19_method_89_code
def yX4_restore : MethodName := ⟨RX4, "restore", "()V"⟩
def dkwX4_restore_1 : List UInt8 := [180, 0, 13, 3, 42, 180, 0, 9, 3, 17, 0, 203, 184, 1, 8, 177]
abbrev dktX4_restore_1 : List UInt8 := dkwX4_restore_1 ++ []
def dkwX4_restore_0 : List UInt8 := [42, 42, 180, 1, 71, 153, 0, 7, 3, 167, 0, 4, 4, 181, 0, 79, 42, 180, 0, 79, 154, 0, 19, 42]
abbrev dktX4_restore_0 : List UInt8 := dkwX4_restore_0 ++ dktX4_restore_1
theorem dksX4_restore_0 : cX4_restore.data.toList.drop 0 = dktX4_restore_0 := by decide +kernel
theorem dksX4_restore_1 : cX4_restore.data.toList.drop 24 = dktX4_restore_1 := dk_seg dksX4_restore_0 24 rfl rfl
theorem dX4_restore_0 : decode cX4_restore 0 = .ok (.aload_n 0, 1) := dk_42 (dk_at dksX4_restore_0 0 rfl rfl)
theorem dX4_restore_1 : decode cX4_restore 1 = .ok (.aload_n 0, 1) := dk_42 (dk_at dksX4_restore_0 1 rfl rfl)
theorem dX4_restore_2 : decode cX4_restore 2 = .ok (.getfield 327, 3) := dk_180 1 71 (dk_at dksX4_restore_0 2 rfl rfl)
theorem dX4_restore_5 : decode cX4_restore 5 = .ok (.ifCond .eq 7, 3) := dk_153 0 7 (dk_at dksX4_restore_0 5 rfl rfl)
theorem dX4_restore_8 : decode cX4_restore 8 = .ok (.iconst 0, 1) := dk_3 (dk_at dksX4_restore_0 8 rfl rfl)
theorem dX4_restore_9 : decode cX4_restore 9 = .ok (.goto 4, 3) := dk_167 0 4 (dk_at dksX4_restore_0 9 rfl rfl)
theorem dX4_restore_12 : decode cX4_restore 12 = .ok (.iconst 1, 1) := dk_4 (dk_at dksX4_restore_0 12 rfl rfl)
theorem dX4_restore_13 : decode cX4_restore 13 = .ok (.putfield 79, 3) := dk_181 0 79 (dk_at dksX4_restore_0 13 rfl rfl)
theorem dX4_restore_16 : decode cX4_restore 16 = .ok (.aload_n 0, 1) := dk_42 (dk_at dksX4_restore_0 16 rfl rfl)
theorem dX4_restore_17 : decode cX4_restore 17 = .ok (.getfield 79, 3) := dk_180 0 79 (dk_at dksX4_restore_0 17 rfl rfl)
theorem dX4_restore_20 : decode cX4_restore 20 = .ok (.ifCond .ne 19, 3) := dk_154 0 19 (dk_at dksX4_restore_0 20 rfl rfl)
theorem dX4_restore_23 : decode cX4_restore 23 = .ok (.aload_n 0, 1) := dk_42 (dk_at dksX4_restore_0 23 rfl rfl)
theorem dX4_restore_24 : decode cX4_restore 24 = .ok (.getfield 13, 3) := dk_180 0 13 (dk_at dksX4_restore_1 0 rfl rfl)
theorem dX4_restore_27 : decode cX4_restore 27 = .ok (.iconst 0, 1) := dk_3 (dk_at dksX4_restore_1 3 rfl rfl)
theorem dX4_restore_28 : decode cX4_restore 28 = .ok (.aload_n 0, 1) := dk_42 (dk_at dksX4_restore_1 4 rfl rfl)
theorem dX4_restore_29 : decode cX4_restore 29 = .ok (.getfield 9, 3) := dk_180 0 9 (dk_at dksX4_restore_1 5 rfl rfl)
theorem dX4_restore_32 : decode cX4_restore 32 = .ok (.iconst 0, 1) := dk_3 (dk_at dksX4_restore_1 8 rfl rfl)
theorem dX4_restore_33 : decode cX4_restore 33 = .ok (.sipush 203, 3) := dk_17 0 203 (dk_at dksX4_restore_1 9 rfl rfl)
theorem dX4_restore_36 : decode cX4_restore 36 = .ok (.invokestatic 264, 3) := dk_184 1 8 (dk_at dksX4_restore_1 12 rfl rfl)
theorem dX4_restore_39 : decode cX4_restore 39 = .ok (.return_, 1) := dk_177 (dk_at dksX4_restore_1 15 rfl rfl)
theorem q103 : (Jvm.Cond.initialized "SetupJobShopModel") ∈ lw_all := lw_g (lw_at lw_m1 15 rfl) rfl
theorem q221 : (Jvm.Cond.selects "SetupJobShopModel" ({ cls := "java/lang/Object", name := "getClass", desc := "()Ljava/lang/Class;" } : Jvm.MethodName) ({ cls := "java/lang/Object", name := "getClass", desc := "()Ljava/lang/Class;" } : Jvm.MethodName)) ∈ lw_all := lw_g (lw_at lw_m1 133 rfl) rfl
theorem q1787 : (Jvm.Cond.instantiable "SetupJobShopModel" (37 : Nat)) ∈ lw_all := lw_g (lw_at lw_m8 19 rfl) rfl
theorem q1789 : (Jvm.Cond.instanceMethod ({ cls := "SetupJobShopModel", name := "<init>", desc := "()V" } : Jvm.MethodName)) ∈ lw_all := lw_g (lw_at lw_m8 21 rfl) rfl
theorem q1790 : (Jvm.Cond.code ({ cls := "SetupJobShopModel", name := "<init>", desc := "()V" } : Jvm.MethodName) prog_19_method_1_code (1 : Nat) (Option.none : Option Jvm.ClassFile.FieldType)) ∈ lw_all := lw_g (lw_at lw_m8 22 rfl) rfl
theorem q1791 : (Jvm.Cond.methodLink "SetupJobShopModel" (3 : Nat) ({ cls := "java/lang/Object", name := "<init>", desc := "()V" } : Jvm.MethodName)) ∈ lw_all := lw_g (lw_at lw_m8 23 rfl) rfl
theorem q1792 : (Jvm.Cond.fieldLink "SetupJobShopModel" (9 : Nat) "SetupJobShopModel" "s" "[I") ∈ lw_all := lw_g (lw_at lw_m8 24 rfl) rfl
theorem q1793 : (Jvm.Cond.fieldLink "SetupJobShopModel" (13 : Nat) "SetupJobShopModel" "saved" "[I") ∈ lw_all := lw_g (lw_at lw_m8 25 rfl) rfl
theorem q1794 : (Jvm.Cond.fieldLink "SetupJobShopModel" (327 : Nat) "SetupJobShopModel" "isSaved" "Z") ∈ lw_all := lw_g (lw_at lw_m8 26 rfl) rfl
theorem q1795 : (Jvm.Cond.fieldLink "SetupJobShopModel" (79 : Nat) "SetupJobShopModel" "thrown" "I") ∈ lw_all := lw_g (lw_at lw_m8 27 rfl) rfl
theorem q1796 : (Jvm.Cond.fieldLink "SetupJobShopModel" (16 : Nat) "SetupJobShopModel" "text" "[C") ∈ lw_all := lw_g (lw_at lw_m8 28 rfl) rfl
theorem q1797 : (Jvm.Cond.fieldLink "SetupJobShopModel" (279 : Nat) "SetupJobShopModel" "length" "I") ∈ lw_all := lw_g (lw_at lw_m8 29 rfl) rfl
theorem q1798 : (Jvm.Cond.fieldLink "SetupJobShopModel" (20 : Nat) "SetupJobShopModel" "failures" "[I") ∈ lw_all := lw_g (lw_at lw_m8 30 rfl) rfl
theorem q1799 : (Jvm.Cond.fieldLink "SetupJobShopModel" (214 : Nat) "SetupJobShopModel" "failureMany" "I") ∈ lw_all := lw_g (lw_at lw_m8 31 rfl) rfl
theorem q1800 : (Jvm.Cond.fieldLink "SetupJobShopModel" (23 : Nat) "SetupJobShopModel" "closedOrder" "[I") ∈ lw_all := lw_g (lw_at lw_m8 32 rfl) rfl
theorem q1801 : (Jvm.Cond.fieldLink "SetupJobShopModel" (258 : Nat) "SetupJobShopModel" "hasClosed" "Z") ∈ lw_all := lw_g (lw_at lw_m8 33 rfl) rfl
theorem q1802 : (Jvm.Cond.fieldLink "SetupJobShopModel" (270 : Nat) "SetupJobShopModel" "tabuSteps" "I") ∈ lw_all := lw_g (lw_at lw_m8 34 rfl) rfl
theorem q1803 : (Jvm.Cond.fieldLink "SetupJobShopModel" (26 : Nat) "SetupJobShopModel" "ready" "[I") ∈ lw_all := lw_g (lw_at lw_m8 35 rfl) rfl
theorem q1804 : (Jvm.Cond.fieldLink "SetupJobShopModel" (29 : Nat) "SetupJobShopModel" "start" "[I") ∈ lw_all := lw_g (lw_at lw_m8 36 rfl) rfl
theorem q1805 : (Jvm.Cond.fieldLink "SetupJobShopModel" (32 : Nat) "SetupJobShopModel" "isOpen" "[Z") ∈ lw_all := lw_g (lw_at lw_m8 37 rfl) rfl
theorem q1806 : (Jvm.Cond.fieldLink "SetupJobShopModel" (36 : Nat) "SetupJobShopModel" "held" "I") ∈ lw_all := lw_g (lw_at lw_m8 38 rfl) rfl
theorem q1807 : (Jvm.Cond.fieldLink "SetupJobShopModel" (175 : Nat) "SetupJobShopModel" "heldUntil" "I") ∈ lw_all := lw_g (lw_at lw_m8 39 rfl) rfl
theorem q1808 : (Jvm.Cond.fieldLink "SetupJobShopModel" (40 : Nat) "SetupJobShopModel" "path" "[I") ∈ lw_all := lw_g (lw_at lw_m8 40 rfl) rfl
theorem q1809 : (Jvm.Cond.fieldLink "SetupJobShopModel" (199 : Nat) "SetupJobShopModel" "pathMany" "I") ∈ lw_all := lw_g (lw_at lw_m8 41 rfl) rfl
theorem q1810 : (Jvm.Cond.fieldLink "SetupJobShopModel" (43 : Nat) "SetupJobShopModel" "given" "[I") ∈ lw_all := lw_g (lw_at lw_m8 42 rfl) rfl
theorem q1811 : (Jvm.Cond.fieldLink "SetupJobShopModel" (46 : Nat) "SetupJobShopModel" "fixed" "[I") ∈ lw_all := lw_g (lw_at lw_m8 43 rfl) rfl
theorem q1812 : (Jvm.Cond.fieldLink "SetupJobShopModel" (49 : Nat) "SetupJobShopModel" "bestOrder" "[I") ∈ lw_all := lw_g (lw_at lw_m8 44 rfl) rfl
theorem q1813 : (Jvm.Cond.fieldLink "SetupJobShopModel" (246 : Nat) "SetupJobShopModel" "bestMakespan" "I") ∈ lw_all := lw_g (lw_at lw_m8 45 rfl) rfl
theorem q1814 : (Jvm.Cond.fieldLink "SetupJobShopModel" (52 : Nat) "SetupJobShopModel" "isUsed" "[Z") ∈ lw_all := lw_g (lw_at lw_m8 46 rfl) rfl
theorem q1815 : (Jvm.Cond.fieldLink "SetupJobShopModel" (55 : Nat) "SetupJobShopModel" "own" "[I") ∈ lw_all := lw_g (lw_at lw_m8 47 rfl) rfl
theorem q1816 : (Jvm.Cond.fieldLink "SetupJobShopModel" (58 : Nat) "SetupJobShopModel" "madeAt" "[I") ∈ lw_all := lw_g (lw_at lw_m8 48 rfl) rfl
theorem q1817 : (Jvm.Cond.fieldLink "SetupJobShopModel" (61 : Nat) "SetupJobShopModel" "bestState" "[I") ∈ lw_all := lw_g (lw_at lw_m8 49 rfl) rfl
theorem q1818 : (Jvm.Cond.fieldLink "SetupJobShopModel" (64 : Nat) "SetupJobShopModel" "isSwap" "[Z") ∈ lw_all := lw_g (lw_at lw_m8 50 rfl) rfl
theorem q1819 : (Jvm.Cond.fieldLink "SetupJobShopModel" (67 : Nat) "SetupJobShopModel" "heads" "[I") ∈ lw_all := lw_g (lw_at lw_m8 51 rfl) rfl
theorem q1820 : (Jvm.Cond.fieldLink "SetupJobShopModel" (70 : Nat) "SetupJobShopModel" "tails" "[I") ∈ lw_all := lw_g (lw_at lw_m8 52 rfl) rfl
theorem q1821 : (Jvm.Cond.fieldLink "SetupJobShopModel" (73 : Nat) "SetupJobShopModel" "lefts" "[I") ∈ lw_all := lw_g (lw_at lw_m8 53 rfl) rfl
theorem q1822 : (Jvm.Cond.fieldLink "SetupJobShopModel" (282 : Nat) "SetupJobShopModel" "place" "I") ∈ lw_all := lw_g (lw_at lw_m8 54 rfl) rfl
theorem q1823 : (Jvm.Cond.fieldLink "SetupJobShopModel" (292 : Nat) "SetupJobShopModel" "fault" "I") ∈ lw_all := lw_g (lw_at lw_m8 55 rfl) rfl
theorem q1824 : (Jvm.Cond.fieldLink "SetupJobShopModel" (289 : Nat) "SetupJobShopModel" "number" "I") ∈ lw_all := lw_g (lw_at lw_m8 56 rfl) rfl
theorem q1825 : (Jvm.Cond.fieldLink "SetupJobShopModel" (302 : Nat) "SetupJobShopModel" "wrongJob" "I") ∈ lw_all := lw_g (lw_at lw_m8 57 rfl) rfl
theorem q1826 : (Jvm.Cond.fieldLink "SetupJobShopModel" (305 : Nat) "SetupJobShopModel" "wrongWhy" "I") ∈ lw_all := lw_g (lw_at lw_m8 58 rfl) rfl
theorem q1827 : (Jvm.Cond.fieldLink "SetupJobShopModel" (308 : Nat) "SetupJobShopModel" "wrongOperation" "I") ∈ lw_all := lw_g (lw_at lw_m8 59 rfl) rfl
theorem q1828 : (Jvm.Cond.fieldLink "SetupJobShopModel" (76 : Nat) "SetupJobShopModel" "beforeText" "[I") ∈ lw_all := lw_g (lw_at lw_m8 60 rfl) rfl
theorem q1829 : (Jvm.Cond.laysFinal "SetupJobShopModel" "SetupJobShopModel" "s" "[I") ∈ lw_all := lw_g (lw_at lw_m8 61 rfl) rfl
theorem q1830 : (Jvm.Cond.soleField "SetupJobShopModel" "s") ∈ lw_all := lw_g (lw_at lw_m8 62 rfl) rfl
theorem q1831 : (Jvm.Cond.laysFinal "SetupJobShopModel" "SetupJobShopModel" "saved" "[I") ∈ lw_all := lw_g (lw_at lw_m8 63 rfl) rfl
theorem q1832 : (Jvm.Cond.soleField "SetupJobShopModel" "saved") ∈ lw_all := lw_g (lw_at lw_m8 64 rfl) rfl
theorem q1833 : (Jvm.Cond.lays "SetupJobShopModel" "SetupJobShopModel" "isSaved" "Z") ∈ lw_all := lw_g (lw_at lw_m8 65 rfl) rfl
theorem q1834 : (Jvm.Cond.soleField "SetupJobShopModel" "isSaved") ∈ lw_all := lw_g (lw_at lw_m8 66 rfl) rfl
theorem q1835 : (Jvm.Cond.lays "SetupJobShopModel" "SetupJobShopModel" "thrown" "I") ∈ lw_all := lw_g (lw_at lw_m8 67 rfl) rfl
theorem q1836 : (Jvm.Cond.soleField "SetupJobShopModel" "thrown") ∈ lw_all := lw_g (lw_at lw_m8 68 rfl) rfl
theorem q1837 : (Jvm.Cond.laysFinal "SetupJobShopModel" "SetupJobShopModel" "text" "[C") ∈ lw_all := lw_g (lw_at lw_m8 69 rfl) rfl
theorem q1838 : (Jvm.Cond.soleField "SetupJobShopModel" "text") ∈ lw_all := lw_g (lw_at lw_m8 70 rfl) rfl
theorem q1839 : (Jvm.Cond.lays "SetupJobShopModel" "SetupJobShopModel" "length" "I") ∈ lw_all := lw_g (lw_at lw_m8 71 rfl) rfl
theorem q1840 : (Jvm.Cond.soleField "SetupJobShopModel" "length") ∈ lw_all := lw_g (lw_at lw_m8 72 rfl) rfl
theorem q1841 : (Jvm.Cond.laysFinal "SetupJobShopModel" "SetupJobShopModel" "failures" "[I") ∈ lw_all := lw_g (lw_at lw_m8 73 rfl) rfl
theorem q1842 : (Jvm.Cond.soleField "SetupJobShopModel" "failures") ∈ lw_all := lw_g (lw_at lw_m8 74 rfl) rfl
theorem q1843 : (Jvm.Cond.lays "SetupJobShopModel" "SetupJobShopModel" "failureMany" "I") ∈ lw_all := lw_g (lw_at lw_m8 75 rfl) rfl
theorem q1844 : (Jvm.Cond.soleField "SetupJobShopModel" "failureMany") ∈ lw_all := lw_g (lw_at lw_m8 76 rfl) rfl
theorem q1845 : (Jvm.Cond.laysFinal "SetupJobShopModel" "SetupJobShopModel" "closedOrder" "[I") ∈ lw_all := lw_g (lw_at lw_m8 77 rfl) rfl
theorem q1846 : (Jvm.Cond.soleField "SetupJobShopModel" "closedOrder") ∈ lw_all := lw_g (lw_at lw_m8 78 rfl) rfl
theorem q1847 : (Jvm.Cond.lays "SetupJobShopModel" "SetupJobShopModel" "hasClosed" "Z") ∈ lw_all := lw_g (lw_at lw_m8 79 rfl) rfl
theorem q1848 : (Jvm.Cond.soleField "SetupJobShopModel" "hasClosed") ∈ lw_all := lw_g (lw_at lw_m8 80 rfl) rfl
theorem q1849 : (Jvm.Cond.lays "SetupJobShopModel" "SetupJobShopModel" "tabuSteps" "I") ∈ lw_all := lw_g (lw_at lw_m8 81 rfl) rfl
theorem q1850 : (Jvm.Cond.soleField "SetupJobShopModel" "tabuSteps") ∈ lw_all := lw_g (lw_at lw_m8 82 rfl) rfl
theorem q1851 : (Jvm.Cond.laysFinal "SetupJobShopModel" "SetupJobShopModel" "ready" "[I") ∈ lw_all := lw_g (lw_at lw_m8 83 rfl) rfl
theorem q1852 : (Jvm.Cond.soleField "SetupJobShopModel" "ready") ∈ lw_all := lw_g (lw_at lw_m8 84 rfl) rfl
theorem q1853 : (Jvm.Cond.laysFinal "SetupJobShopModel" "SetupJobShopModel" "start" "[I") ∈ lw_all := lw_g (lw_at lw_m8 85 rfl) rfl
theorem q1854 : (Jvm.Cond.soleField "SetupJobShopModel" "start") ∈ lw_all := lw_g (lw_at lw_m8 86 rfl) rfl
theorem q1855 : (Jvm.Cond.laysFinal "SetupJobShopModel" "SetupJobShopModel" "isOpen" "[Z") ∈ lw_all := lw_g (lw_at lw_m8 87 rfl) rfl
theorem q1856 : (Jvm.Cond.soleField "SetupJobShopModel" "isOpen") ∈ lw_all := lw_g (lw_at lw_m8 88 rfl) rfl
theorem q1857 : (Jvm.Cond.lays "SetupJobShopModel" "SetupJobShopModel" "held" "I") ∈ lw_all := lw_g (lw_at lw_m8 89 rfl) rfl
theorem q1858 : (Jvm.Cond.soleField "SetupJobShopModel" "held") ∈ lw_all := lw_g (lw_at lw_m8 90 rfl) rfl
theorem q1859 : (Jvm.Cond.lays "SetupJobShopModel" "SetupJobShopModel" "heldUntil" "I") ∈ lw_all := lw_g (lw_at lw_m8 91 rfl) rfl
theorem q1860 : (Jvm.Cond.soleField "SetupJobShopModel" "heldUntil") ∈ lw_all := lw_g (lw_at lw_m8 92 rfl) rfl
theorem q1861 : (Jvm.Cond.laysFinal "SetupJobShopModel" "SetupJobShopModel" "path" "[I") ∈ lw_all := lw_g (lw_at lw_m8 93 rfl) rfl
theorem q1862 : (Jvm.Cond.soleField "SetupJobShopModel" "path") ∈ lw_all := lw_g (lw_at lw_m8 94 rfl) rfl
theorem q1863 : (Jvm.Cond.lays "SetupJobShopModel" "SetupJobShopModel" "pathMany" "I") ∈ lw_all := lw_g (lw_at lw_m8 95 rfl) rfl
theorem q1864 : (Jvm.Cond.soleField "SetupJobShopModel" "pathMany") ∈ lw_all := lw_g (lw_at lw_m8 96 rfl) rfl
theorem q1865 : (Jvm.Cond.laysFinal "SetupJobShopModel" "SetupJobShopModel" "given" "[I") ∈ lw_all := lw_g (lw_at lw_m8 97 rfl) rfl
theorem q1866 : (Jvm.Cond.soleField "SetupJobShopModel" "given") ∈ lw_all := lw_g (lw_at lw_m8 98 rfl) rfl
theorem q1867 : (Jvm.Cond.laysFinal "SetupJobShopModel" "SetupJobShopModel" "fixed" "[I") ∈ lw_all := lw_g (lw_at lw_m8 99 rfl) rfl
theorem q1868 : (Jvm.Cond.soleField "SetupJobShopModel" "fixed") ∈ lw_all := lw_g (lw_at lw_m8 100 rfl) rfl
theorem q1869 : (Jvm.Cond.laysFinal "SetupJobShopModel" "SetupJobShopModel" "bestOrder" "[I") ∈ lw_all := lw_g (lw_at lw_m8 101 rfl) rfl
theorem q1870 : (Jvm.Cond.soleField "SetupJobShopModel" "bestOrder") ∈ lw_all := lw_g (lw_at lw_m8 102 rfl) rfl
theorem q1871 : (Jvm.Cond.lays "SetupJobShopModel" "SetupJobShopModel" "bestMakespan" "I") ∈ lw_all := lw_g (lw_at lw_m8 103 rfl) rfl
theorem q1872 : (Jvm.Cond.soleField "SetupJobShopModel" "bestMakespan") ∈ lw_all := lw_g (lw_at lw_m8 104 rfl) rfl
theorem q1873 : (Jvm.Cond.laysFinal "SetupJobShopModel" "SetupJobShopModel" "isUsed" "[Z") ∈ lw_all := lw_g (lw_at lw_m8 105 rfl) rfl
theorem q1874 : (Jvm.Cond.soleField "SetupJobShopModel" "isUsed") ∈ lw_all := lw_g (lw_at lw_m8 106 rfl) rfl
theorem q1875 : (Jvm.Cond.laysFinal "SetupJobShopModel" "SetupJobShopModel" "own" "[I") ∈ lw_all := lw_g (lw_at lw_m8 107 rfl) rfl
theorem q1876 : (Jvm.Cond.soleField "SetupJobShopModel" "own") ∈ lw_all := lw_g (lw_at lw_m8 108 rfl) rfl
theorem q1877 : (Jvm.Cond.laysFinal "SetupJobShopModel" "SetupJobShopModel" "madeAt" "[I") ∈ lw_all := lw_g (lw_at lw_m8 109 rfl) rfl
theorem q1878 : (Jvm.Cond.soleField "SetupJobShopModel" "madeAt") ∈ lw_all := lw_g (lw_at lw_m8 110 rfl) rfl
theorem q1879 : (Jvm.Cond.laysFinal "SetupJobShopModel" "SetupJobShopModel" "bestState" "[I") ∈ lw_all := lw_g (lw_at lw_m8 111 rfl) rfl
theorem q1880 : (Jvm.Cond.soleField "SetupJobShopModel" "bestState") ∈ lw_all := lw_g (lw_at lw_m8 112 rfl) rfl
theorem q1881 : (Jvm.Cond.laysFinal "SetupJobShopModel" "SetupJobShopModel" "isSwap" "[Z") ∈ lw_all := lw_g (lw_at lw_m8 113 rfl) rfl
theorem q1882 : (Jvm.Cond.soleField "SetupJobShopModel" "isSwap") ∈ lw_all := lw_g (lw_at lw_m8 114 rfl) rfl
theorem q1883 : (Jvm.Cond.laysFinal "SetupJobShopModel" "SetupJobShopModel" "heads" "[I") ∈ lw_all := lw_g (lw_at lw_m8 115 rfl) rfl
theorem q1884 : (Jvm.Cond.soleField "SetupJobShopModel" "heads") ∈ lw_all := lw_g (lw_at lw_m8 116 rfl) rfl
theorem q1885 : (Jvm.Cond.laysFinal "SetupJobShopModel" "SetupJobShopModel" "tails" "[I") ∈ lw_all := lw_g (lw_at lw_m8 117 rfl) rfl
theorem q1886 : (Jvm.Cond.soleField "SetupJobShopModel" "tails") ∈ lw_all := lw_g (lw_at lw_m8 118 rfl) rfl
theorem q1887 : (Jvm.Cond.laysFinal "SetupJobShopModel" "SetupJobShopModel" "lefts" "[I") ∈ lw_all := lw_g (lw_at lw_m8 119 rfl) rfl
theorem q1888 : (Jvm.Cond.soleField "SetupJobShopModel" "lefts") ∈ lw_all := lw_g (lw_at lw_m8 120 rfl) rfl
theorem q1889 : (Jvm.Cond.lays "SetupJobShopModel" "SetupJobShopModel" "place" "I") ∈ lw_all := lw_g (lw_at lw_m8 121 rfl) rfl
theorem q1890 : (Jvm.Cond.soleField "SetupJobShopModel" "place") ∈ lw_all := lw_g (lw_at lw_m8 122 rfl) rfl
theorem q1891 : (Jvm.Cond.lays "SetupJobShopModel" "SetupJobShopModel" "fault" "I") ∈ lw_all := lw_g (lw_at lw_m8 123 rfl) rfl
theorem q1892 : (Jvm.Cond.soleField "SetupJobShopModel" "fault") ∈ lw_all := lw_g (lw_at lw_m8 124 rfl) rfl
theorem q1893 : (Jvm.Cond.lays "SetupJobShopModel" "SetupJobShopModel" "number" "I") ∈ lw_all := lw_g (lw_at lw_m8 125 rfl) rfl
theorem q1894 : (Jvm.Cond.soleField "SetupJobShopModel" "number") ∈ lw_all := lw_g (lw_at lw_m8 126 rfl) rfl
theorem q1895 : (Jvm.Cond.lays "SetupJobShopModel" "SetupJobShopModel" "wrongJob" "I") ∈ lw_all := lw_g (lw_at lw_m8 127 rfl) rfl
theorem q1896 : (Jvm.Cond.soleField "SetupJobShopModel" "wrongJob") ∈ lw_all := lw_g (lw_at lw_m8 128 rfl) rfl
theorem q1897 : (Jvm.Cond.lays "SetupJobShopModel" "SetupJobShopModel" "wrongWhy" "I") ∈ lw_all := lw_g (lw_at lw_m8 129 rfl) rfl
theorem q1898 : (Jvm.Cond.soleField "SetupJobShopModel" "wrongWhy") ∈ lw_all := lw_g (lw_at lw_m8 130 rfl) rfl
theorem q1899 : (Jvm.Cond.lays "SetupJobShopModel" "SetupJobShopModel" "wrongOperation" "I") ∈ lw_all := lw_g (lw_at lw_m8 131 rfl) rfl
theorem q1900 : (Jvm.Cond.soleField "SetupJobShopModel" "wrongOperation") ∈ lw_all := lw_g (lw_at lw_m8 132 rfl) rfl
theorem q1901 : (Jvm.Cond.laysFinal "SetupJobShopModel" "SetupJobShopModel" "beforeText" "[I") ∈ lw_all := lw_g (lw_at lw_m8 133 rfl) rfl
theorem q1902 : (Jvm.Cond.soleField "SetupJobShopModel" "beforeText") ∈ lw_all := lw_g (lw_at lw_m8 134 rfl) rfl
theorem q1903 : (Jvm.Cond.superclass "SetupJobShopModel" "java/lang/Object") ∈ lw_all := lw_g (lw_at lw_m8 135 rfl) rfl
theorem q1907 : (Jvm.Cond.instanceMethod ({ cls := "SetupJobShopModel", name := "thrown", desc := "()I" } : Jvm.MethodName)) ∈ lw_all := lw_g (lw_at lw_m8 139 rfl) rfl
theorem q1908 : (Jvm.Cond.selects "SetupJobShopModel" ({ cls := "SetupJobShopModel", name := "thrown", desc := "()I" } : Jvm.MethodName) ({ cls := "SetupJobShopModel", name := "thrown", desc := "()I" } : Jvm.MethodName)) ∈ lw_all := lw_g (lw_at lw_m8 140 rfl) rfl
theorem q1909 : (Jvm.Cond.code ({ cls := "SetupJobShopModel", name := "thrown", desc := "()I" } : Jvm.MethodName) prog_19_method_2_code (1 : Nat) (Option.some Jvm.ClassFile.FieldType.int)) ∈ lw_all := lw_g (lw_at lw_m8 141 rfl) rfl
theorem q1911 : (Jvm.Cond.instanceMethod ({ cls := "SetupJobShopModel", name := "addJob", desc := "(III)I" } : Jvm.MethodName)) ∈ lw_all := lw_g (lw_at lw_m8 143 rfl) rfl
theorem q1912 : (Jvm.Cond.selects "SetupJobShopModel" ({ cls := "SetupJobShopModel", name := "addJob", desc := "(III)I" } : Jvm.MethodName) ({ cls := "SetupJobShopModel", name := "addJob", desc := "(III)I" } : Jvm.MethodName)) ∈ lw_all := lw_g (lw_at lw_m8 144 rfl) rfl
theorem q1913 : (Jvm.Cond.code ({ cls := "SetupJobShopModel", name := "addJob", desc := "(III)I" } : Jvm.MethodName) prog_19_method_14_code (4 : Nat) (Option.some Jvm.ClassFile.FieldType.int)) ∈ lw_all := lw_g (lw_at lw_m8 145 rfl) rfl
theorem q1914 : (Jvm.Cond.methodLink "SetupJobShopModel" (98 : Nat) ({ cls := "SetupJobShopModel", name := "areJobProperties", desc := "(III)Z" } : Jvm.MethodName)) ∈ lw_all := lw_g (lw_at lw_m8 146 rfl) rfl
theorem q1915 : (Jvm.Cond.static ({ cls := "SetupJobShopModel", name := "areJobProperties", desc := "(III)Z" } : Jvm.MethodName)) ∈ lw_all := lw_g (lw_at lw_m8 147 rfl) rfl
theorem q1916 : (Jvm.Cond.code ({ cls := "SetupJobShopModel", name := "areJobProperties", desc := "(III)Z" } : Jvm.MethodName) prog_19_method_12_code (3 : Nat) (Option.some Jvm.ClassFile.FieldType.boolean)) ∈ lw_all := lw_g (lw_at lw_m8 148 rfl) rfl
theorem q1917 : (Jvm.Cond.methodLink "SetupJobShopModel" (94 : Nat) ({ cls := "SetupJobShopModel", name := "isJobProperty", desc := "(II)Z" } : Jvm.MethodName)) ∈ lw_all := lw_g (lw_at lw_m8 149 rfl) rfl
theorem q1918 : (Jvm.Cond.static ({ cls := "SetupJobShopModel", name := "isJobProperty", desc := "(II)Z" } : Jvm.MethodName)) ∈ lw_all := lw_g (lw_at lw_m8 150 rfl) rfl
theorem q1919 : (Jvm.Cond.code ({ cls := "SetupJobShopModel", name := "isJobProperty", desc := "(II)Z" } : Jvm.MethodName) prog_19_method_11_code (2 : Nat) (Option.some Jvm.ClassFile.FieldType.boolean)) ∈ lw_all := lw_g (lw_at lw_m8 151 rfl) rfl
theorem q1920 : (Jvm.Cond.constantLong "SetupJobShopModel" (88 : Nat) (99 : Int64)) ∈ lw_all := lw_g (lw_at lw_m8 152 rfl) rfl
theorem q1921 : (Jvm.Cond.methodLink "SetupJobShopModel" (82 : Nat) ({ cls := "SetupJobShopModel", name := "in", desc := "(JJJ)Z" } : Jvm.MethodName)) ∈ lw_all := lw_g (lw_at lw_m8 153 rfl) rfl
theorem q1922 : (Jvm.Cond.static ({ cls := "SetupJobShopModel", name := "in", desc := "(JJJ)Z" } : Jvm.MethodName)) ∈ lw_all := lw_g (lw_at lw_m8 154 rfl) rfl
theorem q1923 : (Jvm.Cond.code ({ cls := "SetupJobShopModel", name := "in", desc := "(JJJ)Z" } : Jvm.MethodName) prog_19_method_3_code (6 : Nat) (Option.some Jvm.ClassFile.FieldType.boolean)) ∈ lw_all := lw_g (lw_at lw_m8 155 rfl) rfl
theorem q1924 : (Jvm.Cond.constantLong "SetupJobShopModel" (90 : Nat) (200 : Int64)) ∈ lw_all := lw_g (lw_at lw_m8 156 rfl) rfl
theorem q1925 : (Jvm.Cond.constantLong "SetupJobShopModel" (92 : Nat) (9 : Int64)) ∈ lw_all := lw_g (lw_at lw_m8 157 rfl) rfl
theorem q1926 : (Jvm.Cond.methodLink "SetupJobShopModel" (102 : Nat) ({ cls := "SetupJobShopModel", name := "createJob", desc := "(III)I" } : Jvm.MethodName)) ∈ lw_all := lw_g (lw_at lw_m8 158 rfl) rfl
theorem q1927 : (Jvm.Cond.privateMethod ({ cls := "SetupJobShopModel", name := "createJob", desc := "(III)I" } : Jvm.MethodName)) ∈ lw_tbl := lw_at lw_m8 159 rfl
theorem q1928 : (Jvm.Cond.instanceMethod ({ cls := "SetupJobShopModel", name := "createJob", desc := "(III)I" } : Jvm.MethodName)) ∈ lw_all := lw_g (lw_at lw_m8 160 rfl) rfl
theorem q1929 : (Jvm.Cond.code ({ cls := "SetupJobShopModel", name := "createJob", desc := "(III)I" } : Jvm.MethodName) prog_19_method_13_code (5 : Nat) (Option.some Jvm.ClassFile.FieldType.int)) ∈ lw_all := lw_g (lw_at lw_m8 161 rfl) rfl
theorem q1931 : (Jvm.Cond.instanceMethod ({ cls := "SetupJobShopModel", name := "addOperation", desc := "(IIII)I" } : Jvm.MethodName)) ∈ lw_all := lw_g (lw_at lw_m8 163 rfl) rfl
theorem q1932 : (Jvm.Cond.selects "SetupJobShopModel" ({ cls := "SetupJobShopModel", name := "addOperation", desc := "(IIII)I" } : Jvm.MethodName) ({ cls := "SetupJobShopModel", name := "addOperation", desc := "(IIII)I" } : Jvm.MethodName)) ∈ lw_all := lw_g (lw_at lw_m8 164 rfl) rfl
theorem q1933 : (Jvm.Cond.code ({ cls := "SetupJobShopModel", name := "addOperation", desc := "(IIII)I" } : Jvm.MethodName) prog_19_method_18_code (5 : Nat) (Option.some Jvm.ClassFile.FieldType.int)) ∈ lw_all := lw_g (lw_at lw_m8 165 rfl) rfl
theorem q1934 : (Jvm.Cond.methodLink "SetupJobShopModel" (118 : Nat) ({ cls := "SetupJobShopModel", name := "isJob", desc := "(I)Z" } : Jvm.MethodName)) ∈ lw_all := lw_g (lw_at lw_m8 166 rfl) rfl
theorem q1935 : (Jvm.Cond.privateMethod ({ cls := "SetupJobShopModel", name := "isJob", desc := "(I)Z" } : Jvm.MethodName)) ∈ lw_tbl := lw_at lw_m8 167 rfl
theorem q1936 : (Jvm.Cond.instanceMethod ({ cls := "SetupJobShopModel", name := "isJob", desc := "(I)Z" } : Jvm.MethodName)) ∈ lw_all := lw_g (lw_at lw_m8 168 rfl) rfl
theorem q1937 : (Jvm.Cond.code ({ cls := "SetupJobShopModel", name := "isJob", desc := "(I)Z" } : Jvm.MethodName) prog_19_method_4_code (2 : Nat) (Option.some Jvm.ClassFile.FieldType.boolean)) ∈ lw_all := lw_g (lw_at lw_m8 169 rfl) rfl
theorem q1938 : (Jvm.Cond.methodLink "SetupJobShopModel" (122 : Nat) ({ cls := "SetupJobShopModel", name := "isMachine", desc := "(I)Z" } : Jvm.MethodName)) ∈ lw_all := lw_g (lw_at lw_m8 170 rfl) rfl
theorem q1939 : (Jvm.Cond.static ({ cls := "SetupJobShopModel", name := "isMachine", desc := "(I)Z" } : Jvm.MethodName)) ∈ lw_all := lw_g (lw_at lw_m8 171 rfl) rfl
theorem q1940 : (Jvm.Cond.code ({ cls := "SetupJobShopModel", name := "isMachine", desc := "(I)Z" } : Jvm.MethodName) prog_19_method_6_code (1 : Nat) (Option.some Jvm.ClassFile.FieldType.boolean)) ∈ lw_all := lw_g (lw_at lw_m8 172 rfl) rfl
theorem q1941 : (Jvm.Cond.constantLong "SetupJobShopModel" (86 : Nat) (3 : Int64)) ∈ lw_all := lw_g (lw_at lw_m8 173 rfl) rfl
theorem q1942 : (Jvm.Cond.methodLink "SetupJobShopModel" (125 : Nat) ({ cls := "SetupJobShopModel", name := "areProperties", desc := "(II)Z" } : Jvm.MethodName)) ∈ lw_all := lw_g (lw_at lw_m8 174 rfl) rfl
theorem q1943 : (Jvm.Cond.static ({ cls := "SetupJobShopModel", name := "areProperties", desc := "(II)Z" } : Jvm.MethodName)) ∈ lw_all := lw_g (lw_at lw_m8 175 rfl) rfl
theorem q1944 : (Jvm.Cond.code ({ cls := "SetupJobShopModel", name := "areProperties", desc := "(II)Z" } : Jvm.MethodName) prog_19_method_15_code (2 : Nat) (Option.some Jvm.ClassFile.FieldType.boolean)) ∈ lw_all := lw_g (lw_at lw_m8 176 rfl) rfl
theorem q1945 : (Jvm.Cond.constantLong "SetupJobShopModel" (106 : Nat) (30 : Int64)) ∈ lw_all := lw_g (lw_at lw_m8 177 rfl) rfl
theorem q1946 : (Jvm.Cond.constantLong "SetupJobShopModel" (108 : Nat) (2 : Int64)) ∈ lw_all := lw_g (lw_at lw_m8 178 rfl) rfl
theorem q1947 : (Jvm.Cond.methodLink "SetupJobShopModel" (128 : Nat) ({ cls := "SetupJobShopModel", name := "hasMachine", desc := "(II)Z" } : Jvm.MethodName)) ∈ lw_all := lw_g (lw_at lw_m8 179 rfl) rfl
theorem q1948 : (Jvm.Cond.privateMethod ({ cls := "SetupJobShopModel", name := "hasMachine", desc := "(II)Z" } : Jvm.MethodName)) ∈ lw_tbl := lw_at lw_m8 180 rfl
theorem q1949 : (Jvm.Cond.instanceMethod ({ cls := "SetupJobShopModel", name := "hasMachine", desc := "(II)Z" } : Jvm.MethodName)) ∈ lw_all := lw_g (lw_at lw_m8 181 rfl) rfl
theorem q1950 : (Jvm.Cond.code ({ cls := "SetupJobShopModel", name := "hasMachine", desc := "(II)Z" } : Jvm.MethodName) prog_19_method_16_code (5 : Nat) (Option.some Jvm.ClassFile.FieldType.boolean)) ∈ lw_all := lw_g (lw_at lw_m8 182 rfl) rfl
theorem q1951 : (Jvm.Cond.methodLink "SetupJobShopModel" (110 : Nat) ({ cls := "SetupJobShopModel", name := "sequence", desc := "(II)I" } : Jvm.MethodName)) ∈ lw_all := lw_g (lw_at lw_m8 183 rfl) rfl
theorem q1952 : (Jvm.Cond.privateMethod ({ cls := "SetupJobShopModel", name := "sequence", desc := "(II)I" } : Jvm.MethodName)) ∈ lw_tbl := lw_at lw_m8 184 rfl
theorem q1953 : (Jvm.Cond.instanceMethod ({ cls := "SetupJobShopModel", name := "sequence", desc := "(II)I" } : Jvm.MethodName)) ∈ lw_all := lw_g (lw_at lw_m8 185 rfl) rfl
theorem q1954 : (Jvm.Cond.code ({ cls := "SetupJobShopModel", name := "sequence", desc := "(II)I" } : Jvm.MethodName) prog_19_method_9_code (3 : Nat) (Option.some Jvm.ClassFile.FieldType.int)) ∈ lw_all := lw_g (lw_at lw_m8 186 rfl) rfl
theorem q1955 : (Jvm.Cond.methodLink "SetupJobShopModel" (131 : Nat) ({ cls := "SetupJobShopModel", name := "createOperation", desc := "(IIII)I" } : Jvm.MethodName)) ∈ lw_all := lw_g (lw_at lw_m8 187 rfl) rfl
theorem q1956 : (Jvm.Cond.privateMethod ({ cls := "SetupJobShopModel", name := "createOperation", desc := "(IIII)I" } : Jvm.MethodName)) ∈ lw_tbl := lw_at lw_m8 188 rfl
theorem q1957 : (Jvm.Cond.instanceMethod ({ cls := "SetupJobShopModel", name := "createOperation", desc := "(IIII)I" } : Jvm.MethodName)) ∈ lw_all := lw_g (lw_at lw_m8 189 rfl) rfl
theorem q1958 : (Jvm.Cond.code ({ cls := "SetupJobShopModel", name := "createOperation", desc := "(IIII)I" } : Jvm.MethodName) prog_19_method_17_code (6 : Nat) (Option.some Jvm.ClassFile.FieldType.int)) ∈ lw_all := lw_g (lw_at lw_m8 190 rfl) rfl
theorem q1959 : (Jvm.Cond.methodLink "SetupJobShopModel" (114 : Nat) ({ cls := "SetupJobShopModel", name := "setOrdered", desc := "(III)V" } : Jvm.MethodName)) ∈ lw_all := lw_g (lw_at lw_m8 191 rfl) rfl
theorem q1960 : (Jvm.Cond.privateMethod ({ cls := "SetupJobShopModel", name := "setOrdered", desc := "(III)V" } : Jvm.MethodName)) ∈ lw_tbl := lw_at lw_m8 192 rfl
theorem q1961 : (Jvm.Cond.instanceMethod ({ cls := "SetupJobShopModel", name := "setOrdered", desc := "(III)V" } : Jvm.MethodName)) ∈ lw_all := lw_g (lw_at lw_m8 193 rfl) rfl
theorem q1962 : (Jvm.Cond.code ({ cls := "SetupJobShopModel", name := "setOrdered", desc := "(III)V" } : Jvm.MethodName) prog_19_method_8_code (4 : Nat) (Option.none : Option Jvm.ClassFile.FieldType)) ∈ lw_all := lw_g (lw_at lw_m8 194 rfl) rfl
theorem q1964 : (Jvm.Cond.instanceMethod ({ cls := "SetupJobShopModel", name := "setJob", desc := "(III)I" } : Jvm.MethodName)) ∈ lw_all := lw_g (lw_at lw_m8 196 rfl) rfl
theorem q1965 : (Jvm.Cond.selects "SetupJobShopModel" ({ cls := "SetupJobShopModel", name := "setJob", desc := "(III)I" } : Jvm.MethodName) ({ cls := "SetupJobShopModel", name := "setJob", desc := "(III)I" } : Jvm.MethodName)) ∈ lw_all := lw_g (lw_at lw_m8 197 rfl) rfl
theorem q1966 : (Jvm.Cond.code ({ cls := "SetupJobShopModel", name := "setJob", desc := "(III)I" } : Jvm.MethodName) prog_19_method_19_code (6 : Nat) (Option.some Jvm.ClassFile.FieldType.int)) ∈ lw_all := lw_g (lw_at lw_m8 198 rfl) rfl
theorem q1968 : (Jvm.Cond.instanceMethod ({ cls := "SetupJobShopModel", name := "setDuration", desc := "(II)I" } : Jvm.MethodName)) ∈ lw_all := lw_g (lw_at lw_m8 200 rfl) rfl
theorem q1969 : (Jvm.Cond.selects "SetupJobShopModel" ({ cls := "SetupJobShopModel", name := "setDuration", desc := "(II)I" } : Jvm.MethodName) ({ cls := "SetupJobShopModel", name := "setDuration", desc := "(II)I" } : Jvm.MethodName)) ∈ lw_all := lw_g (lw_at lw_m8 201 rfl) rfl
theorem q1970 : (Jvm.Cond.code ({ cls := "SetupJobShopModel", name := "setDuration", desc := "(II)I" } : Jvm.MethodName) prog_19_method_20_code (4 : Nat) (Option.some Jvm.ClassFile.FieldType.int)) ∈ lw_all := lw_g (lw_at lw_m8 202 rfl) rfl
theorem q1971 : (Jvm.Cond.methodLink "SetupJobShopModel" (135 : Nat) ({ cls := "SetupJobShopModel", name := "isOperation", desc := "(I)Z" } : Jvm.MethodName)) ∈ lw_all := lw_g (lw_at lw_m8 203 rfl) rfl
theorem q1972 : (Jvm.Cond.privateMethod ({ cls := "SetupJobShopModel", name := "isOperation", desc := "(I)Z" } : Jvm.MethodName)) ∈ lw_tbl := lw_at lw_m8 204 rfl
theorem q1973 : (Jvm.Cond.instanceMethod ({ cls := "SetupJobShopModel", name := "isOperation", desc := "(I)Z" } : Jvm.MethodName)) ∈ lw_all := lw_g (lw_at lw_m8 205 rfl) rfl
theorem q1974 : (Jvm.Cond.code ({ cls := "SetupJobShopModel", name := "isOperation", desc := "(I)Z" } : Jvm.MethodName) prog_19_method_5_code (2 : Nat) (Option.some Jvm.ClassFile.FieldType.boolean)) ∈ lw_all := lw_g (lw_at lw_m8 206 rfl) rfl
theorem q1976 : (Jvm.Cond.instanceMethod ({ cls := "SetupJobShopModel", name := "setSetup", desc := "(III)I" } : Jvm.MethodName)) ∈ lw_all := lw_g (lw_at lw_m8 208 rfl) rfl
theorem q1977 : (Jvm.Cond.selects "SetupJobShopModel" ({ cls := "SetupJobShopModel", name := "setSetup", desc := "(III)I" } : Jvm.MethodName) ({ cls := "SetupJobShopModel", name := "setSetup", desc := "(III)I" } : Jvm.MethodName)) ∈ lw_all := lw_g (lw_at lw_m8 209 rfl) rfl
theorem q1978 : (Jvm.Cond.code ({ cls := "SetupJobShopModel", name := "setSetup", desc := "(III)I" } : Jvm.MethodName) prog_19_method_21_code (6 : Nat) (Option.some Jvm.ClassFile.FieldType.int)) ∈ lw_all := lw_g (lw_at lw_m8 210 rfl) rfl
theorem q1980 : (Jvm.Cond.instanceMethod ({ cls := "SetupJobShopModel", name := "addBreakdown", desc := "(III)I" } : Jvm.MethodName)) ∈ lw_all := lw_g (lw_at lw_m8 212 rfl) rfl
theorem q1981 : (Jvm.Cond.selects "SetupJobShopModel" ({ cls := "SetupJobShopModel", name := "addBreakdown", desc := "(III)I" } : Jvm.MethodName) ({ cls := "SetupJobShopModel", name := "addBreakdown", desc := "(III)I" } : Jvm.MethodName)) ∈ lw_all := lw_g (lw_at lw_m8 213 rfl) rfl
theorem q1982 : (Jvm.Cond.code ({ cls := "SetupJobShopModel", name := "addBreakdown", desc := "(III)I" } : Jvm.MethodName) prog_19_method_22_code (5 : Nat) (Option.some Jvm.ClassFile.FieldType.int)) ∈ lw_all := lw_g (lw_at lw_m8 214 rfl) rfl
theorem q1983 : (Jvm.Cond.constantLong "SetupJobShopModel" (138 : Nat) (400 : Int64)) ∈ lw_all := lw_g (lw_at lw_m8 215 rfl) rfl
theorem q1984 : (Jvm.Cond.constantLong "SetupJobShopModel" (140 : Nat) (60 : Int64)) ∈ lw_all := lw_g (lw_at lw_m8 216 rfl) rfl
theorem q1986 : (Jvm.Cond.instanceMethod ({ cls := "SetupJobShopModel", name := "clearBreakdowns", desc := "(I)I" } : Jvm.MethodName)) ∈ lw_all := lw_g (lw_at lw_m8 218 rfl) rfl
theorem q1987 : (Jvm.Cond.selects "SetupJobShopModel" ({ cls := "SetupJobShopModel", name := "clearBreakdowns", desc := "(I)I" } : Jvm.MethodName) ({ cls := "SetupJobShopModel", name := "clearBreakdowns", desc := "(I)I" } : Jvm.MethodName)) ∈ lw_all := lw_g (lw_at lw_m8 219 rfl) rfl
theorem q1988 : (Jvm.Cond.code ({ cls := "SetupJobShopModel", name := "clearBreakdowns", desc := "(I)I" } : Jvm.MethodName) prog_19_method_23_code (3 : Nat) (Option.some Jvm.ClassFile.FieldType.int)) ∈ lw_all := lw_g (lw_at lw_m8 220 rfl) rfl
theorem q1990 : (Jvm.Cond.instanceMethod ({ cls := "SetupJobShopModel", name := "count", desc := "(I)I" } : Jvm.MethodName)) ∈ lw_all := lw_g (lw_at lw_m8 222 rfl) rfl
theorem q1991 : (Jvm.Cond.selects "SetupJobShopModel" ({ cls := "SetupJobShopModel", name := "count", desc := "(I)I" } : Jvm.MethodName) ({ cls := "SetupJobShopModel", name := "count", desc := "(I)I" } : Jvm.MethodName)) ∈ lw_all := lw_g (lw_at lw_m8 223 rfl) rfl
theorem q1992 : (Jvm.Cond.code ({ cls := "SetupJobShopModel", name := "count", desc := "(I)I" } : Jvm.MethodName) prog_19_method_24_code (2 : Nat) (Option.some Jvm.ClassFile.FieldType.int)) ∈ lw_all := lw_g (lw_at lw_m8 224 rfl) rfl
theorem q1994 : (Jvm.Cond.instanceMethod ({ cls := "SetupJobShopModel", name := "property", desc := "(II)I" } : Jvm.MethodName)) ∈ lw_all := lw_g (lw_at lw_m8 226 rfl) rfl
theorem q1995 : (Jvm.Cond.selects "SetupJobShopModel" ({ cls := "SetupJobShopModel", name := "property", desc := "(II)I" } : Jvm.MethodName) ({ cls := "SetupJobShopModel", name := "property", desc := "(II)I" } : Jvm.MethodName)) ∈ lw_all := lw_g (lw_at lw_m8 227 rfl) rfl
theorem q1996 : (Jvm.Cond.code ({ cls := "SetupJobShopModel", name := "property", desc := "(II)I" } : Jvm.MethodName) prog_19_method_26_code (3 : Nat) (Option.some Jvm.ClassFile.FieldType.int)) ∈ lw_all := lw_g (lw_at lw_m8 228 rfl) rfl
theorem q1997 : (Jvm.Cond.constantLong "SetupJobShopModel" (145 : Nat) (5 : Int64)) ∈ lw_all := lw_g (lw_at lw_m8 229 rfl) rfl
theorem q1998 : (Jvm.Cond.methodLink "SetupJobShopModel" (147 : Nat) ({ cls := "SetupJobShopModel", name := "positionOf", desc := "(I)I" } : Jvm.MethodName)) ∈ lw_all := lw_g (lw_at lw_m8 230 rfl) rfl
theorem q1999 : (Jvm.Cond.privateMethod ({ cls := "SetupJobShopModel", name := "positionOf", desc := "(I)I" } : Jvm.MethodName)) ∈ lw_tbl := lw_at lw_m8 231 rfl
theorem q2000 : (Jvm.Cond.instanceMethod ({ cls := "SetupJobShopModel", name := "positionOf", desc := "(I)I" } : Jvm.MethodName)) ∈ lw_all := lw_g (lw_at lw_m8 232 rfl) rfl
theorem q2001 : (Jvm.Cond.code ({ cls := "SetupJobShopModel", name := "positionOf", desc := "(I)I" } : Jvm.MethodName) prog_19_method_25_code (4 : Nat) (Option.some Jvm.ClassFile.FieldType.int)) ∈ lw_all := lw_g (lw_at lw_m8 233 rfl) rfl
theorem q2002 : (Jvm.Cond.methodLink "SetupJobShopModel" (142 : Nat) ({ cls := "SetupJobShopModel", name := "ordered", desc := "(II)I" } : Jvm.MethodName)) ∈ lw_all := lw_g (lw_at lw_m8 234 rfl) rfl
theorem q2003 : (Jvm.Cond.privateMethod ({ cls := "SetupJobShopModel", name := "ordered", desc := "(II)I" } : Jvm.MethodName)) ∈ lw_tbl := lw_at lw_m8 235 rfl
theorem q2004 : (Jvm.Cond.instanceMethod ({ cls := "SetupJobShopModel", name := "ordered", desc := "(II)I" } : Jvm.MethodName)) ∈ lw_all := lw_g (lw_at lw_m8 236 rfl) rfl
theorem q2005 : (Jvm.Cond.code ({ cls := "SetupJobShopModel", name := "ordered", desc := "(II)I" } : Jvm.MethodName) prog_19_method_7_code (3 : Nat) (Option.some Jvm.ClassFile.FieldType.int)) ∈ lw_all := lw_g (lw_at lw_m8 237 rfl) rfl
theorem q2007 : (Jvm.Cond.instanceMethod ({ cls := "SetupJobShopModel", name := "order", desc := "(II)I" } : Jvm.MethodName)) ∈ lw_all := lw_g (lw_at lw_m8 239 rfl) rfl
theorem q2008 : (Jvm.Cond.selects "SetupJobShopModel" ({ cls := "SetupJobShopModel", name := "order", desc := "(II)I" } : Jvm.MethodName) ({ cls := "SetupJobShopModel", name := "order", desc := "(II)I" } : Jvm.MethodName)) ∈ lw_all := lw_g (lw_at lw_m9 0 rfl) rfl
theorem q2009 : (Jvm.Cond.code ({ cls := "SetupJobShopModel", name := "order", desc := "(II)I" } : Jvm.MethodName) prog_19_method_27_code (3 : Nat) (Option.some Jvm.ClassFile.FieldType.int)) ∈ lw_all := lw_g (lw_at lw_m9 1 rfl) rfl
theorem q2011 : (Jvm.Cond.instanceMethod ({ cls := "SetupJobShopModel", name := "time", desc := "(II)I" } : Jvm.MethodName)) ∈ lw_all := lw_g (lw_at lw_m9 3 rfl) rfl
theorem q2012 : (Jvm.Cond.selects "SetupJobShopModel" ({ cls := "SetupJobShopModel", name := "time", desc := "(II)I" } : Jvm.MethodName) ({ cls := "SetupJobShopModel", name := "time", desc := "(II)I" } : Jvm.MethodName)) ∈ lw_all := lw_g (lw_at lw_m9 4 rfl) rfl
theorem q2013 : (Jvm.Cond.code ({ cls := "SetupJobShopModel", name := "time", desc := "(II)I" } : Jvm.MethodName) prog_19_method_37_code (4 : Nat) (Option.some Jvm.ClassFile.FieldType.int)) ∈ lw_all := lw_g (lw_at lw_m9 5 rfl) rfl
theorem q2014 : (Jvm.Cond.methodLink "SetupJobShopModel" (181 : Nat) ({ cls := "SetupJobShopModel", name := "findTimes", desc := "()I" } : Jvm.MethodName)) ∈ lw_all := lw_g (lw_at lw_m9 6 rfl) rfl
theorem q2015 : (Jvm.Cond.privateMethod ({ cls := "SetupJobShopModel", name := "findTimes", desc := "()I" } : Jvm.MethodName)) ∈ lw_tbl := lw_at lw_m9 7 rfl
theorem q2016 : (Jvm.Cond.instanceMethod ({ cls := "SetupJobShopModel", name := "findTimes", desc := "()I" } : Jvm.MethodName)) ∈ lw_all := lw_g (lw_at lw_m9 8 rfl) rfl
theorem q2017 : (Jvm.Cond.code ({ cls := "SetupJobShopModel", name := "findTimes", desc := "()I" } : Jvm.MethodName) prog_19_method_33_code (5 : Nat) (Option.some Jvm.ClassFile.FieldType.int)) ∈ lw_all := lw_g (lw_at lw_m9 9 rfl) rfl
theorem q2018 : (Jvm.Cond.methodLink "SetupJobShopModel" (151 : Nat) ({ cls := "SetupJobShopModel", name := "before", desc := "(I)I" } : Jvm.MethodName)) ∈ lw_all := lw_g (lw_at lw_m9 10 rfl) rfl
theorem q2019 : (Jvm.Cond.privateMethod ({ cls := "SetupJobShopModel", name := "before", desc := "(I)I" } : Jvm.MethodName)) ∈ lw_tbl := lw_at lw_m9 11 rfl
theorem q2020 : (Jvm.Cond.instanceMethod ({ cls := "SetupJobShopModel", name := "before", desc := "(I)I" } : Jvm.MethodName)) ∈ lw_all := lw_g (lw_at lw_m9 12 rfl) rfl
theorem q2021 : (Jvm.Cond.code ({ cls := "SetupJobShopModel", name := "before", desc := "(I)I" } : Jvm.MethodName) prog_19_method_30_code (3 : Nat) (Option.some Jvm.ClassFile.FieldType.int)) ∈ lw_all := lw_g (lw_at lw_m9 13 rfl) rfl
theorem q2022 : (Jvm.Cond.methodLink "SetupJobShopModel" (154 : Nat) ({ cls := "SetupJobShopModel", name := "isKnown", desc := "(I)Z" } : Jvm.MethodName)) ∈ lw_all := lw_g (lw_at lw_m9 14 rfl) rfl
theorem q2023 : (Jvm.Cond.privateMethod ({ cls := "SetupJobShopModel", name := "isKnown", desc := "(I)Z" } : Jvm.MethodName)) ∈ lw_tbl := lw_at lw_m9 15 rfl
theorem q2024 : (Jvm.Cond.instanceMethod ({ cls := "SetupJobShopModel", name := "isKnown", desc := "(I)Z" } : Jvm.MethodName)) ∈ lw_all := lw_g (lw_at lw_m9 16 rfl) rfl
theorem q2025 : (Jvm.Cond.code ({ cls := "SetupJobShopModel", name := "isKnown", desc := "(I)Z" } : Jvm.MethodName) prog_19_method_32_code (2 : Nat) (Option.some Jvm.ClassFile.FieldType.boolean)) ∈ lw_all := lw_g (lw_at lw_m9 17 rfl) rfl
theorem q2026 : (Jvm.Cond.methodLink "SetupJobShopModel" (157 : Nat) ({ cls := "SetupJobShopModel", name := "ahead", desc := "(I)I" } : Jvm.MethodName)) ∈ lw_all := lw_g (lw_at lw_m9 18 rfl) rfl
theorem q2027 : (Jvm.Cond.privateMethod ({ cls := "SetupJobShopModel", name := "ahead", desc := "(I)I" } : Jvm.MethodName)) ∈ lw_tbl := lw_at lw_m9 19 rfl
theorem q2028 : (Jvm.Cond.instanceMethod ({ cls := "SetupJobShopModel", name := "ahead", desc := "(I)I" } : Jvm.MethodName)) ∈ lw_all := lw_g (lw_at lw_m9 20 rfl) rfl
theorem q2029 : (Jvm.Cond.code ({ cls := "SetupJobShopModel", name := "ahead", desc := "(I)I" } : Jvm.MethodName) prog_19_method_31_code (4 : Nat) (Option.some Jvm.ClassFile.FieldType.int)) ∈ lw_all := lw_g (lw_at lw_m9 21 rfl) rfl
theorem q2030 : (Jvm.Cond.methodLink "SetupJobShopModel" (160 : Nat) ({ cls := "SetupJobShopModel", name := "findTime", desc := "(I)V" } : Jvm.MethodName)) ∈ lw_all := lw_g (lw_at lw_m9 22 rfl) rfl
theorem q2031 : (Jvm.Cond.privateMethod ({ cls := "SetupJobShopModel", name := "findTime", desc := "(I)V" } : Jvm.MethodName)) ∈ lw_tbl := lw_at lw_m9 23 rfl
theorem q2032 : (Jvm.Cond.instanceMethod ({ cls := "SetupJobShopModel", name := "findTime", desc := "(I)V" } : Jvm.MethodName)) ∈ lw_all := lw_g (lw_at lw_m9 24 rfl) rfl
theorem q2033 : (Jvm.Cond.code ({ cls := "SetupJobShopModel", name := "findTime", desc := "(I)V" } : Jvm.MethodName) prog_19_method_34_code (5 : Nat) (Option.none : Option Jvm.ClassFile.FieldType)) ∈ lw_all := lw_g (lw_at lw_m9 25 rfl) rfl
theorem q2034 : (Jvm.Cond.methodLink "SetupJobShopModel" (164 : Nat) ({ cls := "SetupJobShopModel", name := "endOf", desc := "(I)I" } : Jvm.MethodName)) ∈ lw_all := lw_g (lw_at lw_m9 26 rfl) rfl
theorem q2035 : (Jvm.Cond.privateMethod ({ cls := "SetupJobShopModel", name := "endOf", desc := "(I)I" } : Jvm.MethodName)) ∈ lw_tbl := lw_at lw_m9 27 rfl
theorem q2036 : (Jvm.Cond.instanceMethod ({ cls := "SetupJobShopModel", name := "endOf", desc := "(I)I" } : Jvm.MethodName)) ∈ lw_all := lw_g (lw_at lw_m9 28 rfl) rfl
theorem q2037 : (Jvm.Cond.code ({ cls := "SetupJobShopModel", name := "endOf", desc := "(I)I" } : Jvm.MethodName) prog_19_method_28_code (2 : Nat) (Option.some Jvm.ClassFile.FieldType.int)) ∈ lw_all := lw_g (lw_at lw_m9 29 rfl) rfl
theorem q2038 : (Jvm.Cond.methodLink "SetupJobShopModel" (167 : Nat) ({ cls := "java/lang/Math", name := "max", desc := "(II)I" } : Jvm.MethodName)) ∈ lw_all := lw_g (lw_at lw_m9 30 rfl) rfl
theorem q2039 : (Jvm.Cond.methodLink "SetupJobShopModel" (172 : Nat) ({ cls := "SetupJobShopModel", name := "setup", desc := "(II)I" } : Jvm.MethodName)) ∈ lw_all := lw_g (lw_at lw_m9 31 rfl) rfl
theorem q2040 : (Jvm.Cond.privateMethod ({ cls := "SetupJobShopModel", name := "setup", desc := "(II)I" } : Jvm.MethodName)) ∈ lw_tbl := lw_at lw_m9 32 rfl
theorem q2041 : (Jvm.Cond.instanceMethod ({ cls := "SetupJobShopModel", name := "setup", desc := "(II)I" } : Jvm.MethodName)) ∈ lw_all := lw_g (lw_at lw_m9 33 rfl) rfl
theorem q2042 : (Jvm.Cond.code ({ cls := "SetupJobShopModel", name := "setup", desc := "(II)I" } : Jvm.MethodName) prog_19_method_10_code (3 : Nat) (Option.some Jvm.ClassFile.FieldType.int)) ∈ lw_all := lw_g (lw_at lw_m9 34 rfl) rfl
theorem q2043 : (Jvm.Cond.methodLink "SetupJobShopModel" (178 : Nat) ({ cls := "SetupJobShopModel", name := "free", desc := "(III)I" } : Jvm.MethodName)) ∈ lw_all := lw_g (lw_at lw_m9 35 rfl) rfl
theorem q2044 : (Jvm.Cond.privateMethod ({ cls := "SetupJobShopModel", name := "free", desc := "(III)I" } : Jvm.MethodName)) ∈ lw_tbl := lw_at lw_m9 36 rfl
theorem q2045 : (Jvm.Cond.instanceMethod ({ cls := "SetupJobShopModel", name := "free", desc := "(III)I" } : Jvm.MethodName)) ∈ lw_all := lw_g (lw_at lw_m9 37 rfl) rfl
theorem q2046 : (Jvm.Cond.code ({ cls := "SetupJobShopModel", name := "free", desc := "(III)I" } : Jvm.MethodName) prog_19_method_29_code (9 : Nat) (Option.some Jvm.ClassFile.FieldType.int)) ∈ lw_all := lw_g (lw_at lw_m9 38 rfl) rfl
theorem q2048 : (Jvm.Cond.instanceMethod ({ cls := "SetupJobShopModel", name := "makespan", desc := "()I" } : Jvm.MethodName)) ∈ lw_all := lw_g (lw_at lw_m9 40 rfl) rfl
theorem q2049 : (Jvm.Cond.selects "SetupJobShopModel" ({ cls := "SetupJobShopModel", name := "makespan", desc := "()I" } : Jvm.MethodName) ({ cls := "SetupJobShopModel", name := "makespan", desc := "()I" } : Jvm.MethodName)) ∈ lw_all := lw_g (lw_at lw_m9 41 rfl) rfl
theorem q2050 : (Jvm.Cond.code ({ cls := "SetupJobShopModel", name := "makespan", desc := "()I" } : Jvm.MethodName) prog_19_method_38_code (1 : Nat) (Option.some Jvm.ClassFile.FieldType.int)) ∈ lw_all := lw_g (lw_at lw_m9 42 rfl) rfl
theorem q2051 : (Jvm.Cond.methodLink "SetupJobShopModel" (188 : Nat) ({ cls := "SetupJobShopModel", name := "makespanNow", desc := "()I" } : Jvm.MethodName)) ∈ lw_all := lw_g (lw_at lw_m9 43 rfl) rfl
theorem q2052 : (Jvm.Cond.privateMethod ({ cls := "SetupJobShopModel", name := "makespanNow", desc := "()I" } : Jvm.MethodName)) ∈ lw_tbl := lw_at lw_m9 44 rfl
theorem q2053 : (Jvm.Cond.instanceMethod ({ cls := "SetupJobShopModel", name := "makespanNow", desc := "()I" } : Jvm.MethodName)) ∈ lw_all := lw_g (lw_at lw_m9 45 rfl) rfl
theorem q2054 : (Jvm.Cond.code ({ cls := "SetupJobShopModel", name := "makespanNow", desc := "()I" } : Jvm.MethodName) prog_19_method_36_code (1 : Nat) (Option.some Jvm.ClassFile.FieldType.int)) ∈ lw_all := lw_g (lw_at lw_m9 46 rfl) rfl
theorem q2055 : (Jvm.Cond.methodLink "SetupJobShopModel" (185 : Nat) ({ cls := "SetupJobShopModel", name := "greatestEnd", desc := "()I" } : Jvm.MethodName)) ∈ lw_all := lw_g (lw_at lw_m9 47 rfl) rfl
theorem q2056 : (Jvm.Cond.privateMethod ({ cls := "SetupJobShopModel", name := "greatestEnd", desc := "()I" } : Jvm.MethodName)) ∈ lw_tbl := lw_at lw_m9 48 rfl
theorem q2057 : (Jvm.Cond.instanceMethod ({ cls := "SetupJobShopModel", name := "greatestEnd", desc := "()I" } : Jvm.MethodName)) ∈ lw_all := lw_g (lw_at lw_m9 49 rfl) rfl
theorem q2058 : (Jvm.Cond.code ({ cls := "SetupJobShopModel", name := "greatestEnd", desc := "()I" } : Jvm.MethodName) prog_19_method_35_code (3 : Nat) (Option.some Jvm.ClassFile.FieldType.int)) ∈ lw_all := lw_g (lw_at lw_m9 50 rfl) rfl
theorem q2060 : (Jvm.Cond.instanceMethod ({ cls := "SetupJobShopModel", name := "slack", desc := "(I)I" } : Jvm.MethodName)) ∈ lw_all := lw_g (lw_at lw_m9 52 rfl) rfl
theorem q2061 : (Jvm.Cond.selects "SetupJobShopModel" ({ cls := "SetupJobShopModel", name := "slack", desc := "(I)I" } : Jvm.MethodName) ({ cls := "SetupJobShopModel", name := "slack", desc := "(I)I" } : Jvm.MethodName)) ∈ lw_all := lw_g (lw_at lw_m9 53 rfl) rfl
theorem q2062 : (Jvm.Cond.code ({ cls := "SetupJobShopModel", name := "slack", desc := "(I)I" } : Jvm.MethodName) prog_19_method_39_code (6 : Nat) (Option.some Jvm.ClassFile.FieldType.int)) ∈ lw_all := lw_g (lw_at lw_m9 54 rfl) rfl
theorem q2064 : (Jvm.Cond.instanceMethod ({ cls := "SetupJobShopModel", name := "completion", desc := "(I)I" } : Jvm.MethodName)) ∈ lw_all := lw_g (lw_at lw_m9 56 rfl) rfl
theorem q2065 : (Jvm.Cond.selects "SetupJobShopModel" ({ cls := "SetupJobShopModel", name := "completion", desc := "(I)I" } : Jvm.MethodName) ({ cls := "SetupJobShopModel", name := "completion", desc := "(I)I" } : Jvm.MethodName)) ∈ lw_all := lw_g (lw_at lw_m9 57 rfl) rfl
theorem q2066 : (Jvm.Cond.code ({ cls := "SetupJobShopModel", name := "completion", desc := "(I)I" } : Jvm.MethodName) prog_19_method_41_code (3 : Nat) (Option.some Jvm.ClassFile.FieldType.int)) ∈ lw_all := lw_g (lw_at lw_m9 58 rfl) rfl
theorem q2067 : (Jvm.Cond.methodLink "SetupJobShopModel" (191 : Nat) ({ cls := "SetupJobShopModel", name := "completionOf", desc := "(I)I" } : Jvm.MethodName)) ∈ lw_all := lw_g (lw_at lw_m9 59 rfl) rfl
theorem q2068 : (Jvm.Cond.privateMethod ({ cls := "SetupJobShopModel", name := "completionOf", desc := "(I)I" } : Jvm.MethodName)) ∈ lw_tbl := lw_at lw_m9 60 rfl
theorem q2069 : (Jvm.Cond.instanceMethod ({ cls := "SetupJobShopModel", name := "completionOf", desc := "(I)I" } : Jvm.MethodName)) ∈ lw_all := lw_g (lw_at lw_m9 61 rfl) rfl
theorem q2070 : (Jvm.Cond.code ({ cls := "SetupJobShopModel", name := "completionOf", desc := "(I)I" } : Jvm.MethodName) prog_19_method_40_code (3 : Nat) (Option.some Jvm.ClassFile.FieldType.int)) ∈ lw_all := lw_g (lw_at lw_m9 62 rfl) rfl
theorem q2072 : (Jvm.Cond.instanceMethod ({ cls := "SetupJobShopModel", name := "objective", desc := "(I)I" } : Jvm.MethodName)) ∈ lw_all := lw_g (lw_at lw_m9 64 rfl) rfl
theorem q2073 : (Jvm.Cond.selects "SetupJobShopModel" ({ cls := "SetupJobShopModel", name := "objective", desc := "(I)I" } : Jvm.MethodName) ({ cls := "SetupJobShopModel", name := "objective", desc := "(I)I" } : Jvm.MethodName)) ∈ lw_all := lw_g (lw_at lw_m9 65 rfl) rfl
theorem q2074 : (Jvm.Cond.code ({ cls := "SetupJobShopModel", name := "objective", desc := "(I)I" } : Jvm.MethodName) prog_19_method_43_code (6 : Nat) (Option.some Jvm.ClassFile.FieldType.int)) ∈ lw_all := lw_g (lw_at lw_m9 66 rfl) rfl
theorem q2075 : (Jvm.Cond.constantLong "SetupJobShopModel" (194 : Nat) (4 : Int64)) ∈ lw_all := lw_g (lw_at lw_m9 67 rfl) rfl
theorem q2076 : (Jvm.Cond.methodLink "SetupJobShopModel" (196 : Nat) ({ cls := "SetupJobShopModel", name := "setupSum", desc := "()I" } : Jvm.MethodName)) ∈ lw_all := lw_g (lw_at lw_m9 68 rfl) rfl
theorem q2077 : (Jvm.Cond.privateMethod ({ cls := "SetupJobShopModel", name := "setupSum", desc := "()I" } : Jvm.MethodName)) ∈ lw_tbl := lw_at lw_m9 69 rfl
theorem q2078 : (Jvm.Cond.instanceMethod ({ cls := "SetupJobShopModel", name := "setupSum", desc := "()I" } : Jvm.MethodName)) ∈ lw_all := lw_g (lw_at lw_m9 70 rfl) rfl
theorem q2079 : (Jvm.Cond.code ({ cls := "SetupJobShopModel", name := "setupSum", desc := "()I" } : Jvm.MethodName) prog_19_method_42_code (4 : Nat) (Option.some Jvm.ClassFile.FieldType.int)) ∈ lw_all := lw_g (lw_at lw_m9 71 rfl) rfl
theorem q2081 : (Jvm.Cond.instanceMethod ({ cls := "SetupJobShopModel", name := "utilization", desc := "(I)D" } : Jvm.MethodName)) ∈ lw_all := lw_g (lw_at lw_m9 73 rfl) rfl
theorem q2082 : (Jvm.Cond.selects "SetupJobShopModel" ({ cls := "SetupJobShopModel", name := "utilization", desc := "(I)D" } : Jvm.MethodName) ({ cls := "SetupJobShopModel", name := "utilization", desc := "(I)D" } : Jvm.MethodName)) ∈ lw_all := lw_g (lw_at lw_m9 74 rfl) rfl
theorem q2083 : (Jvm.Cond.code ({ cls := "SetupJobShopModel", name := "utilization", desc := "(I)D" } : Jvm.MethodName) prog_19_method_44_code (4 : Nat) (Option.some Jvm.ClassFile.FieldType.double)) ∈ lw_all := lw_g (lw_at lw_m9 75 rfl) rfl
theorem q2085 : (Jvm.Cond.instanceMethod ({ cls := "SetupJobShopModel", name := "pathLength", desc := "()I" } : Jvm.MethodName)) ∈ lw_all := lw_g (lw_at lw_m9 77 rfl) rfl
theorem q2086 : (Jvm.Cond.selects "SetupJobShopModel" ({ cls := "SetupJobShopModel", name := "pathLength", desc := "()I" } : Jvm.MethodName) ({ cls := "SetupJobShopModel", name := "pathLength", desc := "()I" } : Jvm.MethodName)) ∈ lw_all := lw_g (lw_at lw_m9 78 rfl) rfl
theorem q2087 : (Jvm.Cond.code ({ cls := "SetupJobShopModel", name := "pathLength", desc := "()I" } : Jvm.MethodName) prog_19_method_47_code (1 : Nat) (Option.some Jvm.ClassFile.FieldType.int)) ∈ lw_all := lw_g (lw_at lw_m9 79 rfl) rfl
theorem q2088 : (Jvm.Cond.methodLink "SetupJobShopModel" (202 : Nat) ({ cls := "SetupJobShopModel", name := "findPath", desc := "()V" } : Jvm.MethodName)) ∈ lw_all := lw_g (lw_at lw_m9 80 rfl) rfl
theorem q2089 : (Jvm.Cond.privateMethod ({ cls := "SetupJobShopModel", name := "findPath", desc := "()V" } : Jvm.MethodName)) ∈ lw_tbl := lw_at lw_m9 81 rfl
theorem q2090 : (Jvm.Cond.instanceMethod ({ cls := "SetupJobShopModel", name := "findPath", desc := "()V" } : Jvm.MethodName)) ∈ lw_all := lw_g (lw_at lw_m9 82 rfl) rfl
theorem q2091 : (Jvm.Cond.code ({ cls := "SetupJobShopModel", name := "findPath", desc := "()V" } : Jvm.MethodName) prog_19_method_45_code (5 : Nat) (Option.none : Option Jvm.ClassFile.FieldType)) ∈ lw_all := lw_g (lw_at lw_m9 83 rfl) rfl
theorem q2093 : (Jvm.Cond.instanceMethod ({ cls := "SetupJobShopModel", name := "path", desc := "(I)I" } : Jvm.MethodName)) ∈ lw_all := lw_g (lw_at lw_m9 85 rfl) rfl
theorem q2094 : (Jvm.Cond.selects "SetupJobShopModel" ({ cls := "SetupJobShopModel", name := "path", desc := "(I)I" } : Jvm.MethodName) ({ cls := "SetupJobShopModel", name := "path", desc := "(I)I" } : Jvm.MethodName)) ∈ lw_all := lw_g (lw_at lw_m9 86 rfl) rfl
theorem q2095 : (Jvm.Cond.code ({ cls := "SetupJobShopModel", name := "path", desc := "(I)I" } : Jvm.MethodName) prog_19_method_48_code (2 : Nat) (Option.some Jvm.ClassFile.FieldType.int)) ∈ lw_all := lw_g (lw_at lw_m9 87 rfl) rfl
theorem q2096 : (Jvm.Cond.methodLink "SetupJobShopModel" (205 : Nat) ({ cls := "SetupJobShopModel", name := "onPath", desc := "(I)I" } : Jvm.MethodName)) ∈ lw_all := lw_g (lw_at lw_m9 88 rfl) rfl
theorem q2097 : (Jvm.Cond.privateMethod ({ cls := "SetupJobShopModel", name := "onPath", desc := "(I)I" } : Jvm.MethodName)) ∈ lw_tbl := lw_at lw_m9 89 rfl
theorem q2098 : (Jvm.Cond.instanceMethod ({ cls := "SetupJobShopModel", name := "onPath", desc := "(I)I" } : Jvm.MethodName)) ∈ lw_all := lw_g (lw_at lw_m9 90 rfl) rfl
theorem q2099 : (Jvm.Cond.code ({ cls := "SetupJobShopModel", name := "onPath", desc := "(I)I" } : Jvm.MethodName) prog_19_method_46_code (2 : Nat) (Option.some Jvm.ClassFile.FieldType.int)) ∈ lw_all := lw_g (lw_at lw_m9 91 rfl) rfl
theorem q2101 : (Jvm.Cond.instanceMethod ({ cls := "SetupJobShopModel", name := "blocks", desc := "()I" } : Jvm.MethodName)) ∈ lw_all := lw_g (lw_at lw_m9 93 rfl) rfl
theorem q2102 : (Jvm.Cond.selects "SetupJobShopModel" ({ cls := "SetupJobShopModel", name := "blocks", desc := "()I" } : Jvm.MethodName) ({ cls := "SetupJobShopModel", name := "blocks", desc := "()I" } : Jvm.MethodName)) ∈ lw_all := lw_g (lw_at lw_m9 94 rfl) rfl
theorem q2103 : (Jvm.Cond.code ({ cls := "SetupJobShopModel", name := "blocks", desc := "()I" } : Jvm.MethodName) prog_19_method_51_code (1 : Nat) (Option.some Jvm.ClassFile.FieldType.int)) ∈ lw_all := lw_g (lw_at lw_m9 95 rfl) rfl
theorem q2104 : (Jvm.Cond.methodLink "SetupJobShopModel" (211 : Nat) ({ cls := "SetupJobShopModel", name := "blockMany", desc := "()I" } : Jvm.MethodName)) ∈ lw_all := lw_g (lw_at lw_m9 96 rfl) rfl
theorem q2105 : (Jvm.Cond.privateMethod ({ cls := "SetupJobShopModel", name := "blockMany", desc := "()I" } : Jvm.MethodName)) ∈ lw_tbl := lw_at lw_m9 97 rfl
theorem q2106 : (Jvm.Cond.instanceMethod ({ cls := "SetupJobShopModel", name := "blockMany", desc := "()I" } : Jvm.MethodName)) ∈ lw_all := lw_g (lw_at lw_m9 98 rfl) rfl
theorem q2107 : (Jvm.Cond.code ({ cls := "SetupJobShopModel", name := "blockMany", desc := "()I" } : Jvm.MethodName) prog_19_method_50_code (3 : Nat) (Option.some Jvm.ClassFile.FieldType.int)) ∈ lw_all := lw_g (lw_at lw_m9 99 rfl) rfl
theorem q2108 : (Jvm.Cond.methodLink "SetupJobShopModel" (208 : Nat) ({ cls := "SetupJobShopModel", name := "beginsBlock", desc := "(I)Z" } : Jvm.MethodName)) ∈ lw_all := lw_g (lw_at lw_m9 100 rfl) rfl
theorem q2109 : (Jvm.Cond.privateMethod ({ cls := "SetupJobShopModel", name := "beginsBlock", desc := "(I)Z" } : Jvm.MethodName)) ∈ lw_tbl := lw_at lw_m9 101 rfl
theorem q2110 : (Jvm.Cond.instanceMethod ({ cls := "SetupJobShopModel", name := "beginsBlock", desc := "(I)Z" } : Jvm.MethodName)) ∈ lw_all := lw_g (lw_at lw_m9 102 rfl) rfl
theorem q2111 : (Jvm.Cond.code ({ cls := "SetupJobShopModel", name := "beginsBlock", desc := "(I)Z" } : Jvm.MethodName) prog_19_method_49_code (2 : Nat) (Option.some Jvm.ClassFile.FieldType.boolean)) ∈ lw_all := lw_g (lw_at lw_m9 103 rfl) rfl
theorem q2113 : (Jvm.Cond.instanceMethod ({ cls := "SetupJobShopModel", name := "blockLength", desc := "(I)I" } : Jvm.MethodName)) ∈ lw_all := lw_g (lw_at lw_m9 105 rfl) rfl
theorem q2114 : (Jvm.Cond.selects "SetupJobShopModel" ({ cls := "SetupJobShopModel", name := "blockLength", desc := "(I)I" } : Jvm.MethodName) ({ cls := "SetupJobShopModel", name := "blockLength", desc := "(I)I" } : Jvm.MethodName)) ∈ lw_all := lw_g (lw_at lw_m9 106 rfl) rfl
theorem q2115 : (Jvm.Cond.code ({ cls := "SetupJobShopModel", name := "blockLength", desc := "(I)I" } : Jvm.MethodName) prog_19_method_52_code (5 : Nat) (Option.some Jvm.ClassFile.FieldType.int)) ∈ lw_all := lw_g (lw_at lw_m9 107 rfl) rfl
theorem q2117 : (Jvm.Cond.instanceMethod ({ cls := "SetupJobShopModel", name := "failure", desc := "(I)I" } : Jvm.MethodName)) ∈ lw_all := lw_g (lw_at lw_m9 109 rfl) rfl
theorem q2118 : (Jvm.Cond.selects "SetupJobShopModel" ({ cls := "SetupJobShopModel", name := "failure", desc := "(I)I" } : Jvm.MethodName) ({ cls := "SetupJobShopModel", name := "failure", desc := "(I)I" } : Jvm.MethodName)) ∈ lw_all := lw_g (lw_at lw_m9 110 rfl) rfl
theorem q2119 : (Jvm.Cond.code ({ cls := "SetupJobShopModel", name := "failure", desc := "(I)I" } : Jvm.MethodName) prog_19_method_54_code (2 : Nat) (Option.some Jvm.ClassFile.FieldType.int)) ∈ lw_all := lw_g (lw_at lw_m9 111 rfl) rfl
theorem q2121 : (Jvm.Cond.instanceMethod ({ cls := "SetupJobShopModel", name := "swap", desc := "(II)I" } : Jvm.MethodName)) ∈ lw_all := lw_g (lw_at lw_m9 113 rfl) rfl
theorem q2122 : (Jvm.Cond.selects "SetupJobShopModel" ({ cls := "SetupJobShopModel", name := "swap", desc := "(II)I" } : Jvm.MethodName) ({ cls := "SetupJobShopModel", name := "swap", desc := "(II)I" } : Jvm.MethodName)) ∈ lw_all := lw_g (lw_at lw_m9 114 rfl) rfl
theorem q2123 : (Jvm.Cond.code ({ cls := "SetupJobShopModel", name := "swap", desc := "(II)I" } : Jvm.MethodName) prog_19_method_57_code (3 : Nat) (Option.some Jvm.ClassFile.FieldType.int)) ∈ lw_all := lw_g (lw_at lw_m9 115 rfl) rfl
theorem q2124 : (Jvm.Cond.methodLink "SetupJobShopModel" (221 : Nat) ({ cls := "SetupJobShopModel", name := "exchange", desc := "(II)V" } : Jvm.MethodName)) ∈ lw_all := lw_g (lw_at lw_m9 116 rfl) rfl
theorem q2125 : (Jvm.Cond.privateMethod ({ cls := "SetupJobShopModel", name := "exchange", desc := "(II)V" } : Jvm.MethodName)) ∈ lw_tbl := lw_at lw_m9 117 rfl
theorem q2126 : (Jvm.Cond.instanceMethod ({ cls := "SetupJobShopModel", name := "exchange", desc := "(II)V" } : Jvm.MethodName)) ∈ lw_all := lw_g (lw_at lw_m9 118 rfl) rfl
theorem q2127 : (Jvm.Cond.code ({ cls := "SetupJobShopModel", name := "exchange", desc := "(II)V" } : Jvm.MethodName) prog_19_method_55_code (4 : Nat) (Option.none : Option Jvm.ClassFile.FieldType)) ∈ lw_all := lw_g (lw_at lw_m9 119 rfl) rfl
theorem q2128 : (Jvm.Cond.methodLink "SetupJobShopModel" (225 : Nat) ({ cls := "SetupJobShopModel", name := "failsByCycle", desc := "()Z" } : Jvm.MethodName)) ∈ lw_all := lw_g (lw_at lw_m9 120 rfl) rfl
theorem q2129 : (Jvm.Cond.privateMethod ({ cls := "SetupJobShopModel", name := "failsByCycle", desc := "()Z" } : Jvm.MethodName)) ∈ lw_tbl := lw_at lw_m9 121 rfl
theorem q2130 : (Jvm.Cond.instanceMethod ({ cls := "SetupJobShopModel", name := "failsByCycle", desc := "()Z" } : Jvm.MethodName)) ∈ lw_all := lw_g (lw_at lw_m9 122 rfl) rfl
theorem q2131 : (Jvm.Cond.code ({ cls := "SetupJobShopModel", name := "failsByCycle", desc := "()Z" } : Jvm.MethodName) prog_19_method_56_code (3 : Nat) (Option.some Jvm.ClassFile.FieldType.boolean)) ∈ lw_all := lw_g (lw_at lw_m9 123 rfl) rfl
theorem q2132 : (Jvm.Cond.methodLink "SetupJobShopModel" (217 : Nat) ({ cls := "SetupJobShopModel", name := "fail", desc := "(IIIII)V" } : Jvm.MethodName)) ∈ lw_all := lw_g (lw_at lw_m9 124 rfl) rfl
theorem q2133 : (Jvm.Cond.privateMethod ({ cls := "SetupJobShopModel", name := "fail", desc := "(IIIII)V" } : Jvm.MethodName)) ∈ lw_tbl := lw_at lw_m9 125 rfl
theorem q2134 : (Jvm.Cond.instanceMethod ({ cls := "SetupJobShopModel", name := "fail", desc := "(IIIII)V" } : Jvm.MethodName)) ∈ lw_all := lw_g (lw_at lw_m9 126 rfl) rfl
theorem q2135 : (Jvm.Cond.code ({ cls := "SetupJobShopModel", name := "fail", desc := "(IIIII)V" } : Jvm.MethodName) prog_19_method_53_code (6 : Nat) (Option.none : Option Jvm.ClassFile.FieldType)) ∈ lw_all := lw_g (lw_at lw_m9 127 rfl) rfl
theorem q2137 : (Jvm.Cond.instanceMethod ({ cls := "SetupJobShopModel", name := "move", desc := "(II)I" } : Jvm.MethodName)) ∈ lw_all := lw_g (lw_at lw_m9 129 rfl) rfl
theorem q2138 : (Jvm.Cond.selects "SetupJobShopModel" ({ cls := "SetupJobShopModel", name := "move", desc := "(II)I" } : Jvm.MethodName) ({ cls := "SetupJobShopModel", name := "move", desc := "(II)I" } : Jvm.MethodName)) ∈ lw_all := lw_g (lw_at lw_m9 130 rfl) rfl
theorem q2139 : (Jvm.Cond.code ({ cls := "SetupJobShopModel", name := "move", desc := "(II)I" } : Jvm.MethodName) prog_19_method_59_code (5 : Nat) (Option.some Jvm.ClassFile.FieldType.int)) ∈ lw_all := lw_g (lw_at lw_m9 131 rfl) rfl
theorem q2140 : (Jvm.Cond.methodLink "SetupJobShopModel" (229 : Nat) ({ cls := "SetupJobShopModel", name := "shift", desc := "(III)V" } : Jvm.MethodName)) ∈ lw_all := lw_g (lw_at lw_m9 132 rfl) rfl
theorem q2141 : (Jvm.Cond.privateMethod ({ cls := "SetupJobShopModel", name := "shift", desc := "(III)V" } : Jvm.MethodName)) ∈ lw_tbl := lw_at lw_m9 133 rfl
theorem q2142 : (Jvm.Cond.instanceMethod ({ cls := "SetupJobShopModel", name := "shift", desc := "(III)V" } : Jvm.MethodName)) ∈ lw_all := lw_g (lw_at lw_m9 134 rfl) rfl
theorem q2143 : (Jvm.Cond.code ({ cls := "SetupJobShopModel", name := "shift", desc := "(III)V" } : Jvm.MethodName) prog_19_method_58_code (5 : Nat) (Option.none : Option Jvm.ClassFile.FieldType)) ∈ lw_all := lw_g (lw_at lw_m9 135 rfl) rfl
theorem q2145 : (Jvm.Cond.instanceMethod ({ cls := "SetupJobShopModel", name := "dispatch", desc := "(I)I" } : Jvm.MethodName)) ∈ lw_all := lw_g (lw_at lw_m9 137 rfl) rfl
theorem q2146 : (Jvm.Cond.selects "SetupJobShopModel" ({ cls := "SetupJobShopModel", name := "dispatch", desc := "(I)I" } : Jvm.MethodName) ({ cls := "SetupJobShopModel", name := "dispatch", desc := "(I)I" } : Jvm.MethodName)) ∈ lw_all := lw_g (lw_at lw_m9 138 rfl) rfl
theorem q2147 : (Jvm.Cond.code ({ cls := "SetupJobShopModel", name := "dispatch", desc := "(I)I" } : Jvm.MethodName) prog_19_method_64_code (3 : Nat) (Option.some Jvm.ClassFile.FieldType.int)) ∈ lw_all := lw_g (lw_at lw_m9 139 rfl) rfl
theorem q2148 : (Jvm.Cond.methodLink "SetupJobShopModel" (241 : Nat) ({ cls := "SetupJobShopModel", name := "build", desc := "(II)V" } : Jvm.MethodName)) ∈ lw_all := lw_g (lw_at lw_m9 140 rfl) rfl
theorem q2149 : (Jvm.Cond.privateMethod ({ cls := "SetupJobShopModel", name := "build", desc := "(II)V" } : Jvm.MethodName)) ∈ lw_tbl := lw_at lw_m9 141 rfl
theorem q2150 : (Jvm.Cond.instanceMethod ({ cls := "SetupJobShopModel", name := "build", desc := "(II)V" } : Jvm.MethodName)) ∈ lw_all := lw_g (lw_at lw_m9 142 rfl) rfl
theorem q2151 : (Jvm.Cond.code ({ cls := "SetupJobShopModel", name := "build", desc := "(II)V" } : Jvm.MethodName) prog_19_method_63_code (9 : Nat) (Option.none : Option Jvm.ClassFile.FieldType)) ∈ lw_all := lw_g (lw_at lw_m9 143 rfl) rfl
theorem q2152 : (Jvm.Cond.methodLink "SetupJobShopModel" (235 : Nat) ({ cls := "SetupJobShopModel", name := "candidateStart", desc := "(II)I" } : Jvm.MethodName)) ∈ lw_all := lw_g (lw_at lw_m9 144 rfl) rfl
theorem q2153 : (Jvm.Cond.privateMethod ({ cls := "SetupJobShopModel", name := "candidateStart", desc := "(II)I" } : Jvm.MethodName)) ∈ lw_tbl := lw_at lw_m9 145 rfl
theorem q2154 : (Jvm.Cond.instanceMethod ({ cls := "SetupJobShopModel", name := "candidateStart", desc := "(II)I" } : Jvm.MethodName)) ∈ lw_all := lw_g (lw_at lw_m9 146 rfl) rfl
theorem q2155 : (Jvm.Cond.code ({ cls := "SetupJobShopModel", name := "candidateStart", desc := "(II)I" } : Jvm.MethodName) prog_19_method_60_code (8 : Nat) (Option.some Jvm.ClassFile.FieldType.int)) ∈ lw_all := lw_g (lw_at lw_m9 147 rfl) rfl
theorem q2156 : (Jvm.Cond.methodLink "SetupJobShopModel" (238 : Nat) ({ cls := "SetupJobShopModel", name := "prefers", desc := "(III)Z" } : Jvm.MethodName)) ∈ lw_all := lw_g (lw_at lw_m9 148 rfl) rfl
theorem q2157 : (Jvm.Cond.privateMethod ({ cls := "SetupJobShopModel", name := "prefers", desc := "(III)Z" } : Jvm.MethodName)) ∈ lw_tbl := lw_at lw_m9 149 rfl
theorem q2158 : (Jvm.Cond.instanceMethod ({ cls := "SetupJobShopModel", name := "prefers", desc := "(III)Z" } : Jvm.MethodName)) ∈ lw_all := lw_g (lw_at lw_m9 150 rfl) rfl
theorem q2159 : (Jvm.Cond.code ({ cls := "SetupJobShopModel", name := "prefers", desc := "(III)Z" } : Jvm.MethodName) prog_19_method_62_code (4 : Nat) (Option.some Jvm.ClassFile.FieldType.boolean)) ∈ lw_all := lw_g (lw_at lw_m9 151 rfl) rfl
theorem q2160 : (Jvm.Cond.methodLink "SetupJobShopModel" (232 : Nat) ({ cls := "SetupJobShopModel", name := "restOf", desc := "(I)I" } : Jvm.MethodName)) ∈ lw_all := lw_g (lw_at lw_m9 152 rfl) rfl
theorem q2161 : (Jvm.Cond.privateMethod ({ cls := "SetupJobShopModel", name := "restOf", desc := "(I)I" } : Jvm.MethodName)) ∈ lw_tbl := lw_at lw_m9 153 rfl
theorem q2162 : (Jvm.Cond.instanceMethod ({ cls := "SetupJobShopModel", name := "restOf", desc := "(I)I" } : Jvm.MethodName)) ∈ lw_all := lw_g (lw_at lw_m9 154 rfl) rfl
theorem q2163 : (Jvm.Cond.code ({ cls := "SetupJobShopModel", name := "restOf", desc := "(I)I" } : Jvm.MethodName) prog_19_method_61_code (5 : Nat) (Option.some Jvm.ClassFile.FieldType.int)) ∈ lw_all := lw_g (lw_at lw_m9 155 rfl) rfl
theorem q2165 : (Jvm.Cond.instanceMethod ({ cls := "SetupJobShopModel", name := "repair", desc := "(II)I" } : Jvm.MethodName)) ∈ lw_all := lw_g (lw_at lw_m9 157 rfl) rfl
theorem q2166 : (Jvm.Cond.selects "SetupJobShopModel" ({ cls := "SetupJobShopModel", name := "repair", desc := "(II)I" } : Jvm.MethodName) ({ cls := "SetupJobShopModel", name := "repair", desc := "(II)I" } : Jvm.MethodName)) ∈ lw_all := lw_g (lw_at lw_m9 158 rfl) rfl
theorem q2167 : (Jvm.Cond.code ({ cls := "SetupJobShopModel", name := "repair", desc := "(II)I" } : Jvm.MethodName) prog_19_method_65_code (7 : Nat) (Option.some Jvm.ClassFile.FieldType.int)) ∈ lw_all := lw_g (lw_at lw_m9 159 rfl) rfl
theorem q2168 : (Jvm.Cond.constantLong "SetupJobShopModel" (244 : Nat) (999 : Int64)) ∈ lw_all := lw_g (lw_at lw_m9 160 rfl) rfl
theorem q2170 : (Jvm.Cond.instanceMethod ({ cls := "SetupJobShopModel", name := "best", desc := "(I)I" } : Jvm.MethodName)) ∈ lw_all := lw_g (lw_at lw_m9 162 rfl) rfl
theorem q2171 : (Jvm.Cond.selects "SetupJobShopModel" ({ cls := "SetupJobShopModel", name := "best", desc := "(I)I" } : Jvm.MethodName) ({ cls := "SetupJobShopModel", name := "best", desc := "(I)I" } : Jvm.MethodName)) ∈ lw_all := lw_g (lw_at lw_m9 163 rfl) rfl
theorem q2172 : (Jvm.Cond.code ({ cls := "SetupJobShopModel", name := "best", desc := "(I)I" } : Jvm.MethodName) prog_19_method_69_code (2 : Nat) (Option.some Jvm.ClassFile.FieldType.int)) ∈ lw_all := lw_g (lw_at lw_m9 164 rfl) rfl
theorem q2173 : (Jvm.Cond.methodLink "SetupJobShopModel" (252 : Nat) ({ cls := "SetupJobShopModel", name := "findBest", desc := "(I)V" } : Jvm.MethodName)) ∈ lw_all := lw_g (lw_at lw_m9 165 rfl) rfl
theorem q2174 : (Jvm.Cond.privateMethod ({ cls := "SetupJobShopModel", name := "findBest", desc := "(I)V" } : Jvm.MethodName)) ∈ lw_tbl := lw_at lw_m9 166 rfl
theorem q2175 : (Jvm.Cond.instanceMethod ({ cls := "SetupJobShopModel", name := "findBest", desc := "(I)V" } : Jvm.MethodName)) ∈ lw_all := lw_g (lw_at lw_m9 167 rfl) rfl
theorem q2176 : (Jvm.Cond.code ({ cls := "SetupJobShopModel", name := "findBest", desc := "(I)V" } : Jvm.MethodName) prog_19_method_67_code (4 : Nat) (Option.none : Option Jvm.ClassFile.FieldType)) ∈ lw_all := lw_g (lw_at lw_m9 168 rfl) rfl
theorem q2177 : (Jvm.Cond.methodLink "SetupJobShopModel" (249 : Nat) ({ cls := "SetupJobShopModel", name := "tryOrders", desc := "(II)V" } : Jvm.MethodName)) ∈ lw_all := lw_g (lw_at lw_m9 169 rfl) rfl
theorem q2178 : (Jvm.Cond.privateMethod ({ cls := "SetupJobShopModel", name := "tryOrders", desc := "(II)V" } : Jvm.MethodName)) ∈ lw_tbl := lw_at lw_m9 170 rfl
theorem q2179 : (Jvm.Cond.instanceMethod ({ cls := "SetupJobShopModel", name := "tryOrders", desc := "(II)V" } : Jvm.MethodName)) ∈ lw_all := lw_g (lw_at lw_m9 171 rfl) rfl
theorem q2180 : (Jvm.Cond.code ({ cls := "SetupJobShopModel", name := "tryOrders", desc := "(II)V" } : Jvm.MethodName) prog_19_method_66_code (6 : Nat) (Option.none : Option Jvm.ClassFile.FieldType)) ∈ lw_all := lw_g (lw_at lw_m9 172 rfl) rfl
theorem q2182 : (Jvm.Cond.instanceMethod ({ cls := "SetupJobShopModel", name := "reoptimize", desc := "(I)I" } : Jvm.MethodName)) ∈ lw_all := lw_g (lw_at lw_m9 174 rfl) rfl
theorem q2183 : (Jvm.Cond.selects "SetupJobShopModel" ({ cls := "SetupJobShopModel", name := "reoptimize", desc := "(I)I" } : Jvm.MethodName) ({ cls := "SetupJobShopModel", name := "reoptimize", desc := "(I)I" } : Jvm.MethodName)) ∈ lw_all := lw_g (lw_at lw_m9 175 rfl) rfl
theorem q2184 : (Jvm.Cond.code ({ cls := "SetupJobShopModel", name := "reoptimize", desc := "(I)I" } : Jvm.MethodName) prog_19_method_70_code (2 : Nat) (Option.some Jvm.ClassFile.FieldType.int)) ∈ lw_all := lw_g (lw_at lw_m9 176 rfl) rfl
theorem q2185 : (Jvm.Cond.methodLink "SetupJobShopModel" (255 : Nat) ({ cls := "SetupJobShopModel", name := "takeBest", desc := "(I)I" } : Jvm.MethodName)) ∈ lw_all := lw_g (lw_at lw_m9 177 rfl) rfl
theorem q2186 : (Jvm.Cond.privateMethod ({ cls := "SetupJobShopModel", name := "takeBest", desc := "(I)I" } : Jvm.MethodName)) ∈ lw_tbl := lw_at lw_m9 178 rfl
theorem q2187 : (Jvm.Cond.instanceMethod ({ cls := "SetupJobShopModel", name := "takeBest", desc := "(I)I" } : Jvm.MethodName)) ∈ lw_all := lw_g (lw_at lw_m9 179 rfl) rfl
theorem q2188 : (Jvm.Cond.code ({ cls := "SetupJobShopModel", name := "takeBest", desc := "(I)I" } : Jvm.MethodName) prog_19_method_68_code (4 : Nat) (Option.some Jvm.ClassFile.FieldType.int)) ∈ lw_all := lw_g (lw_at lw_m9 180 rfl) rfl
theorem q2190 : (Jvm.Cond.instanceMethod ({ cls := "SetupJobShopModel", name := "shiftBottlenecks", desc := "()I" } : Jvm.MethodName)) ∈ lw_all := lw_g (lw_at lw_m9 182 rfl) rfl
theorem q2191 : (Jvm.Cond.selects "SetupJobShopModel" ({ cls := "SetupJobShopModel", name := "shiftBottlenecks", desc := "()I" } : Jvm.MethodName) ({ cls := "SetupJobShopModel", name := "shiftBottlenecks", desc := "()I" } : Jvm.MethodName)) ∈ lw_all := lw_g (lw_at lw_m9 183 rfl) rfl
theorem q2192 : (Jvm.Cond.code ({ cls := "SetupJobShopModel", name := "shiftBottlenecks", desc := "()I" } : Jvm.MethodName) prog_19_method_71_code (6 : Nat) (Option.some Jvm.ClassFile.FieldType.int)) ∈ lw_all := lw_g (lw_at lw_m9 184 rfl) rfl
theorem q2194 : (Jvm.Cond.instanceMethod ({ cls := "SetupJobShopModel", name := "bottleneck", desc := "(I)I" } : Jvm.MethodName)) ∈ lw_all := lw_g (lw_at lw_m9 186 rfl) rfl
theorem q2195 : (Jvm.Cond.selects "SetupJobShopModel" ({ cls := "SetupJobShopModel", name := "bottleneck", desc := "(I)I" } : Jvm.MethodName) ({ cls := "SetupJobShopModel", name := "bottleneck", desc := "(I)I" } : Jvm.MethodName)) ∈ lw_all := lw_g (lw_at lw_m9 187 rfl) rfl
theorem q2196 : (Jvm.Cond.code ({ cls := "SetupJobShopModel", name := "bottleneck", desc := "(I)I" } : Jvm.MethodName) prog_19_method_72_code (2 : Nat) (Option.some Jvm.ClassFile.FieldType.int)) ∈ lw_all := lw_g (lw_at lw_m9 188 rfl) rfl
theorem q2198 : (Jvm.Cond.instanceMethod ({ cls := "SetupJobShopModel", name := "tabu", desc := "(II)I" } : Jvm.MethodName)) ∈ lw_all := lw_g (lw_at lw_m9 190 rfl) rfl
theorem q2199 : (Jvm.Cond.selects "SetupJobShopModel" ({ cls := "SetupJobShopModel", name := "tabu", desc := "(II)I" } : Jvm.MethodName) ({ cls := "SetupJobShopModel", name := "tabu", desc := "(II)I" } : Jvm.MethodName)) ∈ lw_all := lw_g (lw_at lw_m9 191 rfl) rfl
theorem q2200 : (Jvm.Cond.code ({ cls := "SetupJobShopModel", name := "tabu", desc := "(II)I" } : Jvm.MethodName) prog_19_method_74_code (14 : Nat) (Option.some Jvm.ClassFile.FieldType.int)) ∈ lw_all := lw_g (lw_at lw_m9 192 rfl) rfl
theorem q2201 : (Jvm.Cond.constantLong "SetupJobShopModel" (262 : Nat) (20 : Int64)) ∈ lw_all := lw_g (lw_at lw_m9 193 rfl) rfl
theorem q2202 : (Jvm.Cond.methodLink "SetupJobShopModel" (264 : Nat) ({ cls := "java/lang/System", name := "arraycopy", desc := "(Ljava/lang/Object;ILjava/lang/Object;II)V" } : Jvm.MethodName)) ∈ lw_all := lw_g (lw_at lw_m9 194 rfl) rfl
theorem q2203 : (Jvm.Cond.methodLink "SetupJobShopModel" (273 : Nat) ({ cls := "SetupJobShopModel", name := "findSwaps", desc := "()V" } : Jvm.MethodName)) ∈ lw_all := lw_g (lw_at lw_m9 195 rfl) rfl
theorem q2204 : (Jvm.Cond.privateMethod ({ cls := "SetupJobShopModel", name := "findSwaps", desc := "()V" } : Jvm.MethodName)) ∈ lw_tbl := lw_at lw_m9 196 rfl
theorem q2205 : (Jvm.Cond.instanceMethod ({ cls := "SetupJobShopModel", name := "findSwaps", desc := "()V" } : Jvm.MethodName)) ∈ lw_all := lw_g (lw_at lw_m9 197 rfl) rfl
theorem q2206 : (Jvm.Cond.code ({ cls := "SetupJobShopModel", name := "findSwaps", desc := "()V" } : Jvm.MethodName) prog_19_method_73_code (3 : Nat) (Option.none : Option Jvm.ClassFile.FieldType)) ∈ lw_all := lw_g (lw_at lw_m9 198 rfl) rfl
theorem q2208 : (Jvm.Cond.instanceMethod ({ cls := "SetupJobShopModel", name := "tabuSteps", desc := "()I" } : Jvm.MethodName)) ∈ lw_all := lw_g (lw_at lw_m9 200 rfl) rfl
theorem q2209 : (Jvm.Cond.selects "SetupJobShopModel" ({ cls := "SetupJobShopModel", name := "tabuSteps", desc := "()I" } : Jvm.MethodName) ({ cls := "SetupJobShopModel", name := "tabuSteps", desc := "()I" } : Jvm.MethodName)) ∈ lw_all := lw_g (lw_at lw_m9 201 rfl) rfl
theorem q2210 : (Jvm.Cond.code ({ cls := "SetupJobShopModel", name := "tabuSteps", desc := "()I" } : Jvm.MethodName) prog_19_method_75_code (1 : Nat) (Option.some Jvm.ClassFile.FieldType.int)) ∈ lw_all := lw_g (lw_at lw_m9 202 rfl) rfl
theorem q2212 : (Jvm.Cond.instanceMethod ({ cls := "SetupJobShopModel", name := "bound", desc := "(I)I" } : Jvm.MethodName)) ∈ lw_all := lw_g (lw_at lw_m9 204 rfl) rfl
theorem q2213 : (Jvm.Cond.selects "SetupJobShopModel" ({ cls := "SetupJobShopModel", name := "bound", desc := "(I)I" } : Jvm.MethodName) ({ cls := "SetupJobShopModel", name := "bound", desc := "(I)I" } : Jvm.MethodName)) ∈ lw_all := lw_g (lw_at lw_m9 205 rfl) rfl
theorem q2214 : (Jvm.Cond.code ({ cls := "SetupJobShopModel", name := "bound", desc := "(I)I" } : Jvm.MethodName) prog_19_method_77_code (2 : Nat) (Option.some Jvm.ClassFile.FieldType.int)) ∈ lw_all := lw_g (lw_at lw_m9 206 rfl) rfl
theorem q2215 : (Jvm.Cond.methodLink "SetupJobShopModel" (276 : Nat) ({ cls := "SetupJobShopModel", name := "boundOf", desc := "(I)I" } : Jvm.MethodName)) ∈ lw_all := lw_g (lw_at lw_m9 207 rfl) rfl
theorem q2216 : (Jvm.Cond.privateMethod ({ cls := "SetupJobShopModel", name := "boundOf", desc := "(I)I" } : Jvm.MethodName)) ∈ lw_tbl := lw_at lw_m9 208 rfl
theorem q2217 : (Jvm.Cond.instanceMethod ({ cls := "SetupJobShopModel", name := "boundOf", desc := "(I)I" } : Jvm.MethodName)) ∈ lw_all := lw_g (lw_at lw_m9 209 rfl) rfl
theorem q2218 : (Jvm.Cond.code ({ cls := "SetupJobShopModel", name := "boundOf", desc := "(I)I" } : Jvm.MethodName) prog_19_method_76_code (8 : Nat) (Option.some Jvm.ClassFile.FieldType.int)) ∈ lw_all := lw_g (lw_at lw_m9 210 rfl) rfl
theorem q2220 : (Jvm.Cond.instanceMethod ({ cls := "SetupJobShopModel", name := "lowerBound", desc := "()I" } : Jvm.MethodName)) ∈ lw_all := lw_g (lw_at lw_m9 212 rfl) rfl
theorem q2221 : (Jvm.Cond.selects "SetupJobShopModel" ({ cls := "SetupJobShopModel", name := "lowerBound", desc := "()I" } : Jvm.MethodName) ({ cls := "SetupJobShopModel", name := "lowerBound", desc := "()I" } : Jvm.MethodName)) ∈ lw_all := lw_g (lw_at lw_m9 213 rfl) rfl
theorem q2222 : (Jvm.Cond.code ({ cls := "SetupJobShopModel", name := "lowerBound", desc := "()I" } : Jvm.MethodName) prog_19_method_78_code (3 : Nat) (Option.some Jvm.ClassFile.FieldType.int)) ∈ lw_all := lw_g (lw_at lw_m9 214 rfl) rfl
theorem q2224 : (Jvm.Cond.instanceMethod ({ cls := "SetupJobShopModel", name := "append", desc := "(C)V" } : Jvm.MethodName)) ∈ lw_all := lw_g (lw_at lw_m9 216 rfl) rfl
theorem q2225 : (Jvm.Cond.selects "SetupJobShopModel" ({ cls := "SetupJobShopModel", name := "append", desc := "(C)V" } : Jvm.MethodName) ({ cls := "SetupJobShopModel", name := "append", desc := "(C)V" } : Jvm.MethodName)) ∈ lw_all := lw_g (lw_at lw_m9 217 rfl) rfl
theorem q2226 : (Jvm.Cond.code ({ cls := "SetupJobShopModel", name := "append", desc := "(C)V" } : Jvm.MethodName) prog_19_method_79_code (2 : Nat) (Option.none : Option Jvm.ClassFile.FieldType)) ∈ lw_all := lw_g (lw_at lw_m9 218 rfl) rfl
theorem q2228 : (Jvm.Cond.instanceMethod ({ cls := "SetupJobShopModel", name := "read", desc := "()I" } : Jvm.MethodName)) ∈ lw_all := lw_g (lw_at lw_m9 220 rfl) rfl
theorem q2229 : (Jvm.Cond.selects "SetupJobShopModel" ({ cls := "SetupJobShopModel", name := "read", desc := "()I" } : Jvm.MethodName) ({ cls := "SetupJobShopModel", name := "read", desc := "()I" } : Jvm.MethodName)) ∈ lw_all := lw_g (lw_at lw_m9 221 rfl) rfl
theorem q2230 : (Jvm.Cond.code ({ cls := "SetupJobShopModel", name := "read", desc := "()I" } : Jvm.MethodName) prog_19_method_87_code (3 : Nat) (Option.some Jvm.ClassFile.FieldType.int)) ∈ lw_all := lw_g (lw_at lw_m9 222 rfl) rfl
theorem q2231 : (Jvm.Cond.methodLink "SetupJobShopModel" (324 : Nat) ({ cls := "SetupJobShopModel", name := "readJob", desc := "(I)V" } : Jvm.MethodName)) ∈ lw_all := lw_g (lw_at lw_m9 223 rfl) rfl
theorem q2232 : (Jvm.Cond.privateMethod ({ cls := "SetupJobShopModel", name := "readJob", desc := "(I)V" } : Jvm.MethodName)) ∈ lw_tbl := lw_at lw_m9 224 rfl
theorem q2233 : (Jvm.Cond.instanceMethod ({ cls := "SetupJobShopModel", name := "readJob", desc := "(I)V" } : Jvm.MethodName)) ∈ lw_all := lw_g (lw_at lw_m9 225 rfl) rfl
theorem q2234 : (Jvm.Cond.code ({ cls := "SetupJobShopModel", name := "readJob", desc := "(I)V" } : Jvm.MethodName) prog_19_method_86_code (8 : Nat) (Option.none : Option Jvm.ClassFile.FieldType)) ∈ lw_all := lw_g (lw_at lw_m9 226 rfl) rfl
theorem q2235 : (Jvm.Cond.methodLink "SetupJobShopModel" (311 : Nat) ({ cls := "SetupJobShopModel", name := "readNumber", desc := "(I)V" } : Jvm.MethodName)) ∈ lw_all := lw_g (lw_at lw_m9 227 rfl) rfl
theorem q2236 : (Jvm.Cond.privateMethod ({ cls := "SetupJobShopModel", name := "readNumber", desc := "(I)V" } : Jvm.MethodName)) ∈ lw_tbl := lw_at lw_m9 228 rfl
theorem q2237 : (Jvm.Cond.instanceMethod ({ cls := "SetupJobShopModel", name := "readNumber", desc := "(I)V" } : Jvm.MethodName)) ∈ lw_all := lw_g (lw_at lw_m9 229 rfl) rfl
theorem q2238 : (Jvm.Cond.code ({ cls := "SetupJobShopModel", name := "readNumber", desc := "(I)V" } : Jvm.MethodName) prog_19_method_81_code (4 : Nat) (Option.none : Option Jvm.ClassFile.FieldType)) ∈ lw_all := lw_g (lw_at lw_m9 230 rfl) rfl
theorem q2239 : (Jvm.Cond.methodLink "SetupJobShopModel" (295 : Nat) ({ cls := "SetupJobShopModel", name := "isDigit", desc := "()Z" } : Jvm.MethodName)) ∈ lw_all := lw_g (lw_at lw_m9 231 rfl) rfl
theorem q2240 : (Jvm.Cond.privateMethod ({ cls := "SetupJobShopModel", name := "isDigit", desc := "()Z" } : Jvm.MethodName)) ∈ lw_tbl := lw_at lw_m9 232 rfl
theorem q2241 : (Jvm.Cond.instanceMethod ({ cls := "SetupJobShopModel", name := "isDigit", desc := "()Z" } : Jvm.MethodName)) ∈ lw_all := lw_g (lw_at lw_m9 233 rfl) rfl
theorem q2242 : (Jvm.Cond.code ({ cls := "SetupJobShopModel", name := "isDigit", desc := "()Z" } : Jvm.MethodName) prog_19_method_80_code (1 : Nat) (Option.some Jvm.ClassFile.FieldType.boolean)) ∈ lw_all := lw_g (lw_at lw_m9 234 rfl) rfl
theorem q2243 : (Jvm.Cond.constantLong "SetupJobShopModel" (285 : Nat) (48 : Int64)) ∈ lw_all := lw_g (lw_at lw_m9 235 rfl) rfl
theorem q2244 : (Jvm.Cond.constantLong "SetupJobShopModel" (287 : Nat) (57 : Int64)) ∈ lw_all := lw_g (lw_at lw_m9 236 rfl) rfl
theorem q2245 : (Jvm.Cond.methodLink "SetupJobShopModel" (314 : Nat) ({ cls := "SetupJobShopModel", name := "wants", desc := "(C)V" } : Jvm.MethodName)) ∈ lw_all := lw_g (lw_at lw_m9 237 rfl) rfl
theorem q2246 : (Jvm.Cond.privateMethod ({ cls := "SetupJobShopModel", name := "wants", desc := "(C)V" } : Jvm.MethodName)) ∈ lw_tbl := lw_at lw_m9 238 rfl
theorem q2247 : (Jvm.Cond.instanceMethod ({ cls := "SetupJobShopModel", name := "wants", desc := "(C)V" } : Jvm.MethodName)) ∈ lw_all := lw_g (lw_at lw_m9 239 rfl) rfl
theorem q2248 : (Jvm.Cond.code ({ cls := "SetupJobShopModel", name := "wants", desc := "(C)V" } : Jvm.MethodName) prog_19_method_83_code (2 : Nat) (Option.none : Option Jvm.ClassFile.FieldType)) ∈ lw_all := lw_g (lw_at lw_m10 0 rfl) rfl
theorem q2249 : (Jvm.Cond.methodLink "SetupJobShopModel" (298 : Nat) ({ cls := "SetupJobShopModel", name := "takes", desc := "(C)Z" } : Jvm.MethodName)) ∈ lw_all := lw_g (lw_at lw_m10 1 rfl) rfl
theorem q2250 : (Jvm.Cond.privateMethod ({ cls := "SetupJobShopModel", name := "takes", desc := "(C)Z" } : Jvm.MethodName)) ∈ lw_tbl := lw_at lw_m10 2 rfl
theorem q2251 : (Jvm.Cond.instanceMethod ({ cls := "SetupJobShopModel", name := "takes", desc := "(C)Z" } : Jvm.MethodName)) ∈ lw_all := lw_g (lw_at lw_m10 3 rfl) rfl
theorem q2252 : (Jvm.Cond.code ({ cls := "SetupJobShopModel", name := "takes", desc := "(C)Z" } : Jvm.MethodName) prog_19_method_82_code (3 : Nat) (Option.some Jvm.ClassFile.FieldType.boolean)) ∈ lw_all := lw_g (lw_at lw_m10 4 rfl) rfl
theorem q2253 : (Jvm.Cond.methodLink "SetupJobShopModel" (318 : Nat) ({ cls := "SetupJobShopModel", name := "cannot", desc := "(III)V" } : Jvm.MethodName)) ∈ lw_all := lw_g (lw_at lw_m10 5 rfl) rfl
theorem q2254 : (Jvm.Cond.privateMethod ({ cls := "SetupJobShopModel", name := "cannot", desc := "(III)V" } : Jvm.MethodName)) ∈ lw_tbl := lw_at lw_m10 6 rfl
theorem q2255 : (Jvm.Cond.instanceMethod ({ cls := "SetupJobShopModel", name := "cannot", desc := "(III)V" } : Jvm.MethodName)) ∈ lw_all := lw_g (lw_at lw_m10 7 rfl) rfl
theorem q2256 : (Jvm.Cond.code ({ cls := "SetupJobShopModel", name := "cannot", desc := "(III)V" } : Jvm.MethodName) prog_19_method_84_code (4 : Nat) (Option.none : Option Jvm.ClassFile.FieldType)) ∈ lw_all := lw_g (lw_at lw_m10 8 rfl) rfl
theorem q2257 : (Jvm.Cond.methodLink "SetupJobShopModel" (321 : Nat) ({ cls := "SetupJobShopModel", name := "readOperation", desc := "(III)V" } : Jvm.MethodName)) ∈ lw_all := lw_g (lw_at lw_m10 9 rfl) rfl
theorem q2258 : (Jvm.Cond.privateMethod ({ cls := "SetupJobShopModel", name := "readOperation", desc := "(III)V" } : Jvm.MethodName)) ∈ lw_tbl := lw_at lw_m10 10 rfl
theorem q2259 : (Jvm.Cond.instanceMethod ({ cls := "SetupJobShopModel", name := "readOperation", desc := "(III)V" } : Jvm.MethodName)) ∈ lw_all := lw_g (lw_at lw_m10 11 rfl) rfl
theorem q2260 : (Jvm.Cond.code ({ cls := "SetupJobShopModel", name := "readOperation", desc := "(III)V" } : Jvm.MethodName) prog_19_method_85_code (7 : Nat) (Option.none : Option Jvm.ClassFile.FieldType)) ∈ lw_all := lw_g (lw_at lw_m10 12 rfl) rfl
theorem q2262 : (Jvm.Cond.instanceMethod ({ cls := "SetupJobShopModel", name := "save", desc := "()V" } : Jvm.MethodName)) ∈ lw_all := lw_g (lw_at lw_m10 14 rfl) rfl
theorem q2263 : (Jvm.Cond.selects "SetupJobShopModel" ({ cls := "SetupJobShopModel", name := "save", desc := "()V" } : Jvm.MethodName) ({ cls := "SetupJobShopModel", name := "save", desc := "()V" } : Jvm.MethodName)) ∈ lw_all := lw_g (lw_at lw_m10 15 rfl) rfl
theorem q2264 : (Jvm.Cond.code ({ cls := "SetupJobShopModel", name := "save", desc := "()V" } : Jvm.MethodName) prog_19_method_88_code (1 : Nat) (Option.none : Option Jvm.ClassFile.FieldType)) ∈ lw_all := lw_g (lw_at lw_m10 16 rfl) rfl
theorem q2266 : (Jvm.Cond.instanceMethod ({ cls := "SetupJobShopModel", name := "restore", desc := "()V" } : Jvm.MethodName)) ∈ lw_all := lw_g (lw_at lw_m10 18 rfl) rfl
theorem q2267 : (Jvm.Cond.selects "SetupJobShopModel" ({ cls := "SetupJobShopModel", name := "restore", desc := "()V" } : Jvm.MethodName) ({ cls := "SetupJobShopModel", name := "restore", desc := "()V" } : Jvm.MethodName)) ∈ lw_all := lw_g (lw_at lw_m10 19 rfl) rfl
theorem q2268 : (Jvm.Cond.code ({ cls := "SetupJobShopModel", name := "restore", desc := "()V" } : Jvm.MethodName) prog_19_method_89_code (1 : Nat) (Option.none : Option Jvm.ClassFile.FieldType)) ∈ lw_all := lw_g (lw_at lw_m10 20 rfl) rfl
theorem q2293 : (Jvm.Cond.castable "SetupJobShopModel" "java/lang/Object") ∈ lw_tbl := lw_at lw_m10 45 rfl
theorem in_X4 : ∀ w ∈ wsX40, w ∈ lw_all := lw_in wsX40 [1829, 1831, 1833, 1835, 1837, 1839, 1841, 1843, 1845, 1847, 1849, 1851, 1853, 1855, 1857, 1859, 1861, 1863, 1865, 1867, 1869, 1871, 1873, 1875, 1877, 1879, 1881, 1883, 1885, 1887, 1889, 1891, 1893, 1895, 1897, 1899, 1901] (by decide +kernel) (by decide +kernel)
