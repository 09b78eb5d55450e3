/-! SetupJobShopLaw -/
set_option maxRecDepth 100000
def RX0 : String := "SetupJobShopLaw"
abbrev cX0_addJob : ByteArray := method_3_code
def yX0_addJob : MethodName := ⟨RX0, "addJob", "(LSetupJobShop;III[J)I"⟩
def dkwX0_addJob_1 : List UInt8 := [172]
abbrev dktX0_addJob_1 : List UInt8 := dkwX0_addJob_1 ++ []
def dkwX0_addJob_0 : List UInt8 := [25, 4, 3, 42, 27, 28, 29, 182, 0, 7, 133, 80, 167, 0, 11, 58, 5, 4, 172, 58, 5, 5, 172, 3]
abbrev dktX0_addJob_0 : List UInt8 := dkwX0_addJob_0 ++ dktX0_addJob_1
theorem dksX0_addJob_0 : cX0_addJob.data.toList.drop 0 = dktX0_addJob_0 := by decide +kernel
theorem dksX0_addJob_1 : cX0_addJob.data.toList.drop 24 = dktX0_addJob_1 := dk_seg dksX0_addJob_0 24 rfl rfl
theorem dX0_addJob_0 : decode cX0_addJob 0 = .ok (.aload 4, 2) := dk_25 4 (dk_at dksX0_addJob_0 0 rfl rfl)
theorem dX0_addJob_2 : decode cX0_addJob 2 = .ok (.iconst 0, 1) := dk_3 (dk_at dksX0_addJob_0 2 rfl rfl)
theorem dX0_addJob_3 : decode cX0_addJob 3 = .ok (.aload_n 0, 1) := dk_42 (dk_at dksX0_addJob_0 3 rfl rfl)
theorem dX0_addJob_4 : decode cX0_addJob 4 = .ok (.iload_n 1, 1) := dk_27 (dk_at dksX0_addJob_0 4 rfl rfl)
theorem dX0_addJob_5 : decode cX0_addJob 5 = .ok (.iload_n 2, 1) := dk_28 (dk_at dksX0_addJob_0 5 rfl rfl)
theorem dX0_addJob_6 : decode cX0_addJob 6 = .ok (.iload_n 3, 1) := dk_29 (dk_at dksX0_addJob_0 6 rfl rfl)
theorem dX0_addJob_7 : decode cX0_addJob 7 = .ok (.invokevirtual 7, 3) := dk_182 0 7 (dk_at dksX0_addJob_0 7 rfl rfl)
theorem dX0_addJob_10 : decode cX0_addJob 10 = .ok (.i2l, 1) := dk_133 (dk_at dksX0_addJob_0 10 rfl rfl)
theorem dX0_addJob_11 : decode cX0_addJob 11 = .ok (.lastore, 1) := dk_80 (dk_at dksX0_addJob_0 11 rfl rfl)
theorem dX0_addJob_12 : decode cX0_addJob 12 = .ok (.goto 11, 3) := dk_167 0 11 (dk_at dksX0_addJob_0 12 rfl rfl)
theorem dX0_addJob_15 : decode cX0_addJob 15 = .ok (.astore 5, 2) := dk_58 5 (dk_at dksX0_addJob_0 15 rfl rfl)
theorem dX0_addJob_17 : decode cX0_addJob 17 = .ok (.iconst 1, 1) := dk_4 (dk_at dksX0_addJob_0 17 rfl rfl)
theorem dX0_addJob_18 : decode cX0_addJob 18 = .ok (.ireturn, 1) := dk_172 (dk_at dksX0_addJob_0 18 rfl rfl)
theorem dX0_addJob_19 : decode cX0_addJob 19 = .ok (.astore 5, 2) := dk_58 5 (dk_at dksX0_addJob_0 19 rfl rfl)
theorem dX0_addJob_21 : decode cX0_addJob 21 = .ok (.iconst 2, 1) := dk_5 (dk_at dksX0_addJob_0 21 rfl rfl)
theorem dX0_addJob_22 : decode cX0_addJob 22 = .ok (.ireturn, 1) := dk_172 (dk_at dksX0_addJob_0 22 rfl rfl)
theorem dX0_addJob_23 : decode cX0_addJob 23 = .ok (.iconst 0, 1) := dk_3 (dk_at dksX0_addJob_0 23 rfl rfl)
theorem dX0_addJob_24 : decode cX0_addJob 24 = .ok (.ireturn, 1) := dk_172 (dk_at dksX0_addJob_1 0 rfl rfl)
abbrev cX0_addOperation : ByteArray := method_4_code
def yX0_addOperation : MethodName := ⟨RX0, "addOperation", "(LSetupJobShop;IIII[J)I"⟩
def dkwX0_addOperation_1 : List UInt8 := [172, 58, 6, 6, 172, 3, 172]
abbrev dktX0_addOperation_1 : List UInt8 := dkwX0_addOperation_1 ++ []
def dkwX0_addOperation_0 : List UInt8 := [25, 5, 3, 42, 27, 28, 29, 21, 4, 182, 0, 17, 133, 80, 167, 0, 15, 58, 6, 4, 172, 58, 6, 5]
abbrev dktX0_addOperation_0 : List UInt8 := dkwX0_addOperation_0 ++ dktX0_addOperation_1
theorem dksX0_addOperation_0 : cX0_addOperation.data.toList.drop 0 = dktX0_addOperation_0 := by decide +kernel
theorem dksX0_addOperation_1 : cX0_addOperation.data.toList.drop 24 = dktX0_addOperation_1 := dk_seg dksX0_addOperation_0 24 rfl rfl
theorem dX0_addOperation_0 : decode cX0_addOperation 0 = .ok (.aload 5, 2) := dk_25 5 (dk_at dksX0_addOperation_0 0 rfl rfl)
theorem dX0_addOperation_2 : decode cX0_addOperation 2 = .ok (.iconst 0, 1) := dk_3 (dk_at dksX0_addOperation_0 2 rfl rfl)
theorem dX0_addOperation_3 : decode cX0_addOperation 3 = .ok (.aload_n 0, 1) := dk_42 (dk_at dksX0_addOperation_0 3 rfl rfl)
theorem dX0_addOperation_4 : decode cX0_addOperation 4 = .ok (.iload_n 1, 1) := dk_27 (dk_at dksX0_addOperation_0 4 rfl rfl)
theorem dX0_addOperation_5 : decode cX0_addOperation 5 = .ok (.iload_n 2, 1) := dk_28 (dk_at dksX0_addOperation_0 5 rfl rfl)
theorem dX0_addOperation_6 : decode cX0_addOperation 6 = .ok (.iload_n 3, 1) := dk_29 (dk_at dksX0_addOperation_0 6 rfl rfl)
theorem dX0_addOperation_7 : decode cX0_addOperation 7 = .ok (.iload 4, 2) := dk_21 4 (dk_at dksX0_addOperation_0 7 rfl rfl)
theorem dX0_addOperation_9 : decode cX0_addOperation 9 = .ok (.invokevirtual 17, 3) := dk_182 0 17 (dk_at dksX0_addOperation_0 9 rfl rfl)
theorem dX0_addOperation_12 : decode cX0_addOperation 12 = .ok (.i2l, 1) := dk_133 (dk_at dksX0_addOperation_0 12 rfl rfl)
theorem dX0_addOperation_13 : decode cX0_addOperation 13 = .ok (.lastore, 1) := dk_80 (dk_at dksX0_addOperation_0 13 rfl rfl)
theorem dX0_addOperation_14 : decode cX0_addOperation 14 = .ok (.goto 15, 3) := dk_167 0 15 (dk_at dksX0_addOperation_0 14 rfl rfl)
theorem dX0_addOperation_17 : decode cX0_addOperation 17 = .ok (.astore 6, 2) := dk_58 6 (dk_at dksX0_addOperation_0 17 rfl rfl)
theorem dX0_addOperation_19 : decode cX0_addOperation 19 = .ok (.iconst 1, 1) := dk_4 (dk_at dksX0_addOperation_0 19 rfl rfl)
theorem dX0_addOperation_20 : decode cX0_addOperation 20 = .ok (.ireturn, 1) := dk_172 (dk_at dksX0_addOperation_0 20 rfl rfl)
theorem dX0_addOperation_21 : decode cX0_addOperation 21 = .ok (.astore 6, 2) := dk_58 6 (dk_at dksX0_addOperation_0 21 rfl rfl)
theorem dX0_addOperation_23 : decode cX0_addOperation 23 = .ok (.iconst 2, 1) := dk_5 (dk_at dksX0_addOperation_0 23 rfl rfl)
theorem dX0_addOperation_24 : decode cX0_addOperation 24 = .ok (.ireturn, 1) := dk_172 (dk_at dksX0_addOperation_1 0 rfl rfl)
theorem dX0_addOperation_25 : decode cX0_addOperation 25 = .ok (.astore 6, 2) := dk_58 6 (dk_at dksX0_addOperation_1 1 rfl rfl)
theorem dX0_addOperation_27 : decode cX0_addOperation 27 = .ok (.iconst 3, 1) := dk_6 (dk_at dksX0_addOperation_1 3 rfl rfl)
theorem dX0_addOperation_28 : decode cX0_addOperation 28 = .ok (.ireturn, 1) := dk_172 (dk_at dksX0_addOperation_1 4 rfl rfl)
theorem dX0_addOperation_29 : decode cX0_addOperation 29 = .ok (.iconst 0, 1) := dk_3 (dk_at dksX0_addOperation_1 5 rfl rfl)
theorem dX0_addOperation_30 : decode cX0_addOperation 30 = .ok (.ireturn, 1) := dk_172 (dk_at dksX0_addOperation_1 6 rfl rfl)
abbrev cX0_setJob : ByteArray := method_5_code
def yX0_setJob : MethodName := ⟨RX0, "setJob", "(LSetupJobShop;III[J)I"⟩
def dkwX0_setJob_1 : List UInt8 := [172]
abbrev dktX0_setJob_1 : List UInt8 := dkwX0_setJob_1 ++ []
def dkwX0_setJob_0 : List UInt8 := [25, 4, 3, 42, 27, 28, 29, 182, 0, 23, 133, 80, 167, 0, 11, 58, 5, 4, 172, 58, 5, 5, 172, 3]
abbrev dktX0_setJob_0 : List UInt8 := dkwX0_setJob_0 ++ dktX0_setJob_1
theorem dksX0_setJob_0 : cX0_setJob.data.toList.drop 0 = dktX0_setJob_0 := by decide +kernel
theorem dksX0_setJob_1 : cX0_setJob.data.toList.drop 24 = dktX0_setJob_1 := dk_seg dksX0_setJob_0 24 rfl rfl
theorem dX0_setJob_0 : decode cX0_setJob 0 = .ok (.aload 4, 2) := dk_25 4 (dk_at dksX0_setJob_0 0 rfl rfl)
theorem dX0_setJob_2 : decode cX0_setJob 2 = .ok (.iconst 0, 1) := dk_3 (dk_at dksX0_setJob_0 2 rfl rfl)
theorem dX0_setJob_3 : decode cX0_setJob 3 = .ok (.aload_n 0, 1) := dk_42 (dk_at dksX0_setJob_0 3 rfl rfl)
theorem dX0_setJob_4 : decode cX0_setJob 4 = .ok (.iload_n 1, 1) := dk_27 (dk_at dksX0_setJob_0 4 rfl rfl)
theorem dX0_setJob_5 : decode cX0_setJob 5 = .ok (.iload_n 2, 1) := dk_28 (dk_at dksX0_setJob_0 5 rfl rfl)
theorem dX0_setJob_6 : decode cX0_setJob 6 = .ok (.iload_n 3, 1) := dk_29 (dk_at dksX0_setJob_0 6 rfl rfl)
theorem dX0_setJob_7 : decode cX0_setJob 7 = .ok (.invokevirtual 23, 3) := dk_182 0 23 (dk_at dksX0_setJob_0 7 rfl rfl)
theorem dX0_setJob_10 : decode cX0_setJob 10 = .ok (.i2l, 1) := dk_133 (dk_at dksX0_setJob_0 10 rfl rfl)
theorem dX0_setJob_11 : decode cX0_setJob 11 = .ok (.lastore, 1) := dk_80 (dk_at dksX0_setJob_0 11 rfl rfl)
theorem dX0_setJob_12 : decode cX0_setJob 12 = .ok (.goto 11, 3) := dk_167 0 11 (dk_at dksX0_setJob_0 12 rfl rfl)
theorem dX0_setJob_15 : decode cX0_setJob 15 = .ok (.astore 5, 2) := dk_58 5 (dk_at dksX0_setJob_0 15 rfl rfl)
theorem dX0_setJob_17 : decode cX0_setJob 17 = .ok (.iconst 1, 1) := dk_4 (dk_at dksX0_setJob_0 17 rfl rfl)
theorem dX0_setJob_18 : decode cX0_setJob 18 = .ok (.ireturn, 1) := dk_172 (dk_at dksX0_setJob_0 18 rfl rfl)
theorem dX0_setJob_19 : decode cX0_setJob 19 = .ok (.astore 5, 2) := dk_58 5 (dk_at dksX0_setJob_0 19 rfl rfl)
theorem dX0_setJob_21 : decode cX0_setJob 21 = .ok (.iconst 2, 1) := dk_5 (dk_at dksX0_setJob_0 21 rfl rfl)
theorem dX0_setJob_22 : decode cX0_setJob 22 = .ok (.ireturn, 1) := dk_172 (dk_at dksX0_setJob_0 22 rfl rfl)
theorem dX0_setJob_23 : decode cX0_setJob 23 = .ok (.iconst 0, 1) := dk_3 (dk_at dksX0_setJob_0 23 rfl rfl)
theorem dX0_setJob_24 : decode cX0_setJob 24 = .ok (.ireturn, 1) := dk_172 (dk_at dksX0_setJob_1 0 rfl rfl)
abbrev cX0_setDuration : ByteArray := method_6_code
def yX0_setDuration : MethodName := ⟨RX0, "setDuration", "(LSetupJobShop;II[J)I"⟩
def dkwX0_setDuration_0 : List UInt8 := [45, 3, 42, 27, 28, 182, 0, 26, 133, 80, 167, 0, 11, 58, 4, 4, 172, 58, 4, 5, 172, 3, 172]
abbrev dktX0_setDuration_0 : List UInt8 := dkwX0_setDuration_0 ++ []
theorem dksX0_setDuration_0 : cX0_setDuration.data.toList.drop 0 = dktX0_setDuration_0 := by decide +kernel
theorem dX0_setDuration_0 : decode cX0_setDuration 0 = .ok (.aload_n 3, 1) := dk_45 (dk_at dksX0_setDuration_0 0 rfl rfl)
theorem dX0_setDuration_1 : decode cX0_setDuration 1 = .ok (.iconst 0, 1) := dk_3 (dk_at dksX0_setDuration_0 1 rfl rfl)
theorem dX0_setDuration_2 : decode cX0_setDuration 2 = .ok (.aload_n 0, 1) := dk_42 (dk_at dksX0_setDuration_0 2 rfl rfl)
theorem dX0_setDuration_3 : decode cX0_setDuration 3 = .ok (.iload_n 1, 1) := dk_27 (dk_at dksX0_setDuration_0 3 rfl rfl)
theorem dX0_setDuration_4 : decode cX0_setDuration 4 = .ok (.iload_n 2, 1) := dk_28 (dk_at dksX0_setDuration_0 4 rfl rfl)
theorem dX0_setDuration_5 : decode cX0_setDuration 5 = .ok (.invokevirtual 26, 3) := dk_182 0 26 (dk_at dksX0_setDuration_0 5 rfl rfl)
theorem dX0_setDuration_8 : decode cX0_setDuration 8 = .ok (.i2l, 1) := dk_133 (dk_at dksX0_setDuration_0 8 rfl rfl)
theorem dX0_setDuration_9 : decode cX0_setDuration 9 = .ok (.lastore, 1) := dk_80 (dk_at dksX0_setDuration_0 9 rfl rfl)
theorem dX0_setDuration_10 : decode cX0_setDuration 10 = .ok (.goto 11, 3) := dk_167 0 11 (dk_at dksX0_setDuration_0 10 rfl rfl)
theorem dX0_setDuration_13 : decode cX0_setDuration 13 = .ok (.astore 4, 2) := dk_58 4 (dk_at dksX0_setDuration_0 13 rfl rfl)
theorem dX0_setDuration_15 : decode cX0_setDuration 15 = .ok (.iconst 1, 1) := dk_4 (dk_at dksX0_setDuration_0 15 rfl rfl)
theorem dX0_setDuration_16 : decode cX0_setDuration 16 = .ok (.ireturn, 1) := dk_172 (dk_at dksX0_setDuration_0 16 rfl rfl)
theorem dX0_setDuration_17 : decode cX0_setDuration 17 = .ok (.astore 4, 2) := dk_58 4 (dk_at dksX0_setDuration_0 17 rfl rfl)
theorem dX0_setDuration_19 : decode cX0_setDuration 19 = .ok (.iconst 2, 1) := dk_5 (dk_at dksX0_setDuration_0 19 rfl rfl)
theorem dX0_setDuration_20 : decode cX0_setDuration 20 = .ok (.ireturn, 1) := dk_172 (dk_at dksX0_setDuration_0 20 rfl rfl)
theorem dX0_setDuration_21 : decode cX0_setDuration 21 = .ok (.iconst 0, 1) := dk_3 (dk_at dksX0_setDuration_0 21 rfl rfl)
theorem dX0_setDuration_22 : decode cX0_setDuration 22 = .ok (.ireturn, 1) := dk_172 (dk_at dksX0_setDuration_0 22 rfl rfl)
abbrev cX0_setSetup : ByteArray := method_7_code
def yX0_setSetup : MethodName := ⟨RX0, "setSetup", "(LSetupJobShop;III[J)I"⟩
def dkwX0_setSetup_1 : List UInt8 := [172]
abbrev dktX0_setSetup_1 : List UInt8 := dkwX0_setSetup_1 ++ []
def dkwX0_setSetup_0 : List UInt8 := [25, 4, 3, 42, 27, 28, 29, 182, 0, 30, 133, 80, 167, 0, 11, 58, 5, 4, 172, 58, 5, 5, 172, 3]
abbrev dktX0_setSetup_0 : List UInt8 := dkwX0_setSetup_0 ++ dktX0_setSetup_1
theorem dksX0_setSetup_0 : cX0_setSetup.data.toList.drop 0 = dktX0_setSetup_0 := by decide +kernel
theorem dksX0_setSetup_1 : cX0_setSetup.data.toList.drop 24 = dktX0_setSetup_1 := dk_seg dksX0_setSetup_0 24 rfl rfl
theorem dX0_setSetup_0 : decode cX0_setSetup 0 = .ok (.aload 4, 2) := dk_25 4 (dk_at dksX0_setSetup_0 0 rfl rfl)
theorem dX0_setSetup_2 : decode cX0_setSetup 2 = .ok (.iconst 0, 1) := dk_3 (dk_at dksX0_setSetup_0 2 rfl rfl)
theorem dX0_setSetup_3 : decode cX0_setSetup 3 = .ok (.aload_n 0, 1) := dk_42 (dk_at dksX0_setSetup_0 3 rfl rfl)
theorem dX0_setSetup_4 : decode cX0_setSetup 4 = .ok (.iload_n 1, 1) := dk_27 (dk_at dksX0_setSetup_0 4 rfl rfl)
theorem dX0_setSetup_5 : decode cX0_setSetup 5 = .ok (.iload_n 2, 1) := dk_28 (dk_at dksX0_setSetup_0 5 rfl rfl)
theorem dX0_setSetup_6 : decode cX0_setSetup 6 = .ok (.iload_n 3, 1) := dk_29 (dk_at dksX0_setSetup_0 6 rfl rfl)
theorem dX0_setSetup_7 : decode cX0_setSetup 7 = .ok (.invokevirtual 30, 3) := dk_182 0 30 (dk_at dksX0_setSetup_0 7 rfl rfl)
theorem dX0_setSetup_10 : decode cX0_setSetup 10 = .ok (.i2l, 1) := dk_133 (dk_at dksX0_setSetup_0 10 rfl rfl)
theorem dX0_setSetup_11 : decode cX0_setSetup 11 = .ok (.lastore, 1) := dk_80 (dk_at dksX0_setSetup_0 11 rfl rfl)
theorem dX0_setSetup_12 : decode cX0_setSetup 12 = .ok (.goto 11, 3) := dk_167 0 11 (dk_at dksX0_setSetup_0 12 rfl rfl)
theorem dX0_setSetup_15 : decode cX0_setSetup 15 = .ok (.astore 5, 2) := dk_58 5 (dk_at dksX0_setSetup_0 15 rfl rfl)
theorem dX0_setSetup_17 : decode cX0_setSetup 17 = .ok (.iconst 1, 1) := dk_4 (dk_at dksX0_setSetup_0 17 rfl rfl)
theorem dX0_setSetup_18 : decode cX0_setSetup 18 = .ok (.ireturn, 1) := dk_172 (dk_at dksX0_setSetup_0 18 rfl rfl)
theorem dX0_setSetup_19 : decode cX0_setSetup 19 = .ok (.astore 5, 2) := dk_58 5 (dk_at dksX0_setSetup_0 19 rfl rfl)
theorem dX0_setSetup_21 : decode cX0_setSetup 21 = .ok (.iconst 2, 1) := dk_5 (dk_at dksX0_setSetup_0 21 rfl rfl)
theorem dX0_setSetup_22 : decode cX0_setSetup 22 = .ok (.ireturn, 1) := dk_172 (dk_at dksX0_setSetup_0 22 rfl rfl)
theorem dX0_setSetup_23 : decode cX0_setSetup 23 = .ok (.iconst 0, 1) := dk_3 (dk_at dksX0_setSetup_0 23 rfl rfl)
theorem dX0_setSetup_24 : decode cX0_setSetup 24 = .ok (.ireturn, 1) := dk_172 (dk_at dksX0_setSetup_1 0 rfl rfl)
abbrev cX0_addBreakdown : ByteArray := method_8_code
def yX0_addBreakdown : MethodName := ⟨RX0, "addBreakdown", "(LSetupJobShop;III[J)I"⟩
def dkwX0_addBreakdown_1 : List UInt8 := [58, 5, 6, 172, 3, 172]
abbrev dktX0_addBreakdown_1 : List UInt8 := dkwX0_addBreakdown_1 ++ []
def dkwX0_addBreakdown_0 : List UInt8 := [25, 4, 3, 42, 27, 28, 29, 182, 0, 33, 133, 80, 167, 0, 15, 58, 5, 4, 172, 58, 5, 5, 172]
abbrev dktX0_addBreakdown_0 : List UInt8 := dkwX0_addBreakdown_0 ++ dktX0_addBreakdown_1
theorem dksX0_addBreakdown_0 : cX0_addBreakdown.data.toList.drop 0 = dktX0_addBreakdown_0 := by decide +kernel
theorem dksX0_addBreakdown_1 : cX0_addBreakdown.data.toList.drop 23 = dktX0_addBreakdown_1 := dk_seg dksX0_addBreakdown_0 23 rfl rfl
theorem dX0_addBreakdown_0 : decode cX0_addBreakdown 0 = .ok (.aload 4, 2) := dk_25 4 (dk_at dksX0_addBreakdown_0 0 rfl rfl)
theorem dX0_addBreakdown_2 : decode cX0_addBreakdown 2 = .ok (.iconst 0, 1) := dk_3 (dk_at dksX0_addBreakdown_0 2 rfl rfl)
theorem dX0_addBreakdown_3 : decode cX0_addBreakdown 3 = .ok (.aload_n 0, 1) := dk_42 (dk_at dksX0_addBreakdown_0 3 rfl rfl)
theorem dX0_addBreakdown_4 : decode cX0_addBreakdown 4 = .ok (.iload_n 1, 1) := dk_27 (dk_at dksX0_addBreakdown_0 4 rfl rfl)
theorem dX0_addBreakdown_5 : decode cX0_addBreakdown 5 = .ok (.iload_n 2, 1) := dk_28 (dk_at dksX0_addBreakdown_0 5 rfl rfl)
theorem dX0_addBreakdown_6 : decode cX0_addBreakdown 6 = .ok (.iload_n 3, 1) := dk_29 (dk_at dksX0_addBreakdown_0 6 rfl rfl)
theorem dX0_addBreakdown_7 : decode cX0_addBreakdown 7 = .ok (.invokevirtual 33, 3) := dk_182 0 33 (dk_at dksX0_addBreakdown_0 7 rfl rfl)
theorem dX0_addBreakdown_10 : decode cX0_addBreakdown 10 = .ok (.i2l, 1) := dk_133 (dk_at dksX0_addBreakdown_0 10 rfl rfl)
theorem dX0_addBreakdown_11 : decode cX0_addBreakdown 11 = .ok (.lastore, 1) := dk_80 (dk_at dksX0_addBreakdown_0 11 rfl rfl)
theorem dX0_addBreakdown_12 : decode cX0_addBreakdown 12 = .ok (.goto 15, 3) := dk_167 0 15 (dk_at dksX0_addBreakdown_0 12 rfl rfl)
theorem dX0_addBreakdown_15 : decode cX0_addBreakdown 15 = .ok (.astore 5, 2) := dk_58 5 (dk_at dksX0_addBreakdown_0 15 rfl rfl)
theorem dX0_addBreakdown_17 : decode cX0_addBreakdown 17 = .ok (.iconst 1, 1) := dk_4 (dk_at dksX0_addBreakdown_0 17 rfl rfl)
theorem dX0_addBreakdown_18 : decode cX0_addBreakdown 18 = .ok (.ireturn, 1) := dk_172 (dk_at dksX0_addBreakdown_0 18 rfl rfl)
theorem dX0_addBreakdown_19 : decode cX0_addBreakdown 19 = .ok (.astore 5, 2) := dk_58 5 (dk_at dksX0_addBreakdown_0 19 rfl rfl)
theorem dX0_addBreakdown_21 : decode cX0_addBreakdown 21 = .ok (.iconst 2, 1) := dk_5 (dk_at dksX0_addBreakdown_0 21 rfl rfl)
theorem dX0_addBreakdown_22 : decode cX0_addBreakdown 22 = .ok (.ireturn, 1) := dk_172 (dk_at dksX0_addBreakdown_0 22 rfl rfl)
theorem dX0_addBreakdown_23 : decode cX0_addBreakdown 23 = .ok (.astore 5, 2) := dk_58 5 (dk_at dksX0_addBreakdown_1 0 rfl rfl)
theorem dX0_addBreakdown_25 : decode cX0_addBreakdown 25 = .ok (.iconst 3, 1) := dk_6 (dk_at dksX0_addBreakdown_1 2 rfl rfl)
theorem dX0_addBreakdown_26 : decode cX0_addBreakdown 26 = .ok (.ireturn, 1) := dk_172 (dk_at dksX0_addBreakdown_1 3 rfl rfl)
theorem dX0_addBreakdown_27 : decode cX0_addBreakdown 27 = .ok (.iconst 0, 1) := dk_3 (dk_at dksX0_addBreakdown_1 4 rfl rfl)
theorem dX0_addBreakdown_28 : decode cX0_addBreakdown 28 = .ok (.ireturn, 1) := dk_172 (dk_at dksX0_addBreakdown_1 5 rfl rfl)
abbrev cX0_clearBreakdowns : ByteArray := method_9_code
def yX0_clearBreakdowns : MethodName := ⟨RX0, "clearBreakdowns", "(LSetupJobShop;I[J)I"⟩
def dkwX0_clearBreakdowns_0 : List UInt8 := [44, 3, 42, 27, 182, 0, 36, 133, 80, 167, 0, 6, 78, 4, 172, 3, 172]
abbrev dktX0_clearBreakdowns_0 : List UInt8 := dkwX0_clearBreakdowns_0 ++ []
theorem dksX0_clearBreakdowns_0 : cX0_clearBreakdowns.data.toList.drop 0 = dktX0_clearBreakdowns_0 := by decide +kernel
theorem dX0_clearBreakdowns_0 : decode cX0_clearBreakdowns 0 = .ok (.aload_n 2, 1) := dk_44 (dk_at dksX0_clearBreakdowns_0 0 rfl rfl)
theorem dX0_clearBreakdowns_1 : decode cX0_clearBreakdowns 1 = .ok (.iconst 0, 1) := dk_3 (dk_at dksX0_clearBreakdowns_0 1 rfl rfl)
theorem dX0_clearBreakdowns_2 : decode cX0_clearBreakdowns 2 = .ok (.aload_n 0, 1) := dk_42 (dk_at dksX0_clearBreakdowns_0 2 rfl rfl)
theorem dX0_clearBreakdowns_3 : decode cX0_clearBreakdowns 3 = .ok (.iload_n 1, 1) := dk_27 (dk_at dksX0_clearBreakdowns_0 3 rfl rfl)
theorem dX0_clearBreakdowns_4 : decode cX0_clearBreakdowns 4 = .ok (.invokevirtual 36, 3) := dk_182 0 36 (dk_at dksX0_clearBreakdowns_0 4 rfl rfl)
theorem dX0_clearBreakdowns_7 : decode cX0_clearBreakdowns 7 = .ok (.i2l, 1) := dk_133 (dk_at dksX0_clearBreakdowns_0 7 rfl rfl)
theorem dX0_clearBreakdowns_8 : decode cX0_clearBreakdowns 8 = .ok (.lastore, 1) := dk_80 (dk_at dksX0_clearBreakdowns_0 8 rfl rfl)
theorem dX0_clearBreakdowns_9 : decode cX0_clearBreakdowns 9 = .ok (.goto 6, 3) := dk_167 0 6 (dk_at dksX0_clearBreakdowns_0 9 rfl rfl)
theorem dX0_clearBreakdowns_12 : decode cX0_clearBreakdowns 12 = .ok (.astore_n 3, 1) := dk_78 (dk_at dksX0_clearBreakdowns_0 12 rfl rfl)
theorem dX0_clearBreakdowns_13 : decode cX0_clearBreakdowns 13 = .ok (.iconst 1, 1) := dk_4 (dk_at dksX0_clearBreakdowns_0 13 rfl rfl)
theorem dX0_clearBreakdowns_14 : decode cX0_clearBreakdowns 14 = .ok (.ireturn, 1) := dk_172 (dk_at dksX0_clearBreakdowns_0 14 rfl rfl)
theorem dX0_clearBreakdowns_15 : decode cX0_clearBreakdowns 15 = .ok (.iconst 0, 1) := dk_3 (dk_at dksX0_clearBreakdowns_0 15 rfl rfl)
theorem dX0_clearBreakdowns_16 : decode cX0_clearBreakdowns 16 = .ok (.ireturn, 1) := dk_172 (dk_at dksX0_clearBreakdowns_0 16 rfl rfl)
abbrev cX0_count : ByteArray := method_10_code
def yX0_count : MethodName := ⟨RX0, "count", "(LSetupJobShop;I[J)I"⟩
def dkwX0_count_0 : List UInt8 := [44, 3, 42, 27, 182, 0, 40, 133, 80, 167, 0, 6, 78, 4, 172, 3, 172]
abbrev dktX0_count_0 : List UInt8 := dkwX0_count_0 ++ []
theorem dksX0_count_0 : cX0_count.data.toList.drop 0 = dktX0_count_0 := by decide +kernel
theorem dX0_count_0 : decode cX0_count 0 = .ok (.aload_n 2, 1) := dk_44 (dk_at dksX0_count_0 0 rfl rfl)
theorem dX0_count_1 : decode cX0_count 1 = .ok (.iconst 0, 1) := dk_3 (dk_at dksX0_count_0 1 rfl rfl)
theorem dX0_count_2 : decode cX0_count 2 = .ok (.aload_n 0, 1) := dk_42 (dk_at dksX0_count_0 2 rfl rfl)
theorem dX0_count_3 : decode cX0_count 3 = .ok (.iload_n 1, 1) := dk_27 (dk_at dksX0_count_0 3 rfl rfl)
theorem dX0_count_4 : decode cX0_count 4 = .ok (.invokevirtual 40, 3) := dk_182 0 40 (dk_at dksX0_count_0 4 rfl rfl)
theorem dX0_count_7 : decode cX0_count 7 = .ok (.i2l, 1) := dk_133 (dk_at dksX0_count_0 7 rfl rfl)
theorem dX0_count_8 : decode cX0_count 8 = .ok (.lastore, 1) := dk_80 (dk_at dksX0_count_0 8 rfl rfl)
theorem dX0_count_9 : decode cX0_count 9 = .ok (.goto 6, 3) := dk_167 0 6 (dk_at dksX0_count_0 9 rfl rfl)
theorem dX0_count_12 : decode cX0_count 12 = .ok (.astore_n 3, 1) := dk_78 (dk_at dksX0_count_0 12 rfl rfl)
theorem dX0_count_13 : decode cX0_count 13 = .ok (.iconst 1, 1) := dk_4 (dk_at dksX0_count_0 13 rfl rfl)
theorem dX0_count_14 : decode cX0_count 14 = .ok (.ireturn, 1) := dk_172 (dk_at dksX0_count_0 14 rfl rfl)
theorem dX0_count_15 : decode cX0_count 15 = .ok (.iconst 0, 1) := dk_3 (dk_at dksX0_count_0 15 rfl rfl)
theorem dX0_count_16 : decode cX0_count 16 = .ok (.ireturn, 1) := dk_172 (dk_at dksX0_count_0 16 rfl rfl)
abbrev cX0_property : ByteArray := method_11_code
def yX0_property : MethodName := ⟨RX0, "property", "(LSetupJobShop;II[J)I"⟩
def dkwX0_property_0 : List UInt8 := [45, 3, 42, 27, 28, 182, 0, 43, 133, 80, 167, 0, 11, 58, 4, 4, 172, 58, 4, 5, 172, 3, 172]
abbrev dktX0_property_0 : List UInt8 := dkwX0_property_0 ++ []
theorem dksX0_property_0 : cX0_property.data.toList.drop 0 = dktX0_property_0 := by decide +kernel
theorem dX0_property_0 : decode cX0_property 0 = .ok (.aload_n 3, 1) := dk_45 (dk_at dksX0_property_0 0 rfl rfl)
theorem dX0_property_1 : decode cX0_property 1 = .ok (.iconst 0, 1) := dk_3 (dk_at dksX0_property_0 1 rfl rfl)
theorem dX0_property_2 : decode cX0_property 2 = .ok (.aload_n 0, 1) := dk_42 (dk_at dksX0_property_0 2 rfl rfl)
theorem dX0_property_3 : decode cX0_property 3 = .ok (.iload_n 1, 1) := dk_27 (dk_at dksX0_property_0 3 rfl rfl)
theorem dX0_property_4 : decode cX0_property 4 = .ok (.iload_n 2, 1) := dk_28 (dk_at dksX0_property_0 4 rfl rfl)
theorem dX0_property_5 : decode cX0_property 5 = .ok (.invokevirtual 43, 3) := dk_182 0 43 (dk_at dksX0_property_0 5 rfl rfl)
theorem dX0_property_8 : decode cX0_property 8 = .ok (.i2l, 1) := dk_133 (dk_at dksX0_property_0 8 rfl rfl)
theorem dX0_property_9 : decode cX0_property 9 = .ok (.lastore, 1) := dk_80 (dk_at dksX0_property_0 9 rfl rfl)
theorem dX0_property_10 : decode cX0_property 10 = .ok (.goto 11, 3) := dk_167 0 11 (dk_at dksX0_property_0 10 rfl rfl)
theorem dX0_property_13 : decode cX0_property 13 = .ok (.astore 4, 2) := dk_58 4 (dk_at dksX0_property_0 13 rfl rfl)
theorem dX0_property_15 : decode cX0_property 15 = .ok (.iconst 1, 1) := dk_4 (dk_at dksX0_property_0 15 rfl rfl)
theorem dX0_property_16 : decode cX0_property 16 = .ok (.ireturn, 1) := dk_172 (dk_at dksX0_property_0 16 rfl rfl)
theorem dX0_property_17 : decode cX0_property 17 = .ok (.astore 4, 2) := dk_58 4 (dk_at dksX0_property_0 17 rfl rfl)
theorem dX0_property_19 : decode cX0_property 19 = .ok (.iconst 2, 1) := dk_5 (dk_at dksX0_property_0 19 rfl rfl)
theorem dX0_property_20 : decode cX0_property 20 = .ok (.ireturn, 1) := dk_172 (dk_at dksX0_property_0 20 rfl rfl)
theorem dX0_property_21 : decode cX0_property 21 = .ok (.iconst 0, 1) := dk_3 (dk_at dksX0_property_0 21 rfl rfl)
theorem dX0_property_22 : decode cX0_property 22 = .ok (.ireturn, 1) := dk_172 (dk_at dksX0_property_0 22 rfl rfl)
abbrev cX0_order : ByteArray := method_12_code
def yX0_order : MethodName := ⟨RX0, "order", "(LSetupJobShop;II[J)I"⟩
def dkwX0_order_0 : List UInt8 := [45, 3, 42, 27, 28, 182, 0, 46, 133, 80, 167, 0, 11, 58, 4, 4, 172, 58, 4, 5, 172, 3, 172]
abbrev dktX0_order_0 : List UInt8 := dkwX0_order_0 ++ []
theorem dksX0_order_0 : cX0_order.data.toList.drop 0 = dktX0_order_0 := by decide +kernel
theorem dX0_order_0 : decode cX0_order 0 = .ok (.aload_n 3, 1) := dk_45 (dk_at dksX0_order_0 0 rfl rfl)
theorem dX0_order_1 : decode cX0_order 1 = .ok (.iconst 0, 1) := dk_3 (dk_at dksX0_order_0 1 rfl rfl)
theorem dX0_order_2 : decode cX0_order 2 = .ok (.aload_n 0, 1) := dk_42 (dk_at dksX0_order_0 2 rfl rfl)
theorem dX0_order_3 : decode cX0_order 3 = .ok (.iload_n 1, 1) := dk_27 (dk_at dksX0_order_0 3 rfl rfl)
theorem dX0_order_4 : decode cX0_order 4 = .ok (.iload_n 2, 1) := dk_28 (dk_at dksX0_order_0 4 rfl rfl)
theorem dX0_order_5 : decode cX0_order 5 = .ok (.invokevirtual 46, 3) := dk_182 0 46 (dk_at dksX0_order_0 5 rfl rfl)
theorem dX0_order_8 : decode cX0_order 8 = .ok (.i2l, 1) := dk_133 (dk_at dksX0_order_0 8 rfl rfl)
theorem dX0_order_9 : decode cX0_order 9 = .ok (.lastore, 1) := dk_80 (dk_at dksX0_order_0 9 rfl rfl)
theorem dX0_order_10 : decode cX0_order 10 = .ok (.goto 11, 3) := dk_167 0 11 (dk_at dksX0_order_0 10 rfl rfl)
theorem dX0_order_13 : decode cX0_order 13 = .ok (.astore 4, 2) := dk_58 4 (dk_at dksX0_order_0 13 rfl rfl)
theorem dX0_order_15 : decode cX0_order 15 = .ok (.iconst 1, 1) := dk_4 (dk_at dksX0_order_0 15 rfl rfl)
theorem dX0_order_16 : decode cX0_order 16 = .ok (.ireturn, 1) := dk_172 (dk_at dksX0_order_0 16 rfl rfl)
theorem dX0_order_17 : decode cX0_order 17 = .ok (.astore 4, 2) := dk_58 4 (dk_at dksX0_order_0 17 rfl rfl)
theorem dX0_order_19 : decode cX0_order 19 = .ok (.iconst 2, 1) := dk_5 (dk_at dksX0_order_0 19 rfl rfl)
theorem dX0_order_20 : decode cX0_order 20 = .ok (.ireturn, 1) := dk_172 (dk_at dksX0_order_0 20 rfl rfl)
theorem dX0_order_21 : decode cX0_order 21 = .ok (.iconst 0, 1) := dk_3 (dk_at dksX0_order_0 21 rfl rfl)
theorem dX0_order_22 : decode cX0_order 22 = .ok (.ireturn, 1) := dk_172 (dk_at dksX0_order_0 22 rfl rfl)
abbrev cX0_time : ByteArray := method_13_code
def yX0_time : MethodName := ⟨RX0, "time", "(LSetupJobShop;II[J)I"⟩
def dkwX0_time_0 : List UInt8 := [45, 3, 42, 27, 28, 182, 0, 51, 133, 80, 167, 0, 11, 58, 4, 4, 172, 58, 4, 5, 172, 3, 172]
abbrev dktX0_time_0 : List UInt8 := dkwX0_time_0 ++ []
theorem dksX0_time_0 : cX0_time.data.toList.drop 0 = dktX0_time_0 := by decide +kernel
theorem dX0_time_0 : decode cX0_time 0 = .ok (.aload_n 3, 1) := dk_45 (dk_at dksX0_time_0 0 rfl rfl)
theorem dX0_time_1 : decode cX0_time 1 = .ok (.iconst 0, 1) := dk_3 (dk_at dksX0_time_0 1 rfl rfl)
theorem dX0_time_2 : decode cX0_time 2 = .ok (.aload_n 0, 1) := dk_42 (dk_at dksX0_time_0 2 rfl rfl)
theorem dX0_time_3 : decode cX0_time 3 = .ok (.iload_n 1, 1) := dk_27 (dk_at dksX0_time_0 3 rfl rfl)
theorem dX0_time_4 : decode cX0_time 4 = .ok (.iload_n 2, 1) := dk_28 (dk_at dksX0_time_0 4 rfl rfl)
theorem dX0_time_5 : decode cX0_time 5 = .ok (.invokevirtual 51, 3) := dk_182 0 51 (dk_at dksX0_time_0 5 rfl rfl)
theorem dX0_time_8 : decode cX0_time 8 = .ok (.i2l, 1) := dk_133 (dk_at dksX0_time_0 8 rfl rfl)
theorem dX0_time_9 : decode cX0_time 9 = .ok (.lastore, 1) := dk_80 (dk_at dksX0_time_0 9 rfl rfl)
theorem dX0_time_10 : decode cX0_time 10 = .ok (.goto 11, 3) := dk_167 0 11 (dk_at dksX0_time_0 10 rfl rfl)
theorem dX0_time_13 : decode cX0_time 13 = .ok (.astore 4, 2) := dk_58 4 (dk_at dksX0_time_0 13 rfl rfl)
theorem dX0_time_15 : decode cX0_time 15 = .ok (.iconst 1, 1) := dk_4 (dk_at dksX0_time_0 15 rfl rfl)
theorem dX0_time_16 : decode cX0_time 16 = .ok (.ireturn, 1) := dk_172 (dk_at dksX0_time_0 16 rfl rfl)
theorem dX0_time_17 : decode cX0_time 17 = .ok (.astore 4, 2) := dk_58 4 (dk_at dksX0_time_0 17 rfl rfl)
theorem dX0_time_19 : decode cX0_time 19 = .ok (.iconst 2, 1) := dk_5 (dk_at dksX0_time_0 19 rfl rfl)
theorem dX0_time_20 : decode cX0_time 20 = .ok (.ireturn, 1) := dk_172 (dk_at dksX0_time_0 20 rfl rfl)
theorem dX0_time_21 : decode cX0_time 21 = .ok (.iconst 0, 1) := dk_3 (dk_at dksX0_time_0 21 rfl rfl)
theorem dX0_time_22 : decode cX0_time 22 = .ok (.ireturn, 1) := dk_172 (dk_at dksX0_time_0 22 rfl rfl)
abbrev cX0_slack : ByteArray := method_14_code
def yX0_slack : MethodName := ⟨RX0, "slack", "(LSetupJobShop;I[J)I"⟩
def dkwX0_slack_0 : List UInt8 := [44, 3, 42, 27, 182, 0, 54, 133, 80, 167, 0, 6, 78, 4, 172, 3, 172]
abbrev dktX0_slack_0 : List UInt8 := dkwX0_slack_0 ++ []
theorem dksX0_slack_0 : cX0_slack.data.toList.drop 0 = dktX0_slack_0 := by decide +kernel
theorem dX0_slack_0 : decode cX0_slack 0 = .ok (.aload_n 2, 1) := dk_44 (dk_at dksX0_slack_0 0 rfl rfl)
theorem dX0_slack_1 : decode cX0_slack 1 = .ok (.iconst 0, 1) := dk_3 (dk_at dksX0_slack_0 1 rfl rfl)
theorem dX0_slack_2 : decode cX0_slack 2 = .ok (.aload_n 0, 1) := dk_42 (dk_at dksX0_slack_0 2 rfl rfl)
theorem dX0_slack_3 : decode cX0_slack 3 = .ok (.iload_n 1, 1) := dk_27 (dk_at dksX0_slack_0 3 rfl rfl)
theorem dX0_slack_4 : decode cX0_slack 4 = .ok (.invokevirtual 54, 3) := dk_182 0 54 (dk_at dksX0_slack_0 4 rfl rfl)
theorem dX0_slack_7 : decode cX0_slack 7 = .ok (.i2l, 1) := dk_133 (dk_at dksX0_slack_0 7 rfl rfl)
theorem dX0_slack_8 : decode cX0_slack 8 = .ok (.lastore, 1) := dk_80 (dk_at dksX0_slack_0 8 rfl rfl)
theorem dX0_slack_9 : decode cX0_slack 9 = .ok (.goto 6, 3) := dk_167 0 6 (dk_at dksX0_slack_0 9 rfl rfl)
theorem dX0_slack_12 : decode cX0_slack 12 = .ok (.astore_n 3, 1) := dk_78 (dk_at dksX0_slack_0 12 rfl rfl)
theorem dX0_slack_13 : decode cX0_slack 13 = .ok (.iconst 1, 1) := dk_4 (dk_at dksX0_slack_0 13 rfl rfl)
theorem dX0_slack_14 : decode cX0_slack 14 = .ok (.ireturn, 1) := dk_172 (dk_at dksX0_slack_0 14 rfl rfl)
theorem dX0_slack_15 : decode cX0_slack 15 = .ok (.iconst 0, 1) := dk_3 (dk_at dksX0_slack_0 15 rfl rfl)
theorem dX0_slack_16 : decode cX0_slack 16 = .ok (.ireturn, 1) := dk_172 (dk_at dksX0_slack_0 16 rfl rfl)
abbrev cX0_completion : ByteArray := method_15_code
def yX0_completion : MethodName := ⟨RX0, "completion", "(LSetupJobShop;I[J)I"⟩
def dkwX0_completion_0 : List UInt8 := [44, 3, 42, 27, 182, 0, 57, 133, 80, 167, 0, 6, 78, 4, 172, 3, 172]
abbrev dktX0_completion_0 : List UInt8 := dkwX0_completion_0 ++ []
theorem dksX0_completion_0 : cX0_completion.data.toList.drop 0 = dktX0_completion_0 := by decide +kernel
theorem dX0_completion_0 : decode cX0_completion 0 = .ok (.aload_n 2, 1) := dk_44 (dk_at dksX0_completion_0 0 rfl rfl)
theorem dX0_completion_1 : decode cX0_completion 1 = .ok (.iconst 0, 1) := dk_3 (dk_at dksX0_completion_0 1 rfl rfl)
theorem dX0_completion_2 : decode cX0_completion 2 = .ok (.aload_n 0, 1) := dk_42 (dk_at dksX0_completion_0 2 rfl rfl)
theorem dX0_completion_3 : decode cX0_completion 3 = .ok (.iload_n 1, 1) := dk_27 (dk_at dksX0_completion_0 3 rfl rfl)
theorem dX0_completion_4 : decode cX0_completion 4 = .ok (.invokevirtual 57, 3) := dk_182 0 57 (dk_at dksX0_completion_0 4 rfl rfl)
theorem dX0_completion_7 : decode cX0_completion 7 = .ok (.i2l, 1) := dk_133 (dk_at dksX0_completion_0 7 rfl rfl)
theorem dX0_completion_8 : decode cX0_completion 8 = .ok (.lastore, 1) := dk_80 (dk_at dksX0_completion_0 8 rfl rfl)
theorem dX0_completion_9 : decode cX0_completion 9 = .ok (.goto 6, 3) := dk_167 0 6 (dk_at dksX0_completion_0 9 rfl rfl)
theorem dX0_completion_12 : decode cX0_completion 12 = .ok (.astore_n 3, 1) := dk_78 (dk_at dksX0_completion_0 12 rfl rfl)
theorem dX0_completion_13 : decode cX0_completion 13 = .ok (.iconst 1, 1) := dk_4 (dk_at dksX0_completion_0 13 rfl rfl)
theorem dX0_completion_14 : decode cX0_completion 14 = .ok (.ireturn, 1) := dk_172 (dk_at dksX0_completion_0 14 rfl rfl)
theorem dX0_completion_15 : decode cX0_completion 15 = .ok (.iconst 0, 1) := dk_3 (dk_at dksX0_completion_0 15 rfl rfl)
theorem dX0_completion_16 : decode cX0_completion 16 = .ok (.ireturn, 1) := dk_172 (dk_at dksX0_completion_0 16 rfl rfl)
abbrev cX0_objective : ByteArray := method_16_code
def yX0_objective : MethodName := ⟨RX0, "objective", "(LSetupJobShop;I[J)I"⟩
def dkwX0_objective_0 : List UInt8 := [44, 3, 42, 27, 182, 0, 60, 133, 80, 167, 0, 6, 78, 4, 172, 3, 172]
abbrev dktX0_objective_0 : List UInt8 := dkwX0_objective_0 ++ []
theorem dksX0_objective_0 : cX0_objective.data.toList.drop 0 = dktX0_objective_0 := by decide +kernel
theorem dX0_objective_0 : decode cX0_objective 0 = .ok (.aload_n 2, 1) := dk_44 (dk_at dksX0_objective_0 0 rfl rfl)
theorem dX0_objective_1 : decode cX0_objective 1 = .ok (.iconst 0, 1) := dk_3 (dk_at dksX0_objective_0 1 rfl rfl)
theorem dX0_objective_2 : decode cX0_objective 2 = .ok (.aload_n 0, 1) := dk_42 (dk_at dksX0_objective_0 2 rfl rfl)
theorem dX0_objective_3 : decode cX0_objective 3 = .ok (.iload_n 1, 1) := dk_27 (dk_at dksX0_objective_0 3 rfl rfl)
theorem dX0_objective_4 : decode cX0_objective 4 = .ok (.invokevirtual 60, 3) := dk_182 0 60 (dk_at dksX0_objective_0 4 rfl rfl)
theorem dX0_objective_7 : decode cX0_objective 7 = .ok (.i2l, 1) := dk_133 (dk_at dksX0_objective_0 7 rfl rfl)
theorem dX0_objective_8 : decode cX0_objective 8 = .ok (.lastore, 1) := dk_80 (dk_at dksX0_objective_0 8 rfl rfl)
theorem dX0_objective_9 : decode cX0_objective 9 = .ok (.goto 6, 3) := dk_167 0 6 (dk_at dksX0_objective_0 9 rfl rfl)
theorem dX0_objective_12 : decode cX0_objective 12 = .ok (.astore_n 3, 1) := dk_78 (dk_at dksX0_objective_0 12 rfl rfl)
theorem dX0_objective_13 : decode cX0_objective 13 = .ok (.iconst 1, 1) := dk_4 (dk_at dksX0_objective_0 13 rfl rfl)
theorem dX0_objective_14 : decode cX0_objective 14 = .ok (.ireturn, 1) := dk_172 (dk_at dksX0_objective_0 14 rfl rfl)
theorem dX0_objective_15 : decode cX0_objective 15 = .ok (.iconst 0, 1) := dk_3 (dk_at dksX0_objective_0 15 rfl rfl)
theorem dX0_objective_16 : decode cX0_objective 16 = .ok (.ireturn, 1) := dk_172 (dk_at dksX0_objective_0 16 rfl rfl)
abbrev cX0_utilization : ByteArray := method_17_code
def yX0_utilization : MethodName := ⟨RX0, "utilization", "(LSetupJobShop;I[D)I"⟩
def dkwX0_utilization_0 : List UInt8 := [44, 3, 42, 27, 182, 0, 63, 82, 167, 0, 6, 78, 4, 172, 3, 172]
abbrev dktX0_utilization_0 : List UInt8 := dkwX0_utilization_0 ++ []
theorem dksX0_utilization_0 : cX0_utilization.data.toList.drop 0 = dktX0_utilization_0 := by decide +kernel
theorem dX0_utilization_0 : decode cX0_utilization 0 = .ok (.aload_n 2, 1) := dk_44 (dk_at dksX0_utilization_0 0 rfl rfl)
theorem dX0_utilization_1 : decode cX0_utilization 1 = .ok (.iconst 0, 1) := dk_3 (dk_at dksX0_utilization_0 1 rfl rfl)
theorem dX0_utilization_2 : decode cX0_utilization 2 = .ok (.aload_n 0, 1) := dk_42 (dk_at dksX0_utilization_0 2 rfl rfl)
theorem dX0_utilization_3 : decode cX0_utilization 3 = .ok (.iload_n 1, 1) := dk_27 (dk_at dksX0_utilization_0 3 rfl rfl)
theorem dX0_utilization_4 : decode cX0_utilization 4 = .ok (.invokevirtual 63, 3) := dk_182 0 63 (dk_at dksX0_utilization_0 4 rfl rfl)
theorem dX0_utilization_7 : decode cX0_utilization 7 = .ok (.dastore, 1) := dk_82 (dk_at dksX0_utilization_0 7 rfl rfl)
theorem dX0_utilization_8 : decode cX0_utilization 8 = .ok (.goto 6, 3) := dk_167 0 6 (dk_at dksX0_utilization_0 8 rfl rfl)
theorem dX0_utilization_11 : decode cX0_utilization 11 = .ok (.astore_n 3, 1) := dk_78 (dk_at dksX0_utilization_0 11 rfl rfl)
theorem dX0_utilization_12 : decode cX0_utilization 12 = .ok (.iconst 1, 1) := dk_4 (dk_at dksX0_utilization_0 12 rfl rfl)
theorem dX0_utilization_13 : decode cX0_utilization 13 = .ok (.ireturn, 1) := dk_172 (dk_at dksX0_utilization_0 13 rfl rfl)
theorem dX0_utilization_14 : decode cX0_utilization 14 = .ok (.iconst 0, 1) := dk_3 (dk_at dksX0_utilization_0 14 rfl rfl)
theorem dX0_utilization_15 : decode cX0_utilization 15 = .ok (.ireturn, 1) := dk_172 (dk_at dksX0_utilization_0 15 rfl rfl)
abbrev cX0_path : ByteArray := method_18_code
def yX0_path : MethodName := ⟨RX0, "path", "(LSetupJobShop;I[J)I"⟩
def dkwX0_path_0 : List UInt8 := [44, 3, 42, 27, 182, 0, 67, 133, 80, 167, 0, 6, 78, 4, 172, 3, 172]
abbrev dktX0_path_0 : List UInt8 := dkwX0_path_0 ++ []
theorem dksX0_path_0 : cX0_path.data.toList.drop 0 = dktX0_path_0 := by decide +kernel
theorem dX0_path_0 : decode cX0_path 0 = .ok (.aload_n 2, 1) := dk_44 (dk_at dksX0_path_0 0 rfl rfl)
theorem dX0_path_1 : decode cX0_path 1 = .ok (.iconst 0, 1) := dk_3 (dk_at dksX0_path_0 1 rfl rfl)
theorem dX0_path_2 : decode cX0_path 2 = .ok (.aload_n 0, 1) := dk_42 (dk_at dksX0_path_0 2 rfl rfl)
theorem dX0_path_3 : decode cX0_path 3 = .ok (.iload_n 1, 1) := dk_27 (dk_at dksX0_path_0 3 rfl rfl)
theorem dX0_path_4 : decode cX0_path 4 = .ok (.invokevirtual 67, 3) := dk_182 0 67 (dk_at dksX0_path_0 4 rfl rfl)
theorem dX0_path_7 : decode cX0_path 7 = .ok (.i2l, 1) := dk_133 (dk_at dksX0_path_0 7 rfl rfl)
theorem dX0_path_8 : decode cX0_path 8 = .ok (.lastore, 1) := dk_80 (dk_at dksX0_path_0 8 rfl rfl)
theorem dX0_path_9 : decode cX0_path 9 = .ok (.goto 6, 3) := dk_167 0 6 (dk_at dksX0_path_0 9 rfl rfl)
theorem dX0_path_12 : decode cX0_path 12 = .ok (.astore_n 3, 1) := dk_78 (dk_at dksX0_path_0 12 rfl rfl)
theorem dX0_path_13 : decode cX0_path 13 = .ok (.iconst 1, 1) := dk_4 (dk_at dksX0_path_0 13 rfl rfl)
theorem dX0_path_14 : decode cX0_path 14 = .ok (.ireturn, 1) := dk_172 (dk_at dksX0_path_0 14 rfl rfl)
theorem dX0_path_15 : decode cX0_path 15 = .ok (.iconst 0, 1) := dk_3 (dk_at dksX0_path_0 15 rfl rfl)
theorem dX0_path_16 : decode cX0_path 16 = .ok (.ireturn, 1) := dk_172 (dk_at dksX0_path_0 16 rfl rfl)
abbrev cX0_blockLength : ByteArray := method_19_code
def yX0_blockLength : MethodName := ⟨RX0, "blockLength", "(LSetupJobShop;I[J)I"⟩
def dkwX0_blockLength_0 : List UInt8 := [44, 3, 42, 27, 182, 0, 70, 133, 80, 167, 0, 6, 78, 4, 172, 3, 172]
abbrev dktX0_blockLength_0 : List UInt8 := dkwX0_blockLength_0 ++ []
theorem dksX0_blockLength_0 : cX0_blockLength.data.toList.drop 0 = dktX0_blockLength_0 := by decide +kernel
theorem dX0_blockLength_0 : decode cX0_blockLength 0 = .ok (.aload_n 2, 1) := dk_44 (dk_at dksX0_blockLength_0 0 rfl rfl)
theorem dX0_blockLength_1 : decode cX0_blockLength 1 = .ok (.iconst 0, 1) := dk_3 (dk_at dksX0_blockLength_0 1 rfl rfl)
theorem dX0_blockLength_2 : decode cX0_blockLength 2 = .ok (.aload_n 0, 1) := dk_42 (dk_at dksX0_blockLength_0 2 rfl rfl)
theorem dX0_blockLength_3 : decode cX0_blockLength 3 = .ok (.iload_n 1, 1) := dk_27 (dk_at dksX0_blockLength_0 3 rfl rfl)
theorem dX0_blockLength_4 : decode cX0_blockLength 4 = .ok (.invokevirtual 70, 3) := dk_182 0 70 (dk_at dksX0_blockLength_0 4 rfl rfl)
theorem dX0_blockLength_7 : decode cX0_blockLength 7 = .ok (.i2l, 1) := dk_133 (dk_at dksX0_blockLength_0 7 rfl rfl)
theorem dX0_blockLength_8 : decode cX0_blockLength 8 = .ok (.lastore, 1) := dk_80 (dk_at dksX0_blockLength_0 8 rfl rfl)
theorem dX0_blockLength_9 : decode cX0_blockLength 9 = .ok (.goto 6, 3) := dk_167 0 6 (dk_at dksX0_blockLength_0 9 rfl rfl)
theorem dX0_blockLength_12 : decode cX0_blockLength 12 = .ok (.astore_n 3, 1) := dk_78 (dk_at dksX0_blockLength_0 12 rfl rfl)
theorem dX0_blockLength_13 : decode cX0_blockLength 13 = .ok (.iconst 1, 1) := dk_4 (dk_at dksX0_blockLength_0 13 rfl rfl)
theorem dX0_blockLength_14 : decode cX0_blockLength 14 = .ok (.ireturn, 1) := dk_172 (dk_at dksX0_blockLength_0 14 rfl rfl)
theorem dX0_blockLength_15 : decode cX0_blockLength 15 = .ok (.iconst 0, 1) := dk_3 (dk_at dksX0_blockLength_0 15 rfl rfl)
theorem dX0_blockLength_16 : decode cX0_blockLength 16 = .ok (.ireturn, 1) := dk_172 (dk_at dksX0_blockLength_0 16 rfl rfl)
abbrev cX0_swap : ByteArray := method_20_code
def yX0_swap : MethodName := ⟨RX0, "swap", "(LSetupJobShop;II[J)I"⟩
def dkwX0_swap_1 : List UInt8 := [172, 3, 172]
abbrev dktX0_swap_1 : List UInt8 := dkwX0_swap_1 ++ []
def dkwX0_swap_0 : List UInt8 := [45, 3, 42, 27, 28, 182, 0, 73, 133, 80, 167, 0, 15, 58, 4, 4, 172, 58, 4, 5, 172, 58, 4, 6]
abbrev dktX0_swap_0 : List UInt8 := dkwX0_swap_0 ++ dktX0_swap_1
theorem dksX0_swap_0 : cX0_swap.data.toList.drop 0 = dktX0_swap_0 := by decide +kernel
theorem dksX0_swap_1 : cX0_swap.data.toList.drop 24 = dktX0_swap_1 := dk_seg dksX0_swap_0 24 rfl rfl
theorem dX0_swap_0 : decode cX0_swap 0 = .ok (.aload_n 3, 1) := dk_45 (dk_at dksX0_swap_0 0 rfl rfl)
theorem dX0_swap_1 : decode cX0_swap 1 = .ok (.iconst 0, 1) := dk_3 (dk_at dksX0_swap_0 1 rfl rfl)
theorem dX0_swap_2 : decode cX0_swap 2 = .ok (.aload_n 0, 1) := dk_42 (dk_at dksX0_swap_0 2 rfl rfl)
theorem dX0_swap_3 : decode cX0_swap 3 = .ok (.iload_n 1, 1) := dk_27 (dk_at dksX0_swap_0 3 rfl rfl)
theorem dX0_swap_4 : decode cX0_swap 4 = .ok (.iload_n 2, 1) := dk_28 (dk_at dksX0_swap_0 4 rfl rfl)
theorem dX0_swap_5 : decode cX0_swap 5 = .ok (.invokevirtual 73, 3) := dk_182 0 73 (dk_at dksX0_swap_0 5 rfl rfl)
theorem dX0_swap_8 : decode cX0_swap 8 = .ok (.i2l, 1) := dk_133 (dk_at dksX0_swap_0 8 rfl rfl)
theorem dX0_swap_9 : decode cX0_swap 9 = .ok (.lastore, 1) := dk_80 (dk_at dksX0_swap_0 9 rfl rfl)
theorem dX0_swap_10 : decode cX0_swap 10 = .ok (.goto 15, 3) := dk_167 0 15 (dk_at dksX0_swap_0 10 rfl rfl)
theorem dX0_swap_13 : decode cX0_swap 13 = .ok (.astore 4, 2) := dk_58 4 (dk_at dksX0_swap_0 13 rfl rfl)
theorem dX0_swap_15 : decode cX0_swap 15 = .ok (.iconst 1, 1) := dk_4 (dk_at dksX0_swap_0 15 rfl rfl)
theorem dX0_swap_16 : decode cX0_swap 16 = .ok (.ireturn, 1) := dk_172 (dk_at dksX0_swap_0 16 rfl rfl)
theorem dX0_swap_17 : decode cX0_swap 17 = .ok (.astore 4, 2) := dk_58 4 (dk_at dksX0_swap_0 17 rfl rfl)
theorem dX0_swap_19 : decode cX0_swap 19 = .ok (.iconst 2, 1) := dk_5 (dk_at dksX0_swap_0 19 rfl rfl)
theorem dX0_swap_20 : decode cX0_swap 20 = .ok (.ireturn, 1) := dk_172 (dk_at dksX0_swap_0 20 rfl rfl)
theorem dX0_swap_21 : decode cX0_swap 21 = .ok (.astore 4, 2) := dk_58 4 (dk_at dksX0_swap_0 21 rfl rfl)
theorem dX0_swap_23 : decode cX0_swap 23 = .ok (.iconst 3, 1) := dk_6 (dk_at dksX0_swap_0 23 rfl rfl)
theorem dX0_swap_24 : decode cX0_swap 24 = .ok (.ireturn, 1) := dk_172 (dk_at dksX0_swap_1 0 rfl rfl)
theorem dX0_swap_25 : decode cX0_swap 25 = .ok (.iconst 0, 1) := dk_3 (dk_at dksX0_swap_1 1 rfl rfl)
theorem dX0_swap_26 : decode cX0_swap 26 = .ok (.ireturn, 1) := dk_172 (dk_at dksX0_swap_1 2 rfl rfl)
abbrev cX0_move : ByteArray := method_21_code
def yX0_move : MethodName := ⟨RX0, "move", "(LSetupJobShop;II[J)I"⟩
def dkwX0_move_1 : List UInt8 := [172, 3, 172]
abbrev dktX0_move_1 : List UInt8 := dkwX0_move_1 ++ []
def dkwX0_move_0 : List UInt8 := [45, 3, 42, 27, 28, 182, 0, 76, 133, 80, 167, 0, 15, 58, 4, 4, 172, 58, 4, 5, 172, 58, 4, 6]
abbrev dktX0_move_0 : List UInt8 := dkwX0_move_0 ++ dktX0_move_1
theorem dksX0_move_0 : cX0_move.data.toList.drop 0 = dktX0_move_0 := by decide +kernel
theorem dksX0_move_1 : cX0_move.data.toList.drop 24 = dktX0_move_1 := dk_seg dksX0_move_0 24 rfl rfl
theorem dX0_move_0 : decode cX0_move 0 = .ok (.aload_n 3, 1) := dk_45 (dk_at dksX0_move_0 0 rfl rfl)
theorem dX0_move_1 : decode cX0_move 1 = .ok (.iconst 0, 1) := dk_3 (dk_at dksX0_move_0 1 rfl rfl)
theorem dX0_move_2 : decode cX0_move 2 = .ok (.aload_n 0, 1) := dk_42 (dk_at dksX0_move_0 2 rfl rfl)
theorem dX0_move_3 : decode cX0_move 3 = .ok (.iload_n 1, 1) := dk_27 (dk_at dksX0_move_0 3 rfl rfl)
theorem dX0_move_4 : decode cX0_move 4 = .ok (.iload_n 2, 1) := dk_28 (dk_at dksX0_move_0 4 rfl rfl)
theorem dX0_move_5 : decode cX0_move 5 = .ok (.invokevirtual 76, 3) := dk_182 0 76 (dk_at dksX0_move_0 5 rfl rfl)
theorem dX0_move_8 : decode cX0_move 8 = .ok (.i2l, 1) := dk_133 (dk_at dksX0_move_0 8 rfl rfl)
theorem dX0_move_9 : decode cX0_move 9 = .ok (.lastore, 1) := dk_80 (dk_at dksX0_move_0 9 rfl rfl)
theorem dX0_move_10 : decode cX0_move 10 = .ok (.goto 15, 3) := dk_167 0 15 (dk_at dksX0_move_0 10 rfl rfl)
theorem dX0_move_13 : decode cX0_move 13 = .ok (.astore 4, 2) := dk_58 4 (dk_at dksX0_move_0 13 rfl rfl)
theorem dX0_move_15 : decode cX0_move 15 = .ok (.iconst 1, 1) := dk_4 (dk_at dksX0_move_0 15 rfl rfl)
theorem dX0_move_16 : decode cX0_move 16 = .ok (.ireturn, 1) := dk_172 (dk_at dksX0_move_0 16 rfl rfl)
theorem dX0_move_17 : decode cX0_move 17 = .ok (.astore 4, 2) := dk_58 4 (dk_at dksX0_move_0 17 rfl rfl)
theorem dX0_move_19 : decode cX0_move 19 = .ok (.iconst 2, 1) := dk_5 (dk_at dksX0_move_0 19 rfl rfl)
theorem dX0_move_20 : decode cX0_move 20 = .ok (.ireturn, 1) := dk_172 (dk_at dksX0_move_0 20 rfl rfl)
theorem dX0_move_21 : decode cX0_move 21 = .ok (.astore 4, 2) := dk_58 4 (dk_at dksX0_move_0 21 rfl rfl)
theorem dX0_move_23 : decode cX0_move 23 = .ok (.iconst 3, 1) := dk_6 (dk_at dksX0_move_0 23 rfl rfl)
theorem dX0_move_24 : decode cX0_move 24 = .ok (.ireturn, 1) := dk_172 (dk_at dksX0_move_1 0 rfl rfl)
theorem dX0_move_25 : decode cX0_move 25 = .ok (.iconst 0, 1) := dk_3 (dk_at dksX0_move_1 1 rfl rfl)
theorem dX0_move_26 : decode cX0_move 26 = .ok (.ireturn, 1) := dk_172 (dk_at dksX0_move_1 2 rfl rfl)
abbrev cX0_dispatch : ByteArray := method_22_code
def yX0_dispatch : MethodName := ⟨RX0, "dispatch", "(LSetupJobShop;I[J)I"⟩
def dkwX0_dispatch_0 : List UInt8 := [44, 3, 42, 27, 182, 0, 79, 133, 80, 167, 0, 6, 78, 4, 172, 3, 172]
abbrev dktX0_dispatch_0 : List UInt8 := dkwX0_dispatch_0 ++ []
theorem dksX0_dispatch_0 : cX0_dispatch.data.toList.drop 0 = dktX0_dispatch_0 := by decide +kernel
theorem dX0_dispatch_0 : decode cX0_dispatch 0 = .ok (.aload_n 2, 1) := dk_44 (dk_at dksX0_dispatch_0 0 rfl rfl)
theorem dX0_dispatch_1 : decode cX0_dispatch 1 = .ok (.iconst 0, 1) := dk_3 (dk_at dksX0_dispatch_0 1 rfl rfl)
theorem dX0_dispatch_2 : decode cX0_dispatch 2 = .ok (.aload_n 0, 1) := dk_42 (dk_at dksX0_dispatch_0 2 rfl rfl)
theorem dX0_dispatch_3 : decode cX0_dispatch 3 = .ok (.iload_n 1, 1) := dk_27 (dk_at dksX0_dispatch_0 3 rfl rfl)
theorem dX0_dispatch_4 : decode cX0_dispatch 4 = .ok (.invokevirtual 79, 3) := dk_182 0 79 (dk_at dksX0_dispatch_0 4 rfl rfl)
theorem dX0_dispatch_7 : decode cX0_dispatch 7 = .ok (.i2l, 1) := dk_133 (dk_at dksX0_dispatch_0 7 rfl rfl)
theorem dX0_dispatch_8 : decode cX0_dispatch 8 = .ok (.lastore, 1) := dk_80 (dk_at dksX0_dispatch_0 8 rfl rfl)
theorem dX0_dispatch_9 : decode cX0_dispatch 9 = .ok (.goto 6, 3) := dk_167 0 6 (dk_at dksX0_dispatch_0 9 rfl rfl)
theorem dX0_dispatch_12 : decode cX0_dispatch 12 = .ok (.astore_n 3, 1) := dk_78 (dk_at dksX0_dispatch_0 12 rfl rfl)
theorem dX0_dispatch_13 : decode cX0_dispatch 13 = .ok (.iconst 1, 1) := dk_4 (dk_at dksX0_dispatch_0 13 rfl rfl)
theorem dX0_dispatch_14 : decode cX0_dispatch 14 = .ok (.ireturn, 1) := dk_172 (dk_at dksX0_dispatch_0 14 rfl rfl)
theorem dX0_dispatch_15 : decode cX0_dispatch 15 = .ok (.iconst 0, 1) := dk_3 (dk_at dksX0_dispatch_0 15 rfl rfl)
theorem dX0_dispatch_16 : decode cX0_dispatch 16 = .ok (.ireturn, 1) := dk_172 (dk_at dksX0_dispatch_0 16 rfl rfl)
abbrev cX0_repair : ByteArray := method_23_code
def yX0_repair : MethodName := ⟨RX0, "repair", "(LSetupJobShop;II[J)I"⟩
def dkwX0_repair_0 : List UInt8 := [45, 3, 42, 27, 28, 182, 0, 82, 133, 80, 167, 0, 7, 58, 4, 4, 172, 3, 172]
abbrev dktX0_repair_0 : List UInt8 := dkwX0_repair_0 ++ []
theorem dksX0_repair_0 : cX0_repair.data.toList.drop 0 = dktX0_repair_0 := by decide +kernel
theorem dX0_repair_0 : decode cX0_repair 0 = .ok (.aload_n 3, 1) := dk_45 (dk_at dksX0_repair_0 0 rfl rfl)
theorem dX0_repair_1 : decode cX0_repair 1 = .ok (.iconst 0, 1) := dk_3 (dk_at dksX0_repair_0 1 rfl rfl)
theorem dX0_repair_2 : decode cX0_repair 2 = .ok (.aload_n 0, 1) := dk_42 (dk_at dksX0_repair_0 2 rfl rfl)
theorem dX0_repair_3 : decode cX0_repair 3 = .ok (.iload_n 1, 1) := dk_27 (dk_at dksX0_repair_0 3 rfl rfl)
theorem dX0_repair_4 : decode cX0_repair 4 = .ok (.iload_n 2, 1) := dk_28 (dk_at dksX0_repair_0 4 rfl rfl)
theorem dX0_repair_5 : decode cX0_repair 5 = .ok (.invokevirtual 82, 3) := dk_182 0 82 (dk_at dksX0_repair_0 5 rfl rfl)
theorem dX0_repair_8 : decode cX0_repair 8 = .ok (.i2l, 1) := dk_133 (dk_at dksX0_repair_0 8 rfl rfl)
theorem dX0_repair_9 : decode cX0_repair 9 = .ok (.lastore, 1) := dk_80 (dk_at dksX0_repair_0 9 rfl rfl)
theorem dX0_repair_10 : decode cX0_repair 10 = .ok (.goto 7, 3) := dk_167 0 7 (dk_at dksX0_repair_0 10 rfl rfl)
theorem dX0_repair_13 : decode cX0_repair 13 = .ok (.astore 4, 2) := dk_58 4 (dk_at dksX0_repair_0 13 rfl rfl)
theorem dX0_repair_15 : decode cX0_repair 15 = .ok (.iconst 1, 1) := dk_4 (dk_at dksX0_repair_0 15 rfl rfl)
theorem dX0_repair_16 : decode cX0_repair 16 = .ok (.ireturn, 1) := dk_172 (dk_at dksX0_repair_0 16 rfl rfl)
theorem dX0_repair_17 : decode cX0_repair 17 = .ok (.iconst 0, 1) := dk_3 (dk_at dksX0_repair_0 17 rfl rfl)
theorem dX0_repair_18 : decode cX0_repair 18 = .ok (.ireturn, 1) := dk_172 (dk_at dksX0_repair_0 18 rfl rfl)
abbrev cX0_best : ByteArray := method_24_code
def yX0_best : MethodName := ⟨RX0, "best", "(LSetupJobShop;I[J)I"⟩
def dkwX0_best_0 : List UInt8 := [44, 3, 42, 27, 182, 0, 85, 133, 80, 167, 0, 6, 78, 4, 172, 3, 172]
abbrev dktX0_best_0 : List UInt8 := dkwX0_best_0 ++ []
theorem dksX0_best_0 : cX0_best.data.toList.drop 0 = dktX0_best_0 := by decide +kernel
theorem dX0_best_0 : decode cX0_best 0 = .ok (.aload_n 2, 1) := dk_44 (dk_at dksX0_best_0 0 rfl rfl)
theorem dX0_best_1 : decode cX0_best 1 = .ok (.iconst 0, 1) := dk_3 (dk_at dksX0_best_0 1 rfl rfl)
theorem dX0_best_2 : decode cX0_best 2 = .ok (.aload_n 0, 1) := dk_42 (dk_at dksX0_best_0 2 rfl rfl)
theorem dX0_best_3 : decode cX0_best 3 = .ok (.iload_n 1, 1) := dk_27 (dk_at dksX0_best_0 3 rfl rfl)
theorem dX0_best_4 : decode cX0_best 4 = .ok (.invokevirtual 85, 3) := dk_182 0 85 (dk_at dksX0_best_0 4 rfl rfl)
theorem dX0_best_7 : decode cX0_best 7 = .ok (.i2l, 1) := dk_133 (dk_at dksX0_best_0 7 rfl rfl)
theorem dX0_best_8 : decode cX0_best 8 = .ok (.lastore, 1) := dk_80 (dk_at dksX0_best_0 8 rfl rfl)
theorem dX0_best_9 : decode cX0_best 9 = .ok (.goto 6, 3) := dk_167 0 6 (dk_at dksX0_best_0 9 rfl rfl)
theorem dX0_best_12 : decode cX0_best 12 = .ok (.astore_n 3, 1) := dk_78 (dk_at dksX0_best_0 12 rfl rfl)
theorem dX0_best_13 : decode cX0_best 13 = .ok (.iconst 1, 1) := dk_4 (dk_at dksX0_best_0 13 rfl rfl)
theorem dX0_best_14 : decode cX0_best 14 = .ok (.ireturn, 1) := dk_172 (dk_at dksX0_best_0 14 rfl rfl)
theorem dX0_best_15 : decode cX0_best 15 = .ok (.iconst 0, 1) := dk_3 (dk_at dksX0_best_0 15 rfl rfl)
theorem dX0_best_16 : decode cX0_best 16 = .ok (.ireturn, 1) := dk_172 (dk_at dksX0_best_0 16 rfl rfl)
abbrev cX0_reoptimize : ByteArray := method_25_code
def yX0_reoptimize : MethodName := ⟨RX0, "reoptimize", "(LSetupJobShop;I[J)I"⟩
def dkwX0_reoptimize_0 : List UInt8 := [44, 3, 42, 27, 182, 0, 88, 133, 80, 167, 0, 6, 78, 4, 172, 3, 172]
abbrev dktX0_reoptimize_0 : List UInt8 := dkwX0_reoptimize_0 ++ []
theorem dksX0_reoptimize_0 : cX0_reoptimize.data.toList.drop 0 = dktX0_reoptimize_0 := by decide +kernel
theorem dX0_reoptimize_0 : decode cX0_reoptimize 0 = .ok (.aload_n 2, 1) := dk_44 (dk_at dksX0_reoptimize_0 0 rfl rfl)
theorem dX0_reoptimize_1 : decode cX0_reoptimize 1 = .ok (.iconst 0, 1) := dk_3 (dk_at dksX0_reoptimize_0 1 rfl rfl)
theorem dX0_reoptimize_2 : decode cX0_reoptimize 2 = .ok (.aload_n 0, 1) := dk_42 (dk_at dksX0_reoptimize_0 2 rfl rfl)
theorem dX0_reoptimize_3 : decode cX0_reoptimize 3 = .ok (.iload_n 1, 1) := dk_27 (dk_at dksX0_reoptimize_0 3 rfl rfl)
theorem dX0_reoptimize_4 : decode cX0_reoptimize 4 = .ok (.invokevirtual 88, 3) := dk_182 0 88 (dk_at dksX0_reoptimize_0 4 rfl rfl)
theorem dX0_reoptimize_7 : decode cX0_reoptimize 7 = .ok (.i2l, 1) := dk_133 (dk_at dksX0_reoptimize_0 7 rfl rfl)
theorem dX0_reoptimize_8 : decode cX0_reoptimize 8 = .ok (.lastore, 1) := dk_80 (dk_at dksX0_reoptimize_0 8 rfl rfl)
theorem dX0_reoptimize_9 : decode cX0_reoptimize 9 = .ok (.goto 6, 3) := dk_167 0 6 (dk_at dksX0_reoptimize_0 9 rfl rfl)
theorem dX0_reoptimize_12 : decode cX0_reoptimize 12 = .ok (.astore_n 3, 1) := dk_78 (dk_at dksX0_reoptimize_0 12 rfl rfl)
theorem dX0_reoptimize_13 : decode cX0_reoptimize 13 = .ok (.iconst 1, 1) := dk_4 (dk_at dksX0_reoptimize_0 13 rfl rfl)
theorem dX0_reoptimize_14 : decode cX0_reoptimize 14 = .ok (.ireturn, 1) := dk_172 (dk_at dksX0_reoptimize_0 14 rfl rfl)
theorem dX0_reoptimize_15 : decode cX0_reoptimize 15 = .ok (.iconst 0, 1) := dk_3 (dk_at dksX0_reoptimize_0 15 rfl rfl)
theorem dX0_reoptimize_16 : decode cX0_reoptimize 16 = .ok (.ireturn, 1) := dk_172 (dk_at dksX0_reoptimize_0 16 rfl rfl)
abbrev cX0_bottleneck : ByteArray := method_26_code
def yX0_bottleneck : MethodName := ⟨RX0, "bottleneck", "(LSetupJobShop;I[J)I"⟩
def dkwX0_bottleneck_0 : List UInt8 := [44, 3, 42, 27, 182, 0, 91, 133, 80, 167, 0, 6, 78, 4, 172, 3, 172]
abbrev dktX0_bottleneck_0 : List UInt8 := dkwX0_bottleneck_0 ++ []
theorem dksX0_bottleneck_0 : cX0_bottleneck.data.toList.drop 0 = dktX0_bottleneck_0 := by decide +kernel
theorem dX0_bottleneck_0 : decode cX0_bottleneck 0 = .ok (.aload_n 2, 1) := dk_44 (dk_at dksX0_bottleneck_0 0 rfl rfl)
theorem dX0_bottleneck_1 : decode cX0_bottleneck 1 = .ok (.iconst 0, 1) := dk_3 (dk_at dksX0_bottleneck_0 1 rfl rfl)
theorem dX0_bottleneck_2 : decode cX0_bottleneck 2 = .ok (.aload_n 0, 1) := dk_42 (dk_at dksX0_bottleneck_0 2 rfl rfl)
theorem dX0_bottleneck_3 : decode cX0_bottleneck 3 = .ok (.iload_n 1, 1) := dk_27 (dk_at dksX0_bottleneck_0 3 rfl rfl)
theorem dX0_bottleneck_4 : decode cX0_bottleneck 4 = .ok (.invokevirtual 91, 3) := dk_182 0 91 (dk_at dksX0_bottleneck_0 4 rfl rfl)
theorem dX0_bottleneck_7 : decode cX0_bottleneck 7 = .ok (.i2l, 1) := dk_133 (dk_at dksX0_bottleneck_0 7 rfl rfl)
theorem dX0_bottleneck_8 : decode cX0_bottleneck 8 = .ok (.lastore, 1) := dk_80 (dk_at dksX0_bottleneck_0 8 rfl rfl)
theorem dX0_bottleneck_9 : decode cX0_bottleneck 9 = .ok (.goto 6, 3) := dk_167 0 6 (dk_at dksX0_bottleneck_0 9 rfl rfl)
theorem dX0_bottleneck_12 : decode cX0_bottleneck 12 = .ok (.astore_n 3, 1) := dk_78 (dk_at dksX0_bottleneck_0 12 rfl rfl)
theorem dX0_bottleneck_13 : decode cX0_bottleneck 13 = .ok (.iconst 1, 1) := dk_4 (dk_at dksX0_bottleneck_0 13 rfl rfl)
theorem dX0_bottleneck_14 : decode cX0_bottleneck 14 = .ok (.ireturn, 1) := dk_172 (dk_at dksX0_bottleneck_0 14 rfl rfl)
theorem dX0_bottleneck_15 : decode cX0_bottleneck 15 = .ok (.iconst 0, 1) := dk_3 (dk_at dksX0_bottleneck_0 15 rfl rfl)
theorem dX0_bottleneck_16 : decode cX0_bottleneck 16 = .ok (.ireturn, 1) := dk_172 (dk_at dksX0_bottleneck_0 16 rfl rfl)
abbrev cX0_tabu : ByteArray := method_27_code
def yX0_tabu : MethodName := ⟨RX0, "tabu", "(LSetupJobShop;II[J)I"⟩
def dkwX0_tabu_0 : List UInt8 := [45, 3, 42, 27, 28, 182, 0, 94, 133, 80, 167, 0, 7, 58, 4, 4, 172, 3, 172]
abbrev dktX0_tabu_0 : List UInt8 := dkwX0_tabu_0 ++ []
theorem dksX0_tabu_0 : cX0_tabu.data.toList.drop 0 = dktX0_tabu_0 := by decide +kernel
theorem dX0_tabu_0 : decode cX0_tabu 0 = .ok (.aload_n 3, 1) := dk_45 (dk_at dksX0_tabu_0 0 rfl rfl)
theorem dX0_tabu_1 : decode cX0_tabu 1 = .ok (.iconst 0, 1) := dk_3 (dk_at dksX0_tabu_0 1 rfl rfl)
theorem dX0_tabu_2 : decode cX0_tabu 2 = .ok (.aload_n 0, 1) := dk_42 (dk_at dksX0_tabu_0 2 rfl rfl)
theorem dX0_tabu_3 : decode cX0_tabu 3 = .ok (.iload_n 1, 1) := dk_27 (dk_at dksX0_tabu_0 3 rfl rfl)
theorem dX0_tabu_4 : decode cX0_tabu 4 = .ok (.iload_n 2, 1) := dk_28 (dk_at dksX0_tabu_0 4 rfl rfl)
theorem dX0_tabu_5 : decode cX0_tabu 5 = .ok (.invokevirtual 94, 3) := dk_182 0 94 (dk_at dksX0_tabu_0 5 rfl rfl)
theorem dX0_tabu_8 : decode cX0_tabu 8 = .ok (.i2l, 1) := dk_133 (dk_at dksX0_tabu_0 8 rfl rfl)
theorem dX0_tabu_9 : decode cX0_tabu 9 = .ok (.lastore, 1) := dk_80 (dk_at dksX0_tabu_0 9 rfl rfl)
theorem dX0_tabu_10 : decode cX0_tabu 10 = .ok (.goto 7, 3) := dk_167 0 7 (dk_at dksX0_tabu_0 10 rfl rfl)
theorem dX0_tabu_13 : decode cX0_tabu 13 = .ok (.astore 4, 2) := dk_58 4 (dk_at dksX0_tabu_0 13 rfl rfl)
theorem dX0_tabu_15 : decode cX0_tabu 15 = .ok (.iconst 1, 1) := dk_4 (dk_at dksX0_tabu_0 15 rfl rfl)
theorem dX0_tabu_16 : decode cX0_tabu 16 = .ok (.ireturn, 1) := dk_172 (dk_at dksX0_tabu_0 16 rfl rfl)
theorem dX0_tabu_17 : decode cX0_tabu 17 = .ok (.iconst 0, 1) := dk_3 (dk_at dksX0_tabu_0 17 rfl rfl)
theorem dX0_tabu_18 : decode cX0_tabu 18 = .ok (.ireturn, 1) := dk_172 (dk_at dksX0_tabu_0 18 rfl rfl)
abbrev cX0_bound : ByteArray := method_28_code
def yX0_bound : MethodName := ⟨RX0, "bound", "(LSetupJobShop;I[J)I"⟩
def dkwX0_bound_0 : List UInt8 := [44, 3, 42, 27, 182, 0, 97, 133, 80, 167, 0, 6, 78, 4, 172, 3, 172]
abbrev dktX0_bound_0 : List UInt8 := dkwX0_bound_0 ++ []
theorem dksX0_bound_0 : cX0_bound.data.toList.drop 0 = dktX0_bound_0 := by decide +kernel
theorem dX0_bound_0 : decode cX0_bound 0 = .ok (.aload_n 2, 1) := dk_44 (dk_at dksX0_bound_0 0 rfl rfl)
theorem dX0_bound_1 : decode cX0_bound 1 = .ok (.iconst 0, 1) := dk_3 (dk_at dksX0_bound_0 1 rfl rfl)
theorem dX0_bound_2 : decode cX0_bound 2 = .ok (.aload_n 0, 1) := dk_42 (dk_at dksX0_bound_0 2 rfl rfl)
theorem dX0_bound_3 : decode cX0_bound 3 = .ok (.iload_n 1, 1) := dk_27 (dk_at dksX0_bound_0 3 rfl rfl)
theorem dX0_bound_4 : decode cX0_bound 4 = .ok (.invokevirtual 97, 3) := dk_182 0 97 (dk_at dksX0_bound_0 4 rfl rfl)
theorem dX0_bound_7 : decode cX0_bound 7 = .ok (.i2l, 1) := dk_133 (dk_at dksX0_bound_0 7 rfl rfl)
theorem dX0_bound_8 : decode cX0_bound 8 = .ok (.lastore, 1) := dk_80 (dk_at dksX0_bound_0 8 rfl rfl)
theorem dX0_bound_9 : decode cX0_bound 9 = .ok (.goto 6, 3) := dk_167 0 6 (dk_at dksX0_bound_0 9 rfl rfl)
theorem dX0_bound_12 : decode cX0_bound 12 = .ok (.astore_n 3, 1) := dk_78 (dk_at dksX0_bound_0 12 rfl rfl)
theorem dX0_bound_13 : decode cX0_bound 13 = .ok (.iconst 1, 1) := dk_4 (dk_at dksX0_bound_0 13 rfl rfl)
theorem dX0_bound_14 : decode cX0_bound 14 = .ok (.ireturn, 1) := dk_172 (dk_at dksX0_bound_0 14 rfl rfl)
theorem dX0_bound_15 : decode cX0_bound 15 = .ok (.iconst 0, 1) := dk_3 (dk_at dksX0_bound_0 15 rfl rfl)
theorem dX0_bound_16 : decode cX0_bound 16 = .ok (.ireturn, 1) := dk_172 (dk_at dksX0_bound_0 16 rfl rfl)
abbrev cX0_append : ByteArray := method_29_code
def yX0_append : MethodName := ⟨RX0, "append", "(LSetupJobShop;C)I"⟩
def dkwX0_append_0 : List UInt8 := [42, 27, 182, 0, 100, 167, 0, 6, 77, 4, 172, 3, 172]
abbrev dktX0_append_0 : List UInt8 := dkwX0_append_0 ++ []
theorem dksX0_append_0 : cX0_append.data.toList.drop 0 = dktX0_append_0 := by decide +kernel
theorem dX0_append_0 : decode cX0_append 0 = .ok (.aload_n 0, 1) := dk_42 (dk_at dksX0_append_0 0 rfl rfl)
theorem dX0_append_1 : decode cX0_append 1 = .ok (.iload_n 1, 1) := dk_27 (dk_at dksX0_append_0 1 rfl rfl)
theorem dX0_append_2 : decode cX0_append 2 = .ok (.invokevirtual 100, 3) := dk_182 0 100 (dk_at dksX0_append_0 2 rfl rfl)
theorem dX0_append_5 : decode cX0_append 5 = .ok (.goto 6, 3) := dk_167 0 6 (dk_at dksX0_append_0 5 rfl rfl)
theorem dX0_append_8 : decode cX0_append 8 = .ok (.astore_n 2, 1) := dk_77 (dk_at dksX0_append_0 8 rfl rfl)
theorem dX0_append_9 : decode cX0_append 9 = .ok (.iconst 1, 1) := dk_4 (dk_at dksX0_append_0 9 rfl rfl)
theorem dX0_append_10 : decode cX0_append 10 = .ok (.ireturn, 1) := dk_172 (dk_at dksX0_append_0 10 rfl rfl)
theorem dX0_append_11 : decode cX0_append 11 = .ok (.iconst 0, 1) := dk_3 (dk_at dksX0_append_0 11 rfl rfl)
theorem dX0_append_12 : decode cX0_append 12 = .ok (.ireturn, 1) := dk_172 (dk_at dksX0_append_0 12 rfl rfl)
abbrev cX0_read : ByteArray := method_30_code
def yX0_read : MethodName := ⟨RX0, "read", "(LSetupJobShop;[J)I"⟩
def dkwX0_read_0 : List UInt8 := [43, 3, 42, 182, 0, 104, 133, 80, 167, 0, 9, 77, 4, 172, 77, 5, 172, 3, 172]
abbrev dktX0_read_0 : List UInt8 := dkwX0_read_0 ++ []
theorem dksX0_read_0 : cX0_read.data.toList.drop 0 = dktX0_read_0 := by decide +kernel
theorem dX0_read_0 : decode cX0_read 0 = .ok (.aload_n 1, 1) := dk_43 (dk_at dksX0_read_0 0 rfl rfl)
theorem dX0_read_1 : decode cX0_read 1 = .ok (.iconst 0, 1) := dk_3 (dk_at dksX0_read_0 1 rfl rfl)
theorem dX0_read_2 : decode cX0_read 2 = .ok (.aload_n 0, 1) := dk_42 (dk_at dksX0_read_0 2 rfl rfl)
theorem dX0_read_3 : decode cX0_read 3 = .ok (.invokevirtual 104, 3) := dk_182 0 104 (dk_at dksX0_read_0 3 rfl rfl)
theorem dX0_read_6 : decode cX0_read 6 = .ok (.i2l, 1) := dk_133 (dk_at dksX0_read_0 6 rfl rfl)
theorem dX0_read_7 : decode cX0_read 7 = .ok (.lastore, 1) := dk_80 (dk_at dksX0_read_0 7 rfl rfl)
theorem dX0_read_8 : decode cX0_read 8 = .ok (.goto 9, 3) := dk_167 0 9 (dk_at dksX0_read_0 8 rfl rfl)
theorem dX0_read_11 : decode cX0_read 11 = .ok (.astore_n 2, 1) := dk_77 (dk_at dksX0_read_0 11 rfl rfl)
theorem dX0_read_12 : decode cX0_read 12 = .ok (.iconst 1, 1) := dk_4 (dk_at dksX0_read_0 12 rfl rfl)
theorem dX0_read_13 : decode cX0_read 13 = .ok (.ireturn, 1) := dk_172 (dk_at dksX0_read_0 13 rfl rfl)
theorem dX0_read_14 : decode cX0_read 14 = .ok (.astore_n 2, 1) := dk_77 (dk_at dksX0_read_0 14 rfl rfl)
theorem dX0_read_15 : decode cX0_read 15 = .ok (.iconst 2, 1) := dk_5 (dk_at dksX0_read_0 15 rfl rfl)
theorem dX0_read_16 : decode cX0_read 16 = .ok (.ireturn, 1) := dk_172 (dk_at dksX0_read_0 16 rfl rfl)
theorem dX0_read_17 : decode cX0_read 17 = .ok (.iconst 0, 1) := dk_3 (dk_at dksX0_read_0 17 rfl rfl)
theorem dX0_read_18 : decode cX0_read 18 = .ok (.ireturn, 1) := dk_172 (dk_at dksX0_read_0 18 rfl rfl)
abbrev cX0_failure : ByteArray := method_31_code
def yX0_failure : MethodName := ⟨RX0, "failure", "(LSetupJobShop;I[J)I"⟩
def dkwX0_failure_0 : List UInt8 := [44, 3, 42, 27, 182, 0, 108, 133, 80, 167, 0, 6, 78, 4, 172, 3, 172]
abbrev dktX0_failure_0 : List UInt8 := dkwX0_failure_0 ++ []
theorem dksX0_failure_0 : cX0_failure.data.toList.drop 0 = dktX0_failure_0 := by decide +kernel
theorem dX0_failure_0 : decode cX0_failure 0 = .ok (.aload_n 2, 1) := dk_44 (dk_at dksX0_failure_0 0 rfl rfl)
theorem dX0_failure_1 : decode cX0_failure 1 = .ok (.iconst 0, 1) := dk_3 (dk_at dksX0_failure_0 1 rfl rfl)
theorem dX0_failure_2 : decode cX0_failure 2 = .ok (.aload_n 0, 1) := dk_42 (dk_at dksX0_failure_0 2 rfl rfl)
theorem dX0_failure_3 : decode cX0_failure 3 = .ok (.iload_n 1, 1) := dk_27 (dk_at dksX0_failure_0 3 rfl rfl)
theorem dX0_failure_4 : decode cX0_failure 4 = .ok (.invokevirtual 108, 3) := dk_182 0 108 (dk_at dksX0_failure_0 4 rfl rfl)
theorem dX0_failure_7 : decode cX0_failure 7 = .ok (.i2l, 1) := dk_133 (dk_at dksX0_failure_0 7 rfl rfl)
theorem dX0_failure_8 : decode cX0_failure 8 = .ok (.lastore, 1) := dk_80 (dk_at dksX0_failure_0 8 rfl rfl)
theorem dX0_failure_9 : decode cX0_failure 9 = .ok (.goto 6, 3) := dk_167 0 6 (dk_at dksX0_failure_0 9 rfl rfl)
theorem dX0_failure_12 : decode cX0_failure 12 = .ok (.astore_n 3, 1) := dk_78 (dk_at dksX0_failure_0 12 rfl rfl)
theorem dX0_failure_13 : decode cX0_failure 13 = .ok (.iconst 1, 1) := dk_4 (dk_at dksX0_failure_0 13 rfl rfl)
theorem dX0_failure_14 : decode cX0_failure 14 = .ok (.ireturn, 1) := dk_172 (dk_at dksX0_failure_0 14 rfl rfl)
theorem dX0_failure_15 : decode cX0_failure 15 = .ok (.iconst 0, 1) := dk_3 (dk_at dksX0_failure_0 15 rfl rfl)
theorem dX0_failure_16 : decode cX0_failure 16 = .ok (.ireturn, 1) := dk_172 (dk_at dksX0_failure_0 16 rfl rfl)
abbrev cX0_restore : ByteArray := method_32_code
def yX0_restore : MethodName := ⟨RX0, "restore", "(LSetupJobShop;)I"⟩
def dkwX0_restore_0 : List UInt8 := [42, 182, 0, 111, 167, 0, 6, 76, 4, 172, 3, 172]
abbrev dktX0_restore_0 : List UInt8 := dkwX0_restore_0 ++ []
theorem dksX0_restore_0 : cX0_restore.data.toList.drop 0 = dktX0_restore_0 := by decide +kernel
theorem dX0_restore_0 : decode cX0_restore 0 = .ok (.aload_n 0, 1) := dk_42 (dk_at dksX0_restore_0 0 rfl rfl)
theorem dX0_restore_1 : decode cX0_restore 1 = .ok (.invokevirtual 111, 3) := dk_182 0 111 (dk_at dksX0_restore_0 1 rfl rfl)
theorem dX0_restore_4 : decode cX0_restore 4 = .ok (.goto 6, 3) := dk_167 0 6 (dk_at dksX0_restore_0 4 rfl rfl)
theorem dX0_restore_7 : decode cX0_restore 7 = .ok (.astore_n 1, 1) := dk_76 (dk_at dksX0_restore_0 7 rfl rfl)
theorem dX0_restore_8 : decode cX0_restore 8 = .ok (.iconst 1, 1) := dk_4 (dk_at dksX0_restore_0 8 rfl rfl)
theorem dX0_restore_9 : decode cX0_restore 9 = .ok (.ireturn, 1) := dk_172 (dk_at dksX0_restore_0 9 rfl rfl)
theorem dX0_restore_10 : decode cX0_restore 10 = .ok (.iconst 0, 1) := dk_3 (dk_at dksX0_restore_0 10 rfl rfl)
theorem dX0_restore_11 : decode cX0_restore 11 = .ok (.ireturn, 1) := dk_172 (dk_at dksX0_restore_0 11 rfl rfl)
theorem q88 : (Jvm.Cond.initialized "SetupJobShopLaw") ∈ lw_all := lw_g (lw_at lw_m1 0 rfl) rfl
theorem q132 : (Jvm.Cond.classLink "SetupJobShopLaw" (8 : Nat) "SetupJobShop") ∈ lw_all := lw_g (lw_at lw_m1 44 rfl) rfl
theorem q134 : (Jvm.Cond.methodLink "SetupJobShopLaw" (114 : Nat) ({ cls := "SetupJobShop", name := "<init>", desc := "()V" } : Jvm.MethodName)) ∈ lw_all := lw_g (lw_at lw_m1 46 rfl) rfl
theorem q374 : (Jvm.Cond.methodLink "SetupJobShopLaw" (160 : Nat) ({ cls := "SetupJobShop", name := "makespan", desc := "()I" } : Jvm.MethodName)) ∈ lw_all := lw_g (lw_at lw_m2 46 rfl) rfl
theorem q440 : (Jvm.Cond.methodLink "SetupJobShopLaw" (177 : Nat) ({ cls := "SetupJobShop", name := "pathLength", desc := "()I" } : Jvm.MethodName)) ∈ lw_all := lw_g (lw_at lw_m2 112 rfl) rfl
theorem q457 : (Jvm.Cond.methodLink "SetupJobShopLaw" (184 : Nat) ({ cls := "SetupJobShop", name := "blocks", desc := "()I" } : Jvm.MethodName)) ∈ lw_all := lw_g (lw_at lw_m2 129 rfl) rfl
theorem q490 : (Jvm.Cond.methodLink "SetupJobShopLaw" (209 : Nat) ({ cls := "SetupJobShop", name := "shiftBottlenecks", desc := "()I" } : Jvm.MethodName)) ∈ lw_all := lw_g (lw_at lw_m2 162 rfl) rfl
theorem q524 : (Jvm.Cond.methodLink "SetupJobShopLaw" (219 : Nat) ({ cls := "SetupJobShop", name := "tabuSteps", desc := "()I" } : Jvm.MethodName)) ∈ lw_all := lw_g (lw_at lw_m2 196 rfl) rfl
theorem q528 : (Jvm.Cond.methodLink "SetupJobShopLaw" (226 : Nat) ({ cls := "SetupJobShop", name := "lowerBound", desc := "()I" } : Jvm.MethodName)) ∈ lw_all := lw_g (lw_at lw_m2 200 rfl) rfl
theorem q563 : (Jvm.Cond.methodLink "SetupJobShopLaw" (241 : Nat) ({ cls := "SetupJobShop", name := "save", desc := "()V" } : Jvm.MethodName)) ∈ lw_all := lw_g (lw_at lw_m2 235 rfl) rfl
theorem q666 : (Jvm.Cond.methodLink "SetupJobShopLaw" (118 : Nat) ({ cls := "SetupJobShopLaw", name := "addJob", desc := "(LSetupJobShop;III[J)I" } : Jvm.MethodName)) ∈ lw_all := lw_g (lw_at lw_m3 98 rfl) rfl
theorem q667 : (Jvm.Cond.static ({ cls := "SetupJobShopLaw", name := "addJob", desc := "(LSetupJobShop;III[J)I" } : Jvm.MethodName)) ∈ lw_all := lw_g (lw_at lw_m3 99 rfl) rfl
theorem q668 : (Jvm.Cond.codeWith ({ cls := "SetupJobShopLaw", name := "addJob", desc := "(LSetupJobShop;III[J)I" } : Jvm.MethodName) method_3_code (6 : Nat) (Option.some Jvm.ClassFile.FieldType.int) [((0 : Nat), (12 : Nat), (15 : Nat), (13 : Nat)), ((0 : Nat), (12 : Nat), (19 : Nat), (15 : Nat))]) ∈ lw_all := lw_g (lw_at lw_m3 100 rfl) rfl
theorem q669 : (Jvm.Cond.classLink "SetupJobShopLaw" (13 : Nat) "java/lang/IllegalArgumentException") ∈ lw_all := lw_g (lw_at lw_m3 101 rfl) rfl
theorem q670 : (Jvm.Cond.classLink "SetupJobShopLaw" (15 : Nat) "java/lang/IllegalStateException") ∈ lw_all := lw_g (lw_at lw_m3 102 rfl) rfl
theorem q671 : (Jvm.Cond.methodLink "SetupJobShopLaw" (7 : Nat) ({ cls := "SetupJobShop", name := "addJob", desc := "(III)I" } : Jvm.MethodName)) ∈ lw_all := lw_g (lw_at lw_m3 103 rfl) rfl
theorem q775 : (Jvm.Cond.methodLink "SetupJobShopLaw" (127 : Nat) ({ cls := "SetupJobShopLaw", name := "addOperation", desc := "(LSetupJobShop;IIII[J)I" } : Jvm.MethodName)) ∈ lw_all := lw_g (lw_at lw_m3 207 rfl) rfl
theorem q776 : (Jvm.Cond.static ({ cls := "SetupJobShopLaw", name := "addOperation", desc := "(LSetupJobShop;IIII[J)I" } : Jvm.MethodName)) ∈ lw_all := lw_g (lw_at lw_m3 208 rfl) rfl
theorem q777 : (Jvm.Cond.codeWith ({ cls := "SetupJobShopLaw", name := "addOperation", desc := "(LSetupJobShop;IIII[J)I" } : Jvm.MethodName) method_4_code (7 : Nat) (Option.some Jvm.ClassFile.FieldType.int) [((0 : Nat), (14 : Nat), (17 : Nat), (21 : Nat)), ((0 : Nat), (14 : Nat), (21 : Nat), (13 : Nat)), ((0 : Nat), (14 : Nat), (25 : Nat), (15 : Nat))]) ∈ lw_all := lw_g (lw_at lw_m3 209 rfl) rfl
theorem q778 : (Jvm.Cond.classLink "SetupJobShopLaw" (21 : Nat) "java/lang/IndexOutOfBoundsException") ∈ lw_all := lw_g (lw_at lw_m3 210 rfl) rfl
theorem q810 : (Jvm.Cond.methodLink "SetupJobShopLaw" (17 : Nat) ({ cls := "SetupJobShop", name := "addOperation", desc := "(IIII)I" } : Jvm.MethodName)) ∈ lw_all := lw_g (lw_at lw_m4 2 rfl) rfl
theorem q841 : (Jvm.Cond.methodLink "SetupJobShopLaw" (131 : Nat) ({ cls := "SetupJobShopLaw", name := "setJob", desc := "(LSetupJobShop;III[J)I" } : Jvm.MethodName)) ∈ lw_all := lw_g (lw_at lw_m4 33 rfl) rfl
theorem q842 : (Jvm.Cond.static ({ cls := "SetupJobShopLaw", name := "setJob", desc := "(LSetupJobShop;III[J)I" } : Jvm.MethodName)) ∈ lw_all := lw_g (lw_at lw_m4 34 rfl) rfl
theorem q843 : (Jvm.Cond.codeWith ({ cls := "SetupJobShopLaw", name := "setJob", desc := "(LSetupJobShop;III[J)I" } : Jvm.MethodName) method_5_code (6 : Nat) (Option.some Jvm.ClassFile.FieldType.int) [((0 : Nat), (12 : Nat), (15 : Nat), (21 : Nat)), ((0 : Nat), (12 : Nat), (19 : Nat), (13 : Nat))]) ∈ lw_all := lw_g (lw_at lw_m4 35 rfl) rfl
theorem q844 : (Jvm.Cond.methodLink "SetupJobShopLaw" (23 : Nat) ({ cls := "SetupJobShop", name := "setJob", desc := "(III)I" } : Jvm.MethodName)) ∈ lw_all := lw_g (lw_at lw_m4 36 rfl) rfl
theorem q852 : (Jvm.Cond.methodLink "SetupJobShopLaw" (134 : Nat) ({ cls := "SetupJobShopLaw", name := "setDuration", desc := "(LSetupJobShop;II[J)I" } : Jvm.MethodName)) ∈ lw_all := lw_g (lw_at lw_m4 44 rfl) rfl
theorem q853 : (Jvm.Cond.static ({ cls := "SetupJobShopLaw", name := "setDuration", desc := "(LSetupJobShop;II[J)I" } : Jvm.MethodName)) ∈ lw_all := lw_g (lw_at lw_m4 45 rfl) rfl
theorem q854 : (Jvm.Cond.codeWith ({ cls := "SetupJobShopLaw", name := "setDuration", desc := "(LSetupJobShop;II[J)I" } : Jvm.MethodName) method_6_code (5 : Nat) (Option.some Jvm.ClassFile.FieldType.int) [((0 : Nat), (10 : Nat), (13 : Nat), (21 : Nat)), ((0 : Nat), (10 : Nat), (17 : Nat), (13 : Nat))]) ∈ lw_all := lw_g (lw_at lw_m4 46 rfl) rfl
theorem q855 : (Jvm.Cond.methodLink "SetupJobShopLaw" (26 : Nat) ({ cls := "SetupJobShop", name := "setDuration", desc := "(II)I" } : Jvm.MethodName)) ∈ lw_all := lw_g (lw_at lw_m4 47 rfl) rfl
theorem q863 : (Jvm.Cond.methodLink "SetupJobShopLaw" (138 : Nat) ({ cls := "SetupJobShopLaw", name := "setSetup", desc := "(LSetupJobShop;III[J)I" } : Jvm.MethodName)) ∈ lw_all := lw_g (lw_at lw_m4 55 rfl) rfl
theorem q864 : (Jvm.Cond.static ({ cls := "SetupJobShopLaw", name := "setSetup", desc := "(LSetupJobShop;III[J)I" } : Jvm.MethodName)) ∈ lw_all := lw_g (lw_at lw_m4 56 rfl) rfl
theorem q865 : (Jvm.Cond.codeWith ({ cls := "SetupJobShopLaw", name := "setSetup", desc := "(LSetupJobShop;III[J)I" } : Jvm.MethodName) method_7_code (6 : Nat) (Option.some Jvm.ClassFile.FieldType.int) [((0 : Nat), (12 : Nat), (15 : Nat), (21 : Nat)), ((0 : Nat), (12 : Nat), (19 : Nat), (13 : Nat))]) ∈ lw_all := lw_g (lw_at lw_m4 57 rfl) rfl
theorem q866 : (Jvm.Cond.methodLink "SetupJobShopLaw" (30 : Nat) ({ cls := "SetupJobShop", name := "setSetup", desc := "(III)I" } : Jvm.MethodName)) ∈ lw_all := lw_g (lw_at lw_m4 58 rfl) rfl
theorem q870 : (Jvm.Cond.methodLink "SetupJobShopLaw" (141 : Nat) ({ cls := "SetupJobShopLaw", name := "addBreakdown", desc := "(LSetupJobShop;III[J)I" } : Jvm.MethodName)) ∈ lw_all := lw_g (lw_at lw_m4 62 rfl) rfl
theorem q871 : (Jvm.Cond.static ({ cls := "SetupJobShopLaw", name := "addBreakdown", desc := "(LSetupJobShop;III[J)I" } : Jvm.MethodName)) ∈ lw_all := lw_g (lw_at lw_m4 63 rfl) rfl
theorem q872 : (Jvm.Cond.codeWith ({ cls := "SetupJobShopLaw", name := "addBreakdown", desc := "(LSetupJobShop;III[J)I" } : Jvm.MethodName) method_8_code (6 : Nat) (Option.some Jvm.ClassFile.FieldType.int) [((0 : Nat), (12 : Nat), (15 : Nat), (21 : Nat)), ((0 : Nat), (12 : Nat), (19 : Nat), (13 : Nat)), ((0 : Nat), (12 : Nat), (23 : Nat), (15 : Nat))]) ∈ lw_all := lw_g (lw_at lw_m4 64 rfl) rfl
theorem q873 : (Jvm.Cond.methodLink "SetupJobShopLaw" (33 : Nat) ({ cls := "SetupJobShop", name := "addBreakdown", desc := "(III)I" } : Jvm.MethodName)) ∈ lw_all := lw_g (lw_at lw_m4 65 rfl) rfl
theorem q892 : (Jvm.Cond.methodLink "SetupJobShopLaw" (144 : Nat) ({ cls := "SetupJobShopLaw", name := "clearBreakdowns", desc := "(LSetupJobShop;I[J)I" } : Jvm.MethodName)) ∈ lw_all := lw_g (lw_at lw_m4 84 rfl) rfl
theorem q893 : (Jvm.Cond.static ({ cls := "SetupJobShopLaw", name := "clearBreakdowns", desc := "(LSetupJobShop;I[J)I" } : Jvm.MethodName)) ∈ lw_all := lw_g (lw_at lw_m4 85 rfl) rfl
theorem q894 : (Jvm.Cond.codeWith ({ cls := "SetupJobShopLaw", name := "clearBreakdowns", desc := "(LSetupJobShop;I[J)I" } : Jvm.MethodName) method_9_code (4 : Nat) (Option.some Jvm.ClassFile.FieldType.int) [((0 : Nat), (9 : Nat), (12 : Nat), (21 : Nat))]) ∈ lw_all := lw_g (lw_at lw_m4 86 rfl) rfl
theorem q895 : (Jvm.Cond.methodLink "SetupJobShopLaw" (36 : Nat) ({ cls := "SetupJobShop", name := "clearBreakdowns", desc := "(I)I" } : Jvm.MethodName)) ∈ lw_all := lw_g (lw_at lw_m4 87 rfl) rfl
theorem q903 : (Jvm.Cond.methodLink "SetupJobShopLaw" (148 : Nat) ({ cls := "SetupJobShopLaw", name := "count", desc := "(LSetupJobShop;I[J)I" } : Jvm.MethodName)) ∈ lw_all := lw_g (lw_at lw_m4 95 rfl) rfl
theorem q904 : (Jvm.Cond.static ({ cls := "SetupJobShopLaw", name := "count", desc := "(LSetupJobShop;I[J)I" } : Jvm.MethodName)) ∈ lw_all := lw_g (lw_at lw_m4 96 rfl) rfl
theorem q905 : (Jvm.Cond.codeWith ({ cls := "SetupJobShopLaw", name := "count", desc := "(LSetupJobShop;I[J)I" } : Jvm.MethodName) method_10_code (4 : Nat) (Option.some Jvm.ClassFile.FieldType.int) [((0 : Nat), (9 : Nat), (12 : Nat), (13 : Nat))]) ∈ lw_all := lw_g (lw_at lw_m4 97 rfl) rfl
theorem q906 : (Jvm.Cond.methodLink "SetupJobShopLaw" (40 : Nat) ({ cls := "SetupJobShop", name := "count", desc := "(I)I" } : Jvm.MethodName)) ∈ lw_all := lw_g (lw_at lw_m4 98 rfl) rfl
theorem q910 : (Jvm.Cond.methodLink "SetupJobShopLaw" (151 : Nat) ({ cls := "SetupJobShopLaw", name := "property", desc := "(LSetupJobShop;II[J)I" } : Jvm.MethodName)) ∈ lw_all := lw_g (lw_at lw_m4 102 rfl) rfl
theorem q911 : (Jvm.Cond.static ({ cls := "SetupJobShopLaw", name := "property", desc := "(LSetupJobShop;II[J)I" } : Jvm.MethodName)) ∈ lw_all := lw_g (lw_at lw_m4 103 rfl) rfl
theorem q912 : (Jvm.Cond.codeWith ({ cls := "SetupJobShopLaw", name := "property", desc := "(LSetupJobShop;II[J)I" } : Jvm.MethodName) method_11_code (5 : Nat) (Option.some Jvm.ClassFile.FieldType.int) [((0 : Nat), (10 : Nat), (13 : Nat), (21 : Nat)), ((0 : Nat), (10 : Nat), (17 : Nat), (13 : Nat))]) ∈ lw_all := lw_g (lw_at lw_m4 104 rfl) rfl
theorem q913 : (Jvm.Cond.methodLink "SetupJobShopLaw" (43 : Nat) ({ cls := "SetupJobShop", name := "property", desc := "(II)I" } : Jvm.MethodName)) ∈ lw_all := lw_g (lw_at lw_m4 105 rfl) rfl
theorem q922 : (Jvm.Cond.methodLink "SetupJobShopLaw" (154 : Nat) ({ cls := "SetupJobShopLaw", name := "order", desc := "(LSetupJobShop;II[J)I" } : Jvm.MethodName)) ∈ lw_all := lw_g (lw_at lw_m4 114 rfl) rfl
theorem q923 : (Jvm.Cond.static ({ cls := "SetupJobShopLaw", name := "order", desc := "(LSetupJobShop;II[J)I" } : Jvm.MethodName)) ∈ lw_all := lw_g (lw_at lw_m4 115 rfl) rfl
theorem q924 : (Jvm.Cond.codeWith ({ cls := "SetupJobShopLaw", name := "order", desc := "(LSetupJobShop;II[J)I" } : Jvm.MethodName) method_12_code (5 : Nat) (Option.some Jvm.ClassFile.FieldType.int) [((0 : Nat), (10 : Nat), (13 : Nat), (21 : Nat)), ((0 : Nat), (10 : Nat), (17 : Nat), (49 : Nat))]) ∈ lw_all := lw_g (lw_at lw_m4 116 rfl) rfl
theorem q925 : (Jvm.Cond.classLink "SetupJobShopLaw" (49 : Nat) "java/util/NoSuchElementException") ∈ lw_all := lw_g (lw_at lw_m4 117 rfl) rfl
theorem q926 : (Jvm.Cond.methodLink "SetupJobShopLaw" (46 : Nat) ({ cls := "SetupJobShop", name := "order", desc := "(II)I" } : Jvm.MethodName)) ∈ lw_all := lw_g (lw_at lw_m4 118 rfl) rfl
theorem q952 : (Jvm.Cond.methodLink "SetupJobShopLaw" (157 : Nat) ({ cls := "SetupJobShopLaw", name := "time", desc := "(LSetupJobShop;II[J)I" } : Jvm.MethodName)) ∈ lw_all := lw_g (lw_at lw_m4 144 rfl) rfl
theorem q953 : (Jvm.Cond.static ({ cls := "SetupJobShopLaw", name := "time", desc := "(LSetupJobShop;II[J)I" } : Jvm.MethodName)) ∈ lw_all := lw_g (lw_at lw_m4 145 rfl) rfl
theorem q954 : (Jvm.Cond.codeWith ({ cls := "SetupJobShopLaw", name := "time", desc := "(LSetupJobShop;II[J)I" } : Jvm.MethodName) method_13_code (5 : Nat) (Option.some Jvm.ClassFile.FieldType.int) [((0 : Nat), (10 : Nat), (13 : Nat), (21 : Nat)), ((0 : Nat), (10 : Nat), (17 : Nat), (13 : Nat))]) ∈ lw_all := lw_g (lw_at lw_m4 146 rfl) rfl
theorem q955 : (Jvm.Cond.methodLink "SetupJobShopLaw" (51 : Nat) ({ cls := "SetupJobShop", name := "time", desc := "(II)I" } : Jvm.MethodName)) ∈ lw_all := lw_g (lw_at lw_m4 147 rfl) rfl
theorem q959 : (Jvm.Cond.methodLink "SetupJobShopLaw" (164 : Nat) ({ cls := "SetupJobShopLaw", name := "slack", desc := "(LSetupJobShop;I[J)I" } : Jvm.MethodName)) ∈ lw_all := lw_g (lw_at lw_m4 151 rfl) rfl
theorem q960 : (Jvm.Cond.static ({ cls := "SetupJobShopLaw", name := "slack", desc := "(LSetupJobShop;I[J)I" } : Jvm.MethodName)) ∈ lw_all := lw_g (lw_at lw_m4 152 rfl) rfl
theorem q961 : (Jvm.Cond.codeWith ({ cls := "SetupJobShopLaw", name := "slack", desc := "(LSetupJobShop;I[J)I" } : Jvm.MethodName) method_14_code (4 : Nat) (Option.some Jvm.ClassFile.FieldType.int) [((0 : Nat), (9 : Nat), (12 : Nat), (21 : Nat))]) ∈ lw_all := lw_g (lw_at lw_m4 153 rfl) rfl
theorem q962 : (Jvm.Cond.methodLink "SetupJobShopLaw" (54 : Nat) ({ cls := "SetupJobShop", name := "slack", desc := "(I)I" } : Jvm.MethodName)) ∈ lw_all := lw_g (lw_at lw_m4 154 rfl) rfl
theorem q970 : (Jvm.Cond.methodLink "SetupJobShopLaw" (167 : Nat) ({ cls := "SetupJobShopLaw", name := "completion", desc := "(LSetupJobShop;I[J)I" } : Jvm.MethodName)) ∈ lw_all := lw_g (lw_at lw_m4 162 rfl) rfl
theorem q971 : (Jvm.Cond.static ({ cls := "SetupJobShopLaw", name := "completion", desc := "(LSetupJobShop;I[J)I" } : Jvm.MethodName)) ∈ lw_all := lw_g (lw_at lw_m4 163 rfl) rfl
theorem q972 : (Jvm.Cond.codeWith ({ cls := "SetupJobShopLaw", name := "completion", desc := "(LSetupJobShop;I[J)I" } : Jvm.MethodName) method_15_code (4 : Nat) (Option.some Jvm.ClassFile.FieldType.int) [((0 : Nat), (9 : Nat), (12 : Nat), (21 : Nat))]) ∈ lw_all := lw_g (lw_at lw_m4 164 rfl) rfl
theorem q973 : (Jvm.Cond.methodLink "SetupJobShopLaw" (57 : Nat) ({ cls := "SetupJobShop", name := "completion", desc := "(I)I" } : Jvm.MethodName)) ∈ lw_all := lw_g (lw_at lw_m4 165 rfl) rfl
theorem q981 : (Jvm.Cond.methodLink "SetupJobShopLaw" (170 : Nat) ({ cls := "SetupJobShopLaw", name := "objective", desc := "(LSetupJobShop;I[J)I" } : Jvm.MethodName)) ∈ lw_all := lw_g (lw_at lw_m4 173 rfl) rfl
theorem q982 : (Jvm.Cond.static ({ cls := "SetupJobShopLaw", name := "objective", desc := "(LSetupJobShop;I[J)I" } : Jvm.MethodName)) ∈ lw_all := lw_g (lw_at lw_m4 174 rfl) rfl
theorem q983 : (Jvm.Cond.codeWith ({ cls := "SetupJobShopLaw", name := "objective", desc := "(LSetupJobShop;I[J)I" } : Jvm.MethodName) method_16_code (4 : Nat) (Option.some Jvm.ClassFile.FieldType.int) [((0 : Nat), (9 : Nat), (12 : Nat), (13 : Nat))]) ∈ lw_all := lw_g (lw_at lw_m4 175 rfl) rfl
theorem q984 : (Jvm.Cond.methodLink "SetupJobShopLaw" (60 : Nat) ({ cls := "SetupJobShop", name := "objective", desc := "(I)I" } : Jvm.MethodName)) ∈ lw_all := lw_g (lw_at lw_m4 176 rfl) rfl
theorem q1006 : (Jvm.Cond.methodLink "SetupJobShopLaw" (173 : Nat) ({ cls := "SetupJobShopLaw", name := "utilization", desc := "(LSetupJobShop;I[D)I" } : Jvm.MethodName)) ∈ lw_all := lw_g (lw_at lw_m4 198 rfl) rfl
theorem q1007 : (Jvm.Cond.static ({ cls := "SetupJobShopLaw", name := "utilization", desc := "(LSetupJobShop;I[D)I" } : Jvm.MethodName)) ∈ lw_all := lw_g (lw_at lw_m4 199 rfl) rfl
theorem q1008 : (Jvm.Cond.codeWith ({ cls := "SetupJobShopLaw", name := "utilization", desc := "(LSetupJobShop;I[D)I" } : Jvm.MethodName) method_17_code (4 : Nat) (Option.some Jvm.ClassFile.FieldType.int) [((0 : Nat), (8 : Nat), (11 : Nat), (21 : Nat))]) ∈ lw_all := lw_g (lw_at lw_m4 200 rfl) rfl
theorem q1009 : (Jvm.Cond.methodLink "SetupJobShopLaw" (63 : Nat) ({ cls := "SetupJobShop", name := "utilization", desc := "(I)D" } : Jvm.MethodName)) ∈ lw_all := lw_g (lw_at lw_m4 201 rfl) rfl
theorem q1013 : (Jvm.Cond.methodLink "SetupJobShopLaw" (181 : Nat) ({ cls := "SetupJobShopLaw", name := "path", desc := "(LSetupJobShop;I[J)I" } : Jvm.MethodName)) ∈ lw_all := lw_g (lw_at lw_m4 205 rfl) rfl
theorem q1014 : (Jvm.Cond.static ({ cls := "SetupJobShopLaw", name := "path", desc := "(LSetupJobShop;I[J)I" } : Jvm.MethodName)) ∈ lw_all := lw_g (lw_at lw_m4 206 rfl) rfl
theorem q1015 : (Jvm.Cond.codeWith ({ cls := "SetupJobShopLaw", name := "path", desc := "(LSetupJobShop;I[J)I" } : Jvm.MethodName) method_18_code (4 : Nat) (Option.some Jvm.ClassFile.FieldType.int) [((0 : Nat), (9 : Nat), (12 : Nat), (49 : Nat))]) ∈ lw_all := lw_g (lw_at lw_m4 207 rfl) rfl
theorem q1016 : (Jvm.Cond.methodLink "SetupJobShopLaw" (67 : Nat) ({ cls := "SetupJobShop", name := "path", desc := "(I)I" } : Jvm.MethodName)) ∈ lw_all := lw_g (lw_at lw_m4 208 rfl) rfl
theorem q1020 : (Jvm.Cond.methodLink "SetupJobShopLaw" (188 : Nat) ({ cls := "SetupJobShopLaw", name := "blockLength", desc := "(LSetupJobShop;I[J)I" } : Jvm.MethodName)) ∈ lw_all := lw_g (lw_at lw_m4 212 rfl) rfl
theorem q1021 : (Jvm.Cond.static ({ cls := "SetupJobShopLaw", name := "blockLength", desc := "(LSetupJobShop;I[J)I" } : Jvm.MethodName)) ∈ lw_all := lw_g (lw_at lw_m4 213 rfl) rfl
theorem q1022 : (Jvm.Cond.codeWith ({ cls := "SetupJobShopLaw", name := "blockLength", desc := "(LSetupJobShop;I[J)I" } : Jvm.MethodName) method_19_code (4 : Nat) (Option.some Jvm.ClassFile.FieldType.int) [((0 : Nat), (9 : Nat), (12 : Nat), (49 : Nat))]) ∈ lw_all := lw_g (lw_at lw_m4 214 rfl) rfl
theorem q1023 : (Jvm.Cond.methodLink "SetupJobShopLaw" (70 : Nat) ({ cls := "SetupJobShop", name := "blockLength", desc := "(I)I" } : Jvm.MethodName)) ∈ lw_all := lw_g (lw_at lw_m4 215 rfl) rfl
theorem q1032 : (Jvm.Cond.methodLink "SetupJobShopLaw" (191 : Nat) ({ cls := "SetupJobShopLaw", name := "swap", desc := "(LSetupJobShop;II[J)I" } : Jvm.MethodName)) ∈ lw_all := lw_g (lw_at lw_m4 224 rfl) rfl
theorem q1033 : (Jvm.Cond.static ({ cls := "SetupJobShopLaw", name := "swap", desc := "(LSetupJobShop;II[J)I" } : Jvm.MethodName)) ∈ lw_all := lw_g (lw_at lw_m4 225 rfl) rfl
theorem q1034 : (Jvm.Cond.codeWith ({ cls := "SetupJobShopLaw", name := "swap", desc := "(LSetupJobShop;II[J)I" } : Jvm.MethodName) method_20_code (5 : Nat) (Option.some Jvm.ClassFile.FieldType.int) [((0 : Nat), (10 : Nat), (13 : Nat), (21 : Nat)), ((0 : Nat), (10 : Nat), (17 : Nat), (49 : Nat)), ((0 : Nat), (10 : Nat), (21 : Nat), (15 : Nat))]) ∈ lw_all := lw_g (lw_at lw_m4 226 rfl) rfl
theorem q1035 : (Jvm.Cond.methodLink "SetupJobShopLaw" (73 : Nat) ({ cls := "SetupJobShop", name := "swap", desc := "(II)I" } : Jvm.MethodName)) ∈ lw_all := lw_g (lw_at lw_m4 227 rfl) rfl
theorem q1110 : (Jvm.Cond.methodLink "SetupJobShopLaw" (194 : Nat) ({ cls := "SetupJobShopLaw", name := "move", desc := "(LSetupJobShop;II[J)I" } : Jvm.MethodName)) ∈ lw_all := lw_g (lw_at lw_m5 62 rfl) rfl
theorem q1111 : (Jvm.Cond.static ({ cls := "SetupJobShopLaw", name := "move", desc := "(LSetupJobShop;II[J)I" } : Jvm.MethodName)) ∈ lw_all := lw_g (lw_at lw_m5 63 rfl) rfl
theorem q1112 : (Jvm.Cond.codeWith ({ cls := "SetupJobShopLaw", name := "move", desc := "(LSetupJobShop;II[J)I" } : Jvm.MethodName) method_21_code (5 : Nat) (Option.some Jvm.ClassFile.FieldType.int) [((0 : Nat), (10 : Nat), (13 : Nat), (21 : Nat)), ((0 : Nat), (10 : Nat), (17 : Nat), (13 : Nat)), ((0 : Nat), (10 : Nat), (21 : Nat), (15 : Nat))]) ∈ lw_all := lw_g (lw_at lw_m5 64 rfl) rfl
theorem q1113 : (Jvm.Cond.methodLink "SetupJobShopLaw" (76 : Nat) ({ cls := "SetupJobShop", name := "move", desc := "(II)I" } : Jvm.MethodName)) ∈ lw_all := lw_g (lw_at lw_m5 65 rfl) rfl
theorem q1121 : (Jvm.Cond.methodLink "SetupJobShopLaw" (197 : Nat) ({ cls := "SetupJobShopLaw", name := "dispatch", desc := "(LSetupJobShop;I[J)I" } : Jvm.MethodName)) ∈ lw_all := lw_g (lw_at lw_m5 73 rfl) rfl
theorem q1122 : (Jvm.Cond.static ({ cls := "SetupJobShopLaw", name := "dispatch", desc := "(LSetupJobShop;I[J)I" } : Jvm.MethodName)) ∈ lw_all := lw_g (lw_at lw_m5 74 rfl) rfl
theorem q1123 : (Jvm.Cond.codeWith ({ cls := "SetupJobShopLaw", name := "dispatch", desc := "(LSetupJobShop;I[J)I" } : Jvm.MethodName) method_22_code (4 : Nat) (Option.some Jvm.ClassFile.FieldType.int) [((0 : Nat), (9 : Nat), (12 : Nat), (13 : Nat))]) ∈ lw_all := lw_g (lw_at lw_m5 75 rfl) rfl
theorem q1124 : (Jvm.Cond.methodLink "SetupJobShopLaw" (79 : Nat) ({ cls := "SetupJobShop", name := "dispatch", desc := "(I)I" } : Jvm.MethodName)) ∈ lw_all := lw_g (lw_at lw_m5 76 rfl) rfl
theorem q1191 : (Jvm.Cond.methodLink "SetupJobShopLaw" (200 : Nat) ({ cls := "SetupJobShopLaw", name := "repair", desc := "(LSetupJobShop;II[J)I" } : Jvm.MethodName)) ∈ lw_all := lw_g (lw_at lw_m5 143 rfl) rfl
theorem q1192 : (Jvm.Cond.static ({ cls := "SetupJobShopLaw", name := "repair", desc := "(LSetupJobShop;II[J)I" } : Jvm.MethodName)) ∈ lw_all := lw_g (lw_at lw_m5 144 rfl) rfl
theorem q1193 : (Jvm.Cond.codeWith ({ cls := "SetupJobShopLaw", name := "repair", desc := "(LSetupJobShop;II[J)I" } : Jvm.MethodName) method_23_code (5 : Nat) (Option.some Jvm.ClassFile.FieldType.int) [((0 : Nat), (10 : Nat), (13 : Nat), (13 : Nat))]) ∈ lw_all := lw_g (lw_at lw_m5 145 rfl) rfl
theorem q1194 : (Jvm.Cond.methodLink "SetupJobShopLaw" (82 : Nat) ({ cls := "SetupJobShop", name := "repair", desc := "(II)I" } : Jvm.MethodName)) ∈ lw_all := lw_g (lw_at lw_m5 146 rfl) rfl
theorem q1198 : (Jvm.Cond.methodLink "SetupJobShopLaw" (203 : Nat) ({ cls := "SetupJobShopLaw", name := "best", desc := "(LSetupJobShop;I[J)I" } : Jvm.MethodName)) ∈ lw_all := lw_g (lw_at lw_m5 150 rfl) rfl
theorem q1199 : (Jvm.Cond.static ({ cls := "SetupJobShopLaw", name := "best", desc := "(LSetupJobShop;I[J)I" } : Jvm.MethodName)) ∈ lw_all := lw_g (lw_at lw_m5 151 rfl) rfl
theorem q1200 : (Jvm.Cond.codeWith ({ cls := "SetupJobShopLaw", name := "best", desc := "(LSetupJobShop;I[J)I" } : Jvm.MethodName) method_24_code (4 : Nat) (Option.some Jvm.ClassFile.FieldType.int) [((0 : Nat), (9 : Nat), (12 : Nat), (21 : Nat))]) ∈ lw_all := lw_g (lw_at lw_m5 152 rfl) rfl
theorem q1201 : (Jvm.Cond.methodLink "SetupJobShopLaw" (85 : Nat) ({ cls := "SetupJobShop", name := "best", desc := "(I)I" } : Jvm.MethodName)) ∈ lw_all := lw_g (lw_at lw_m5 153 rfl) rfl
theorem q1206 : (Jvm.Cond.methodLink "SetupJobShopLaw" (206 : Nat) ({ cls := "SetupJobShopLaw", name := "reoptimize", desc := "(LSetupJobShop;I[J)I" } : Jvm.MethodName)) ∈ lw_all := lw_g (lw_at lw_m5 158 rfl) rfl
theorem q1207 : (Jvm.Cond.static ({ cls := "SetupJobShopLaw", name := "reoptimize", desc := "(LSetupJobShop;I[J)I" } : Jvm.MethodName)) ∈ lw_all := lw_g (lw_at lw_m5 159 rfl) rfl
theorem q1208 : (Jvm.Cond.codeWith ({ cls := "SetupJobShopLaw", name := "reoptimize", desc := "(LSetupJobShop;I[J)I" } : Jvm.MethodName) method_25_code (4 : Nat) (Option.some Jvm.ClassFile.FieldType.int) [((0 : Nat), (9 : Nat), (12 : Nat), (21 : Nat))]) ∈ lw_all := lw_g (lw_at lw_m5 160 rfl) rfl
theorem q1209 : (Jvm.Cond.methodLink "SetupJobShopLaw" (88 : Nat) ({ cls := "SetupJobShop", name := "reoptimize", desc := "(I)I" } : Jvm.MethodName)) ∈ lw_all := lw_g (lw_at lw_m5 161 rfl) rfl
theorem q1218 : (Jvm.Cond.methodLink "SetupJobShopLaw" (213 : Nat) ({ cls := "SetupJobShopLaw", name := "bottleneck", desc := "(LSetupJobShop;I[J)I" } : Jvm.MethodName)) ∈ lw_all := lw_g (lw_at lw_m5 170 rfl) rfl
theorem q1219 : (Jvm.Cond.static ({ cls := "SetupJobShopLaw", name := "bottleneck", desc := "(LSetupJobShop;I[J)I" } : Jvm.MethodName)) ∈ lw_all := lw_g (lw_at lw_m5 171 rfl) rfl
theorem q1220 : (Jvm.Cond.codeWith ({ cls := "SetupJobShopLaw", name := "bottleneck", desc := "(LSetupJobShop;I[J)I" } : Jvm.MethodName) method_26_code (4 : Nat) (Option.some Jvm.ClassFile.FieldType.int) [((0 : Nat), (9 : Nat), (12 : Nat), (49 : Nat))]) ∈ lw_all := lw_g (lw_at lw_m5 172 rfl) rfl
theorem q1221 : (Jvm.Cond.methodLink "SetupJobShopLaw" (91 : Nat) ({ cls := "SetupJobShop", name := "bottleneck", desc := "(I)I" } : Jvm.MethodName)) ∈ lw_all := lw_g (lw_at lw_m5 173 rfl) rfl
theorem q1225 : (Jvm.Cond.methodLink "SetupJobShopLaw" (216 : Nat) ({ cls := "SetupJobShopLaw", name := "tabu", desc := "(LSetupJobShop;II[J)I" } : Jvm.MethodName)) ∈ lw_all := lw_g (lw_at lw_m5 177 rfl) rfl
theorem q1226 : (Jvm.Cond.static ({ cls := "SetupJobShopLaw", name := "tabu", desc := "(LSetupJobShop;II[J)I" } : Jvm.MethodName)) ∈ lw_all := lw_g (lw_at lw_m5 178 rfl) rfl
theorem q1227 : (Jvm.Cond.codeWith ({ cls := "SetupJobShopLaw", name := "tabu", desc := "(LSetupJobShop;II[J)I" } : Jvm.MethodName) method_27_code (5 : Nat) (Option.some Jvm.ClassFile.FieldType.int) [((0 : Nat), (10 : Nat), (13 : Nat), (13 : Nat))]) ∈ lw_all := lw_g (lw_at lw_m5 179 rfl) rfl
theorem q1228 : (Jvm.Cond.methodLink "SetupJobShopLaw" (94 : Nat) ({ cls := "SetupJobShop", name := "tabu", desc := "(II)I" } : Jvm.MethodName)) ∈ lw_all := lw_g (lw_at lw_m5 180 rfl) rfl
theorem q1329 : (Jvm.Cond.methodLink "SetupJobShopLaw" (223 : Nat) ({ cls := "SetupJobShopLaw", name := "bound", desc := "(LSetupJobShop;I[J)I" } : Jvm.MethodName)) ∈ lw_all := lw_g (lw_at lw_m6 41 rfl) rfl
theorem q1330 : (Jvm.Cond.static ({ cls := "SetupJobShopLaw", name := "bound", desc := "(LSetupJobShop;I[J)I" } : Jvm.MethodName)) ∈ lw_all := lw_g (lw_at lw_m6 42 rfl) rfl
theorem q1331 : (Jvm.Cond.codeWith ({ cls := "SetupJobShopLaw", name := "bound", desc := "(LSetupJobShop;I[J)I" } : Jvm.MethodName) method_28_code (4 : Nat) (Option.some Jvm.ClassFile.FieldType.int) [((0 : Nat), (9 : Nat), (12 : Nat), (21 : Nat))]) ∈ lw_all := lw_g (lw_at lw_m6 43 rfl) rfl
theorem q1332 : (Jvm.Cond.methodLink "SetupJobShopLaw" (97 : Nat) ({ cls := "SetupJobShop", name := "bound", desc := "(I)I" } : Jvm.MethodName)) ∈ lw_all := lw_g (lw_at lw_m6 44 rfl) rfl
theorem q1337 : (Jvm.Cond.methodLink "SetupJobShopLaw" (230 : Nat) ({ cls := "SetupJobShopLaw", name := "append", desc := "(LSetupJobShop;C)I" } : Jvm.MethodName)) ∈ lw_all := lw_g (lw_at lw_m6 49 rfl) rfl
theorem q1338 : (Jvm.Cond.static ({ cls := "SetupJobShopLaw", name := "append", desc := "(LSetupJobShop;C)I" } : Jvm.MethodName)) ∈ lw_all := lw_g (lw_at lw_m6 50 rfl) rfl
theorem q1339 : (Jvm.Cond.codeWith ({ cls := "SetupJobShopLaw", name := "append", desc := "(LSetupJobShop;C)I" } : Jvm.MethodName) method_29_code (3 : Nat) (Option.some Jvm.ClassFile.FieldType.int) [((0 : Nat), (5 : Nat), (8 : Nat), (15 : Nat))]) ∈ lw_all := lw_g (lw_at lw_m6 51 rfl) rfl
theorem q1340 : (Jvm.Cond.methodLink "SetupJobShopLaw" (100 : Nat) ({ cls := "SetupJobShop", name := "append", desc := "(C)V" } : Jvm.MethodName)) ∈ lw_all := lw_g (lw_at lw_m6 52 rfl) rfl
theorem q1429 : (Jvm.Cond.methodLink "SetupJobShopLaw" (234 : Nat) ({ cls := "SetupJobShopLaw", name := "read", desc := "(LSetupJobShop;[J)I" } : Jvm.MethodName)) ∈ lw_all := lw_g (lw_at lw_m6 141 rfl) rfl
theorem q1430 : (Jvm.Cond.static ({ cls := "SetupJobShopLaw", name := "read", desc := "(LSetupJobShop;[J)I" } : Jvm.MethodName)) ∈ lw_all := lw_g (lw_at lw_m6 142 rfl) rfl
theorem q1431 : (Jvm.Cond.codeWith ({ cls := "SetupJobShopLaw", name := "read", desc := "(LSetupJobShop;[J)I" } : Jvm.MethodName) method_30_code (3 : Nat) (Option.some Jvm.ClassFile.FieldType.int) [((0 : Nat), (8 : Nat), (11 : Nat), (13 : Nat)), ((0 : Nat), (8 : Nat), (14 : Nat), (15 : Nat))]) ∈ lw_all := lw_g (lw_at lw_m6 143 rfl) rfl
theorem q1432 : (Jvm.Cond.methodLink "SetupJobShopLaw" (104 : Nat) ({ cls := "SetupJobShop", name := "read", desc := "()I" } : Jvm.MethodName)) ∈ lw_all := lw_g (lw_at lw_m6 144 rfl) rfl
theorem q1748 : (Jvm.Cond.methodLink "SetupJobShopLaw" (238 : Nat) ({ cls := "SetupJobShopLaw", name := "failure", desc := "(LSetupJobShop;I[J)I" } : Jvm.MethodName)) ∈ lw_all := lw_g (lw_at lw_m7 220 rfl) rfl
theorem q1749 : (Jvm.Cond.static ({ cls := "SetupJobShopLaw", name := "failure", desc := "(LSetupJobShop;I[J)I" } : Jvm.MethodName)) ∈ lw_all := lw_g (lw_at lw_m7 221 rfl) rfl
theorem q1750 : (Jvm.Cond.codeWith ({ cls := "SetupJobShopLaw", name := "failure", desc := "(LSetupJobShop;I[J)I" } : Jvm.MethodName) method_31_code (4 : Nat) (Option.some Jvm.ClassFile.FieldType.int) [((0 : Nat), (9 : Nat), (12 : Nat), (13 : Nat))]) ∈ lw_all := lw_g (lw_at lw_m7 222 rfl) rfl
theorem q1751 : (Jvm.Cond.methodLink "SetupJobShopLaw" (108 : Nat) ({ cls := "SetupJobShop", name := "failure", desc := "(I)I" } : Jvm.MethodName)) ∈ lw_all := lw_g (lw_at lw_m7 223 rfl) rfl
theorem q1779 : (Jvm.Cond.methodLink "SetupJobShopLaw" (245 : Nat) ({ cls := "SetupJobShopLaw", name := "restore", desc := "(LSetupJobShop;)I" } : Jvm.MethodName)) ∈ lw_all := lw_g (lw_at lw_m8 11 rfl) rfl
theorem q1780 : (Jvm.Cond.static ({ cls := "SetupJobShopLaw", name := "restore", desc := "(LSetupJobShop;)I" } : Jvm.MethodName)) ∈ lw_all := lw_g (lw_at lw_m8 12 rfl) rfl
theorem q1781 : (Jvm.Cond.codeWith ({ cls := "SetupJobShopLaw", name := "restore", desc := "(LSetupJobShop;)I" } : Jvm.MethodName) method_32_code (2 : Nat) (Option.some Jvm.ClassFile.FieldType.int) [((0 : Nat), (4 : Nat), (7 : Nat), (15 : Nat))]) ∈ lw_all := lw_g (lw_at lw_m8 13 rfl) rfl
theorem q1782 : (Jvm.Cond.methodLink "SetupJobShopLaw" (111 : Nat) ({ cls := "SetupJobShop", name := "restore", desc := "()V" } : Jvm.MethodName)) ∈ lw_all := lw_g (lw_at lw_m8 14 rfl) rfl
theorem q1786 : (Jvm.Cond.classLink "SetupJobShopLaw" (115 : Nat) "SetupJobShopModel") ∈ lw_all := lw_g (lw_at lw_m8 18 rfl) rfl
theorem q1788 : (Jvm.Cond.methodLink "SetupJobShopLaw" (117 : Nat) ({ cls := "SetupJobShopModel", name := "<init>", desc := "()V" } : Jvm.MethodName)) ∈ lw_all := lw_g (lw_at lw_m8 20 rfl) rfl
theorem q1906 : (Jvm.Cond.methodLink "SetupJobShopLaw" (124 : Nat) ({ cls := "SetupJobShopModel", name := "thrown", desc := "()I" } : Jvm.MethodName)) ∈ lw_all := lw_g (lw_at lw_m8 138 rfl) rfl
theorem q1910 : (Jvm.Cond.methodLink "SetupJobShopLaw" (123 : Nat) ({ cls := "SetupJobShopModel", name := "addJob", desc := "(III)I" } : Jvm.MethodName)) ∈ lw_all := lw_g (lw_at lw_m8 142 rfl) rfl
theorem q1930 : (Jvm.Cond.methodLink "SetupJobShopLaw" (130 : Nat) ({ cls := "SetupJobShopModel", name := "addOperation", desc := "(IIII)I" } : Jvm.MethodName)) ∈ lw_all := lw_g (lw_at lw_m8 162 rfl) rfl
theorem q1963 : (Jvm.Cond.methodLink "SetupJobShopLaw" (133 : Nat) ({ cls := "SetupJobShopModel", name := "setJob", desc := "(III)I" } : Jvm.MethodName)) ∈ lw_all := lw_g (lw_at lw_m8 195 rfl) rfl
theorem q1967 : (Jvm.Cond.methodLink "SetupJobShopLaw" (137 : Nat) ({ cls := "SetupJobShopModel", name := "setDuration", desc := "(II)I" } : Jvm.MethodName)) ∈ lw_all := lw_g (lw_at lw_m8 199 rfl) rfl
theorem q1975 : (Jvm.Cond.methodLink "SetupJobShopLaw" (140 : Nat) ({ cls := "SetupJobShopModel", name := "setSetup", desc := "(III)I" } : Jvm.MethodName)) ∈ lw_all := lw_g (lw_at lw_m8 207 rfl) rfl
theorem q1979 : (Jvm.Cond.methodLink "SetupJobShopLaw" (143 : Nat) ({ cls := "SetupJobShopModel", name := "addBreakdown", desc := "(III)I" } : Jvm.MethodName)) ∈ lw_all := lw_g (lw_at lw_m8 211 rfl) rfl
theorem q1985 : (Jvm.Cond.methodLink "SetupJobShopLaw" (147 : Nat) ({ cls := "SetupJobShopModel", name := "clearBreakdowns", desc := "(I)I" } : Jvm.MethodName)) ∈ lw_all := lw_g (lw_at lw_m8 217 rfl) rfl
theorem q1989 : (Jvm.Cond.methodLink "SetupJobShopLaw" (150 : Nat) ({ cls := "SetupJobShopModel", name := "count", desc := "(I)I" } : Jvm.MethodName)) ∈ lw_all := lw_g (lw_at lw_m8 221 rfl) rfl
theorem q1993 : (Jvm.Cond.methodLink "SetupJobShopLaw" (153 : Nat) ({ cls := "SetupJobShopModel", name := "property", desc := "(II)I" } : Jvm.MethodName)) ∈ lw_all := lw_g (lw_at lw_m8 225 rfl) rfl
theorem q2006 : (Jvm.Cond.methodLink "SetupJobShopLaw" (156 : Nat) ({ cls := "SetupJobShopModel", name := "order", desc := "(II)I" } : Jvm.MethodName)) ∈ lw_all := lw_g (lw_at lw_m8 238 rfl) rfl
theorem q2010 : (Jvm.Cond.methodLink "SetupJobShopLaw" (159 : Nat) ({ cls := "SetupJobShopModel", name := "time", desc := "(II)I" } : Jvm.MethodName)) ∈ lw_all := lw_g (lw_at lw_m9 2 rfl) rfl
theorem q2047 : (Jvm.Cond.methodLink "SetupJobShopLaw" (163 : Nat) ({ cls := "SetupJobShopModel", name := "makespan", desc := "()I" } : Jvm.MethodName)) ∈ lw_all := lw_g (lw_at lw_m9 39 rfl) rfl
theorem q2059 : (Jvm.Cond.methodLink "SetupJobShopLaw" (166 : Nat) ({ cls := "SetupJobShopModel", name := "slack", desc := "(I)I" } : Jvm.MethodName)) ∈ lw_all := lw_g (lw_at lw_m9 51 rfl) rfl
theorem q2063 : (Jvm.Cond.methodLink "SetupJobShopLaw" (169 : Nat) ({ cls := "SetupJobShopModel", name := "completion", desc := "(I)I" } : Jvm.MethodName)) ∈ lw_all := lw_g (lw_at lw_m9 55 rfl) rfl
theorem q2071 : (Jvm.Cond.methodLink "SetupJobShopLaw" (172 : Nat) ({ cls := "SetupJobShopModel", name := "objective", desc := "(I)I" } : Jvm.MethodName)) ∈ lw_all := lw_g (lw_at lw_m9 63 rfl) rfl
theorem q2080 : (Jvm.Cond.methodLink "SetupJobShopLaw" (176 : Nat) ({ cls := "SetupJobShopModel", name := "utilization", desc := "(I)D" } : Jvm.MethodName)) ∈ lw_all := lw_g (lw_at lw_m9 72 rfl) rfl
theorem q2084 : (Jvm.Cond.methodLink "SetupJobShopLaw" (180 : Nat) ({ cls := "SetupJobShopModel", name := "pathLength", desc := "()I" } : Jvm.MethodName)) ∈ lw_all := lw_g (lw_at lw_m9 76 rfl) rfl
theorem q2092 : (Jvm.Cond.methodLink "SetupJobShopLaw" (183 : Nat) ({ cls := "SetupJobShopModel", name := "path", desc := "(I)I" } : Jvm.MethodName)) ∈ lw_all := lw_g (lw_at lw_m9 84 rfl) rfl
theorem q2100 : (Jvm.Cond.methodLink "SetupJobShopLaw" (187 : Nat) ({ cls := "SetupJobShopModel", name := "blocks", desc := "()I" } : Jvm.MethodName)) ∈ lw_all := lw_g (lw_at lw_m9 92 rfl) rfl
theorem q2112 : (Jvm.Cond.methodLink "SetupJobShopLaw" (190 : Nat) ({ cls := "SetupJobShopModel", name := "blockLength", desc := "(I)I" } : Jvm.MethodName)) ∈ lw_all := lw_g (lw_at lw_m9 104 rfl) rfl
theorem q2116 : (Jvm.Cond.methodLink "SetupJobShopLaw" (240 : Nat) ({ cls := "SetupJobShopModel", name := "failure", desc := "(I)I" } : Jvm.MethodName)) ∈ lw_all := lw_g (lw_at lw_m9 108 rfl) rfl
theorem q2120 : (Jvm.Cond.methodLink "SetupJobShopLaw" (193 : Nat) ({ cls := "SetupJobShopModel", name := "swap", desc := "(II)I" } : Jvm.MethodName)) ∈ lw_all := lw_g (lw_at lw_m9 112 rfl) rfl
theorem q2136 : (Jvm.Cond.methodLink "SetupJobShopLaw" (196 : Nat) ({ cls := "SetupJobShopModel", name := "move", desc := "(II)I" } : Jvm.MethodName)) ∈ lw_all := lw_g (lw_at lw_m9 128 rfl) rfl
theorem q2144 : (Jvm.Cond.methodLink "SetupJobShopLaw" (199 : Nat) ({ cls := "SetupJobShopModel", name := "dispatch", desc := "(I)I" } : Jvm.MethodName)) ∈ lw_all := lw_g (lw_at lw_m9 136 rfl) rfl
theorem q2164 : (Jvm.Cond.methodLink "SetupJobShopLaw" (202 : Nat) ({ cls := "SetupJobShopModel", name := "repair", desc := "(II)I" } : Jvm.MethodName)) ∈ lw_all := lw_g (lw_at lw_m9 156 rfl) rfl
theorem q2169 : (Jvm.Cond.methodLink "SetupJobShopLaw" (205 : Nat) ({ cls := "SetupJobShopModel", name := "best", desc := "(I)I" } : Jvm.MethodName)) ∈ lw_all := lw_g (lw_at lw_m9 161 rfl) rfl
theorem q2181 : (Jvm.Cond.methodLink "SetupJobShopLaw" (208 : Nat) ({ cls := "SetupJobShopModel", name := "reoptimize", desc := "(I)I" } : Jvm.MethodName)) ∈ lw_all := lw_g (lw_at lw_m9 173 rfl) rfl
theorem q2189 : (Jvm.Cond.methodLink "SetupJobShopLaw" (212 : Nat) ({ cls := "SetupJobShopModel", name := "shiftBottlenecks", desc := "()I" } : Jvm.MethodName)) ∈ lw_all := lw_g (lw_at lw_m9 181 rfl) rfl
theorem q2193 : (Jvm.Cond.methodLink "SetupJobShopLaw" (215 : Nat) ({ cls := "SetupJobShopModel", name := "bottleneck", desc := "(I)I" } : Jvm.MethodName)) ∈ lw_all := lw_g (lw_at lw_m9 185 rfl) rfl
theorem q2197 : (Jvm.Cond.methodLink "SetupJobShopLaw" (218 : Nat) ({ cls := "SetupJobShopModel", name := "tabu", desc := "(II)I" } : Jvm.MethodName)) ∈ lw_all := lw_g (lw_at lw_m9 189 rfl) rfl
theorem q2207 : (Jvm.Cond.methodLink "SetupJobShopLaw" (222 : Nat) ({ cls := "SetupJobShopModel", name := "tabuSteps", desc := "()I" } : Jvm.MethodName)) ∈ lw_all := lw_g (lw_at lw_m9 199 rfl) rfl
theorem q2211 : (Jvm.Cond.methodLink "SetupJobShopLaw" (225 : Nat) ({ cls := "SetupJobShopModel", name := "bound", desc := "(I)I" } : Jvm.MethodName)) ∈ lw_all := lw_g (lw_at lw_m9 203 rfl) rfl
theorem q2219 : (Jvm.Cond.methodLink "SetupJobShopLaw" (229 : Nat) ({ cls := "SetupJobShopModel", name := "lowerBound", desc := "()I" } : Jvm.MethodName)) ∈ lw_all := lw_g (lw_at lw_m9 211 rfl) rfl
theorem q2223 : (Jvm.Cond.methodLink "SetupJobShopLaw" (233 : Nat) ({ cls := "SetupJobShopModel", name := "append", desc := "(C)V" } : Jvm.MethodName)) ∈ lw_all := lw_g (lw_at lw_m9 215 rfl) rfl
theorem q2227 : (Jvm.Cond.methodLink "SetupJobShopLaw" (237 : Nat) ({ cls := "SetupJobShopModel", name := "read", desc := "()I" } : Jvm.MethodName)) ∈ lw_all := lw_g (lw_at lw_m9 219 rfl) rfl
theorem q2261 : (Jvm.Cond.methodLink "SetupJobShopLaw" (244 : Nat) ({ cls := "SetupJobShopModel", name := "save", desc := "()V" } : Jvm.MethodName)) ∈ lw_all := lw_g (lw_at lw_m10 13 rfl) rfl
theorem q2265 : (Jvm.Cond.methodLink "SetupJobShopLaw" (248 : Nat) ({ cls := "SetupJobShopModel", name := "restore", desc := "()V" } : Jvm.MethodName)) ∈ lw_all := lw_g (lw_at lw_m10 17 rfl) rfl

/-! the law's own entry -/
set_option maxRecDepth 100000
abbrev cL_law : ByteArray := code
def dkwL_law_87 : List UInt8 := [159, 0, 5, 3, 172, 167, 0, 3, 132, 5, 5, 167, 247, 165, 4, 172]
abbrev dktL_law_87 : List UInt8 := dkwL_law_87 ++ []
def dkwL_law_86 : List UInt8 := [182, 0, 244, 167, 0, 27, 43, 184, 0, 245, 54, 6, 44, 182, 0, 248, 44, 182, 0, 124, 21, 6]
abbrev dktL_law_86 : List UInt8 := dkwL_law_86 ++ dktL_law_87
def dkwL_law_85 : List UInt8 := [154, 0, 15, 45, 3, 47, 21, 7, 133, 148, 153, 0, 5, 3, 172, 167, 0, 38, 43, 182, 0, 241, 44]
abbrev dktL_law_85 : List UInt8 := dkwL_law_85 ++ dktL_law_86
def dkwL_law_84 : List UInt8 := [21, 5, 4, 96, 46, 182, 0, 240, 54, 7, 44, 182, 0, 124, 21, 6, 159, 0, 5, 3, 172, 21, 6]
abbrev dktL_law_84 : List UInt8 := dkwL_law_84 ++ dktL_law_85
def dkwL_law_83 : List UInt8 := [148, 153, 0, 5, 3, 172, 167, 0, 94, 43, 42, 21, 5, 4, 96, 46, 45, 184, 0, 238, 54, 6, 44, 42]
abbrev dktL_law_83 : List UInt8 := dkwL_law_83 ++ dktL_law_84
def dkwL_law_82 : List UInt8 := [54, 7, 44, 182, 0, 124, 21, 6, 159, 0, 5, 3, 172, 21, 6, 154, 0, 15, 45, 3, 47, 21, 7, 133]
abbrev dktL_law_82 : List UInt8 := dkwL_law_82 ++ dktL_law_83
def dkwL_law_81 : List UInt8 := [182, 0, 124, 21, 6, 159, 0, 5, 3, 172, 167, 0, 138, 43, 45, 184, 0, 234, 54, 6, 44, 182, 0, 237]
abbrev dktL_law_81 : List UInt8 := dkwL_law_81 ++ dktL_law_82
def dkwL_law_80 : List UInt8 := [21, 5, 4, 96, 46, 146, 184, 0, 230, 54, 6, 44, 42, 21, 5, 4, 96, 46, 146, 182, 0, 233, 44]
abbrev dktL_law_80 : List UInt8 := dkwL_law_80 ++ dktL_law_81
def dkwL_law_79 : List UInt8 := [153, 0, 5, 3, 172, 167, 0, 189, 43, 182, 0, 226, 44, 182, 0, 229, 159, 0, 178, 3, 172, 43, 42]
abbrev dktL_law_79 : List UInt8 := dkwL_law_79 ++ dktL_law_80
def dkwL_law_78 : List UInt8 := [182, 0, 124, 21, 6, 159, 0, 5, 3, 172, 21, 6, 154, 0, 15, 45, 3, 47, 21, 7, 133, 148]
abbrev dktL_law_78 : List UInt8 := dkwL_law_78 ++ dktL_law_79
def dkwL_law_77 : List UInt8 := [21, 5, 4, 96, 46, 45, 184, 0, 223, 54, 6, 44, 42, 21, 5, 4, 96, 46, 182, 0, 225, 54, 7, 44]
abbrev dktL_law_77 : List UInt8 := dkwL_law_77 ++ dktL_law_78
def dkwL_law_76 : List UInt8 := [153, 0, 5, 3, 172, 167, 1, 2, 43, 182, 0, 219, 44, 182, 0, 222, 159, 0, 247, 3, 172, 43, 42]
abbrev dktL_law_76 : List UInt8 := dkwL_law_76 ++ dktL_law_77
def dkwL_law_75 : List UInt8 := [182, 0, 124, 21, 6, 159, 0, 5, 3, 172, 21, 6, 154, 0, 15, 45, 3, 47, 21, 7, 133, 148]
abbrev dktL_law_75 : List UInt8 := dkwL_law_75 ++ dktL_law_76
def dkwL_law_74 : List UInt8 := [184, 0, 216, 54, 6, 44, 42, 21, 5, 4, 96, 46, 42, 21, 5, 5, 96, 46, 182, 0, 218, 54, 7, 44]
abbrev dktL_law_74 : List UInt8 := dkwL_law_74 ++ dktL_law_75
def dkwL_law_73 : List UInt8 := [148, 153, 0, 5, 3, 172, 167, 1, 70, 43, 42, 21, 5, 4, 96, 46, 42, 21, 5, 5, 96, 46, 45]
abbrev dktL_law_73 : List UInt8 := dkwL_law_73 ++ dktL_law_74
def dkwL_law_72 : List UInt8 := [54, 7, 44, 182, 0, 124, 21, 6, 159, 0, 5, 3, 172, 21, 6, 154, 0, 15, 45, 3, 47, 21, 7, 133]
abbrev dktL_law_72 : List UInt8 := dkwL_law_72 ++ dktL_law_73
def dkwL_law_71 : List UInt8 := [172, 43, 42, 21, 5, 4, 96, 46, 45, 184, 0, 213, 54, 6, 44, 42, 21, 5, 4, 96, 46, 182, 0, 215]
abbrev dktL_law_71 : List UInt8 := dkwL_law_71 ++ dktL_law_72
def dkwL_law_70 : List UInt8 := [21, 7, 133, 148, 153, 0, 5, 3, 172, 167, 1, 139, 43, 182, 0, 209, 44, 182, 0, 212, 159, 1, 128, 3]
abbrev dktL_law_70 : List UInt8 := dkwL_law_70 ++ dktL_law_71
def dkwL_law_69 : List UInt8 := [182, 0, 208, 54, 7, 44, 182, 0, 124, 21, 6, 159, 0, 5, 3, 172, 21, 6, 154, 0, 15, 45, 3, 47]
abbrev dktL_law_69 : List UInt8 := dkwL_law_69 ++ dktL_law_70
def dkwL_law_68 : List UInt8 := [167, 1, 195, 43, 42, 21, 5, 4, 96, 46, 45, 184, 0, 206, 54, 6, 44, 42, 21, 5, 4, 96, 46]
abbrev dktL_law_68 : List UInt8 := dkwL_law_68 ++ dktL_law_69
def dkwL_law_67 : List UInt8 := [159, 0, 5, 3, 172, 21, 6, 154, 0, 15, 45, 3, 47, 21, 7, 133, 148, 153, 0, 5, 3, 172]
abbrev dktL_law_67 : List UInt8 := dkwL_law_67 ++ dktL_law_68
def dkwL_law_66 : List UInt8 := [184, 0, 203, 54, 6, 44, 42, 21, 5, 4, 96, 46, 182, 0, 205, 54, 7, 44, 182, 0, 124, 21, 6]
abbrev dktL_law_66 : List UInt8 := dkwL_law_66 ++ dktL_law_67
def dkwL_law_65 : List UInt8 := [3, 47, 21, 7, 133, 148, 153, 0, 5, 3, 172, 167, 1, 251, 43, 42, 21, 5, 4, 96, 46, 45]
abbrev dktL_law_65 : List UInt8 := dkwL_law_65 ++ dktL_law_66
def dkwL_law_64 : List UInt8 := [96, 46, 182, 0, 202, 54, 7, 44, 182, 0, 124, 21, 6, 159, 0, 5, 3, 172, 21, 6, 154, 0, 15, 45]
abbrev dktL_law_64 : List UInt8 := dkwL_law_64 ++ dktL_law_65
def dkwL_law_63 : List UInt8 := [46, 42, 21, 5, 5, 96, 46, 45, 184, 0, 200, 54, 6, 44, 42, 21, 5, 4, 96, 46, 42, 21, 5, 5]
abbrev dktL_law_63 : List UInt8 := dkwL_law_63 ++ dktL_law_64
def dkwL_law_62 : List UInt8 := [154, 0, 15, 45, 3, 47, 21, 7, 133, 148, 153, 0, 5, 3, 172, 167, 2, 63, 43, 42, 21, 5, 4, 96]
abbrev dktL_law_62 : List UInt8 := dkwL_law_62 ++ dktL_law_63
def dkwL_law_61 : List UInt8 := [21, 5, 4, 96, 46, 182, 0, 199, 54, 7, 44, 182, 0, 124, 21, 6, 159, 0, 5, 3, 172, 21, 6]
abbrev dktL_law_61 : List UInt8 := dkwL_law_61 ++ dktL_law_62
def dkwL_law_60 : List UInt8 := [153, 0, 5, 3, 172, 167, 2, 119, 43, 42, 21, 5, 4, 96, 46, 45, 184, 0, 197, 54, 6, 44, 42]
abbrev dktL_law_60 : List UInt8 := dkwL_law_60 ++ dktL_law_61
def dkwL_law_59 : List UInt8 := [182, 0, 124, 21, 6, 159, 0, 5, 3, 172, 21, 6, 154, 0, 15, 45, 3, 47, 21, 7, 133, 148]
abbrev dktL_law_59 : List UInt8 := dkwL_law_59 ++ dktL_law_60
def dkwL_law_58 : List UInt8 := [184, 0, 194, 54, 6, 44, 42, 21, 5, 4, 96, 46, 42, 21, 5, 5, 96, 46, 182, 0, 196, 54, 7, 44]
abbrev dktL_law_58 : List UInt8 := dkwL_law_58 ++ dktL_law_59
def dkwL_law_57 : List UInt8 := [153, 0, 5, 3, 172, 167, 2, 187, 43, 42, 21, 5, 4, 96, 46, 42, 21, 5, 5, 96, 46, 45]
abbrev dktL_law_57 : List UInt8 := dkwL_law_57 ++ dktL_law_58
def dkwL_law_56 : List UInt8 := [182, 0, 124, 21, 6, 159, 0, 5, 3, 172, 21, 6, 154, 0, 15, 45, 3, 47, 21, 7, 133, 148]
abbrev dktL_law_56 : List UInt8 := dkwL_law_56 ++ dktL_law_57
def dkwL_law_55 : List UInt8 := [184, 0, 191, 54, 6, 44, 42, 21, 5, 4, 96, 46, 42, 21, 5, 5, 96, 46, 182, 0, 193, 54, 7, 44]
abbrev dktL_law_55 : List UInt8 := dkwL_law_55 ++ dktL_law_56
def dkwL_law_54 : List UInt8 := [153, 0, 5, 3, 172, 167, 2, 255, 43, 42, 21, 5, 4, 96, 46, 42, 21, 5, 5, 96, 46, 45]
abbrev dktL_law_54 : List UInt8 := dkwL_law_54 ++ dktL_law_55
def dkwL_law_53 : List UInt8 := [182, 0, 124, 21, 6, 159, 0, 5, 3, 172, 21, 6, 154, 0, 15, 45, 3, 47, 21, 7, 133, 148]
abbrev dktL_law_53 : List UInt8 := dkwL_law_53 ++ dktL_law_54
def dkwL_law_52 : List UInt8 := [21, 5, 4, 96, 46, 45, 184, 0, 188, 54, 6, 44, 42, 21, 5, 4, 96, 46, 182, 0, 190, 54, 7, 44]
abbrev dktL_law_52 : List UInt8 := dkwL_law_52 ++ dktL_law_53
def dkwL_law_51 : List UInt8 := [153, 0, 5, 3, 172, 167, 3, 68, 43, 182, 0, 184, 44, 182, 0, 187, 159, 3, 57, 3, 172, 43, 42]
abbrev dktL_law_51 : List UInt8 := dkwL_law_51 ++ dktL_law_52
def dkwL_law_50 : List UInt8 := [182, 0, 124, 21, 6, 159, 0, 5, 3, 172, 21, 6, 154, 0, 15, 45, 3, 47, 21, 7, 133, 148]
abbrev dktL_law_50 : List UInt8 := dkwL_law_50 ++ dktL_law_51
def dkwL_law_49 : List UInt8 := [21, 5, 4, 96, 46, 45, 184, 0, 181, 54, 6, 44, 42, 21, 5, 4, 96, 46, 182, 0, 183, 54, 7, 44]
abbrev dktL_law_49 : List UInt8 := dkwL_law_49 ++ dktL_law_50
def dkwL_law_48 : List UInt8 := [154, 0, 5, 3, 172, 167, 3, 137, 43, 182, 0, 177, 44, 182, 0, 180, 159, 3, 126, 3, 172, 43, 42]
abbrev dktL_law_48 : List UInt8 := dkwL_law_48 ++ dktL_law_49
def dkwL_law_47 : List UInt8 := [49, 24, 7, 151, 153, 0, 25, 25, 4, 3, 49, 25, 4, 3, 49, 151, 153, 0, 11, 24, 7, 24, 7, 151]
abbrev dktL_law_47 : List UInt8 := dkwL_law_47 ++ dktL_law_48
def dkwL_law_46 : List UInt8 := [182, 0, 176, 57, 7, 44, 182, 0, 124, 21, 6, 159, 0, 5, 3, 172, 21, 6, 154, 0, 35, 25, 4, 3]
abbrev dktL_law_46 : List UInt8 := dkwL_law_46 ++ dktL_law_47
def dkwL_law_45 : List UInt8 := [167, 3, 214, 43, 42, 21, 5, 4, 96, 46, 25, 4, 184, 0, 173, 54, 6, 44, 42, 21, 5, 4, 96, 46]
abbrev dktL_law_45 : List UInt8 := dkwL_law_45 ++ dktL_law_46
def dkwL_law_44 : List UInt8 := [21, 6, 159, 0, 5, 3, 172, 21, 6, 154, 0, 15, 45, 3, 47, 21, 7, 133, 148, 153, 0, 5, 3, 172]
abbrev dktL_law_44 : List UInt8 := dkwL_law_44 ++ dktL_law_45
def dkwL_law_43 : List UInt8 := [46, 45, 184, 0, 170, 54, 6, 44, 42, 21, 5, 4, 96, 46, 182, 0, 172, 54, 7, 44, 182, 0, 124]
abbrev dktL_law_43 : List UInt8 := dkwL_law_43 ++ dktL_law_44
def dkwL_law_42 : List UInt8 := [154, 0, 15, 45, 3, 47, 21, 7, 133, 148, 153, 0, 5, 3, 172, 167, 4, 14, 43, 42, 21, 5, 4, 96]
abbrev dktL_law_42 : List UInt8 := dkwL_law_42 ++ dktL_law_43
def dkwL_law_41 : List UInt8 := [21, 5, 4, 96, 46, 182, 0, 169, 54, 7, 44, 182, 0, 124, 21, 6, 159, 0, 5, 3, 172, 21, 6]
abbrev dktL_law_41 : List UInt8 := dkwL_law_41 ++ dktL_law_42
def dkwL_law_40 : List UInt8 := [153, 0, 5, 3, 172, 167, 4, 70, 43, 42, 21, 5, 4, 96, 46, 45, 184, 0, 167, 54, 6, 44, 42]
abbrev dktL_law_40 : List UInt8 := dkwL_law_40 ++ dktL_law_41
def dkwL_law_39 : List UInt8 := [182, 0, 124, 21, 6, 159, 0, 5, 3, 172, 21, 6, 154, 0, 15, 45, 3, 47, 21, 7, 133, 148]
abbrev dktL_law_39 : List UInt8 := dkwL_law_39 ++ dktL_law_40
def dkwL_law_38 : List UInt8 := [21, 5, 4, 96, 46, 45, 184, 0, 164, 54, 6, 44, 42, 21, 5, 4, 96, 46, 182, 0, 166, 54, 7, 44]
abbrev dktL_law_38 : List UInt8 := dkwL_law_38 ++ dktL_law_39
def dkwL_law_37 : List UInt8 := [153, 0, 5, 3, 172, 167, 4, 139, 43, 182, 0, 160, 44, 182, 0, 163, 159, 4, 128, 3, 172, 43, 42]
abbrev dktL_law_37 : List UInt8 := dkwL_law_37 ++ dktL_law_38
def dkwL_law_36 : List UInt8 := [182, 0, 124, 21, 6, 159, 0, 5, 3, 172, 21, 6, 154, 0, 15, 45, 3, 47, 21, 7, 133, 148]
abbrev dktL_law_36 : List UInt8 := dkwL_law_36 ++ dktL_law_37
def dkwL_law_35 : List UInt8 := [184, 0, 157, 54, 6, 44, 42, 21, 5, 4, 96, 46, 42, 21, 5, 5, 96, 46, 182, 0, 159, 54, 7, 44]
abbrev dktL_law_35 : List UInt8 := dkwL_law_35 ++ dktL_law_36
def dkwL_law_34 : List UInt8 := [153, 0, 5, 3, 172, 167, 4, 207, 43, 42, 21, 5, 4, 96, 46, 42, 21, 5, 5, 96, 46, 45]
abbrev dktL_law_34 : List UInt8 := dkwL_law_34 ++ dktL_law_35
def dkwL_law_33 : List UInt8 := [182, 0, 124, 21, 6, 159, 0, 5, 3, 172, 21, 6, 154, 0, 15, 45, 3, 47, 21, 7, 133, 148]
abbrev dktL_law_33 : List UInt8 := dkwL_law_33 ++ dktL_law_34
def dkwL_law_32 : List UInt8 := [184, 0, 154, 54, 6, 44, 42, 21, 5, 4, 96, 46, 42, 21, 5, 5, 96, 46, 182, 0, 156, 54, 7, 44]
abbrev dktL_law_32 : List UInt8 := dkwL_law_32 ++ dktL_law_33
def dkwL_law_31 : List UInt8 := [153, 0, 5, 3, 172, 167, 5, 19, 43, 42, 21, 5, 4, 96, 46, 42, 21, 5, 5, 96, 46, 45]
abbrev dktL_law_31 : List UInt8 := dkwL_law_31 ++ dktL_law_32
def dkwL_law_30 : List UInt8 := [182, 0, 124, 21, 6, 159, 0, 5, 3, 172, 21, 6, 154, 0, 15, 45, 3, 47, 21, 7, 133, 148]
abbrev dktL_law_30 : List UInt8 := dkwL_law_30 ++ dktL_law_31
def dkwL_law_29 : List UInt8 := [184, 0, 151, 54, 6, 44, 42, 21, 5, 4, 96, 46, 42, 21, 5, 5, 96, 46, 182, 0, 153, 54, 7, 44]
abbrev dktL_law_29 : List UInt8 := dkwL_law_29 ++ dktL_law_30
def dkwL_law_28 : List UInt8 := [153, 0, 5, 3, 172, 167, 5, 87, 43, 42, 21, 5, 4, 96, 46, 42, 21, 5, 5, 96, 46, 45]
abbrev dktL_law_28 : List UInt8 := dkwL_law_28 ++ dktL_law_29
def dkwL_law_27 : List UInt8 := [182, 0, 124, 21, 6, 159, 0, 5, 3, 172, 21, 6, 154, 0, 15, 45, 3, 47, 21, 7, 133, 148]
abbrev dktL_law_27 : List UInt8 := dkwL_law_27 ++ dktL_law_28
def dkwL_law_26 : List UInt8 := [21, 5, 4, 96, 46, 45, 184, 0, 148, 54, 6, 44, 42, 21, 5, 4, 96, 46, 182, 0, 150, 54, 7, 44]
abbrev dktL_law_26 : List UInt8 := dkwL_law_26 ++ dktL_law_27
def dkwL_law_25 : List UInt8 := [172, 21, 6, 154, 0, 15, 45, 3, 47, 21, 7, 133, 148, 153, 0, 5, 3, 172, 167, 5, 143, 43, 42]
abbrev dktL_law_25 : List UInt8 := dkwL_law_25 ++ dktL_law_26
def dkwL_law_24 : List UInt8 := [54, 6, 44, 42, 21, 5, 4, 96, 46, 182, 0, 147, 54, 7, 44, 182, 0, 124, 21, 6, 159, 0, 5, 3]
abbrev dktL_law_24 : List UInt8 := dkwL_law_24 ++ dktL_law_25
def dkwL_law_23 : List UInt8 := [21, 7, 133, 148, 153, 0, 5, 3, 172, 167, 5, 199, 43, 42, 21, 5, 4, 96, 46, 45, 184, 0, 144]
abbrev dktL_law_23 : List UInt8 := dkwL_law_23 ++ dktL_law_24
def dkwL_law_22 : List UInt8 := [182, 0, 143, 54, 7, 44, 182, 0, 124, 21, 6, 159, 0, 5, 3, 172, 21, 6, 154, 0, 15, 45, 3, 47]
abbrev dktL_law_22 : List UInt8 := dkwL_law_22 ++ dktL_law_23
def dkwL_law_21 : List UInt8 := [184, 0, 141, 54, 6, 44, 42, 21, 5, 4, 96, 46, 42, 21, 5, 5, 96, 46, 42, 21, 5, 6, 96, 46]
abbrev dktL_law_21 : List UInt8 := dkwL_law_21 ++ dktL_law_22
def dkwL_law_20 : List UInt8 := [167, 6, 23, 43, 42, 21, 5, 4, 96, 46, 42, 21, 5, 5, 96, 46, 42, 21, 5, 6, 96, 46, 45]
abbrev dktL_law_20 : List UInt8 := dkwL_law_20 ++ dktL_law_21
def dkwL_law_19 : List UInt8 := [159, 0, 5, 3, 172, 21, 6, 154, 0, 15, 45, 3, 47, 21, 7, 133, 148, 153, 0, 5, 3, 172]
abbrev dktL_law_19 : List UInt8 := dkwL_law_19 ++ dktL_law_20
def dkwL_law_18 : List UInt8 := [21, 5, 5, 96, 46, 42, 21, 5, 6, 96, 46, 182, 0, 140, 54, 7, 44, 182, 0, 124, 21, 6]
abbrev dktL_law_18 : List UInt8 := dkwL_law_18 ++ dktL_law_19
def dkwL_law_17 : List UInt8 := [5, 96, 46, 42, 21, 5, 6, 96, 46, 45, 184, 0, 138, 54, 6, 44, 42, 21, 5, 4, 96, 46, 42]
abbrev dktL_law_17 : List UInt8 := dkwL_law_17 ++ dktL_law_18
def dkwL_law_16 : List UInt8 := [3, 47, 21, 7, 133, 148, 153, 0, 5, 3, 172, 167, 6, 103, 43, 42, 21, 5, 4, 96, 46, 42, 21, 5]
abbrev dktL_law_16 : List UInt8 := dkwL_law_16 ++ dktL_law_17
def dkwL_law_15 : List UInt8 := [96, 46, 182, 0, 137, 54, 7, 44, 182, 0, 124, 21, 6, 159, 0, 5, 3, 172, 21, 6, 154, 0, 15, 45]
abbrev dktL_law_15 : List UInt8 := dkwL_law_15 ++ dktL_law_16
def dkwL_law_14 : List UInt8 := [46, 42, 21, 5, 5, 96, 46, 45, 184, 0, 134, 54, 6, 44, 42, 21, 5, 4, 96, 46, 42, 21, 5, 5]
abbrev dktL_law_14 : List UInt8 := dkwL_law_14 ++ dktL_law_15
def dkwL_law_13 : List UInt8 := [154, 0, 15, 45, 3, 47, 21, 7, 133, 148, 153, 0, 5, 3, 172, 167, 6, 171, 43, 42, 21, 5, 4, 96]
abbrev dktL_law_13 : List UInt8 := dkwL_law_13 ++ dktL_law_14
def dkwL_law_12 : List UInt8 := [21, 5, 6, 96, 46, 182, 0, 133, 54, 7, 44, 182, 0, 124, 21, 6, 159, 0, 5, 3, 172, 21, 6]
abbrev dktL_law_12 : List UInt8 := dkwL_law_12 ++ dktL_law_13
def dkwL_law_11 : List UInt8 := [6, 96, 46, 45, 184, 0, 131, 54, 6, 44, 42, 21, 5, 4, 96, 46, 42, 21, 5, 5, 96, 46, 42]
abbrev dktL_law_11 : List UInt8 := dkwL_law_11 ++ dktL_law_12
def dkwL_law_10 : List UInt8 := [153, 0, 5, 3, 172, 167, 6, 251, 43, 42, 21, 5, 4, 96, 46, 42, 21, 5, 5, 96, 46, 42, 21, 5]
abbrev dktL_law_10 : List UInt8 := dkwL_law_10 ++ dktL_law_11
def dkwL_law_9 : List UInt8 := [182, 0, 124, 21, 6, 159, 0, 5, 3, 172, 21, 6, 154, 0, 15, 45, 3, 47, 21, 7, 133, 148]
abbrev dktL_law_9 : List UInt8 := dkwL_law_9 ++ dktL_law_10
def dkwL_law_8 : List UInt8 := [42, 21, 5, 5, 96, 46, 42, 21, 5, 6, 96, 46, 42, 21, 5, 7, 96, 46, 182, 0, 130, 54, 7, 44]
abbrev dktL_law_8 : List UInt8 := dkwL_law_8 ++ dktL_law_9
def dkwL_law_7 : List UInt8 := [21, 5, 6, 96, 46, 42, 21, 5, 7, 96, 46, 45, 184, 0, 127, 54, 6, 44, 42, 21, 5, 4, 96, 46]
abbrev dktL_law_7 : List UInt8 := dkwL_law_7 ++ dktL_law_8
def dkwL_law_6 : List UInt8 := [148, 153, 0, 5, 3, 172, 167, 7, 87, 43, 42, 21, 5, 4, 96, 46, 42, 21, 5, 5, 96, 46, 42]
abbrev dktL_law_6 : List UInt8 := dkwL_law_6 ++ dktL_law_7
def dkwL_law_5 : List UInt8 := [54, 7, 44, 182, 0, 124, 21, 6, 159, 0, 5, 3, 172, 21, 6, 154, 0, 15, 45, 3, 47, 21, 7, 133]
abbrev dktL_law_5 : List UInt8 := dkwL_law_5 ++ dktL_law_6
def dkwL_law_4 : List UInt8 := [54, 6, 44, 42, 21, 5, 4, 96, 46, 42, 21, 5, 5, 96, 46, 42, 21, 5, 6, 96, 46, 182, 0, 123]
abbrev dktL_law_4 : List UInt8 := dkwL_law_4 ++ dktL_law_5
def dkwL_law_3 : List UInt8 := [43, 42, 21, 5, 4, 96, 46, 42, 21, 5, 5, 96, 46, 42, 21, 5, 6, 96, 46, 45, 184, 0, 118]
abbrev dktL_law_3 : List UInt8 := dkwL_law_3 ++ dktL_law_4
def dkwL_law_2 : List UInt8 := [170, 0, 0, 0, 0, 0, 8, 72, 0, 0, 0, 0, 0, 0, 0, 36, 0, 0, 0, 164, 0, 0, 0, 244, 0, 0, 1, 80, 0, 0, 1, 160, 0, 0, 1, 228, 0, 0, 2, 52, 0, 0, 2, 132, 0, 0, 2, 188, 0, 0, 2, 244, 0, 0, 3, 56, 0, 0, 3, 124, 0, 0, 3, 192, 0, 0, 3, 205, 0, 0, 4, 5, 0, 0, 4, 61, 0, 0, 4, 117, 0, 0, 4, 194, 0, 0, 4, 207, 0, 0, 5, 7, 0, 0, 5, 20, 0, 0, 5, 76, 0, 0, 5, 144, 0, 0, 5, 212, 0, 0, 6, 12, 0, 0, 6, 80, 0, 0, 6, 136, 0, 0, 6, 192, 0, 0, 6, 205, 0, 0, 7, 5, 0, 0, 7, 73, 0, 0, 7, 86, 0, 0, 7, 142, 0, 0, 7, 155, 0, 0, 7, 193, 0, 0, 7, 237, 0, 0, 8, 37, 0, 0, 8, 48]
abbrev dktL_law_2 : List UInt8 := dkwL_law_2 ++ dktL_law_3
def dkwL_law_1 : List UInt8 := [58, 4, 3, 54, 5, 21, 5, 42, 190, 8, 100, 163, 8, 88, 42, 21, 5, 46, 16, 63, 126]
abbrev dktL_law_1 : List UInt8 := dkwL_law_1 ++ dktL_law_2
def dkwL_law_0 : List UInt8 := [187, 0, 8, 89, 183, 0, 114, 76, 187, 0, 115, 89, 183, 0, 117, 77, 4, 188, 11, 78, 4, 188, 7]
abbrev dktL_law_0 : List UInt8 := dkwL_law_0 ++ dktL_law_1
theorem dksL_law_0 : cL_law.data.toList.drop 0 = dktL_law_0 := by decide +kernel
theorem dksL_law_1 : cL_law.data.toList.drop 23 = dktL_law_1 := dk_seg dksL_law_0 23 rfl rfl
theorem dksL_law_2 : cL_law.data.toList.drop 44 = dktL_law_2 := dk_seg dksL_law_1 21 rfl rfl
theorem dksL_law_3 : cL_law.data.toList.drop 208 = dktL_law_3 := dk_seg dksL_law_2 164 rfl rfl
theorem dksL_law_4 : cL_law.data.toList.drop 231 = dktL_law_4 := dk_seg dksL_law_3 23 rfl rfl
theorem dksL_law_5 : cL_law.data.toList.drop 255 = dktL_law_5 := dk_seg dksL_law_4 24 rfl rfl
theorem dksL_law_6 : cL_law.data.toList.drop 279 = dktL_law_6 := dk_seg dksL_law_5 24 rfl rfl
theorem dksL_law_7 : cL_law.data.toList.drop 302 = dktL_law_7 := dk_seg dksL_law_6 23 rfl rfl
theorem dksL_law_8 : cL_law.data.toList.drop 326 = dktL_law_8 := dk_seg dksL_law_7 24 rfl rfl
theorem dksL_law_9 : cL_law.data.toList.drop 350 = dktL_law_9 := dk_seg dksL_law_8 24 rfl rfl
theorem dksL_law_10 : cL_law.data.toList.drop 372 = dktL_law_10 := dk_seg dksL_law_9 22 rfl rfl
theorem dksL_law_11 : cL_law.data.toList.drop 396 = dktL_law_11 := dk_seg dksL_law_10 24 rfl rfl
theorem dksL_law_12 : cL_law.data.toList.drop 419 = dktL_law_12 := dk_seg dksL_law_11 23 rfl rfl
theorem dksL_law_13 : cL_law.data.toList.drop 442 = dktL_law_13 := dk_seg dksL_law_12 23 rfl rfl
theorem dksL_law_14 : cL_law.data.toList.drop 466 = dktL_law_14 := dk_seg dksL_law_13 24 rfl rfl
theorem dksL_law_15 : cL_law.data.toList.drop 490 = dktL_law_15 := dk_seg dksL_law_14 24 rfl rfl
theorem dksL_law_16 : cL_law.data.toList.drop 514 = dktL_law_16 := dk_seg dksL_law_15 24 rfl rfl
theorem dksL_law_17 : cL_law.data.toList.drop 538 = dktL_law_17 := dk_seg dksL_law_16 24 rfl rfl
theorem dksL_law_18 : cL_law.data.toList.drop 561 = dktL_law_18 := dk_seg dksL_law_17 23 rfl rfl
theorem dksL_law_19 : cL_law.data.toList.drop 583 = dktL_law_19 := dk_seg dksL_law_18 22 rfl rfl
theorem dksL_law_20 : cL_law.data.toList.drop 605 = dktL_law_20 := dk_seg dksL_law_19 22 rfl rfl
theorem dksL_law_21 : cL_law.data.toList.drop 628 = dktL_law_21 := dk_seg dksL_law_20 23 rfl rfl
theorem dksL_law_22 : cL_law.data.toList.drop 652 = dktL_law_22 := dk_seg dksL_law_21 24 rfl rfl
theorem dksL_law_23 : cL_law.data.toList.drop 676 = dktL_law_23 := dk_seg dksL_law_22 24 rfl rfl
theorem dksL_law_24 : cL_law.data.toList.drop 699 = dktL_law_24 := dk_seg dksL_law_23 23 rfl rfl
theorem dksL_law_25 : cL_law.data.toList.drop 723 = dktL_law_25 := dk_seg dksL_law_24 24 rfl rfl
theorem dksL_law_26 : cL_law.data.toList.drop 746 = dktL_law_26 := dk_seg dksL_law_25 23 rfl rfl
theorem dksL_law_27 : cL_law.data.toList.drop 770 = dktL_law_27 := dk_seg dksL_law_26 24 rfl rfl
theorem dksL_law_28 : cL_law.data.toList.drop 792 = dktL_law_28 := dk_seg dksL_law_27 22 rfl rfl
theorem dksL_law_29 : cL_law.data.toList.drop 814 = dktL_law_29 := dk_seg dksL_law_28 22 rfl rfl
theorem dksL_law_30 : cL_law.data.toList.drop 838 = dktL_law_30 := dk_seg dksL_law_29 24 rfl rfl
theorem dksL_law_31 : cL_law.data.toList.drop 860 = dktL_law_31 := dk_seg dksL_law_30 22 rfl rfl
theorem dksL_law_32 : cL_law.data.toList.drop 882 = dktL_law_32 := dk_seg dksL_law_31 22 rfl rfl
theorem dksL_law_33 : cL_law.data.toList.drop 906 = dktL_law_33 := dk_seg dksL_law_32 24 rfl rfl
theorem dksL_law_34 : cL_law.data.toList.drop 928 = dktL_law_34 := dk_seg dksL_law_33 22 rfl rfl
theorem dksL_law_35 : cL_law.data.toList.drop 950 = dktL_law_35 := dk_seg dksL_law_34 22 rfl rfl
theorem dksL_law_36 : cL_law.data.toList.drop 974 = dktL_law_36 := dk_seg dksL_law_35 24 rfl rfl
theorem dksL_law_37 : cL_law.data.toList.drop 996 = dktL_law_37 := dk_seg dksL_law_36 22 rfl rfl
theorem dksL_law_38 : cL_law.data.toList.drop 1019 = dktL_law_38 := dk_seg dksL_law_37 23 rfl rfl
theorem dksL_law_39 : cL_law.data.toList.drop 1043 = dktL_law_39 := dk_seg dksL_law_38 24 rfl rfl
theorem dksL_law_40 : cL_law.data.toList.drop 1065 = dktL_law_40 := dk_seg dksL_law_39 22 rfl rfl
theorem dksL_law_41 : cL_law.data.toList.drop 1088 = dktL_law_41 := dk_seg dksL_law_40 23 rfl rfl
theorem dksL_law_42 : cL_law.data.toList.drop 1111 = dktL_law_42 := dk_seg dksL_law_41 23 rfl rfl
theorem dksL_law_43 : cL_law.data.toList.drop 1135 = dktL_law_43 := dk_seg dksL_law_42 24 rfl rfl
theorem dksL_law_44 : cL_law.data.toList.drop 1158 = dktL_law_44 := dk_seg dksL_law_43 23 rfl rfl
theorem dksL_law_45 : cL_law.data.toList.drop 1182 = dktL_law_45 := dk_seg dksL_law_44 24 rfl rfl
theorem dksL_law_46 : cL_law.data.toList.drop 1206 = dktL_law_46 := dk_seg dksL_law_45 24 rfl rfl
theorem dksL_law_47 : cL_law.data.toList.drop 1230 = dktL_law_47 := dk_seg dksL_law_46 24 rfl rfl
theorem dksL_law_48 : cL_law.data.toList.drop 1254 = dktL_law_48 := dk_seg dksL_law_47 24 rfl rfl
theorem dksL_law_49 : cL_law.data.toList.drop 1277 = dktL_law_49 := dk_seg dksL_law_48 23 rfl rfl
theorem dksL_law_50 : cL_law.data.toList.drop 1301 = dktL_law_50 := dk_seg dksL_law_49 24 rfl rfl
theorem dksL_law_51 : cL_law.data.toList.drop 1323 = dktL_law_51 := dk_seg dksL_law_50 22 rfl rfl
theorem dksL_law_52 : cL_law.data.toList.drop 1346 = dktL_law_52 := dk_seg dksL_law_51 23 rfl rfl
theorem dksL_law_53 : cL_law.data.toList.drop 1370 = dktL_law_53 := dk_seg dksL_law_52 24 rfl rfl
theorem dksL_law_54 : cL_law.data.toList.drop 1392 = dktL_law_54 := dk_seg dksL_law_53 22 rfl rfl
theorem dksL_law_55 : cL_law.data.toList.drop 1414 = dktL_law_55 := dk_seg dksL_law_54 22 rfl rfl
theorem dksL_law_56 : cL_law.data.toList.drop 1438 = dktL_law_56 := dk_seg dksL_law_55 24 rfl rfl
theorem dksL_law_57 : cL_law.data.toList.drop 1460 = dktL_law_57 := dk_seg dksL_law_56 22 rfl rfl
theorem dksL_law_58 : cL_law.data.toList.drop 1482 = dktL_law_58 := dk_seg dksL_law_57 22 rfl rfl
theorem dksL_law_59 : cL_law.data.toList.drop 1506 = dktL_law_59 := dk_seg dksL_law_58 24 rfl rfl
theorem dksL_law_60 : cL_law.data.toList.drop 1528 = dktL_law_60 := dk_seg dksL_law_59 22 rfl rfl
theorem dksL_law_61 : cL_law.data.toList.drop 1551 = dktL_law_61 := dk_seg dksL_law_60 23 rfl rfl
theorem dksL_law_62 : cL_law.data.toList.drop 1574 = dktL_law_62 := dk_seg dksL_law_61 23 rfl rfl
theorem dksL_law_63 : cL_law.data.toList.drop 1598 = dktL_law_63 := dk_seg dksL_law_62 24 rfl rfl
theorem dksL_law_64 : cL_law.data.toList.drop 1622 = dktL_law_64 := dk_seg dksL_law_63 24 rfl rfl
theorem dksL_law_65 : cL_law.data.toList.drop 1646 = dktL_law_65 := dk_seg dksL_law_64 24 rfl rfl
theorem dksL_law_66 : cL_law.data.toList.drop 1668 = dktL_law_66 := dk_seg dksL_law_65 22 rfl rfl
theorem dksL_law_67 : cL_law.data.toList.drop 1691 = dktL_law_67 := dk_seg dksL_law_66 23 rfl rfl
theorem dksL_law_68 : cL_law.data.toList.drop 1713 = dktL_law_68 := dk_seg dksL_law_67 22 rfl rfl
theorem dksL_law_69 : cL_law.data.toList.drop 1736 = dktL_law_69 := dk_seg dksL_law_68 23 rfl rfl
theorem dksL_law_70 : cL_law.data.toList.drop 1760 = dktL_law_70 := dk_seg dksL_law_69 24 rfl rfl
theorem dksL_law_71 : cL_law.data.toList.drop 1784 = dktL_law_71 := dk_seg dksL_law_70 24 rfl rfl
theorem dksL_law_72 : cL_law.data.toList.drop 1808 = dktL_law_72 := dk_seg dksL_law_71 24 rfl rfl
theorem dksL_law_73 : cL_law.data.toList.drop 1832 = dktL_law_73 := dk_seg dksL_law_72 24 rfl rfl
theorem dksL_law_74 : cL_law.data.toList.drop 1855 = dktL_law_74 := dk_seg dksL_law_73 23 rfl rfl
theorem dksL_law_75 : cL_law.data.toList.drop 1879 = dktL_law_75 := dk_seg dksL_law_74 24 rfl rfl
theorem dksL_law_76 : cL_law.data.toList.drop 1901 = dktL_law_76 := dk_seg dksL_law_75 22 rfl rfl
theorem dksL_law_77 : cL_law.data.toList.drop 1924 = dktL_law_77 := dk_seg dksL_law_76 23 rfl rfl
theorem dksL_law_78 : cL_law.data.toList.drop 1948 = dktL_law_78 := dk_seg dksL_law_77 24 rfl rfl
theorem dksL_law_79 : cL_law.data.toList.drop 1970 = dktL_law_79 := dk_seg dksL_law_78 22 rfl rfl
theorem dksL_law_80 : cL_law.data.toList.drop 1993 = dktL_law_80 := dk_seg dksL_law_79 23 rfl rfl
theorem dksL_law_81 : cL_law.data.toList.drop 2016 = dktL_law_81 := dk_seg dksL_law_80 23 rfl rfl
theorem dksL_law_82 : cL_law.data.toList.drop 2040 = dktL_law_82 := dk_seg dksL_law_81 24 rfl rfl
theorem dksL_law_83 : cL_law.data.toList.drop 2064 = dktL_law_83 := dk_seg dksL_law_82 24 rfl rfl
theorem dksL_law_84 : cL_law.data.toList.drop 2088 = dktL_law_84 := dk_seg dksL_law_83 24 rfl rfl
theorem dksL_law_85 : cL_law.data.toList.drop 2111 = dktL_law_85 := dk_seg dksL_law_84 23 rfl rfl
theorem dksL_law_86 : cL_law.data.toList.drop 2134 = dktL_law_86 := dk_seg dksL_law_85 23 rfl rfl
theorem dksL_law_87 : cL_law.data.toList.drop 2156 = dktL_law_87 := dk_seg dksL_law_86 22 rfl rfl
theorem dL_law_0 : decode cL_law 0 = .ok (.new 8, 3) := dk_187 0 8 (dk_at dksL_law_0 0 rfl rfl)
theorem dL_law_3 : decode cL_law 3 = .ok (.dup, 1) := dk_89 (dk_at dksL_law_0 3 rfl rfl)
theorem dL_law_4 : decode cL_law 4 = .ok (.invokespecial 114, 3) := dk_183 0 114 (dk_at dksL_law_0 4 rfl rfl)
theorem dL_law_7 : decode cL_law 7 = .ok (.astore_n 1, 1) := dk_76 (dk_at dksL_law_0 7 rfl rfl)
theorem dL_law_8 : decode cL_law 8 = .ok (.new 115, 3) := dk_187 0 115 (dk_at dksL_law_0 8 rfl rfl)
theorem dL_law_11 : decode cL_law 11 = .ok (.dup, 1) := dk_89 (dk_at dksL_law_0 11 rfl rfl)
theorem dL_law_12 : decode cL_law 12 = .ok (.invokespecial 117, 3) := dk_183 0 117 (dk_at dksL_law_0 12 rfl rfl)
theorem dL_law_15 : decode cL_law 15 = .ok (.astore_n 2, 1) := dk_77 (dk_at dksL_law_0 15 rfl rfl)
theorem dL_law_16 : decode cL_law 16 = .ok (.iconst 1, 1) := dk_4 (dk_at dksL_law_0 16 rfl rfl)
theorem dL_law_17 : decode cL_law 17 = .ok (.newarray .long, 2) := dk_188_11 (dk_at dksL_law_0 17 rfl rfl)
theorem dL_law_19 : decode cL_law 19 = .ok (.astore_n 3, 1) := dk_78 (dk_at dksL_law_0 19 rfl rfl)
theorem dL_law_20 : decode cL_law 20 = .ok (.iconst 1, 1) := dk_4 (dk_at dksL_law_0 20 rfl rfl)
theorem dL_law_21 : decode cL_law 21 = .ok (.newarray .double, 2) := dk_188_7 (dk_at dksL_law_0 21 rfl rfl)
theorem dL_law_23 : decode cL_law 23 = .ok (.astore 4, 2) := dk_58 4 (dk_at dksL_law_1 0 rfl rfl)
theorem dL_law_25 : decode cL_law 25 = .ok (.iconst 0, 1) := dk_3 (dk_at dksL_law_1 2 rfl rfl)
theorem dL_law_26 : decode cL_law 26 = .ok (.istore 5, 2) := dk_54 5 (dk_at dksL_law_1 3 rfl rfl)
theorem dL_law_28 : decode cL_law 28 = .ok (.iload 5, 2) := dk_21 5 (dk_at dksL_law_1 5 rfl rfl)
theorem dL_law_30 : decode cL_law 30 = .ok (.aload_n 0, 1) := dk_42 (dk_at dksL_law_1 7 rfl rfl)
theorem dL_law_31 : decode cL_law 31 = .ok (.arraylength, 1) := dk_190 (dk_at dksL_law_1 8 rfl rfl)
theorem dL_law_32 : decode cL_law 32 = .ok (.iconst 5, 1) := dk_8 (dk_at dksL_law_1 9 rfl rfl)
theorem dL_law_33 : decode cL_law 33 = .ok (.isub, 1) := dk_100 (dk_at dksL_law_1 10 rfl rfl)
theorem dL_law_34 : decode cL_law 34 = .ok (.if_icmp .gt 2136, 3) := dk_163 8 88 (dk_at dksL_law_1 11 rfl rfl)
theorem dL_law_37 : decode cL_law 37 = .ok (.aload_n 0, 1) := dk_42 (dk_at dksL_law_1 14 rfl rfl)
theorem dL_law_38 : decode cL_law 38 = .ok (.iload 5, 2) := dk_21 5 (dk_at dksL_law_1 15 rfl rfl)
theorem dL_law_40 : decode cL_law 40 = .ok (.iaload, 1) := dk_46 (dk_at dksL_law_1 17 rfl rfl)
theorem dL_law_41 : decode cL_law 41 = .ok (.bipush 63, 2) := dk_16 63 (dk_at dksL_law_1 18 rfl rfl)
theorem dL_law_43 : decode cL_law 43 = .ok (.iand, 1) := dk_126 (dk_at dksL_law_1 20 rfl rfl)
theorem dL_law_44 : decode cL_law 44 = .ok (.tableswitch 2120 0 36 #[164, 244, 336, 416, 484, 564, 644, 700, 756, 824, 892, 960, 973, 1029, 1085, 1141, 1218, 1231, 1287, 1300, 1356, 1424, 1492, 1548, 1616, 1672, 1728, 1741, 1797, 1865, 1878, 1934, 1947, 1985, 2029, 2085, 2096], 164) := by decide +kernel
theorem dL_law_208 : decode cL_law 208 = .ok (.aload_n 1, 1) := dk_43 (dk_at dksL_law_3 0 rfl rfl)
theorem dL_law_209 : decode cL_law 209 = .ok (.aload_n 0, 1) := dk_42 (dk_at dksL_law_3 1 rfl rfl)
theorem dL_law_210 : decode cL_law 210 = .ok (.iload 5, 2) := dk_21 5 (dk_at dksL_law_3 2 rfl rfl)
theorem dL_law_212 : decode cL_law 212 = .ok (.iconst 1, 1) := dk_4 (dk_at dksL_law_3 4 rfl rfl)
theorem dL_law_213 : decode cL_law 213 = .ok (.iadd, 1) := dk_96 (dk_at dksL_law_3 5 rfl rfl)
theorem dL_law_214 : decode cL_law 214 = .ok (.iaload, 1) := dk_46 (dk_at dksL_law_3 6 rfl rfl)
theorem dL_law_215 : decode cL_law 215 = .ok (.aload_n 0, 1) := dk_42 (dk_at dksL_law_3 7 rfl rfl)
theorem dL_law_216 : decode cL_law 216 = .ok (.iload 5, 2) := dk_21 5 (dk_at dksL_law_3 8 rfl rfl)
theorem dL_law_218 : decode cL_law 218 = .ok (.iconst 2, 1) := dk_5 (dk_at dksL_law_3 10 rfl rfl)
theorem dL_law_219 : decode cL_law 219 = .ok (.iadd, 1) := dk_96 (dk_at dksL_law_3 11 rfl rfl)
theorem dL_law_220 : decode cL_law 220 = .ok (.iaload, 1) := dk_46 (dk_at dksL_law_3 12 rfl rfl)
theorem dL_law_221 : decode cL_law 221 = .ok (.aload_n 0, 1) := dk_42 (dk_at dksL_law_3 13 rfl rfl)
theorem dL_law_222 : decode cL_law 222 = .ok (.iload 5, 2) := dk_21 5 (dk_at dksL_law_3 14 rfl rfl)
theorem dL_law_224 : decode cL_law 224 = .ok (.iconst 3, 1) := dk_6 (dk_at dksL_law_3 16 rfl rfl)
theorem dL_law_225 : decode cL_law 225 = .ok (.iadd, 1) := dk_96 (dk_at dksL_law_3 17 rfl rfl)
theorem dL_law_226 : decode cL_law 226 = .ok (.iaload, 1) := dk_46 (dk_at dksL_law_3 18 rfl rfl)
theorem dL_law_227 : decode cL_law 227 = .ok (.aload_n 3, 1) := dk_45 (dk_at dksL_law_3 19 rfl rfl)
theorem dL_law_228 : decode cL_law 228 = .ok (.invokestatic 118, 3) := dk_184 0 118 (dk_at dksL_law_3 20 rfl rfl)
theorem dL_law_231 : decode cL_law 231 = .ok (.istore 6, 2) := dk_54 6 (dk_at dksL_law_4 0 rfl rfl)
theorem dL_law_233 : decode cL_law 233 = .ok (.aload_n 2, 1) := dk_44 (dk_at dksL_law_4 2 rfl rfl)
theorem dL_law_234 : decode cL_law 234 = .ok (.aload_n 0, 1) := dk_42 (dk_at dksL_law_4 3 rfl rfl)
theorem dL_law_235 : decode cL_law 235 = .ok (.iload 5, 2) := dk_21 5 (dk_at dksL_law_4 4 rfl rfl)
theorem dL_law_237 : decode cL_law 237 = .ok (.iconst 1, 1) := dk_4 (dk_at dksL_law_4 6 rfl rfl)
theorem dL_law_238 : decode cL_law 238 = .ok (.iadd, 1) := dk_96 (dk_at dksL_law_4 7 rfl rfl)
theorem dL_law_239 : decode cL_law 239 = .ok (.iaload, 1) := dk_46 (dk_at dksL_law_4 8 rfl rfl)
theorem dL_law_240 : decode cL_law 240 = .ok (.aload_n 0, 1) := dk_42 (dk_at dksL_law_4 9 rfl rfl)
theorem dL_law_241 : decode cL_law 241 = .ok (.iload 5, 2) := dk_21 5 (dk_at dksL_law_4 10 rfl rfl)
theorem dL_law_243 : decode cL_law 243 = .ok (.iconst 2, 1) := dk_5 (dk_at dksL_law_4 12 rfl rfl)
theorem dL_law_244 : decode cL_law 244 = .ok (.iadd, 1) := dk_96 (dk_at dksL_law_4 13 rfl rfl)
theorem dL_law_245 : decode cL_law 245 = .ok (.iaload, 1) := dk_46 (dk_at dksL_law_4 14 rfl rfl)
theorem dL_law_246 : decode cL_law 246 = .ok (.aload_n 0, 1) := dk_42 (dk_at dksL_law_4 15 rfl rfl)
theorem dL_law_247 : decode cL_law 247 = .ok (.iload 5, 2) := dk_21 5 (dk_at dksL_law_4 16 rfl rfl)
theorem dL_law_249 : decode cL_law 249 = .ok (.iconst 3, 1) := dk_6 (dk_at dksL_law_4 18 rfl rfl)
theorem dL_law_250 : decode cL_law 250 = .ok (.iadd, 1) := dk_96 (dk_at dksL_law_4 19 rfl rfl)
theorem dL_law_251 : decode cL_law 251 = .ok (.iaload, 1) := dk_46 (dk_at dksL_law_4 20 rfl rfl)
theorem dL_law_252 : decode cL_law 252 = .ok (.invokevirtual 123, 3) := dk_182 0 123 (dk_at dksL_law_4 21 rfl rfl)
theorem dL_law_255 : decode cL_law 255 = .ok (.istore 7, 2) := dk_54 7 (dk_at dksL_law_5 0 rfl rfl)
theorem dL_law_257 : decode cL_law 257 = .ok (.aload_n 2, 1) := dk_44 (dk_at dksL_law_5 2 rfl rfl)
theorem dL_law_258 : decode cL_law 258 = .ok (.invokevirtual 124, 3) := dk_182 0 124 (dk_at dksL_law_5 3 rfl rfl)
theorem dL_law_261 : decode cL_law 261 = .ok (.iload 6, 2) := dk_21 6 (dk_at dksL_law_5 6 rfl rfl)
theorem dL_law_263 : decode cL_law 263 = .ok (.if_icmp .eq 5, 3) := dk_159 0 5 (dk_at dksL_law_5 8 rfl rfl)
theorem dL_law_266 : decode cL_law 266 = .ok (.iconst 0, 1) := dk_3 (dk_at dksL_law_5 11 rfl rfl)
theorem dL_law_267 : decode cL_law 267 = .ok (.ireturn, 1) := dk_172 (dk_at dksL_law_5 12 rfl rfl)
theorem dL_law_268 : decode cL_law 268 = .ok (.iload 6, 2) := dk_21 6 (dk_at dksL_law_5 13 rfl rfl)
theorem dL_law_270 : decode cL_law 270 = .ok (.ifCond .ne 15, 3) := dk_154 0 15 (dk_at dksL_law_5 15 rfl rfl)
theorem dL_law_273 : decode cL_law 273 = .ok (.aload_n 3, 1) := dk_45 (dk_at dksL_law_5 18 rfl rfl)
theorem dL_law_274 : decode cL_law 274 = .ok (.iconst 0, 1) := dk_3 (dk_at dksL_law_5 19 rfl rfl)
theorem dL_law_275 : decode cL_law 275 = .ok (.laload, 1) := dk_47 (dk_at dksL_law_5 20 rfl rfl)
theorem dL_law_276 : decode cL_law 276 = .ok (.iload 7, 2) := dk_21 7 (dk_at dksL_law_5 21 rfl rfl)
theorem dL_law_278 : decode cL_law 278 = .ok (.i2l, 1) := dk_133 (dk_at dksL_law_5 23 rfl rfl)
theorem dL_law_279 : decode cL_law 279 = .ok (.lcmp, 1) := dk_148 (dk_at dksL_law_6 0 rfl rfl)
theorem dL_law_280 : decode cL_law 280 = .ok (.ifCond .eq 5, 3) := dk_153 0 5 (dk_at dksL_law_6 1 rfl rfl)
theorem dL_law_283 : decode cL_law 283 = .ok (.iconst 0, 1) := dk_3 (dk_at dksL_law_6 4 rfl rfl)
theorem dL_law_284 : decode cL_law 284 = .ok (.ireturn, 1) := dk_172 (dk_at dksL_law_6 5 rfl rfl)
theorem dL_law_285 : decode cL_law 285 = .ok (.goto 1879, 3) := dk_167 7 87 (dk_at dksL_law_6 6 rfl rfl)
theorem dL_law_288 : decode cL_law 288 = .ok (.aload_n 1, 1) := dk_43 (dk_at dksL_law_6 9 rfl rfl)
theorem dL_law_289 : decode cL_law 289 = .ok (.aload_n 0, 1) := dk_42 (dk_at dksL_law_6 10 rfl rfl)
theorem dL_law_290 : decode cL_law 290 = .ok (.iload 5, 2) := dk_21 5 (dk_at dksL_law_6 11 rfl rfl)
theorem dL_law_292 : decode cL_law 292 = .ok (.iconst 1, 1) := dk_4 (dk_at dksL_law_6 13 rfl rfl)
theorem dL_law_293 : decode cL_law 293 = .ok (.iadd, 1) := dk_96 (dk_at dksL_law_6 14 rfl rfl)
theorem dL_law_294 : decode cL_law 294 = .ok (.iaload, 1) := dk_46 (dk_at dksL_law_6 15 rfl rfl)
theorem dL_law_295 : decode cL_law 295 = .ok (.aload_n 0, 1) := dk_42 (dk_at dksL_law_6 16 rfl rfl)
theorem dL_law_296 : decode cL_law 296 = .ok (.iload 5, 2) := dk_21 5 (dk_at dksL_law_6 17 rfl rfl)
theorem dL_law_298 : decode cL_law 298 = .ok (.iconst 2, 1) := dk_5 (dk_at dksL_law_6 19 rfl rfl)
theorem dL_law_299 : decode cL_law 299 = .ok (.iadd, 1) := dk_96 (dk_at dksL_law_6 20 rfl rfl)
theorem dL_law_300 : decode cL_law 300 = .ok (.iaload, 1) := dk_46 (dk_at dksL_law_6 21 rfl rfl)
theorem dL_law_301 : decode cL_law 301 = .ok (.aload_n 0, 1) := dk_42 (dk_at dksL_law_6 22 rfl rfl)
theorem dL_law_302 : decode cL_law 302 = .ok (.iload 5, 2) := dk_21 5 (dk_at dksL_law_7 0 rfl rfl)
theorem dL_law_304 : decode cL_law 304 = .ok (.iconst 3, 1) := dk_6 (dk_at dksL_law_7 2 rfl rfl)
theorem dL_law_305 : decode cL_law 305 = .ok (.iadd, 1) := dk_96 (dk_at dksL_law_7 3 rfl rfl)
theorem dL_law_306 : decode cL_law 306 = .ok (.iaload, 1) := dk_46 (dk_at dksL_law_7 4 rfl rfl)
theorem dL_law_307 : decode cL_law 307 = .ok (.aload_n 0, 1) := dk_42 (dk_at dksL_law_7 5 rfl rfl)
theorem dL_law_308 : decode cL_law 308 = .ok (.iload 5, 2) := dk_21 5 (dk_at dksL_law_7 6 rfl rfl)
theorem dL_law_310 : decode cL_law 310 = .ok (.iconst 4, 1) := dk_7 (dk_at dksL_law_7 8 rfl rfl)
theorem dL_law_311 : decode cL_law 311 = .ok (.iadd, 1) := dk_96 (dk_at dksL_law_7 9 rfl rfl)
theorem dL_law_312 : decode cL_law 312 = .ok (.iaload, 1) := dk_46 (dk_at dksL_law_7 10 rfl rfl)
theorem dL_law_313 : decode cL_law 313 = .ok (.aload_n 3, 1) := dk_45 (dk_at dksL_law_7 11 rfl rfl)
theorem dL_law_314 : decode cL_law 314 = .ok (.invokestatic 127, 3) := dk_184 0 127 (dk_at dksL_law_7 12 rfl rfl)
theorem dL_law_317 : decode cL_law 317 = .ok (.istore 6, 2) := dk_54 6 (dk_at dksL_law_7 15 rfl rfl)
theorem dL_law_319 : decode cL_law 319 = .ok (.aload_n 2, 1) := dk_44 (dk_at dksL_law_7 17 rfl rfl)
theorem dL_law_320 : decode cL_law 320 = .ok (.aload_n 0, 1) := dk_42 (dk_at dksL_law_7 18 rfl rfl)
theorem dL_law_321 : decode cL_law 321 = .ok (.iload 5, 2) := dk_21 5 (dk_at dksL_law_7 19 rfl rfl)
theorem dL_law_323 : decode cL_law 323 = .ok (.iconst 1, 1) := dk_4 (dk_at dksL_law_7 21 rfl rfl)
theorem dL_law_324 : decode cL_law 324 = .ok (.iadd, 1) := dk_96 (dk_at dksL_law_7 22 rfl rfl)
theorem dL_law_325 : decode cL_law 325 = .ok (.iaload, 1) := dk_46 (dk_at dksL_law_7 23 rfl rfl)
theorem dL_law_326 : decode cL_law 326 = .ok (.aload_n 0, 1) := dk_42 (dk_at dksL_law_8 0 rfl rfl)
theorem dL_law_327 : decode cL_law 327 = .ok (.iload 5, 2) := dk_21 5 (dk_at dksL_law_8 1 rfl rfl)
theorem dL_law_329 : decode cL_law 329 = .ok (.iconst 2, 1) := dk_5 (dk_at dksL_law_8 3 rfl rfl)
theorem dL_law_330 : decode cL_law 330 = .ok (.iadd, 1) := dk_96 (dk_at dksL_law_8 4 rfl rfl)
theorem dL_law_331 : decode cL_law 331 = .ok (.iaload, 1) := dk_46 (dk_at dksL_law_8 5 rfl rfl)
theorem dL_law_332 : decode cL_law 332 = .ok (.aload_n 0, 1) := dk_42 (dk_at dksL_law_8 6 rfl rfl)
theorem dL_law_333 : decode cL_law 333 = .ok (.iload 5, 2) := dk_21 5 (dk_at dksL_law_8 7 rfl rfl)
theorem dL_law_335 : decode cL_law 335 = .ok (.iconst 3, 1) := dk_6 (dk_at dksL_law_8 9 rfl rfl)
theorem dL_law_336 : decode cL_law 336 = .ok (.iadd, 1) := dk_96 (dk_at dksL_law_8 10 rfl rfl)
theorem dL_law_337 : decode cL_law 337 = .ok (.iaload, 1) := dk_46 (dk_at dksL_law_8 11 rfl rfl)
theorem dL_law_338 : decode cL_law 338 = .ok (.aload_n 0, 1) := dk_42 (dk_at dksL_law_8 12 rfl rfl)
theorem dL_law_339 : decode cL_law 339 = .ok (.iload 5, 2) := dk_21 5 (dk_at dksL_law_8 13 rfl rfl)
theorem dL_law_341 : decode cL_law 341 = .ok (.iconst 4, 1) := dk_7 (dk_at dksL_law_8 15 rfl rfl)
theorem dL_law_342 : decode cL_law 342 = .ok (.iadd, 1) := dk_96 (dk_at dksL_law_8 16 rfl rfl)
theorem dL_law_343 : decode cL_law 343 = .ok (.iaload, 1) := dk_46 (dk_at dksL_law_8 17 rfl rfl)
theorem dL_law_344 : decode cL_law 344 = .ok (.invokevirtual 130, 3) := dk_182 0 130 (dk_at dksL_law_8 18 rfl rfl)
theorem dL_law_347 : decode cL_law 347 = .ok (.istore 7, 2) := dk_54 7 (dk_at dksL_law_8 21 rfl rfl)
theorem dL_law_349 : decode cL_law 349 = .ok (.aload_n 2, 1) := dk_44 (dk_at dksL_law_8 23 rfl rfl)
theorem dL_law_350 : decode cL_law 350 = .ok (.invokevirtual 124, 3) := dk_182 0 124 (dk_at dksL_law_9 0 rfl rfl)
theorem dL_law_353 : decode cL_law 353 = .ok (.iload 6, 2) := dk_21 6 (dk_at dksL_law_9 3 rfl rfl)
theorem dL_law_355 : decode cL_law 355 = .ok (.if_icmp .eq 5, 3) := dk_159 0 5 (dk_at dksL_law_9 5 rfl rfl)
theorem dL_law_358 : decode cL_law 358 = .ok (.iconst 0, 1) := dk_3 (dk_at dksL_law_9 8 rfl rfl)
theorem dL_law_359 : decode cL_law 359 = .ok (.ireturn, 1) := dk_172 (dk_at dksL_law_9 9 rfl rfl)
theorem dL_law_360 : decode cL_law 360 = .ok (.iload 6, 2) := dk_21 6 (dk_at dksL_law_9 10 rfl rfl)
theorem dL_law_362 : decode cL_law 362 = .ok (.ifCond .ne 15, 3) := dk_154 0 15 (dk_at dksL_law_9 12 rfl rfl)
theorem dL_law_365 : decode cL_law 365 = .ok (.aload_n 3, 1) := dk_45 (dk_at dksL_law_9 15 rfl rfl)
theorem dL_law_366 : decode cL_law 366 = .ok (.iconst 0, 1) := dk_3 (dk_at dksL_law_9 16 rfl rfl)
theorem dL_law_367 : decode cL_law 367 = .ok (.laload, 1) := dk_47 (dk_at dksL_law_9 17 rfl rfl)
theorem dL_law_368 : decode cL_law 368 = .ok (.iload 7, 2) := dk_21 7 (dk_at dksL_law_9 18 rfl rfl)
theorem dL_law_370 : decode cL_law 370 = .ok (.i2l, 1) := dk_133 (dk_at dksL_law_9 20 rfl rfl)
theorem dL_law_371 : decode cL_law 371 = .ok (.lcmp, 1) := dk_148 (dk_at dksL_law_9 21 rfl rfl)
theorem dL_law_372 : decode cL_law 372 = .ok (.ifCond .eq 5, 3) := dk_153 0 5 (dk_at dksL_law_10 0 rfl rfl)
theorem dL_law_375 : decode cL_law 375 = .ok (.iconst 0, 1) := dk_3 (dk_at dksL_law_10 3 rfl rfl)
theorem dL_law_376 : decode cL_law 376 = .ok (.ireturn, 1) := dk_172 (dk_at dksL_law_10 4 rfl rfl)
theorem dL_law_377 : decode cL_law 377 = .ok (.goto 1787, 3) := dk_167 6 251 (dk_at dksL_law_10 5 rfl rfl)
theorem dL_law_380 : decode cL_law 380 = .ok (.aload_n 1, 1) := dk_43 (dk_at dksL_law_10 8 rfl rfl)
theorem dL_law_381 : decode cL_law 381 = .ok (.aload_n 0, 1) := dk_42 (dk_at dksL_law_10 9 rfl rfl)
theorem dL_law_382 : decode cL_law 382 = .ok (.iload 5, 2) := dk_21 5 (dk_at dksL_law_10 10 rfl rfl)
theorem dL_law_384 : decode cL_law 384 = .ok (.iconst 1, 1) := dk_4 (dk_at dksL_law_10 12 rfl rfl)
theorem dL_law_385 : decode cL_law 385 = .ok (.iadd, 1) := dk_96 (dk_at dksL_law_10 13 rfl rfl)
theorem dL_law_386 : decode cL_law 386 = .ok (.iaload, 1) := dk_46 (dk_at dksL_law_10 14 rfl rfl)
theorem dL_law_387 : decode cL_law 387 = .ok (.aload_n 0, 1) := dk_42 (dk_at dksL_law_10 15 rfl rfl)
theorem dL_law_388 : decode cL_law 388 = .ok (.iload 5, 2) := dk_21 5 (dk_at dksL_law_10 16 rfl rfl)
theorem dL_law_390 : decode cL_law 390 = .ok (.iconst 2, 1) := dk_5 (dk_at dksL_law_10 18 rfl rfl)
theorem dL_law_391 : decode cL_law 391 = .ok (.iadd, 1) := dk_96 (dk_at dksL_law_10 19 rfl rfl)
theorem dL_law_392 : decode cL_law 392 = .ok (.iaload, 1) := dk_46 (dk_at dksL_law_10 20 rfl rfl)
theorem dL_law_393 : decode cL_law 393 = .ok (.aload_n 0, 1) := dk_42 (dk_at dksL_law_10 21 rfl rfl)
theorem dL_law_394 : decode cL_law 394 = .ok (.iload 5, 2) := dk_21 5 (dk_at dksL_law_10 22 rfl rfl)
theorem dL_law_396 : decode cL_law 396 = .ok (.iconst 3, 1) := dk_6 (dk_at dksL_law_11 0 rfl rfl)
theorem dL_law_397 : decode cL_law 397 = .ok (.iadd, 1) := dk_96 (dk_at dksL_law_11 1 rfl rfl)
theorem dL_law_398 : decode cL_law 398 = .ok (.iaload, 1) := dk_46 (dk_at dksL_law_11 2 rfl rfl)
theorem dL_law_399 : decode cL_law 399 = .ok (.aload_n 3, 1) := dk_45 (dk_at dksL_law_11 3 rfl rfl)
theorem dL_law_400 : decode cL_law 400 = .ok (.invokestatic 131, 3) := dk_184 0 131 (dk_at dksL_law_11 4 rfl rfl)
theorem dL_law_403 : decode cL_law 403 = .ok (.istore 6, 2) := dk_54 6 (dk_at dksL_law_11 7 rfl rfl)
theorem dL_law_405 : decode cL_law 405 = .ok (.aload_n 2, 1) := dk_44 (dk_at dksL_law_11 9 rfl rfl)
theorem dL_law_406 : decode cL_law 406 = .ok (.aload_n 0, 1) := dk_42 (dk_at dksL_law_11 10 rfl rfl)
theorem dL_law_407 : decode cL_law 407 = .ok (.iload 5, 2) := dk_21 5 (dk_at dksL_law_11 11 rfl rfl)
theorem dL_law_409 : decode cL_law 409 = .ok (.iconst 1, 1) := dk_4 (dk_at dksL_law_11 13 rfl rfl)
theorem dL_law_410 : decode cL_law 410 = .ok (.iadd, 1) := dk_96 (dk_at dksL_law_11 14 rfl rfl)
theorem dL_law_411 : decode cL_law 411 = .ok (.iaload, 1) := dk_46 (dk_at dksL_law_11 15 rfl rfl)
theorem dL_law_412 : decode cL_law 412 = .ok (.aload_n 0, 1) := dk_42 (dk_at dksL_law_11 16 rfl rfl)
theorem dL_law_413 : decode cL_law 413 = .ok (.iload 5, 2) := dk_21 5 (dk_at dksL_law_11 17 rfl rfl)
theorem dL_law_415 : decode cL_law 415 = .ok (.iconst 2, 1) := dk_5 (dk_at dksL_law_11 19 rfl rfl)
theorem dL_law_416 : decode cL_law 416 = .ok (.iadd, 1) := dk_96 (dk_at dksL_law_11 20 rfl rfl)
theorem dL_law_417 : decode cL_law 417 = .ok (.iaload, 1) := dk_46 (dk_at dksL_law_11 21 rfl rfl)
theorem dL_law_418 : decode cL_law 418 = .ok (.aload_n 0, 1) := dk_42 (dk_at dksL_law_11 22 rfl rfl)
theorem dL_law_419 : decode cL_law 419 = .ok (.iload 5, 2) := dk_21 5 (dk_at dksL_law_12 0 rfl rfl)
theorem dL_law_421 : decode cL_law 421 = .ok (.iconst 3, 1) := dk_6 (dk_at dksL_law_12 2 rfl rfl)
theorem dL_law_422 : decode cL_law 422 = .ok (.iadd, 1) := dk_96 (dk_at dksL_law_12 3 rfl rfl)
theorem dL_law_423 : decode cL_law 423 = .ok (.iaload, 1) := dk_46 (dk_at dksL_law_12 4 rfl rfl)
theorem dL_law_424 : decode cL_law 424 = .ok (.invokevirtual 133, 3) := dk_182 0 133 (dk_at dksL_law_12 5 rfl rfl)
theorem dL_law_427 : decode cL_law 427 = .ok (.istore 7, 2) := dk_54 7 (dk_at dksL_law_12 8 rfl rfl)
theorem dL_law_429 : decode cL_law 429 = .ok (.aload_n 2, 1) := dk_44 (dk_at dksL_law_12 10 rfl rfl)
theorem dL_law_430 : decode cL_law 430 = .ok (.invokevirtual 124, 3) := dk_182 0 124 (dk_at dksL_law_12 11 rfl rfl)
theorem dL_law_433 : decode cL_law 433 = .ok (.iload 6, 2) := dk_21 6 (dk_at dksL_law_12 14 rfl rfl)
theorem dL_law_435 : decode cL_law 435 = .ok (.if_icmp .eq 5, 3) := dk_159 0 5 (dk_at dksL_law_12 16 rfl rfl)
theorem dL_law_438 : decode cL_law 438 = .ok (.iconst 0, 1) := dk_3 (dk_at dksL_law_12 19 rfl rfl)
theorem dL_law_439 : decode cL_law 439 = .ok (.ireturn, 1) := dk_172 (dk_at dksL_law_12 20 rfl rfl)
theorem dL_law_440 : decode cL_law 440 = .ok (.iload 6, 2) := dk_21 6 (dk_at dksL_law_12 21 rfl rfl)
theorem dL_law_442 : decode cL_law 442 = .ok (.ifCond .ne 15, 3) := dk_154 0 15 (dk_at dksL_law_13 0 rfl rfl)
theorem dL_law_445 : decode cL_law 445 = .ok (.aload_n 3, 1) := dk_45 (dk_at dksL_law_13 3 rfl rfl)
theorem dL_law_446 : decode cL_law 446 = .ok (.iconst 0, 1) := dk_3 (dk_at dksL_law_13 4 rfl rfl)
theorem dL_law_447 : decode cL_law 447 = .ok (.laload, 1) := dk_47 (dk_at dksL_law_13 5 rfl rfl)
theorem dL_law_448 : decode cL_law 448 = .ok (.iload 7, 2) := dk_21 7 (dk_at dksL_law_13 6 rfl rfl)
theorem dL_law_450 : decode cL_law 450 = .ok (.i2l, 1) := dk_133 (dk_at dksL_law_13 8 rfl rfl)
theorem dL_law_451 : decode cL_law 451 = .ok (.lcmp, 1) := dk_148 (dk_at dksL_law_13 9 rfl rfl)
theorem dL_law_452 : decode cL_law 452 = .ok (.ifCond .eq 5, 3) := dk_153 0 5 (dk_at dksL_law_13 10 rfl rfl)
theorem dL_law_455 : decode cL_law 455 = .ok (.iconst 0, 1) := dk_3 (dk_at dksL_law_13 13 rfl rfl)
theorem dL_law_456 : decode cL_law 456 = .ok (.ireturn, 1) := dk_172 (dk_at dksL_law_13 14 rfl rfl)
theorem dL_law_457 : decode cL_law 457 = .ok (.goto 1707, 3) := dk_167 6 171 (dk_at dksL_law_13 15 rfl rfl)
theorem dL_law_460 : decode cL_law 460 = .ok (.aload_n 1, 1) := dk_43 (dk_at dksL_law_13 18 rfl rfl)
theorem dL_law_461 : decode cL_law 461 = .ok (.aload_n 0, 1) := dk_42 (dk_at dksL_law_13 19 rfl rfl)
theorem dL_law_462 : decode cL_law 462 = .ok (.iload 5, 2) := dk_21 5 (dk_at dksL_law_13 20 rfl rfl)
theorem dL_law_464 : decode cL_law 464 = .ok (.iconst 1, 1) := dk_4 (dk_at dksL_law_13 22 rfl rfl)
theorem dL_law_465 : decode cL_law 465 = .ok (.iadd, 1) := dk_96 (dk_at dksL_law_13 23 rfl rfl)
theorem dL_law_466 : decode cL_law 466 = .ok (.iaload, 1) := dk_46 (dk_at dksL_law_14 0 rfl rfl)
theorem dL_law_467 : decode cL_law 467 = .ok (.aload_n 0, 1) := dk_42 (dk_at dksL_law_14 1 rfl rfl)
theorem dL_law_468 : decode cL_law 468 = .ok (.iload 5, 2) := dk_21 5 (dk_at dksL_law_14 2 rfl rfl)
theorem dL_law_470 : decode cL_law 470 = .ok (.iconst 2, 1) := dk_5 (dk_at dksL_law_14 4 rfl rfl)
theorem dL_law_471 : decode cL_law 471 = .ok (.iadd, 1) := dk_96 (dk_at dksL_law_14 5 rfl rfl)
theorem dL_law_472 : decode cL_law 472 = .ok (.iaload, 1) := dk_46 (dk_at dksL_law_14 6 rfl rfl)
theorem dL_law_473 : decode cL_law 473 = .ok (.aload_n 3, 1) := dk_45 (dk_at dksL_law_14 7 rfl rfl)
theorem dL_law_474 : decode cL_law 474 = .ok (.invokestatic 134, 3) := dk_184 0 134 (dk_at dksL_law_14 8 rfl rfl)
theorem dL_law_477 : decode cL_law 477 = .ok (.istore 6, 2) := dk_54 6 (dk_at dksL_law_14 11 rfl rfl)
theorem dL_law_479 : decode cL_law 479 = .ok (.aload_n 2, 1) := dk_44 (dk_at dksL_law_14 13 rfl rfl)
theorem dL_law_480 : decode cL_law 480 = .ok (.aload_n 0, 1) := dk_42 (dk_at dksL_law_14 14 rfl rfl)
theorem dL_law_481 : decode cL_law 481 = .ok (.iload 5, 2) := dk_21 5 (dk_at dksL_law_14 15 rfl rfl)
theorem dL_law_483 : decode cL_law 483 = .ok (.iconst 1, 1) := dk_4 (dk_at dksL_law_14 17 rfl rfl)
theorem dL_law_484 : decode cL_law 484 = .ok (.iadd, 1) := dk_96 (dk_at dksL_law_14 18 rfl rfl)
theorem dL_law_485 : decode cL_law 485 = .ok (.iaload, 1) := dk_46 (dk_at dksL_law_14 19 rfl rfl)
theorem dL_law_486 : decode cL_law 486 = .ok (.aload_n 0, 1) := dk_42 (dk_at dksL_law_14 20 rfl rfl)
theorem dL_law_487 : decode cL_law 487 = .ok (.iload 5, 2) := dk_21 5 (dk_at dksL_law_14 21 rfl rfl)
theorem dL_law_489 : decode cL_law 489 = .ok (.iconst 2, 1) := dk_5 (dk_at dksL_law_14 23 rfl rfl)
theorem dL_law_490 : decode cL_law 490 = .ok (.iadd, 1) := dk_96 (dk_at dksL_law_15 0 rfl rfl)
theorem dL_law_491 : decode cL_law 491 = .ok (.iaload, 1) := dk_46 (dk_at dksL_law_15 1 rfl rfl)
theorem dL_law_492 : decode cL_law 492 = .ok (.invokevirtual 137, 3) := dk_182 0 137 (dk_at dksL_law_15 2 rfl rfl)
theorem dL_law_495 : decode cL_law 495 = .ok (.istore 7, 2) := dk_54 7 (dk_at dksL_law_15 5 rfl rfl)
theorem dL_law_497 : decode cL_law 497 = .ok (.aload_n 2, 1) := dk_44 (dk_at dksL_law_15 7 rfl rfl)
theorem dL_law_498 : decode cL_law 498 = .ok (.invokevirtual 124, 3) := dk_182 0 124 (dk_at dksL_law_15 8 rfl rfl)
theorem dL_law_501 : decode cL_law 501 = .ok (.iload 6, 2) := dk_21 6 (dk_at dksL_law_15 11 rfl rfl)
theorem dL_law_503 : decode cL_law 503 = .ok (.if_icmp .eq 5, 3) := dk_159 0 5 (dk_at dksL_law_15 13 rfl rfl)
theorem dL_law_506 : decode cL_law 506 = .ok (.iconst 0, 1) := dk_3 (dk_at dksL_law_15 16 rfl rfl)
theorem dL_law_507 : decode cL_law 507 = .ok (.ireturn, 1) := dk_172 (dk_at dksL_law_15 17 rfl rfl)
theorem dL_law_508 : decode cL_law 508 = .ok (.iload 6, 2) := dk_21 6 (dk_at dksL_law_15 18 rfl rfl)
theorem dL_law_510 : decode cL_law 510 = .ok (.ifCond .ne 15, 3) := dk_154 0 15 (dk_at dksL_law_15 20 rfl rfl)
theorem dL_law_513 : decode cL_law 513 = .ok (.aload_n 3, 1) := dk_45 (dk_at dksL_law_15 23 rfl rfl)
theorem dL_law_514 : decode cL_law 514 = .ok (.iconst 0, 1) := dk_3 (dk_at dksL_law_16 0 rfl rfl)
theorem dL_law_515 : decode cL_law 515 = .ok (.laload, 1) := dk_47 (dk_at dksL_law_16 1 rfl rfl)
theorem dL_law_516 : decode cL_law 516 = .ok (.iload 7, 2) := dk_21 7 (dk_at dksL_law_16 2 rfl rfl)
theorem dL_law_518 : decode cL_law 518 = .ok (.i2l, 1) := dk_133 (dk_at dksL_law_16 4 rfl rfl)
theorem dL_law_519 : decode cL_law 519 = .ok (.lcmp, 1) := dk_148 (dk_at dksL_law_16 5 rfl rfl)
theorem dL_law_520 : decode cL_law 520 = .ok (.ifCond .eq 5, 3) := dk_153 0 5 (dk_at dksL_law_16 6 rfl rfl)
theorem dL_law_523 : decode cL_law 523 = .ok (.iconst 0, 1) := dk_3 (dk_at dksL_law_16 9 rfl rfl)
theorem dL_law_524 : decode cL_law 524 = .ok (.ireturn, 1) := dk_172 (dk_at dksL_law_16 10 rfl rfl)
theorem dL_law_525 : decode cL_law 525 = .ok (.goto 1639, 3) := dk_167 6 103 (dk_at dksL_law_16 11 rfl rfl)
theorem dL_law_528 : decode cL_law 528 = .ok (.aload_n 1, 1) := dk_43 (dk_at dksL_law_16 14 rfl rfl)
theorem dL_law_529 : decode cL_law 529 = .ok (.aload_n 0, 1) := dk_42 (dk_at dksL_law_16 15 rfl rfl)
theorem dL_law_530 : decode cL_law 530 = .ok (.iload 5, 2) := dk_21 5 (dk_at dksL_law_16 16 rfl rfl)
theorem dL_law_532 : decode cL_law 532 = .ok (.iconst 1, 1) := dk_4 (dk_at dksL_law_16 18 rfl rfl)
theorem dL_law_533 : decode cL_law 533 = .ok (.iadd, 1) := dk_96 (dk_at dksL_law_16 19 rfl rfl)
theorem dL_law_534 : decode cL_law 534 = .ok (.iaload, 1) := dk_46 (dk_at dksL_law_16 20 rfl rfl)
theorem dL_law_535 : decode cL_law 535 = .ok (.aload_n 0, 1) := dk_42 (dk_at dksL_law_16 21 rfl rfl)
theorem dL_law_536 : decode cL_law 536 = .ok (.iload 5, 2) := dk_21 5 (dk_at dksL_law_16 22 rfl rfl)
theorem dL_law_538 : decode cL_law 538 = .ok (.iconst 2, 1) := dk_5 (dk_at dksL_law_17 0 rfl rfl)
theorem dL_law_539 : decode cL_law 539 = .ok (.iadd, 1) := dk_96 (dk_at dksL_law_17 1 rfl rfl)
theorem dL_law_540 : decode cL_law 540 = .ok (.iaload, 1) := dk_46 (dk_at dksL_law_17 2 rfl rfl)
theorem dL_law_541 : decode cL_law 541 = .ok (.aload_n 0, 1) := dk_42 (dk_at dksL_law_17 3 rfl rfl)
theorem dL_law_542 : decode cL_law 542 = .ok (.iload 5, 2) := dk_21 5 (dk_at dksL_law_17 4 rfl rfl)
theorem dL_law_544 : decode cL_law 544 = .ok (.iconst 3, 1) := dk_6 (dk_at dksL_law_17 6 rfl rfl)
theorem dL_law_545 : decode cL_law 545 = .ok (.iadd, 1) := dk_96 (dk_at dksL_law_17 7 rfl rfl)
theorem dL_law_546 : decode cL_law 546 = .ok (.iaload, 1) := dk_46 (dk_at dksL_law_17 8 rfl rfl)
theorem dL_law_547 : decode cL_law 547 = .ok (.aload_n 3, 1) := dk_45 (dk_at dksL_law_17 9 rfl rfl)
theorem dL_law_548 : decode cL_law 548 = .ok (.invokestatic 138, 3) := dk_184 0 138 (dk_at dksL_law_17 10 rfl rfl)
theorem dL_law_551 : decode cL_law 551 = .ok (.istore 6, 2) := dk_54 6 (dk_at dksL_law_17 13 rfl rfl)
theorem dL_law_553 : decode cL_law 553 = .ok (.aload_n 2, 1) := dk_44 (dk_at dksL_law_17 15 rfl rfl)
theorem dL_law_554 : decode cL_law 554 = .ok (.aload_n 0, 1) := dk_42 (dk_at dksL_law_17 16 rfl rfl)
theorem dL_law_555 : decode cL_law 555 = .ok (.iload 5, 2) := dk_21 5 (dk_at dksL_law_17 17 rfl rfl)
theorem dL_law_557 : decode cL_law 557 = .ok (.iconst 1, 1) := dk_4 (dk_at dksL_law_17 19 rfl rfl)
theorem dL_law_558 : decode cL_law 558 = .ok (.iadd, 1) := dk_96 (dk_at dksL_law_17 20 rfl rfl)
theorem dL_law_559 : decode cL_law 559 = .ok (.iaload, 1) := dk_46 (dk_at dksL_law_17 21 rfl rfl)
theorem dL_law_560 : decode cL_law 560 = .ok (.aload_n 0, 1) := dk_42 (dk_at dksL_law_17 22 rfl rfl)
theorem dL_law_561 : decode cL_law 561 = .ok (.iload 5, 2) := dk_21 5 (dk_at dksL_law_18 0 rfl rfl)
theorem dL_law_563 : decode cL_law 563 = .ok (.iconst 2, 1) := dk_5 (dk_at dksL_law_18 2 rfl rfl)
theorem dL_law_564 : decode cL_law 564 = .ok (.iadd, 1) := dk_96 (dk_at dksL_law_18 3 rfl rfl)
theorem dL_law_565 : decode cL_law 565 = .ok (.iaload, 1) := dk_46 (dk_at dksL_law_18 4 rfl rfl)
theorem dL_law_566 : decode cL_law 566 = .ok (.aload_n 0, 1) := dk_42 (dk_at dksL_law_18 5 rfl rfl)
theorem dL_law_567 : decode cL_law 567 = .ok (.iload 5, 2) := dk_21 5 (dk_at dksL_law_18 6 rfl rfl)
theorem dL_law_569 : decode cL_law 569 = .ok (.iconst 3, 1) := dk_6 (dk_at dksL_law_18 8 rfl rfl)
theorem dL_law_570 : decode cL_law 570 = .ok (.iadd, 1) := dk_96 (dk_at dksL_law_18 9 rfl rfl)
theorem dL_law_571 : decode cL_law 571 = .ok (.iaload, 1) := dk_46 (dk_at dksL_law_18 10 rfl rfl)
theorem dL_law_572 : decode cL_law 572 = .ok (.invokevirtual 140, 3) := dk_182 0 140 (dk_at dksL_law_18 11 rfl rfl)
theorem dL_law_575 : decode cL_law 575 = .ok (.istore 7, 2) := dk_54 7 (dk_at dksL_law_18 14 rfl rfl)
theorem dL_law_577 : decode cL_law 577 = .ok (.aload_n 2, 1) := dk_44 (dk_at dksL_law_18 16 rfl rfl)
theorem dL_law_578 : decode cL_law 578 = .ok (.invokevirtual 124, 3) := dk_182 0 124 (dk_at dksL_law_18 17 rfl rfl)
theorem dL_law_581 : decode cL_law 581 = .ok (.iload 6, 2) := dk_21 6 (dk_at dksL_law_18 20 rfl rfl)
theorem dL_law_583 : decode cL_law 583 = .ok (.if_icmp .eq 5, 3) := dk_159 0 5 (dk_at dksL_law_19 0 rfl rfl)
theorem dL_law_586 : decode cL_law 586 = .ok (.iconst 0, 1) := dk_3 (dk_at dksL_law_19 3 rfl rfl)
theorem dL_law_587 : decode cL_law 587 = .ok (.ireturn, 1) := dk_172 (dk_at dksL_law_19 4 rfl rfl)
theorem dL_law_588 : decode cL_law 588 = .ok (.iload 6, 2) := dk_21 6 (dk_at dksL_law_19 5 rfl rfl)
theorem dL_law_590 : decode cL_law 590 = .ok (.ifCond .ne 15, 3) := dk_154 0 15 (dk_at dksL_law_19 7 rfl rfl)
theorem dL_law_593 : decode cL_law 593 = .ok (.aload_n 3, 1) := dk_45 (dk_at dksL_law_19 10 rfl rfl)
theorem dL_law_594 : decode cL_law 594 = .ok (.iconst 0, 1) := dk_3 (dk_at dksL_law_19 11 rfl rfl)
theorem dL_law_595 : decode cL_law 595 = .ok (.laload, 1) := dk_47 (dk_at dksL_law_19 12 rfl rfl)
theorem dL_law_596 : decode cL_law 596 = .ok (.iload 7, 2) := dk_21 7 (dk_at dksL_law_19 13 rfl rfl)
theorem dL_law_598 : decode cL_law 598 = .ok (.i2l, 1) := dk_133 (dk_at dksL_law_19 15 rfl rfl)
theorem dL_law_599 : decode cL_law 599 = .ok (.lcmp, 1) := dk_148 (dk_at dksL_law_19 16 rfl rfl)
theorem dL_law_600 : decode cL_law 600 = .ok (.ifCond .eq 5, 3) := dk_153 0 5 (dk_at dksL_law_19 17 rfl rfl)
theorem dL_law_603 : decode cL_law 603 = .ok (.iconst 0, 1) := dk_3 (dk_at dksL_law_19 20 rfl rfl)
theorem dL_law_604 : decode cL_law 604 = .ok (.ireturn, 1) := dk_172 (dk_at dksL_law_19 21 rfl rfl)
theorem dL_law_605 : decode cL_law 605 = .ok (.goto 1559, 3) := dk_167 6 23 (dk_at dksL_law_20 0 rfl rfl)
theorem dL_law_608 : decode cL_law 608 = .ok (.aload_n 1, 1) := dk_43 (dk_at dksL_law_20 3 rfl rfl)
theorem dL_law_609 : decode cL_law 609 = .ok (.aload_n 0, 1) := dk_42 (dk_at dksL_law_20 4 rfl rfl)
theorem dL_law_610 : decode cL_law 610 = .ok (.iload 5, 2) := dk_21 5 (dk_at dksL_law_20 5 rfl rfl)
theorem dL_law_612 : decode cL_law 612 = .ok (.iconst 1, 1) := dk_4 (dk_at dksL_law_20 7 rfl rfl)
theorem dL_law_613 : decode cL_law 613 = .ok (.iadd, 1) := dk_96 (dk_at dksL_law_20 8 rfl rfl)
theorem dL_law_614 : decode cL_law 614 = .ok (.iaload, 1) := dk_46 (dk_at dksL_law_20 9 rfl rfl)
theorem dL_law_615 : decode cL_law 615 = .ok (.aload_n 0, 1) := dk_42 (dk_at dksL_law_20 10 rfl rfl)
theorem dL_law_616 : decode cL_law 616 = .ok (.iload 5, 2) := dk_21 5 (dk_at dksL_law_20 11 rfl rfl)
theorem dL_law_618 : decode cL_law 618 = .ok (.iconst 2, 1) := dk_5 (dk_at dksL_law_20 13 rfl rfl)
theorem dL_law_619 : decode cL_law 619 = .ok (.iadd, 1) := dk_96 (dk_at dksL_law_20 14 rfl rfl)
theorem dL_law_620 : decode cL_law 620 = .ok (.iaload, 1) := dk_46 (dk_at dksL_law_20 15 rfl rfl)
theorem dL_law_621 : decode cL_law 621 = .ok (.aload_n 0, 1) := dk_42 (dk_at dksL_law_20 16 rfl rfl)
theorem dL_law_622 : decode cL_law 622 = .ok (.iload 5, 2) := dk_21 5 (dk_at dksL_law_20 17 rfl rfl)
theorem dL_law_624 : decode cL_law 624 = .ok (.iconst 3, 1) := dk_6 (dk_at dksL_law_20 19 rfl rfl)
theorem dL_law_625 : decode cL_law 625 = .ok (.iadd, 1) := dk_96 (dk_at dksL_law_20 20 rfl rfl)
theorem dL_law_626 : decode cL_law 626 = .ok (.iaload, 1) := dk_46 (dk_at dksL_law_20 21 rfl rfl)
theorem dL_law_627 : decode cL_law 627 = .ok (.aload_n 3, 1) := dk_45 (dk_at dksL_law_20 22 rfl rfl)
theorem dL_law_628 : decode cL_law 628 = .ok (.invokestatic 141, 3) := dk_184 0 141 (dk_at dksL_law_21 0 rfl rfl)
theorem dL_law_631 : decode cL_law 631 = .ok (.istore 6, 2) := dk_54 6 (dk_at dksL_law_21 3 rfl rfl)
theorem dL_law_633 : decode cL_law 633 = .ok (.aload_n 2, 1) := dk_44 (dk_at dksL_law_21 5 rfl rfl)
theorem dL_law_634 : decode cL_law 634 = .ok (.aload_n 0, 1) := dk_42 (dk_at dksL_law_21 6 rfl rfl)
theorem dL_law_635 : decode cL_law 635 = .ok (.iload 5, 2) := dk_21 5 (dk_at dksL_law_21 7 rfl rfl)
theorem dL_law_637 : decode cL_law 637 = .ok (.iconst 1, 1) := dk_4 (dk_at dksL_law_21 9 rfl rfl)
theorem dL_law_638 : decode cL_law 638 = .ok (.iadd, 1) := dk_96 (dk_at dksL_law_21 10 rfl rfl)
theorem dL_law_639 : decode cL_law 639 = .ok (.iaload, 1) := dk_46 (dk_at dksL_law_21 11 rfl rfl)
theorem dL_law_640 : decode cL_law 640 = .ok (.aload_n 0, 1) := dk_42 (dk_at dksL_law_21 12 rfl rfl)
theorem dL_law_641 : decode cL_law 641 = .ok (.iload 5, 2) := dk_21 5 (dk_at dksL_law_21 13 rfl rfl)
theorem dL_law_643 : decode cL_law 643 = .ok (.iconst 2, 1) := dk_5 (dk_at dksL_law_21 15 rfl rfl)
theorem dL_law_644 : decode cL_law 644 = .ok (.iadd, 1) := dk_96 (dk_at dksL_law_21 16 rfl rfl)
theorem dL_law_645 : decode cL_law 645 = .ok (.iaload, 1) := dk_46 (dk_at dksL_law_21 17 rfl rfl)
theorem dL_law_646 : decode cL_law 646 = .ok (.aload_n 0, 1) := dk_42 (dk_at dksL_law_21 18 rfl rfl)
theorem dL_law_647 : decode cL_law 647 = .ok (.iload 5, 2) := dk_21 5 (dk_at dksL_law_21 19 rfl rfl)
theorem dL_law_649 : decode cL_law 649 = .ok (.iconst 3, 1) := dk_6 (dk_at dksL_law_21 21 rfl rfl)
theorem dL_law_650 : decode cL_law 650 = .ok (.iadd, 1) := dk_96 (dk_at dksL_law_21 22 rfl rfl)
theorem dL_law_651 : decode cL_law 651 = .ok (.iaload, 1) := dk_46 (dk_at dksL_law_21 23 rfl rfl)
theorem dL_law_652 : decode cL_law 652 = .ok (.invokevirtual 143, 3) := dk_182 0 143 (dk_at dksL_law_22 0 rfl rfl)
theorem dL_law_655 : decode cL_law 655 = .ok (.istore 7, 2) := dk_54 7 (dk_at dksL_law_22 3 rfl rfl)
theorem dL_law_657 : decode cL_law 657 = .ok (.aload_n 2, 1) := dk_44 (dk_at dksL_law_22 5 rfl rfl)
theorem dL_law_658 : decode cL_law 658 = .ok (.invokevirtual 124, 3) := dk_182 0 124 (dk_at dksL_law_22 6 rfl rfl)
theorem dL_law_661 : decode cL_law 661 = .ok (.iload 6, 2) := dk_21 6 (dk_at dksL_law_22 9 rfl rfl)
theorem dL_law_663 : decode cL_law 663 = .ok (.if_icmp .eq 5, 3) := dk_159 0 5 (dk_at dksL_law_22 11 rfl rfl)
theorem dL_law_666 : decode cL_law 666 = .ok (.iconst 0, 1) := dk_3 (dk_at dksL_law_22 14 rfl rfl)
theorem dL_law_667 : decode cL_law 667 = .ok (.ireturn, 1) := dk_172 (dk_at dksL_law_22 15 rfl rfl)
theorem dL_law_668 : decode cL_law 668 = .ok (.iload 6, 2) := dk_21 6 (dk_at dksL_law_22 16 rfl rfl)
theorem dL_law_670 : decode cL_law 670 = .ok (.ifCond .ne 15, 3) := dk_154 0 15 (dk_at dksL_law_22 18 rfl rfl)
theorem dL_law_673 : decode cL_law 673 = .ok (.aload_n 3, 1) := dk_45 (dk_at dksL_law_22 21 rfl rfl)
theorem dL_law_674 : decode cL_law 674 = .ok (.iconst 0, 1) := dk_3 (dk_at dksL_law_22 22 rfl rfl)
theorem dL_law_675 : decode cL_law 675 = .ok (.laload, 1) := dk_47 (dk_at dksL_law_22 23 rfl rfl)
theorem dL_law_676 : decode cL_law 676 = .ok (.iload 7, 2) := dk_21 7 (dk_at dksL_law_23 0 rfl rfl)
theorem dL_law_678 : decode cL_law 678 = .ok (.i2l, 1) := dk_133 (dk_at dksL_law_23 2 rfl rfl)
theorem dL_law_679 : decode cL_law 679 = .ok (.lcmp, 1) := dk_148 (dk_at dksL_law_23 3 rfl rfl)
theorem dL_law_680 : decode cL_law 680 = .ok (.ifCond .eq 5, 3) := dk_153 0 5 (dk_at dksL_law_23 4 rfl rfl)
theorem dL_law_683 : decode cL_law 683 = .ok (.iconst 0, 1) := dk_3 (dk_at dksL_law_23 7 rfl rfl)
theorem dL_law_684 : decode cL_law 684 = .ok (.ireturn, 1) := dk_172 (dk_at dksL_law_23 8 rfl rfl)
theorem dL_law_685 : decode cL_law 685 = .ok (.goto 1479, 3) := dk_167 5 199 (dk_at dksL_law_23 9 rfl rfl)
theorem dL_law_688 : decode cL_law 688 = .ok (.aload_n 1, 1) := dk_43 (dk_at dksL_law_23 12 rfl rfl)
theorem dL_law_689 : decode cL_law 689 = .ok (.aload_n 0, 1) := dk_42 (dk_at dksL_law_23 13 rfl rfl)
theorem dL_law_690 : decode cL_law 690 = .ok (.iload 5, 2) := dk_21 5 (dk_at dksL_law_23 14 rfl rfl)
theorem dL_law_692 : decode cL_law 692 = .ok (.iconst 1, 1) := dk_4 (dk_at dksL_law_23 16 rfl rfl)
theorem dL_law_693 : decode cL_law 693 = .ok (.iadd, 1) := dk_96 (dk_at dksL_law_23 17 rfl rfl)
theorem dL_law_694 : decode cL_law 694 = .ok (.iaload, 1) := dk_46 (dk_at dksL_law_23 18 rfl rfl)
theorem dL_law_695 : decode cL_law 695 = .ok (.aload_n 3, 1) := dk_45 (dk_at dksL_law_23 19 rfl rfl)
theorem dL_law_696 : decode cL_law 696 = .ok (.invokestatic 144, 3) := dk_184 0 144 (dk_at dksL_law_23 20 rfl rfl)
theorem dL_law_699 : decode cL_law 699 = .ok (.istore 6, 2) := dk_54 6 (dk_at dksL_law_24 0 rfl rfl)
theorem dL_law_701 : decode cL_law 701 = .ok (.aload_n 2, 1) := dk_44 (dk_at dksL_law_24 2 rfl rfl)
theorem dL_law_702 : decode cL_law 702 = .ok (.aload_n 0, 1) := dk_42 (dk_at dksL_law_24 3 rfl rfl)
theorem dL_law_703 : decode cL_law 703 = .ok (.iload 5, 2) := dk_21 5 (dk_at dksL_law_24 4 rfl rfl)
theorem dL_law_705 : decode cL_law 705 = .ok (.iconst 1, 1) := dk_4 (dk_at dksL_law_24 6 rfl rfl)
theorem dL_law_706 : decode cL_law 706 = .ok (.iadd, 1) := dk_96 (dk_at dksL_law_24 7 rfl rfl)
theorem dL_law_707 : decode cL_law 707 = .ok (.iaload, 1) := dk_46 (dk_at dksL_law_24 8 rfl rfl)
theorem dL_law_708 : decode cL_law 708 = .ok (.invokevirtual 147, 3) := dk_182 0 147 (dk_at dksL_law_24 9 rfl rfl)
theorem dL_law_711 : decode cL_law 711 = .ok (.istore 7, 2) := dk_54 7 (dk_at dksL_law_24 12 rfl rfl)
theorem dL_law_713 : decode cL_law 713 = .ok (.aload_n 2, 1) := dk_44 (dk_at dksL_law_24 14 rfl rfl)
theorem dL_law_714 : decode cL_law 714 = .ok (.invokevirtual 124, 3) := dk_182 0 124 (dk_at dksL_law_24 15 rfl rfl)
theorem dL_law_717 : decode cL_law 717 = .ok (.iload 6, 2) := dk_21 6 (dk_at dksL_law_24 18 rfl rfl)
theorem dL_law_719 : decode cL_law 719 = .ok (.if_icmp .eq 5, 3) := dk_159 0 5 (dk_at dksL_law_24 20 rfl rfl)
theorem dL_law_722 : decode cL_law 722 = .ok (.iconst 0, 1) := dk_3 (dk_at dksL_law_24 23 rfl rfl)
theorem dL_law_723 : decode cL_law 723 = .ok (.ireturn, 1) := dk_172 (dk_at dksL_law_25 0 rfl rfl)
theorem dL_law_724 : decode cL_law 724 = .ok (.iload 6, 2) := dk_21 6 (dk_at dksL_law_25 1 rfl rfl)
theorem dL_law_726 : decode cL_law 726 = .ok (.ifCond .ne 15, 3) := dk_154 0 15 (dk_at dksL_law_25 3 rfl rfl)
theorem dL_law_729 : decode cL_law 729 = .ok (.aload_n 3, 1) := dk_45 (dk_at dksL_law_25 6 rfl rfl)
theorem dL_law_730 : decode cL_law 730 = .ok (.iconst 0, 1) := dk_3 (dk_at dksL_law_25 7 rfl rfl)
theorem dL_law_731 : decode cL_law 731 = .ok (.laload, 1) := dk_47 (dk_at dksL_law_25 8 rfl rfl)
theorem dL_law_732 : decode cL_law 732 = .ok (.iload 7, 2) := dk_21 7 (dk_at dksL_law_25 9 rfl rfl)
theorem dL_law_734 : decode cL_law 734 = .ok (.i2l, 1) := dk_133 (dk_at dksL_law_25 11 rfl rfl)
theorem dL_law_735 : decode cL_law 735 = .ok (.lcmp, 1) := dk_148 (dk_at dksL_law_25 12 rfl rfl)
theorem dL_law_736 : decode cL_law 736 = .ok (.ifCond .eq 5, 3) := dk_153 0 5 (dk_at dksL_law_25 13 rfl rfl)
theorem dL_law_739 : decode cL_law 739 = .ok (.iconst 0, 1) := dk_3 (dk_at dksL_law_25 16 rfl rfl)
theorem dL_law_740 : decode cL_law 740 = .ok (.ireturn, 1) := dk_172 (dk_at dksL_law_25 17 rfl rfl)
theorem dL_law_741 : decode cL_law 741 = .ok (.goto 1423, 3) := dk_167 5 143 (dk_at dksL_law_25 18 rfl rfl)
theorem dL_law_744 : decode cL_law 744 = .ok (.aload_n 1, 1) := dk_43 (dk_at dksL_law_25 21 rfl rfl)
theorem dL_law_745 : decode cL_law 745 = .ok (.aload_n 0, 1) := dk_42 (dk_at dksL_law_25 22 rfl rfl)
theorem dL_law_746 : decode cL_law 746 = .ok (.iload 5, 2) := dk_21 5 (dk_at dksL_law_26 0 rfl rfl)
theorem dL_law_748 : decode cL_law 748 = .ok (.iconst 1, 1) := dk_4 (dk_at dksL_law_26 2 rfl rfl)
theorem dL_law_749 : decode cL_law 749 = .ok (.iadd, 1) := dk_96 (dk_at dksL_law_26 3 rfl rfl)
theorem dL_law_750 : decode cL_law 750 = .ok (.iaload, 1) := dk_46 (dk_at dksL_law_26 4 rfl rfl)
theorem dL_law_751 : decode cL_law 751 = .ok (.aload_n 3, 1) := dk_45 (dk_at dksL_law_26 5 rfl rfl)
theorem dL_law_752 : decode cL_law 752 = .ok (.invokestatic 148, 3) := dk_184 0 148 (dk_at dksL_law_26 6 rfl rfl)
theorem dL_law_755 : decode cL_law 755 = .ok (.istore 6, 2) := dk_54 6 (dk_at dksL_law_26 9 rfl rfl)
theorem dL_law_757 : decode cL_law 757 = .ok (.aload_n 2, 1) := dk_44 (dk_at dksL_law_26 11 rfl rfl)
theorem dL_law_758 : decode cL_law 758 = .ok (.aload_n 0, 1) := dk_42 (dk_at dksL_law_26 12 rfl rfl)
theorem dL_law_759 : decode cL_law 759 = .ok (.iload 5, 2) := dk_21 5 (dk_at dksL_law_26 13 rfl rfl)
theorem dL_law_761 : decode cL_law 761 = .ok (.iconst 1, 1) := dk_4 (dk_at dksL_law_26 15 rfl rfl)
theorem dL_law_762 : decode cL_law 762 = .ok (.iadd, 1) := dk_96 (dk_at dksL_law_26 16 rfl rfl)
theorem dL_law_763 : decode cL_law 763 = .ok (.iaload, 1) := dk_46 (dk_at dksL_law_26 17 rfl rfl)
theorem dL_law_764 : decode cL_law 764 = .ok (.invokevirtual 150, 3) := dk_182 0 150 (dk_at dksL_law_26 18 rfl rfl)
theorem dL_law_767 : decode cL_law 767 = .ok (.istore 7, 2) := dk_54 7 (dk_at dksL_law_26 21 rfl rfl)
theorem dL_law_769 : decode cL_law 769 = .ok (.aload_n 2, 1) := dk_44 (dk_at dksL_law_26 23 rfl rfl)
theorem dL_law_770 : decode cL_law 770 = .ok (.invokevirtual 124, 3) := dk_182 0 124 (dk_at dksL_law_27 0 rfl rfl)
theorem dL_law_773 : decode cL_law 773 = .ok (.iload 6, 2) := dk_21 6 (dk_at dksL_law_27 3 rfl rfl)
theorem dL_law_775 : decode cL_law 775 = .ok (.if_icmp .eq 5, 3) := dk_159 0 5 (dk_at dksL_law_27 5 rfl rfl)
theorem dL_law_778 : decode cL_law 778 = .ok (.iconst 0, 1) := dk_3 (dk_at dksL_law_27 8 rfl rfl)
theorem dL_law_779 : decode cL_law 779 = .ok (.ireturn, 1) := dk_172 (dk_at dksL_law_27 9 rfl rfl)
theorem dL_law_780 : decode cL_law 780 = .ok (.iload 6, 2) := dk_21 6 (dk_at dksL_law_27 10 rfl rfl)
theorem dL_law_782 : decode cL_law 782 = .ok (.ifCond .ne 15, 3) := dk_154 0 15 (dk_at dksL_law_27 12 rfl rfl)
theorem dL_law_785 : decode cL_law 785 = .ok (.aload_n 3, 1) := dk_45 (dk_at dksL_law_27 15 rfl rfl)
theorem dL_law_786 : decode cL_law 786 = .ok (.iconst 0, 1) := dk_3 (dk_at dksL_law_27 16 rfl rfl)
theorem dL_law_787 : decode cL_law 787 = .ok (.laload, 1) := dk_47 (dk_at dksL_law_27 17 rfl rfl)
theorem dL_law_788 : decode cL_law 788 = .ok (.iload 7, 2) := dk_21 7 (dk_at dksL_law_27 18 rfl rfl)
theorem dL_law_790 : decode cL_law 790 = .ok (.i2l, 1) := dk_133 (dk_at dksL_law_27 20 rfl rfl)
theorem dL_law_791 : decode cL_law 791 = .ok (.lcmp, 1) := dk_148 (dk_at dksL_law_27 21 rfl rfl)
theorem dL_law_792 : decode cL_law 792 = .ok (.ifCond .eq 5, 3) := dk_153 0 5 (dk_at dksL_law_28 0 rfl rfl)
theorem dL_law_795 : decode cL_law 795 = .ok (.iconst 0, 1) := dk_3 (dk_at dksL_law_28 3 rfl rfl)
theorem dL_law_796 : decode cL_law 796 = .ok (.ireturn, 1) := dk_172 (dk_at dksL_law_28 4 rfl rfl)
theorem dL_law_797 : decode cL_law 797 = .ok (.goto 1367, 3) := dk_167 5 87 (dk_at dksL_law_28 5 rfl rfl)
theorem dL_law_800 : decode cL_law 800 = .ok (.aload_n 1, 1) := dk_43 (dk_at dksL_law_28 8 rfl rfl)
theorem dL_law_801 : decode cL_law 801 = .ok (.aload_n 0, 1) := dk_42 (dk_at dksL_law_28 9 rfl rfl)
theorem dL_law_802 : decode cL_law 802 = .ok (.iload 5, 2) := dk_21 5 (dk_at dksL_law_28 10 rfl rfl)
theorem dL_law_804 : decode cL_law 804 = .ok (.iconst 1, 1) := dk_4 (dk_at dksL_law_28 12 rfl rfl)
theorem dL_law_805 : decode cL_law 805 = .ok (.iadd, 1) := dk_96 (dk_at dksL_law_28 13 rfl rfl)
theorem dL_law_806 : decode cL_law 806 = .ok (.iaload, 1) := dk_46 (dk_at dksL_law_28 14 rfl rfl)
theorem dL_law_807 : decode cL_law 807 = .ok (.aload_n 0, 1) := dk_42 (dk_at dksL_law_28 15 rfl rfl)
theorem dL_law_808 : decode cL_law 808 = .ok (.iload 5, 2) := dk_21 5 (dk_at dksL_law_28 16 rfl rfl)
theorem dL_law_810 : decode cL_law 810 = .ok (.iconst 2, 1) := dk_5 (dk_at dksL_law_28 18 rfl rfl)
theorem dL_law_811 : decode cL_law 811 = .ok (.iadd, 1) := dk_96 (dk_at dksL_law_28 19 rfl rfl)
theorem dL_law_812 : decode cL_law 812 = .ok (.iaload, 1) := dk_46 (dk_at dksL_law_28 20 rfl rfl)
theorem dL_law_813 : decode cL_law 813 = .ok (.aload_n 3, 1) := dk_45 (dk_at dksL_law_28 21 rfl rfl)
theorem dL_law_814 : decode cL_law 814 = .ok (.invokestatic 151, 3) := dk_184 0 151 (dk_at dksL_law_29 0 rfl rfl)
theorem dL_law_817 : decode cL_law 817 = .ok (.istore 6, 2) := dk_54 6 (dk_at dksL_law_29 3 rfl rfl)
theorem dL_law_819 : decode cL_law 819 = .ok (.aload_n 2, 1) := dk_44 (dk_at dksL_law_29 5 rfl rfl)
theorem dL_law_820 : decode cL_law 820 = .ok (.aload_n 0, 1) := dk_42 (dk_at dksL_law_29 6 rfl rfl)
theorem dL_law_821 : decode cL_law 821 = .ok (.iload 5, 2) := dk_21 5 (dk_at dksL_law_29 7 rfl rfl)
theorem dL_law_823 : decode cL_law 823 = .ok (.iconst 1, 1) := dk_4 (dk_at dksL_law_29 9 rfl rfl)
theorem dL_law_824 : decode cL_law 824 = .ok (.iadd, 1) := dk_96 (dk_at dksL_law_29 10 rfl rfl)
theorem dL_law_825 : decode cL_law 825 = .ok (.iaload, 1) := dk_46 (dk_at dksL_law_29 11 rfl rfl)
theorem dL_law_826 : decode cL_law 826 = .ok (.aload_n 0, 1) := dk_42 (dk_at dksL_law_29 12 rfl rfl)
theorem dL_law_827 : decode cL_law 827 = .ok (.iload 5, 2) := dk_21 5 (dk_at dksL_law_29 13 rfl rfl)
theorem dL_law_829 : decode cL_law 829 = .ok (.iconst 2, 1) := dk_5 (dk_at dksL_law_29 15 rfl rfl)
theorem dL_law_830 : decode cL_law 830 = .ok (.iadd, 1) := dk_96 (dk_at dksL_law_29 16 rfl rfl)
theorem dL_law_831 : decode cL_law 831 = .ok (.iaload, 1) := dk_46 (dk_at dksL_law_29 17 rfl rfl)
theorem dL_law_832 : decode cL_law 832 = .ok (.invokevirtual 153, 3) := dk_182 0 153 (dk_at dksL_law_29 18 rfl rfl)
theorem dL_law_835 : decode cL_law 835 = .ok (.istore 7, 2) := dk_54 7 (dk_at dksL_law_29 21 rfl rfl)
theorem dL_law_837 : decode cL_law 837 = .ok (.aload_n 2, 1) := dk_44 (dk_at dksL_law_29 23 rfl rfl)
theorem dL_law_838 : decode cL_law 838 = .ok (.invokevirtual 124, 3) := dk_182 0 124 (dk_at dksL_law_30 0 rfl rfl)
theorem dL_law_841 : decode cL_law 841 = .ok (.iload 6, 2) := dk_21 6 (dk_at dksL_law_30 3 rfl rfl)
theorem dL_law_843 : decode cL_law 843 = .ok (.if_icmp .eq 5, 3) := dk_159 0 5 (dk_at dksL_law_30 5 rfl rfl)
theorem dL_law_846 : decode cL_law 846 = .ok (.iconst 0, 1) := dk_3 (dk_at dksL_law_30 8 rfl rfl)
theorem dL_law_847 : decode cL_law 847 = .ok (.ireturn, 1) := dk_172 (dk_at dksL_law_30 9 rfl rfl)
theorem dL_law_848 : decode cL_law 848 = .ok (.iload 6, 2) := dk_21 6 (dk_at dksL_law_30 10 rfl rfl)
theorem dL_law_850 : decode cL_law 850 = .ok (.ifCond .ne 15, 3) := dk_154 0 15 (dk_at dksL_law_30 12 rfl rfl)
theorem dL_law_853 : decode cL_law 853 = .ok (.aload_n 3, 1) := dk_45 (dk_at dksL_law_30 15 rfl rfl)
theorem dL_law_854 : decode cL_law 854 = .ok (.iconst 0, 1) := dk_3 (dk_at dksL_law_30 16 rfl rfl)
theorem dL_law_855 : decode cL_law 855 = .ok (.laload, 1) := dk_47 (dk_at dksL_law_30 17 rfl rfl)
theorem dL_law_856 : decode cL_law 856 = .ok (.iload 7, 2) := dk_21 7 (dk_at dksL_law_30 18 rfl rfl)
theorem dL_law_858 : decode cL_law 858 = .ok (.i2l, 1) := dk_133 (dk_at dksL_law_30 20 rfl rfl)
theorem dL_law_859 : decode cL_law 859 = .ok (.lcmp, 1) := dk_148 (dk_at dksL_law_30 21 rfl rfl)
theorem dL_law_860 : decode cL_law 860 = .ok (.ifCond .eq 5, 3) := dk_153 0 5 (dk_at dksL_law_31 0 rfl rfl)
theorem dL_law_863 : decode cL_law 863 = .ok (.iconst 0, 1) := dk_3 (dk_at dksL_law_31 3 rfl rfl)
theorem dL_law_864 : decode cL_law 864 = .ok (.ireturn, 1) := dk_172 (dk_at dksL_law_31 4 rfl rfl)
theorem dL_law_865 : decode cL_law 865 = .ok (.goto 1299, 3) := dk_167 5 19 (dk_at dksL_law_31 5 rfl rfl)
theorem dL_law_868 : decode cL_law 868 = .ok (.aload_n 1, 1) := dk_43 (dk_at dksL_law_31 8 rfl rfl)
theorem dL_law_869 : decode cL_law 869 = .ok (.aload_n 0, 1) := dk_42 (dk_at dksL_law_31 9 rfl rfl)
theorem dL_law_870 : decode cL_law 870 = .ok (.iload 5, 2) := dk_21 5 (dk_at dksL_law_31 10 rfl rfl)
theorem dL_law_872 : decode cL_law 872 = .ok (.iconst 1, 1) := dk_4 (dk_at dksL_law_31 12 rfl rfl)
theorem dL_law_873 : decode cL_law 873 = .ok (.iadd, 1) := dk_96 (dk_at dksL_law_31 13 rfl rfl)
theorem dL_law_874 : decode cL_law 874 = .ok (.iaload, 1) := dk_46 (dk_at dksL_law_31 14 rfl rfl)
theorem dL_law_875 : decode cL_law 875 = .ok (.aload_n 0, 1) := dk_42 (dk_at dksL_law_31 15 rfl rfl)
theorem dL_law_876 : decode cL_law 876 = .ok (.iload 5, 2) := dk_21 5 (dk_at dksL_law_31 16 rfl rfl)
theorem dL_law_878 : decode cL_law 878 = .ok (.iconst 2, 1) := dk_5 (dk_at dksL_law_31 18 rfl rfl)
theorem dL_law_879 : decode cL_law 879 = .ok (.iadd, 1) := dk_96 (dk_at dksL_law_31 19 rfl rfl)
theorem dL_law_880 : decode cL_law 880 = .ok (.iaload, 1) := dk_46 (dk_at dksL_law_31 20 rfl rfl)
theorem dL_law_881 : decode cL_law 881 = .ok (.aload_n 3, 1) := dk_45 (dk_at dksL_law_31 21 rfl rfl)
theorem dL_law_882 : decode cL_law 882 = .ok (.invokestatic 154, 3) := dk_184 0 154 (dk_at dksL_law_32 0 rfl rfl)
theorem dL_law_885 : decode cL_law 885 = .ok (.istore 6, 2) := dk_54 6 (dk_at dksL_law_32 3 rfl rfl)
theorem dL_law_887 : decode cL_law 887 = .ok (.aload_n 2, 1) := dk_44 (dk_at dksL_law_32 5 rfl rfl)
theorem dL_law_888 : decode cL_law 888 = .ok (.aload_n 0, 1) := dk_42 (dk_at dksL_law_32 6 rfl rfl)
theorem dL_law_889 : decode cL_law 889 = .ok (.iload 5, 2) := dk_21 5 (dk_at dksL_law_32 7 rfl rfl)
theorem dL_law_891 : decode cL_law 891 = .ok (.iconst 1, 1) := dk_4 (dk_at dksL_law_32 9 rfl rfl)
theorem dL_law_892 : decode cL_law 892 = .ok (.iadd, 1) := dk_96 (dk_at dksL_law_32 10 rfl rfl)
theorem dL_law_893 : decode cL_law 893 = .ok (.iaload, 1) := dk_46 (dk_at dksL_law_32 11 rfl rfl)
theorem dL_law_894 : decode cL_law 894 = .ok (.aload_n 0, 1) := dk_42 (dk_at dksL_law_32 12 rfl rfl)
theorem dL_law_895 : decode cL_law 895 = .ok (.iload 5, 2) := dk_21 5 (dk_at dksL_law_32 13 rfl rfl)
theorem dL_law_897 : decode cL_law 897 = .ok (.iconst 2, 1) := dk_5 (dk_at dksL_law_32 15 rfl rfl)
theorem dL_law_898 : decode cL_law 898 = .ok (.iadd, 1) := dk_96 (dk_at dksL_law_32 16 rfl rfl)
theorem dL_law_899 : decode cL_law 899 = .ok (.iaload, 1) := dk_46 (dk_at dksL_law_32 17 rfl rfl)
theorem dL_law_900 : decode cL_law 900 = .ok (.invokevirtual 156, 3) := dk_182 0 156 (dk_at dksL_law_32 18 rfl rfl)
theorem dL_law_903 : decode cL_law 903 = .ok (.istore 7, 2) := dk_54 7 (dk_at dksL_law_32 21 rfl rfl)
theorem dL_law_905 : decode cL_law 905 = .ok (.aload_n 2, 1) := dk_44 (dk_at dksL_law_32 23 rfl rfl)
theorem dL_law_906 : decode cL_law 906 = .ok (.invokevirtual 124, 3) := dk_182 0 124 (dk_at dksL_law_33 0 rfl rfl)
theorem dL_law_909 : decode cL_law 909 = .ok (.iload 6, 2) := dk_21 6 (dk_at dksL_law_33 3 rfl rfl)
theorem dL_law_911 : decode cL_law 911 = .ok (.if_icmp .eq 5, 3) := dk_159 0 5 (dk_at dksL_law_33 5 rfl rfl)
theorem dL_law_914 : decode cL_law 914 = .ok (.iconst 0, 1) := dk_3 (dk_at dksL_law_33 8 rfl rfl)
theorem dL_law_915 : decode cL_law 915 = .ok (.ireturn, 1) := dk_172 (dk_at dksL_law_33 9 rfl rfl)
theorem dL_law_916 : decode cL_law 916 = .ok (.iload 6, 2) := dk_21 6 (dk_at dksL_law_33 10 rfl rfl)
theorem dL_law_918 : decode cL_law 918 = .ok (.ifCond .ne 15, 3) := dk_154 0 15 (dk_at dksL_law_33 12 rfl rfl)
theorem dL_law_921 : decode cL_law 921 = .ok (.aload_n 3, 1) := dk_45 (dk_at dksL_law_33 15 rfl rfl)
theorem dL_law_922 : decode cL_law 922 = .ok (.iconst 0, 1) := dk_3 (dk_at dksL_law_33 16 rfl rfl)
theorem dL_law_923 : decode cL_law 923 = .ok (.laload, 1) := dk_47 (dk_at dksL_law_33 17 rfl rfl)
theorem dL_law_924 : decode cL_law 924 = .ok (.iload 7, 2) := dk_21 7 (dk_at dksL_law_33 18 rfl rfl)
theorem dL_law_926 : decode cL_law 926 = .ok (.i2l, 1) := dk_133 (dk_at dksL_law_33 20 rfl rfl)
theorem dL_law_927 : decode cL_law 927 = .ok (.lcmp, 1) := dk_148 (dk_at dksL_law_33 21 rfl rfl)
theorem dL_law_928 : decode cL_law 928 = .ok (.ifCond .eq 5, 3) := dk_153 0 5 (dk_at dksL_law_34 0 rfl rfl)
theorem dL_law_931 : decode cL_law 931 = .ok (.iconst 0, 1) := dk_3 (dk_at dksL_law_34 3 rfl rfl)
theorem dL_law_932 : decode cL_law 932 = .ok (.ireturn, 1) := dk_172 (dk_at dksL_law_34 4 rfl rfl)
theorem dL_law_933 : decode cL_law 933 = .ok (.goto 1231, 3) := dk_167 4 207 (dk_at dksL_law_34 5 rfl rfl)
theorem dL_law_936 : decode cL_law 936 = .ok (.aload_n 1, 1) := dk_43 (dk_at dksL_law_34 8 rfl rfl)
theorem dL_law_937 : decode cL_law 937 = .ok (.aload_n 0, 1) := dk_42 (dk_at dksL_law_34 9 rfl rfl)
theorem dL_law_938 : decode cL_law 938 = .ok (.iload 5, 2) := dk_21 5 (dk_at dksL_law_34 10 rfl rfl)
theorem dL_law_940 : decode cL_law 940 = .ok (.iconst 1, 1) := dk_4 (dk_at dksL_law_34 12 rfl rfl)
theorem dL_law_941 : decode cL_law 941 = .ok (.iadd, 1) := dk_96 (dk_at dksL_law_34 13 rfl rfl)
theorem dL_law_942 : decode cL_law 942 = .ok (.iaload, 1) := dk_46 (dk_at dksL_law_34 14 rfl rfl)
theorem dL_law_943 : decode cL_law 943 = .ok (.aload_n 0, 1) := dk_42 (dk_at dksL_law_34 15 rfl rfl)
theorem dL_law_944 : decode cL_law 944 = .ok (.iload 5, 2) := dk_21 5 (dk_at dksL_law_34 16 rfl rfl)
theorem dL_law_946 : decode cL_law 946 = .ok (.iconst 2, 1) := dk_5 (dk_at dksL_law_34 18 rfl rfl)
theorem dL_law_947 : decode cL_law 947 = .ok (.iadd, 1) := dk_96 (dk_at dksL_law_34 19 rfl rfl)
theorem dL_law_948 : decode cL_law 948 = .ok (.iaload, 1) := dk_46 (dk_at dksL_law_34 20 rfl rfl)
theorem dL_law_949 : decode cL_law 949 = .ok (.aload_n 3, 1) := dk_45 (dk_at dksL_law_34 21 rfl rfl)
theorem dL_law_950 : decode cL_law 950 = .ok (.invokestatic 157, 3) := dk_184 0 157 (dk_at dksL_law_35 0 rfl rfl)
theorem dL_law_953 : decode cL_law 953 = .ok (.istore 6, 2) := dk_54 6 (dk_at dksL_law_35 3 rfl rfl)
theorem dL_law_955 : decode cL_law 955 = .ok (.aload_n 2, 1) := dk_44 (dk_at dksL_law_35 5 rfl rfl)
theorem dL_law_956 : decode cL_law 956 = .ok (.aload_n 0, 1) := dk_42 (dk_at dksL_law_35 6 rfl rfl)
theorem dL_law_957 : decode cL_law 957 = .ok (.iload 5, 2) := dk_21 5 (dk_at dksL_law_35 7 rfl rfl)
theorem dL_law_959 : decode cL_law 959 = .ok (.iconst 1, 1) := dk_4 (dk_at dksL_law_35 9 rfl rfl)
theorem dL_law_960 : decode cL_law 960 = .ok (.iadd, 1) := dk_96 (dk_at dksL_law_35 10 rfl rfl)
theorem dL_law_961 : decode cL_law 961 = .ok (.iaload, 1) := dk_46 (dk_at dksL_law_35 11 rfl rfl)
theorem dL_law_962 : decode cL_law 962 = .ok (.aload_n 0, 1) := dk_42 (dk_at dksL_law_35 12 rfl rfl)
theorem dL_law_963 : decode cL_law 963 = .ok (.iload 5, 2) := dk_21 5 (dk_at dksL_law_35 13 rfl rfl)
theorem dL_law_965 : decode cL_law 965 = .ok (.iconst 2, 1) := dk_5 (dk_at dksL_law_35 15 rfl rfl)
theorem dL_law_966 : decode cL_law 966 = .ok (.iadd, 1) := dk_96 (dk_at dksL_law_35 16 rfl rfl)
theorem dL_law_967 : decode cL_law 967 = .ok (.iaload, 1) := dk_46 (dk_at dksL_law_35 17 rfl rfl)
theorem dL_law_968 : decode cL_law 968 = .ok (.invokevirtual 159, 3) := dk_182 0 159 (dk_at dksL_law_35 18 rfl rfl)
theorem dL_law_971 : decode cL_law 971 = .ok (.istore 7, 2) := dk_54 7 (dk_at dksL_law_35 21 rfl rfl)
theorem dL_law_973 : decode cL_law 973 = .ok (.aload_n 2, 1) := dk_44 (dk_at dksL_law_35 23 rfl rfl)
theorem dL_law_974 : decode cL_law 974 = .ok (.invokevirtual 124, 3) := dk_182 0 124 (dk_at dksL_law_36 0 rfl rfl)
theorem dL_law_977 : decode cL_law 977 = .ok (.iload 6, 2) := dk_21 6 (dk_at dksL_law_36 3 rfl rfl)
theorem dL_law_979 : decode cL_law 979 = .ok (.if_icmp .eq 5, 3) := dk_159 0 5 (dk_at dksL_law_36 5 rfl rfl)
theorem dL_law_982 : decode cL_law 982 = .ok (.iconst 0, 1) := dk_3 (dk_at dksL_law_36 8 rfl rfl)
theorem dL_law_983 : decode cL_law 983 = .ok (.ireturn, 1) := dk_172 (dk_at dksL_law_36 9 rfl rfl)
theorem dL_law_984 : decode cL_law 984 = .ok (.iload 6, 2) := dk_21 6 (dk_at dksL_law_36 10 rfl rfl)
theorem dL_law_986 : decode cL_law 986 = .ok (.ifCond .ne 15, 3) := dk_154 0 15 (dk_at dksL_law_36 12 rfl rfl)
theorem dL_law_989 : decode cL_law 989 = .ok (.aload_n 3, 1) := dk_45 (dk_at dksL_law_36 15 rfl rfl)
theorem dL_law_990 : decode cL_law 990 = .ok (.iconst 0, 1) := dk_3 (dk_at dksL_law_36 16 rfl rfl)
theorem dL_law_991 : decode cL_law 991 = .ok (.laload, 1) := dk_47 (dk_at dksL_law_36 17 rfl rfl)
theorem dL_law_992 : decode cL_law 992 = .ok (.iload 7, 2) := dk_21 7 (dk_at dksL_law_36 18 rfl rfl)
theorem dL_law_994 : decode cL_law 994 = .ok (.i2l, 1) := dk_133 (dk_at dksL_law_36 20 rfl rfl)
theorem dL_law_995 : decode cL_law 995 = .ok (.lcmp, 1) := dk_148 (dk_at dksL_law_36 21 rfl rfl)
theorem dL_law_996 : decode cL_law 996 = .ok (.ifCond .eq 5, 3) := dk_153 0 5 (dk_at dksL_law_37 0 rfl rfl)
theorem dL_law_999 : decode cL_law 999 = .ok (.iconst 0, 1) := dk_3 (dk_at dksL_law_37 3 rfl rfl)
theorem dL_law_1000 : decode cL_law 1000 = .ok (.ireturn, 1) := dk_172 (dk_at dksL_law_37 4 rfl rfl)
theorem dL_law_1001 : decode cL_law 1001 = .ok (.goto 1163, 3) := dk_167 4 139 (dk_at dksL_law_37 5 rfl rfl)
theorem dL_law_1004 : decode cL_law 1004 = .ok (.aload_n 1, 1) := dk_43 (dk_at dksL_law_37 8 rfl rfl)
theorem dL_law_1005 : decode cL_law 1005 = .ok (.invokevirtual 160, 3) := dk_182 0 160 (dk_at dksL_law_37 9 rfl rfl)
theorem dL_law_1008 : decode cL_law 1008 = .ok (.aload_n 2, 1) := dk_44 (dk_at dksL_law_37 12 rfl rfl)
theorem dL_law_1009 : decode cL_law 1009 = .ok (.invokevirtual 163, 3) := dk_182 0 163 (dk_at dksL_law_37 13 rfl rfl)
theorem dL_law_1012 : decode cL_law 1012 = .ok (.if_icmp .eq 1152, 3) := dk_159 4 128 (dk_at dksL_law_37 16 rfl rfl)
theorem dL_law_1015 : decode cL_law 1015 = .ok (.iconst 0, 1) := dk_3 (dk_at dksL_law_37 19 rfl rfl)
theorem dL_law_1016 : decode cL_law 1016 = .ok (.ireturn, 1) := dk_172 (dk_at dksL_law_37 20 rfl rfl)
theorem dL_law_1017 : decode cL_law 1017 = .ok (.aload_n 1, 1) := dk_43 (dk_at dksL_law_37 21 rfl rfl)
theorem dL_law_1018 : decode cL_law 1018 = .ok (.aload_n 0, 1) := dk_42 (dk_at dksL_law_37 22 rfl rfl)
theorem dL_law_1019 : decode cL_law 1019 = .ok (.iload 5, 2) := dk_21 5 (dk_at dksL_law_38 0 rfl rfl)
theorem dL_law_1021 : decode cL_law 1021 = .ok (.iconst 1, 1) := dk_4 (dk_at dksL_law_38 2 rfl rfl)
theorem dL_law_1022 : decode cL_law 1022 = .ok (.iadd, 1) := dk_96 (dk_at dksL_law_38 3 rfl rfl)
theorem dL_law_1023 : decode cL_law 1023 = .ok (.iaload, 1) := dk_46 (dk_at dksL_law_38 4 rfl rfl)
theorem dL_law_1024 : decode cL_law 1024 = .ok (.aload_n 3, 1) := dk_45 (dk_at dksL_law_38 5 rfl rfl)
theorem dL_law_1025 : decode cL_law 1025 = .ok (.invokestatic 164, 3) := dk_184 0 164 (dk_at dksL_law_38 6 rfl rfl)
theorem dL_law_1028 : decode cL_law 1028 = .ok (.istore 6, 2) := dk_54 6 (dk_at dksL_law_38 9 rfl rfl)
theorem dL_law_1030 : decode cL_law 1030 = .ok (.aload_n 2, 1) := dk_44 (dk_at dksL_law_38 11 rfl rfl)
theorem dL_law_1031 : decode cL_law 1031 = .ok (.aload_n 0, 1) := dk_42 (dk_at dksL_law_38 12 rfl rfl)
theorem dL_law_1032 : decode cL_law 1032 = .ok (.iload 5, 2) := dk_21 5 (dk_at dksL_law_38 13 rfl rfl)
theorem dL_law_1034 : decode cL_law 1034 = .ok (.iconst 1, 1) := dk_4 (dk_at dksL_law_38 15 rfl rfl)
theorem dL_law_1035 : decode cL_law 1035 = .ok (.iadd, 1) := dk_96 (dk_at dksL_law_38 16 rfl rfl)
theorem dL_law_1036 : decode cL_law 1036 = .ok (.iaload, 1) := dk_46 (dk_at dksL_law_38 17 rfl rfl)
theorem dL_law_1037 : decode cL_law 1037 = .ok (.invokevirtual 166, 3) := dk_182 0 166 (dk_at dksL_law_38 18 rfl rfl)
theorem dL_law_1040 : decode cL_law 1040 = .ok (.istore 7, 2) := dk_54 7 (dk_at dksL_law_38 21 rfl rfl)
theorem dL_law_1042 : decode cL_law 1042 = .ok (.aload_n 2, 1) := dk_44 (dk_at dksL_law_38 23 rfl rfl)
theorem dL_law_1043 : decode cL_law 1043 = .ok (.invokevirtual 124, 3) := dk_182 0 124 (dk_at dksL_law_39 0 rfl rfl)
theorem dL_law_1046 : decode cL_law 1046 = .ok (.iload 6, 2) := dk_21 6 (dk_at dksL_law_39 3 rfl rfl)
theorem dL_law_1048 : decode cL_law 1048 = .ok (.if_icmp .eq 5, 3) := dk_159 0 5 (dk_at dksL_law_39 5 rfl rfl)
theorem dL_law_1051 : decode cL_law 1051 = .ok (.iconst 0, 1) := dk_3 (dk_at dksL_law_39 8 rfl rfl)
theorem dL_law_1052 : decode cL_law 1052 = .ok (.ireturn, 1) := dk_172 (dk_at dksL_law_39 9 rfl rfl)
theorem dL_law_1053 : decode cL_law 1053 = .ok (.iload 6, 2) := dk_21 6 (dk_at dksL_law_39 10 rfl rfl)
theorem dL_law_1055 : decode cL_law 1055 = .ok (.ifCond .ne 15, 3) := dk_154 0 15 (dk_at dksL_law_39 12 rfl rfl)
theorem dL_law_1058 : decode cL_law 1058 = .ok (.aload_n 3, 1) := dk_45 (dk_at dksL_law_39 15 rfl rfl)
theorem dL_law_1059 : decode cL_law 1059 = .ok (.iconst 0, 1) := dk_3 (dk_at dksL_law_39 16 rfl rfl)
theorem dL_law_1060 : decode cL_law 1060 = .ok (.laload, 1) := dk_47 (dk_at dksL_law_39 17 rfl rfl)
theorem dL_law_1061 : decode cL_law 1061 = .ok (.iload 7, 2) := dk_21 7 (dk_at dksL_law_39 18 rfl rfl)
theorem dL_law_1063 : decode cL_law 1063 = .ok (.i2l, 1) := dk_133 (dk_at dksL_law_39 20 rfl rfl)
theorem dL_law_1064 : decode cL_law 1064 = .ok (.lcmp, 1) := dk_148 (dk_at dksL_law_39 21 rfl rfl)
theorem dL_law_1065 : decode cL_law 1065 = .ok (.ifCond .eq 5, 3) := dk_153 0 5 (dk_at dksL_law_40 0 rfl rfl)
theorem dL_law_1068 : decode cL_law 1068 = .ok (.iconst 0, 1) := dk_3 (dk_at dksL_law_40 3 rfl rfl)
theorem dL_law_1069 : decode cL_law 1069 = .ok (.ireturn, 1) := dk_172 (dk_at dksL_law_40 4 rfl rfl)
theorem dL_law_1070 : decode cL_law 1070 = .ok (.goto 1094, 3) := dk_167 4 70 (dk_at dksL_law_40 5 rfl rfl)
theorem dL_law_1073 : decode cL_law 1073 = .ok (.aload_n 1, 1) := dk_43 (dk_at dksL_law_40 8 rfl rfl)
theorem dL_law_1074 : decode cL_law 1074 = .ok (.aload_n 0, 1) := dk_42 (dk_at dksL_law_40 9 rfl rfl)
theorem dL_law_1075 : decode cL_law 1075 = .ok (.iload 5, 2) := dk_21 5 (dk_at dksL_law_40 10 rfl rfl)
theorem dL_law_1077 : decode cL_law 1077 = .ok (.iconst 1, 1) := dk_4 (dk_at dksL_law_40 12 rfl rfl)
theorem dL_law_1078 : decode cL_law 1078 = .ok (.iadd, 1) := dk_96 (dk_at dksL_law_40 13 rfl rfl)
theorem dL_law_1079 : decode cL_law 1079 = .ok (.iaload, 1) := dk_46 (dk_at dksL_law_40 14 rfl rfl)
theorem dL_law_1080 : decode cL_law 1080 = .ok (.aload_n 3, 1) := dk_45 (dk_at dksL_law_40 15 rfl rfl)
theorem dL_law_1081 : decode cL_law 1081 = .ok (.invokestatic 167, 3) := dk_184 0 167 (dk_at dksL_law_40 16 rfl rfl)
theorem dL_law_1084 : decode cL_law 1084 = .ok (.istore 6, 2) := dk_54 6 (dk_at dksL_law_40 19 rfl rfl)
theorem dL_law_1086 : decode cL_law 1086 = .ok (.aload_n 2, 1) := dk_44 (dk_at dksL_law_40 21 rfl rfl)
theorem dL_law_1087 : decode cL_law 1087 = .ok (.aload_n 0, 1) := dk_42 (dk_at dksL_law_40 22 rfl rfl)
theorem dL_law_1088 : decode cL_law 1088 = .ok (.iload 5, 2) := dk_21 5 (dk_at dksL_law_41 0 rfl rfl)
theorem dL_law_1090 : decode cL_law 1090 = .ok (.iconst 1, 1) := dk_4 (dk_at dksL_law_41 2 rfl rfl)
theorem dL_law_1091 : decode cL_law 1091 = .ok (.iadd, 1) := dk_96 (dk_at dksL_law_41 3 rfl rfl)
theorem dL_law_1092 : decode cL_law 1092 = .ok (.iaload, 1) := dk_46 (dk_at dksL_law_41 4 rfl rfl)
theorem dL_law_1093 : decode cL_law 1093 = .ok (.invokevirtual 169, 3) := dk_182 0 169 (dk_at dksL_law_41 5 rfl rfl)
theorem dL_law_1096 : decode cL_law 1096 = .ok (.istore 7, 2) := dk_54 7 (dk_at dksL_law_41 8 rfl rfl)
theorem dL_law_1098 : decode cL_law 1098 = .ok (.aload_n 2, 1) := dk_44 (dk_at dksL_law_41 10 rfl rfl)
theorem dL_law_1099 : decode cL_law 1099 = .ok (.invokevirtual 124, 3) := dk_182 0 124 (dk_at dksL_law_41 11 rfl rfl)
theorem dL_law_1102 : decode cL_law 1102 = .ok (.iload 6, 2) := dk_21 6 (dk_at dksL_law_41 14 rfl rfl)
theorem dL_law_1104 : decode cL_law 1104 = .ok (.if_icmp .eq 5, 3) := dk_159 0 5 (dk_at dksL_law_41 16 rfl rfl)
theorem dL_law_1107 : decode cL_law 1107 = .ok (.iconst 0, 1) := dk_3 (dk_at dksL_law_41 19 rfl rfl)
theorem dL_law_1108 : decode cL_law 1108 = .ok (.ireturn, 1) := dk_172 (dk_at dksL_law_41 20 rfl rfl)
theorem dL_law_1109 : decode cL_law 1109 = .ok (.iload 6, 2) := dk_21 6 (dk_at dksL_law_41 21 rfl rfl)
theorem dL_law_1111 : decode cL_law 1111 = .ok (.ifCond .ne 15, 3) := dk_154 0 15 (dk_at dksL_law_42 0 rfl rfl)
theorem dL_law_1114 : decode cL_law 1114 = .ok (.aload_n 3, 1) := dk_45 (dk_at dksL_law_42 3 rfl rfl)
theorem dL_law_1115 : decode cL_law 1115 = .ok (.iconst 0, 1) := dk_3 (dk_at dksL_law_42 4 rfl rfl)
theorem dL_law_1116 : decode cL_law 1116 = .ok (.laload, 1) := dk_47 (dk_at dksL_law_42 5 rfl rfl)
theorem dL_law_1117 : decode cL_law 1117 = .ok (.iload 7, 2) := dk_21 7 (dk_at dksL_law_42 6 rfl rfl)
theorem dL_law_1119 : decode cL_law 1119 = .ok (.i2l, 1) := dk_133 (dk_at dksL_law_42 8 rfl rfl)
theorem dL_law_1120 : decode cL_law 1120 = .ok (.lcmp, 1) := dk_148 (dk_at dksL_law_42 9 rfl rfl)
theorem dL_law_1121 : decode cL_law 1121 = .ok (.ifCond .eq 5, 3) := dk_153 0 5 (dk_at dksL_law_42 10 rfl rfl)
theorem dL_law_1124 : decode cL_law 1124 = .ok (.iconst 0, 1) := dk_3 (dk_at dksL_law_42 13 rfl rfl)
theorem dL_law_1125 : decode cL_law 1125 = .ok (.ireturn, 1) := dk_172 (dk_at dksL_law_42 14 rfl rfl)
theorem dL_law_1126 : decode cL_law 1126 = .ok (.goto 1038, 3) := dk_167 4 14 (dk_at dksL_law_42 15 rfl rfl)
theorem dL_law_1129 : decode cL_law 1129 = .ok (.aload_n 1, 1) := dk_43 (dk_at dksL_law_42 18 rfl rfl)
theorem dL_law_1130 : decode cL_law 1130 = .ok (.aload_n 0, 1) := dk_42 (dk_at dksL_law_42 19 rfl rfl)
theorem dL_law_1131 : decode cL_law 1131 = .ok (.iload 5, 2) := dk_21 5 (dk_at dksL_law_42 20 rfl rfl)
theorem dL_law_1133 : decode cL_law 1133 = .ok (.iconst 1, 1) := dk_4 (dk_at dksL_law_42 22 rfl rfl)
theorem dL_law_1134 : decode cL_law 1134 = .ok (.iadd, 1) := dk_96 (dk_at dksL_law_42 23 rfl rfl)
theorem dL_law_1135 : decode cL_law 1135 = .ok (.iaload, 1) := dk_46 (dk_at dksL_law_43 0 rfl rfl)
theorem dL_law_1136 : decode cL_law 1136 = .ok (.aload_n 3, 1) := dk_45 (dk_at dksL_law_43 1 rfl rfl)
theorem dL_law_1137 : decode cL_law 1137 = .ok (.invokestatic 170, 3) := dk_184 0 170 (dk_at dksL_law_43 2 rfl rfl)
theorem dL_law_1140 : decode cL_law 1140 = .ok (.istore 6, 2) := dk_54 6 (dk_at dksL_law_43 5 rfl rfl)
theorem dL_law_1142 : decode cL_law 1142 = .ok (.aload_n 2, 1) := dk_44 (dk_at dksL_law_43 7 rfl rfl)
theorem dL_law_1143 : decode cL_law 1143 = .ok (.aload_n 0, 1) := dk_42 (dk_at dksL_law_43 8 rfl rfl)
theorem dL_law_1144 : decode cL_law 1144 = .ok (.iload 5, 2) := dk_21 5 (dk_at dksL_law_43 9 rfl rfl)
theorem dL_law_1146 : decode cL_law 1146 = .ok (.iconst 1, 1) := dk_4 (dk_at dksL_law_43 11 rfl rfl)
theorem dL_law_1147 : decode cL_law 1147 = .ok (.iadd, 1) := dk_96 (dk_at dksL_law_43 12 rfl rfl)
theorem dL_law_1148 : decode cL_law 1148 = .ok (.iaload, 1) := dk_46 (dk_at dksL_law_43 13 rfl rfl)
theorem dL_law_1149 : decode cL_law 1149 = .ok (.invokevirtual 172, 3) := dk_182 0 172 (dk_at dksL_law_43 14 rfl rfl)
theorem dL_law_1152 : decode cL_law 1152 = .ok (.istore 7, 2) := dk_54 7 (dk_at dksL_law_43 17 rfl rfl)
theorem dL_law_1154 : decode cL_law 1154 = .ok (.aload_n 2, 1) := dk_44 (dk_at dksL_law_43 19 rfl rfl)
theorem dL_law_1155 : decode cL_law 1155 = .ok (.invokevirtual 124, 3) := dk_182 0 124 (dk_at dksL_law_43 20 rfl rfl)
theorem dL_law_1158 : decode cL_law 1158 = .ok (.iload 6, 2) := dk_21 6 (dk_at dksL_law_44 0 rfl rfl)
theorem dL_law_1160 : decode cL_law 1160 = .ok (.if_icmp .eq 5, 3) := dk_159 0 5 (dk_at dksL_law_44 2 rfl rfl)
theorem dL_law_1163 : decode cL_law 1163 = .ok (.iconst 0, 1) := dk_3 (dk_at dksL_law_44 5 rfl rfl)
theorem dL_law_1164 : decode cL_law 1164 = .ok (.ireturn, 1) := dk_172 (dk_at dksL_law_44 6 rfl rfl)
theorem dL_law_1165 : decode cL_law 1165 = .ok (.iload 6, 2) := dk_21 6 (dk_at dksL_law_44 7 rfl rfl)
theorem dL_law_1167 : decode cL_law 1167 = .ok (.ifCond .ne 15, 3) := dk_154 0 15 (dk_at dksL_law_44 9 rfl rfl)
theorem dL_law_1170 : decode cL_law 1170 = .ok (.aload_n 3, 1) := dk_45 (dk_at dksL_law_44 12 rfl rfl)
theorem dL_law_1171 : decode cL_law 1171 = .ok (.iconst 0, 1) := dk_3 (dk_at dksL_law_44 13 rfl rfl)
theorem dL_law_1172 : decode cL_law 1172 = .ok (.laload, 1) := dk_47 (dk_at dksL_law_44 14 rfl rfl)
theorem dL_law_1173 : decode cL_law 1173 = .ok (.iload 7, 2) := dk_21 7 (dk_at dksL_law_44 15 rfl rfl)
theorem dL_law_1175 : decode cL_law 1175 = .ok (.i2l, 1) := dk_133 (dk_at dksL_law_44 17 rfl rfl)
theorem dL_law_1176 : decode cL_law 1176 = .ok (.lcmp, 1) := dk_148 (dk_at dksL_law_44 18 rfl rfl)
theorem dL_law_1177 : decode cL_law 1177 = .ok (.ifCond .eq 5, 3) := dk_153 0 5 (dk_at dksL_law_44 19 rfl rfl)
theorem dL_law_1180 : decode cL_law 1180 = .ok (.iconst 0, 1) := dk_3 (dk_at dksL_law_44 22 rfl rfl)
theorem dL_law_1181 : decode cL_law 1181 = .ok (.ireturn, 1) := dk_172 (dk_at dksL_law_44 23 rfl rfl)
theorem dL_law_1182 : decode cL_law 1182 = .ok (.goto 982, 3) := dk_167 3 214 (dk_at dksL_law_45 0 rfl rfl)
theorem dL_law_1185 : decode cL_law 1185 = .ok (.aload_n 1, 1) := dk_43 (dk_at dksL_law_45 3 rfl rfl)
theorem dL_law_1186 : decode cL_law 1186 = .ok (.aload_n 0, 1) := dk_42 (dk_at dksL_law_45 4 rfl rfl)
theorem dL_law_1187 : decode cL_law 1187 = .ok (.iload 5, 2) := dk_21 5 (dk_at dksL_law_45 5 rfl rfl)
theorem dL_law_1189 : decode cL_law 1189 = .ok (.iconst 1, 1) := dk_4 (dk_at dksL_law_45 7 rfl rfl)
theorem dL_law_1190 : decode cL_law 1190 = .ok (.iadd, 1) := dk_96 (dk_at dksL_law_45 8 rfl rfl)
theorem dL_law_1191 : decode cL_law 1191 = .ok (.iaload, 1) := dk_46 (dk_at dksL_law_45 9 rfl rfl)
theorem dL_law_1192 : decode cL_law 1192 = .ok (.aload 4, 2) := dk_25 4 (dk_at dksL_law_45 10 rfl rfl)
theorem dL_law_1194 : decode cL_law 1194 = .ok (.invokestatic 173, 3) := dk_184 0 173 (dk_at dksL_law_45 12 rfl rfl)
theorem dL_law_1197 : decode cL_law 1197 = .ok (.istore 6, 2) := dk_54 6 (dk_at dksL_law_45 15 rfl rfl)
theorem dL_law_1199 : decode cL_law 1199 = .ok (.aload_n 2, 1) := dk_44 (dk_at dksL_law_45 17 rfl rfl)
theorem dL_law_1200 : decode cL_law 1200 = .ok (.aload_n 0, 1) := dk_42 (dk_at dksL_law_45 18 rfl rfl)
theorem dL_law_1201 : decode cL_law 1201 = .ok (.iload 5, 2) := dk_21 5 (dk_at dksL_law_45 19 rfl rfl)
theorem dL_law_1203 : decode cL_law 1203 = .ok (.iconst 1, 1) := dk_4 (dk_at dksL_law_45 21 rfl rfl)
theorem dL_law_1204 : decode cL_law 1204 = .ok (.iadd, 1) := dk_96 (dk_at dksL_law_45 22 rfl rfl)
theorem dL_law_1205 : decode cL_law 1205 = .ok (.iaload, 1) := dk_46 (dk_at dksL_law_45 23 rfl rfl)
theorem dL_law_1206 : decode cL_law 1206 = .ok (.invokevirtual 176, 3) := dk_182 0 176 (dk_at dksL_law_46 0 rfl rfl)
theorem dL_law_1209 : decode cL_law 1209 = .ok (.dstore 7, 2) := dk_57 7 (dk_at dksL_law_46 3 rfl rfl)
theorem dL_law_1211 : decode cL_law 1211 = .ok (.aload_n 2, 1) := dk_44 (dk_at dksL_law_46 5 rfl rfl)
theorem dL_law_1212 : decode cL_law 1212 = .ok (.invokevirtual 124, 3) := dk_182 0 124 (dk_at dksL_law_46 6 rfl rfl)
theorem dL_law_1215 : decode cL_law 1215 = .ok (.iload 6, 2) := dk_21 6 (dk_at dksL_law_46 9 rfl rfl)
theorem dL_law_1217 : decode cL_law 1217 = .ok (.if_icmp .eq 5, 3) := dk_159 0 5 (dk_at dksL_law_46 11 rfl rfl)
theorem dL_law_1220 : decode cL_law 1220 = .ok (.iconst 0, 1) := dk_3 (dk_at dksL_law_46 14 rfl rfl)
theorem dL_law_1221 : decode cL_law 1221 = .ok (.ireturn, 1) := dk_172 (dk_at dksL_law_46 15 rfl rfl)
theorem dL_law_1222 : decode cL_law 1222 = .ok (.iload 6, 2) := dk_21 6 (dk_at dksL_law_46 16 rfl rfl)
theorem dL_law_1224 : decode cL_law 1224 = .ok (.ifCond .ne 35, 3) := dk_154 0 35 (dk_at dksL_law_46 18 rfl rfl)
theorem dL_law_1227 : decode cL_law 1227 = .ok (.aload 4, 2) := dk_25 4 (dk_at dksL_law_46 21 rfl rfl)
theorem dL_law_1229 : decode cL_law 1229 = .ok (.iconst 0, 1) := dk_3 (dk_at dksL_law_46 23 rfl rfl)
theorem dL_law_1230 : decode cL_law 1230 = .ok (.daload, 1) := dk_49 (dk_at dksL_law_47 0 rfl rfl)
theorem dL_law_1231 : decode cL_law 1231 = .ok (.dload 7, 2) := dk_24 7 (dk_at dksL_law_47 1 rfl rfl)
theorem dL_law_1233 : decode cL_law 1233 = .ok (.dcmp .l, 1) := dk_151 (dk_at dksL_law_47 3 rfl rfl)
theorem dL_law_1234 : decode cL_law 1234 = .ok (.ifCond .eq 25, 3) := dk_153 0 25 (dk_at dksL_law_47 4 rfl rfl)
theorem dL_law_1237 : decode cL_law 1237 = .ok (.aload 4, 2) := dk_25 4 (dk_at dksL_law_47 7 rfl rfl)
theorem dL_law_1239 : decode cL_law 1239 = .ok (.iconst 0, 1) := dk_3 (dk_at dksL_law_47 9 rfl rfl)
theorem dL_law_1240 : decode cL_law 1240 = .ok (.daload, 1) := dk_49 (dk_at dksL_law_47 10 rfl rfl)
theorem dL_law_1241 : decode cL_law 1241 = .ok (.aload 4, 2) := dk_25 4 (dk_at dksL_law_47 11 rfl rfl)
theorem dL_law_1243 : decode cL_law 1243 = .ok (.iconst 0, 1) := dk_3 (dk_at dksL_law_47 13 rfl rfl)
theorem dL_law_1244 : decode cL_law 1244 = .ok (.daload, 1) := dk_49 (dk_at dksL_law_47 14 rfl rfl)
theorem dL_law_1245 : decode cL_law 1245 = .ok (.dcmp .l, 1) := dk_151 (dk_at dksL_law_47 15 rfl rfl)
theorem dL_law_1246 : decode cL_law 1246 = .ok (.ifCond .eq 11, 3) := dk_153 0 11 (dk_at dksL_law_47 16 rfl rfl)
theorem dL_law_1249 : decode cL_law 1249 = .ok (.dload 7, 2) := dk_24 7 (dk_at dksL_law_47 19 rfl rfl)
theorem dL_law_1251 : decode cL_law 1251 = .ok (.dload 7, 2) := dk_24 7 (dk_at dksL_law_47 21 rfl rfl)
theorem dL_law_1253 : decode cL_law 1253 = .ok (.dcmp .l, 1) := dk_151 (dk_at dksL_law_47 23 rfl rfl)
theorem dL_law_1254 : decode cL_law 1254 = .ok (.ifCond .ne 5, 3) := dk_154 0 5 (dk_at dksL_law_48 0 rfl rfl)
theorem dL_law_1257 : decode cL_law 1257 = .ok (.iconst 0, 1) := dk_3 (dk_at dksL_law_48 3 rfl rfl)
theorem dL_law_1258 : decode cL_law 1258 = .ok (.ireturn, 1) := dk_172 (dk_at dksL_law_48 4 rfl rfl)
theorem dL_law_1259 : decode cL_law 1259 = .ok (.goto 905, 3) := dk_167 3 137 (dk_at dksL_law_48 5 rfl rfl)
theorem dL_law_1262 : decode cL_law 1262 = .ok (.aload_n 1, 1) := dk_43 (dk_at dksL_law_48 8 rfl rfl)
theorem dL_law_1263 : decode cL_law 1263 = .ok (.invokevirtual 177, 3) := dk_182 0 177 (dk_at dksL_law_48 9 rfl rfl)
theorem dL_law_1266 : decode cL_law 1266 = .ok (.aload_n 2, 1) := dk_44 (dk_at dksL_law_48 12 rfl rfl)
theorem dL_law_1267 : decode cL_law 1267 = .ok (.invokevirtual 180, 3) := dk_182 0 180 (dk_at dksL_law_48 13 rfl rfl)
theorem dL_law_1270 : decode cL_law 1270 = .ok (.if_icmp .eq 894, 3) := dk_159 3 126 (dk_at dksL_law_48 16 rfl rfl)
theorem dL_law_1273 : decode cL_law 1273 = .ok (.iconst 0, 1) := dk_3 (dk_at dksL_law_48 19 rfl rfl)
theorem dL_law_1274 : decode cL_law 1274 = .ok (.ireturn, 1) := dk_172 (dk_at dksL_law_48 20 rfl rfl)
theorem dL_law_1275 : decode cL_law 1275 = .ok (.aload_n 1, 1) := dk_43 (dk_at dksL_law_48 21 rfl rfl)
theorem dL_law_1276 : decode cL_law 1276 = .ok (.aload_n 0, 1) := dk_42 (dk_at dksL_law_48 22 rfl rfl)
theorem dL_law_1277 : decode cL_law 1277 = .ok (.iload 5, 2) := dk_21 5 (dk_at dksL_law_49 0 rfl rfl)
theorem dL_law_1279 : decode cL_law 1279 = .ok (.iconst 1, 1) := dk_4 (dk_at dksL_law_49 2 rfl rfl)
theorem dL_law_1280 : decode cL_law 1280 = .ok (.iadd, 1) := dk_96 (dk_at dksL_law_49 3 rfl rfl)
theorem dL_law_1281 : decode cL_law 1281 = .ok (.iaload, 1) := dk_46 (dk_at dksL_law_49 4 rfl rfl)
theorem dL_law_1282 : decode cL_law 1282 = .ok (.aload_n 3, 1) := dk_45 (dk_at dksL_law_49 5 rfl rfl)
theorem dL_law_1283 : decode cL_law 1283 = .ok (.invokestatic 181, 3) := dk_184 0 181 (dk_at dksL_law_49 6 rfl rfl)
theorem dL_law_1286 : decode cL_law 1286 = .ok (.istore 6, 2) := dk_54 6 (dk_at dksL_law_49 9 rfl rfl)
theorem dL_law_1288 : decode cL_law 1288 = .ok (.aload_n 2, 1) := dk_44 (dk_at dksL_law_49 11 rfl rfl)
theorem dL_law_1289 : decode cL_law 1289 = .ok (.aload_n 0, 1) := dk_42 (dk_at dksL_law_49 12 rfl rfl)
theorem dL_law_1290 : decode cL_law 1290 = .ok (.iload 5, 2) := dk_21 5 (dk_at dksL_law_49 13 rfl rfl)
theorem dL_law_1292 : decode cL_law 1292 = .ok (.iconst 1, 1) := dk_4 (dk_at dksL_law_49 15 rfl rfl)
theorem dL_law_1293 : decode cL_law 1293 = .ok (.iadd, 1) := dk_96 (dk_at dksL_law_49 16 rfl rfl)
theorem dL_law_1294 : decode cL_law 1294 = .ok (.iaload, 1) := dk_46 (dk_at dksL_law_49 17 rfl rfl)
theorem dL_law_1295 : decode cL_law 1295 = .ok (.invokevirtual 183, 3) := dk_182 0 183 (dk_at dksL_law_49 18 rfl rfl)
theorem dL_law_1298 : decode cL_law 1298 = .ok (.istore 7, 2) := dk_54 7 (dk_at dksL_law_49 21 rfl rfl)
theorem dL_law_1300 : decode cL_law 1300 = .ok (.aload_n 2, 1) := dk_44 (dk_at dksL_law_49 23 rfl rfl)
theorem dL_law_1301 : decode cL_law 1301 = .ok (.invokevirtual 124, 3) := dk_182 0 124 (dk_at dksL_law_50 0 rfl rfl)
theorem dL_law_1304 : decode cL_law 1304 = .ok (.iload 6, 2) := dk_21 6 (dk_at dksL_law_50 3 rfl rfl)
theorem dL_law_1306 : decode cL_law 1306 = .ok (.if_icmp .eq 5, 3) := dk_159 0 5 (dk_at dksL_law_50 5 rfl rfl)
theorem dL_law_1309 : decode cL_law 1309 = .ok (.iconst 0, 1) := dk_3 (dk_at dksL_law_50 8 rfl rfl)
theorem dL_law_1310 : decode cL_law 1310 = .ok (.ireturn, 1) := dk_172 (dk_at dksL_law_50 9 rfl rfl)
theorem dL_law_1311 : decode cL_law 1311 = .ok (.iload 6, 2) := dk_21 6 (dk_at dksL_law_50 10 rfl rfl)
theorem dL_law_1313 : decode cL_law 1313 = .ok (.ifCond .ne 15, 3) := dk_154 0 15 (dk_at dksL_law_50 12 rfl rfl)
theorem dL_law_1316 : decode cL_law 1316 = .ok (.aload_n 3, 1) := dk_45 (dk_at dksL_law_50 15 rfl rfl)
theorem dL_law_1317 : decode cL_law 1317 = .ok (.iconst 0, 1) := dk_3 (dk_at dksL_law_50 16 rfl rfl)
theorem dL_law_1318 : decode cL_law 1318 = .ok (.laload, 1) := dk_47 (dk_at dksL_law_50 17 rfl rfl)
theorem dL_law_1319 : decode cL_law 1319 = .ok (.iload 7, 2) := dk_21 7 (dk_at dksL_law_50 18 rfl rfl)
theorem dL_law_1321 : decode cL_law 1321 = .ok (.i2l, 1) := dk_133 (dk_at dksL_law_50 20 rfl rfl)
theorem dL_law_1322 : decode cL_law 1322 = .ok (.lcmp, 1) := dk_148 (dk_at dksL_law_50 21 rfl rfl)
theorem dL_law_1323 : decode cL_law 1323 = .ok (.ifCond .eq 5, 3) := dk_153 0 5 (dk_at dksL_law_51 0 rfl rfl)
theorem dL_law_1326 : decode cL_law 1326 = .ok (.iconst 0, 1) := dk_3 (dk_at dksL_law_51 3 rfl rfl)
theorem dL_law_1327 : decode cL_law 1327 = .ok (.ireturn, 1) := dk_172 (dk_at dksL_law_51 4 rfl rfl)
theorem dL_law_1328 : decode cL_law 1328 = .ok (.goto 836, 3) := dk_167 3 68 (dk_at dksL_law_51 5 rfl rfl)
theorem dL_law_1331 : decode cL_law 1331 = .ok (.aload_n 1, 1) := dk_43 (dk_at dksL_law_51 8 rfl rfl)
theorem dL_law_1332 : decode cL_law 1332 = .ok (.invokevirtual 184, 3) := dk_182 0 184 (dk_at dksL_law_51 9 rfl rfl)
theorem dL_law_1335 : decode cL_law 1335 = .ok (.aload_n 2, 1) := dk_44 (dk_at dksL_law_51 12 rfl rfl)
theorem dL_law_1336 : decode cL_law 1336 = .ok (.invokevirtual 187, 3) := dk_182 0 187 (dk_at dksL_law_51 13 rfl rfl)
theorem dL_law_1339 : decode cL_law 1339 = .ok (.if_icmp .eq 825, 3) := dk_159 3 57 (dk_at dksL_law_51 16 rfl rfl)
theorem dL_law_1342 : decode cL_law 1342 = .ok (.iconst 0, 1) := dk_3 (dk_at dksL_law_51 19 rfl rfl)
theorem dL_law_1343 : decode cL_law 1343 = .ok (.ireturn, 1) := dk_172 (dk_at dksL_law_51 20 rfl rfl)
theorem dL_law_1344 : decode cL_law 1344 = .ok (.aload_n 1, 1) := dk_43 (dk_at dksL_law_51 21 rfl rfl)
theorem dL_law_1345 : decode cL_law 1345 = .ok (.aload_n 0, 1) := dk_42 (dk_at dksL_law_51 22 rfl rfl)
theorem dL_law_1346 : decode cL_law 1346 = .ok (.iload 5, 2) := dk_21 5 (dk_at dksL_law_52 0 rfl rfl)
theorem dL_law_1348 : decode cL_law 1348 = .ok (.iconst 1, 1) := dk_4 (dk_at dksL_law_52 2 rfl rfl)
theorem dL_law_1349 : decode cL_law 1349 = .ok (.iadd, 1) := dk_96 (dk_at dksL_law_52 3 rfl rfl)
theorem dL_law_1350 : decode cL_law 1350 = .ok (.iaload, 1) := dk_46 (dk_at dksL_law_52 4 rfl rfl)
theorem dL_law_1351 : decode cL_law 1351 = .ok (.aload_n 3, 1) := dk_45 (dk_at dksL_law_52 5 rfl rfl)
theorem dL_law_1352 : decode cL_law 1352 = .ok (.invokestatic 188, 3) := dk_184 0 188 (dk_at dksL_law_52 6 rfl rfl)
theorem dL_law_1355 : decode cL_law 1355 = .ok (.istore 6, 2) := dk_54 6 (dk_at dksL_law_52 9 rfl rfl)
theorem dL_law_1357 : decode cL_law 1357 = .ok (.aload_n 2, 1) := dk_44 (dk_at dksL_law_52 11 rfl rfl)
theorem dL_law_1358 : decode cL_law 1358 = .ok (.aload_n 0, 1) := dk_42 (dk_at dksL_law_52 12 rfl rfl)
theorem dL_law_1359 : decode cL_law 1359 = .ok (.iload 5, 2) := dk_21 5 (dk_at dksL_law_52 13 rfl rfl)
theorem dL_law_1361 : decode cL_law 1361 = .ok (.iconst 1, 1) := dk_4 (dk_at dksL_law_52 15 rfl rfl)
theorem dL_law_1362 : decode cL_law 1362 = .ok (.iadd, 1) := dk_96 (dk_at dksL_law_52 16 rfl rfl)
theorem dL_law_1363 : decode cL_law 1363 = .ok (.iaload, 1) := dk_46 (dk_at dksL_law_52 17 rfl rfl)
theorem dL_law_1364 : decode cL_law 1364 = .ok (.invokevirtual 190, 3) := dk_182 0 190 (dk_at dksL_law_52 18 rfl rfl)
theorem dL_law_1367 : decode cL_law 1367 = .ok (.istore 7, 2) := dk_54 7 (dk_at dksL_law_52 21 rfl rfl)
theorem dL_law_1369 : decode cL_law 1369 = .ok (.aload_n 2, 1) := dk_44 (dk_at dksL_law_52 23 rfl rfl)
theorem dL_law_1370 : decode cL_law 1370 = .ok (.invokevirtual 124, 3) := dk_182 0 124 (dk_at dksL_law_53 0 rfl rfl)
theorem dL_law_1373 : decode cL_law 1373 = .ok (.iload 6, 2) := dk_21 6 (dk_at dksL_law_53 3 rfl rfl)
theorem dL_law_1375 : decode cL_law 1375 = .ok (.if_icmp .eq 5, 3) := dk_159 0 5 (dk_at dksL_law_53 5 rfl rfl)
theorem dL_law_1378 : decode cL_law 1378 = .ok (.iconst 0, 1) := dk_3 (dk_at dksL_law_53 8 rfl rfl)
theorem dL_law_1379 : decode cL_law 1379 = .ok (.ireturn, 1) := dk_172 (dk_at dksL_law_53 9 rfl rfl)
theorem dL_law_1380 : decode cL_law 1380 = .ok (.iload 6, 2) := dk_21 6 (dk_at dksL_law_53 10 rfl rfl)
theorem dL_law_1382 : decode cL_law 1382 = .ok (.ifCond .ne 15, 3) := dk_154 0 15 (dk_at dksL_law_53 12 rfl rfl)
theorem dL_law_1385 : decode cL_law 1385 = .ok (.aload_n 3, 1) := dk_45 (dk_at dksL_law_53 15 rfl rfl)
theorem dL_law_1386 : decode cL_law 1386 = .ok (.iconst 0, 1) := dk_3 (dk_at dksL_law_53 16 rfl rfl)
theorem dL_law_1387 : decode cL_law 1387 = .ok (.laload, 1) := dk_47 (dk_at dksL_law_53 17 rfl rfl)
theorem dL_law_1388 : decode cL_law 1388 = .ok (.iload 7, 2) := dk_21 7 (dk_at dksL_law_53 18 rfl rfl)
theorem dL_law_1390 : decode cL_law 1390 = .ok (.i2l, 1) := dk_133 (dk_at dksL_law_53 20 rfl rfl)
theorem dL_law_1391 : decode cL_law 1391 = .ok (.lcmp, 1) := dk_148 (dk_at dksL_law_53 21 rfl rfl)
theorem dL_law_1392 : decode cL_law 1392 = .ok (.ifCond .eq 5, 3) := dk_153 0 5 (dk_at dksL_law_54 0 rfl rfl)
theorem dL_law_1395 : decode cL_law 1395 = .ok (.iconst 0, 1) := dk_3 (dk_at dksL_law_54 3 rfl rfl)
theorem dL_law_1396 : decode cL_law 1396 = .ok (.ireturn, 1) := dk_172 (dk_at dksL_law_54 4 rfl rfl)
theorem dL_law_1397 : decode cL_law 1397 = .ok (.goto 767, 3) := dk_167 2 255 (dk_at dksL_law_54 5 rfl rfl)
theorem dL_law_1400 : decode cL_law 1400 = .ok (.aload_n 1, 1) := dk_43 (dk_at dksL_law_54 8 rfl rfl)
theorem dL_law_1401 : decode cL_law 1401 = .ok (.aload_n 0, 1) := dk_42 (dk_at dksL_law_54 9 rfl rfl)
theorem dL_law_1402 : decode cL_law 1402 = .ok (.iload 5, 2) := dk_21 5 (dk_at dksL_law_54 10 rfl rfl)
theorem dL_law_1404 : decode cL_law 1404 = .ok (.iconst 1, 1) := dk_4 (dk_at dksL_law_54 12 rfl rfl)
theorem dL_law_1405 : decode cL_law 1405 = .ok (.iadd, 1) := dk_96 (dk_at dksL_law_54 13 rfl rfl)
theorem dL_law_1406 : decode cL_law 1406 = .ok (.iaload, 1) := dk_46 (dk_at dksL_law_54 14 rfl rfl)
theorem dL_law_1407 : decode cL_law 1407 = .ok (.aload_n 0, 1) := dk_42 (dk_at dksL_law_54 15 rfl rfl)
theorem dL_law_1408 : decode cL_law 1408 = .ok (.iload 5, 2) := dk_21 5 (dk_at dksL_law_54 16 rfl rfl)
theorem dL_law_1410 : decode cL_law 1410 = .ok (.iconst 2, 1) := dk_5 (dk_at dksL_law_54 18 rfl rfl)
theorem dL_law_1411 : decode cL_law 1411 = .ok (.iadd, 1) := dk_96 (dk_at dksL_law_54 19 rfl rfl)
theorem dL_law_1412 : decode cL_law 1412 = .ok (.iaload, 1) := dk_46 (dk_at dksL_law_54 20 rfl rfl)
theorem dL_law_1413 : decode cL_law 1413 = .ok (.aload_n 3, 1) := dk_45 (dk_at dksL_law_54 21 rfl rfl)
theorem dL_law_1414 : decode cL_law 1414 = .ok (.invokestatic 191, 3) := dk_184 0 191 (dk_at dksL_law_55 0 rfl rfl)
theorem dL_law_1417 : decode cL_law 1417 = .ok (.istore 6, 2) := dk_54 6 (dk_at dksL_law_55 3 rfl rfl)
theorem dL_law_1419 : decode cL_law 1419 = .ok (.aload_n 2, 1) := dk_44 (dk_at dksL_law_55 5 rfl rfl)
theorem dL_law_1420 : decode cL_law 1420 = .ok (.aload_n 0, 1) := dk_42 (dk_at dksL_law_55 6 rfl rfl)
theorem dL_law_1421 : decode cL_law 1421 = .ok (.iload 5, 2) := dk_21 5 (dk_at dksL_law_55 7 rfl rfl)
theorem dL_law_1423 : decode cL_law 1423 = .ok (.iconst 1, 1) := dk_4 (dk_at dksL_law_55 9 rfl rfl)
theorem dL_law_1424 : decode cL_law 1424 = .ok (.iadd, 1) := dk_96 (dk_at dksL_law_55 10 rfl rfl)
theorem dL_law_1425 : decode cL_law 1425 = .ok (.iaload, 1) := dk_46 (dk_at dksL_law_55 11 rfl rfl)
theorem dL_law_1426 : decode cL_law 1426 = .ok (.aload_n 0, 1) := dk_42 (dk_at dksL_law_55 12 rfl rfl)
theorem dL_law_1427 : decode cL_law 1427 = .ok (.iload 5, 2) := dk_21 5 (dk_at dksL_law_55 13 rfl rfl)
theorem dL_law_1429 : decode cL_law 1429 = .ok (.iconst 2, 1) := dk_5 (dk_at dksL_law_55 15 rfl rfl)
theorem dL_law_1430 : decode cL_law 1430 = .ok (.iadd, 1) := dk_96 (dk_at dksL_law_55 16 rfl rfl)
theorem dL_law_1431 : decode cL_law 1431 = .ok (.iaload, 1) := dk_46 (dk_at dksL_law_55 17 rfl rfl)
theorem dL_law_1432 : decode cL_law 1432 = .ok (.invokevirtual 193, 3) := dk_182 0 193 (dk_at dksL_law_55 18 rfl rfl)
theorem dL_law_1435 : decode cL_law 1435 = .ok (.istore 7, 2) := dk_54 7 (dk_at dksL_law_55 21 rfl rfl)
theorem dL_law_1437 : decode cL_law 1437 = .ok (.aload_n 2, 1) := dk_44 (dk_at dksL_law_55 23 rfl rfl)
theorem dL_law_1438 : decode cL_law 1438 = .ok (.invokevirtual 124, 3) := dk_182 0 124 (dk_at dksL_law_56 0 rfl rfl)
theorem dL_law_1441 : decode cL_law 1441 = .ok (.iload 6, 2) := dk_21 6 (dk_at dksL_law_56 3 rfl rfl)
theorem dL_law_1443 : decode cL_law 1443 = .ok (.if_icmp .eq 5, 3) := dk_159 0 5 (dk_at dksL_law_56 5 rfl rfl)
theorem dL_law_1446 : decode cL_law 1446 = .ok (.iconst 0, 1) := dk_3 (dk_at dksL_law_56 8 rfl rfl)
theorem dL_law_1447 : decode cL_law 1447 = .ok (.ireturn, 1) := dk_172 (dk_at dksL_law_56 9 rfl rfl)
theorem dL_law_1448 : decode cL_law 1448 = .ok (.iload 6, 2) := dk_21 6 (dk_at dksL_law_56 10 rfl rfl)
theorem dL_law_1450 : decode cL_law 1450 = .ok (.ifCond .ne 15, 3) := dk_154 0 15 (dk_at dksL_law_56 12 rfl rfl)
theorem dL_law_1453 : decode cL_law 1453 = .ok (.aload_n 3, 1) := dk_45 (dk_at dksL_law_56 15 rfl rfl)
theorem dL_law_1454 : decode cL_law 1454 = .ok (.iconst 0, 1) := dk_3 (dk_at dksL_law_56 16 rfl rfl)
theorem dL_law_1455 : decode cL_law 1455 = .ok (.laload, 1) := dk_47 (dk_at dksL_law_56 17 rfl rfl)
theorem dL_law_1456 : decode cL_law 1456 = .ok (.iload 7, 2) := dk_21 7 (dk_at dksL_law_56 18 rfl rfl)
theorem dL_law_1458 : decode cL_law 1458 = .ok (.i2l, 1) := dk_133 (dk_at dksL_law_56 20 rfl rfl)
theorem dL_law_1459 : decode cL_law 1459 = .ok (.lcmp, 1) := dk_148 (dk_at dksL_law_56 21 rfl rfl)
theorem dL_law_1460 : decode cL_law 1460 = .ok (.ifCond .eq 5, 3) := dk_153 0 5 (dk_at dksL_law_57 0 rfl rfl)
theorem dL_law_1463 : decode cL_law 1463 = .ok (.iconst 0, 1) := dk_3 (dk_at dksL_law_57 3 rfl rfl)
theorem dL_law_1464 : decode cL_law 1464 = .ok (.ireturn, 1) := dk_172 (dk_at dksL_law_57 4 rfl rfl)
theorem dL_law_1465 : decode cL_law 1465 = .ok (.goto 699, 3) := dk_167 2 187 (dk_at dksL_law_57 5 rfl rfl)
theorem dL_law_1468 : decode cL_law 1468 = .ok (.aload_n 1, 1) := dk_43 (dk_at dksL_law_57 8 rfl rfl)
theorem dL_law_1469 : decode cL_law 1469 = .ok (.aload_n 0, 1) := dk_42 (dk_at dksL_law_57 9 rfl rfl)
theorem dL_law_1470 : decode cL_law 1470 = .ok (.iload 5, 2) := dk_21 5 (dk_at dksL_law_57 10 rfl rfl)
theorem dL_law_1472 : decode cL_law 1472 = .ok (.iconst 1, 1) := dk_4 (dk_at dksL_law_57 12 rfl rfl)
theorem dL_law_1473 : decode cL_law 1473 = .ok (.iadd, 1) := dk_96 (dk_at dksL_law_57 13 rfl rfl)
theorem dL_law_1474 : decode cL_law 1474 = .ok (.iaload, 1) := dk_46 (dk_at dksL_law_57 14 rfl rfl)
theorem dL_law_1475 : decode cL_law 1475 = .ok (.aload_n 0, 1) := dk_42 (dk_at dksL_law_57 15 rfl rfl)
theorem dL_law_1476 : decode cL_law 1476 = .ok (.iload 5, 2) := dk_21 5 (dk_at dksL_law_57 16 rfl rfl)
theorem dL_law_1478 : decode cL_law 1478 = .ok (.iconst 2, 1) := dk_5 (dk_at dksL_law_57 18 rfl rfl)
theorem dL_law_1479 : decode cL_law 1479 = .ok (.iadd, 1) := dk_96 (dk_at dksL_law_57 19 rfl rfl)
theorem dL_law_1480 : decode cL_law 1480 = .ok (.iaload, 1) := dk_46 (dk_at dksL_law_57 20 rfl rfl)
theorem dL_law_1481 : decode cL_law 1481 = .ok (.aload_n 3, 1) := dk_45 (dk_at dksL_law_57 21 rfl rfl)
theorem dL_law_1482 : decode cL_law 1482 = .ok (.invokestatic 194, 3) := dk_184 0 194 (dk_at dksL_law_58 0 rfl rfl)
theorem dL_law_1485 : decode cL_law 1485 = .ok (.istore 6, 2) := dk_54 6 (dk_at dksL_law_58 3 rfl rfl)
theorem dL_law_1487 : decode cL_law 1487 = .ok (.aload_n 2, 1) := dk_44 (dk_at dksL_law_58 5 rfl rfl)
theorem dL_law_1488 : decode cL_law 1488 = .ok (.aload_n 0, 1) := dk_42 (dk_at dksL_law_58 6 rfl rfl)
theorem dL_law_1489 : decode cL_law 1489 = .ok (.iload 5, 2) := dk_21 5 (dk_at dksL_law_58 7 rfl rfl)
theorem dL_law_1491 : decode cL_law 1491 = .ok (.iconst 1, 1) := dk_4 (dk_at dksL_law_58 9 rfl rfl)
theorem dL_law_1492 : decode cL_law 1492 = .ok (.iadd, 1) := dk_96 (dk_at dksL_law_58 10 rfl rfl)
theorem dL_law_1493 : decode cL_law 1493 = .ok (.iaload, 1) := dk_46 (dk_at dksL_law_58 11 rfl rfl)
theorem dL_law_1494 : decode cL_law 1494 = .ok (.aload_n 0, 1) := dk_42 (dk_at dksL_law_58 12 rfl rfl)
theorem dL_law_1495 : decode cL_law 1495 = .ok (.iload 5, 2) := dk_21 5 (dk_at dksL_law_58 13 rfl rfl)
theorem dL_law_1497 : decode cL_law 1497 = .ok (.iconst 2, 1) := dk_5 (dk_at dksL_law_58 15 rfl rfl)
theorem dL_law_1498 : decode cL_law 1498 = .ok (.iadd, 1) := dk_96 (dk_at dksL_law_58 16 rfl rfl)
theorem dL_law_1499 : decode cL_law 1499 = .ok (.iaload, 1) := dk_46 (dk_at dksL_law_58 17 rfl rfl)
theorem dL_law_1500 : decode cL_law 1500 = .ok (.invokevirtual 196, 3) := dk_182 0 196 (dk_at dksL_law_58 18 rfl rfl)
theorem dL_law_1503 : decode cL_law 1503 = .ok (.istore 7, 2) := dk_54 7 (dk_at dksL_law_58 21 rfl rfl)
theorem dL_law_1505 : decode cL_law 1505 = .ok (.aload_n 2, 1) := dk_44 (dk_at dksL_law_58 23 rfl rfl)
theorem dL_law_1506 : decode cL_law 1506 = .ok (.invokevirtual 124, 3) := dk_182 0 124 (dk_at dksL_law_59 0 rfl rfl)
theorem dL_law_1509 : decode cL_law 1509 = .ok (.iload 6, 2) := dk_21 6 (dk_at dksL_law_59 3 rfl rfl)
theorem dL_law_1511 : decode cL_law 1511 = .ok (.if_icmp .eq 5, 3) := dk_159 0 5 (dk_at dksL_law_59 5 rfl rfl)
theorem dL_law_1514 : decode cL_law 1514 = .ok (.iconst 0, 1) := dk_3 (dk_at dksL_law_59 8 rfl rfl)
theorem dL_law_1515 : decode cL_law 1515 = .ok (.ireturn, 1) := dk_172 (dk_at dksL_law_59 9 rfl rfl)
theorem dL_law_1516 : decode cL_law 1516 = .ok (.iload 6, 2) := dk_21 6 (dk_at dksL_law_59 10 rfl rfl)
theorem dL_law_1518 : decode cL_law 1518 = .ok (.ifCond .ne 15, 3) := dk_154 0 15 (dk_at dksL_law_59 12 rfl rfl)
theorem dL_law_1521 : decode cL_law 1521 = .ok (.aload_n 3, 1) := dk_45 (dk_at dksL_law_59 15 rfl rfl)
theorem dL_law_1522 : decode cL_law 1522 = .ok (.iconst 0, 1) := dk_3 (dk_at dksL_law_59 16 rfl rfl)
theorem dL_law_1523 : decode cL_law 1523 = .ok (.laload, 1) := dk_47 (dk_at dksL_law_59 17 rfl rfl)
theorem dL_law_1524 : decode cL_law 1524 = .ok (.iload 7, 2) := dk_21 7 (dk_at dksL_law_59 18 rfl rfl)
theorem dL_law_1526 : decode cL_law 1526 = .ok (.i2l, 1) := dk_133 (dk_at dksL_law_59 20 rfl rfl)
theorem dL_law_1527 : decode cL_law 1527 = .ok (.lcmp, 1) := dk_148 (dk_at dksL_law_59 21 rfl rfl)
theorem dL_law_1528 : decode cL_law 1528 = .ok (.ifCond .eq 5, 3) := dk_153 0 5 (dk_at dksL_law_60 0 rfl rfl)
theorem dL_law_1531 : decode cL_law 1531 = .ok (.iconst 0, 1) := dk_3 (dk_at dksL_law_60 3 rfl rfl)
theorem dL_law_1532 : decode cL_law 1532 = .ok (.ireturn, 1) := dk_172 (dk_at dksL_law_60 4 rfl rfl)
theorem dL_law_1533 : decode cL_law 1533 = .ok (.goto 631, 3) := dk_167 2 119 (dk_at dksL_law_60 5 rfl rfl)
theorem dL_law_1536 : decode cL_law 1536 = .ok (.aload_n 1, 1) := dk_43 (dk_at dksL_law_60 8 rfl rfl)
theorem dL_law_1537 : decode cL_law 1537 = .ok (.aload_n 0, 1) := dk_42 (dk_at dksL_law_60 9 rfl rfl)
theorem dL_law_1538 : decode cL_law 1538 = .ok (.iload 5, 2) := dk_21 5 (dk_at dksL_law_60 10 rfl rfl)
theorem dL_law_1540 : decode cL_law 1540 = .ok (.iconst 1, 1) := dk_4 (dk_at dksL_law_60 12 rfl rfl)
theorem dL_law_1541 : decode cL_law 1541 = .ok (.iadd, 1) := dk_96 (dk_at dksL_law_60 13 rfl rfl)
theorem dL_law_1542 : decode cL_law 1542 = .ok (.iaload, 1) := dk_46 (dk_at dksL_law_60 14 rfl rfl)
theorem dL_law_1543 : decode cL_law 1543 = .ok (.aload_n 3, 1) := dk_45 (dk_at dksL_law_60 15 rfl rfl)
theorem dL_law_1544 : decode cL_law 1544 = .ok (.invokestatic 197, 3) := dk_184 0 197 (dk_at dksL_law_60 16 rfl rfl)
theorem dL_law_1547 : decode cL_law 1547 = .ok (.istore 6, 2) := dk_54 6 (dk_at dksL_law_60 19 rfl rfl)
theorem dL_law_1549 : decode cL_law 1549 = .ok (.aload_n 2, 1) := dk_44 (dk_at dksL_law_60 21 rfl rfl)
theorem dL_law_1550 : decode cL_law 1550 = .ok (.aload_n 0, 1) := dk_42 (dk_at dksL_law_60 22 rfl rfl)
theorem dL_law_1551 : decode cL_law 1551 = .ok (.iload 5, 2) := dk_21 5 (dk_at dksL_law_61 0 rfl rfl)
theorem dL_law_1553 : decode cL_law 1553 = .ok (.iconst 1, 1) := dk_4 (dk_at dksL_law_61 2 rfl rfl)
theorem dL_law_1554 : decode cL_law 1554 = .ok (.iadd, 1) := dk_96 (dk_at dksL_law_61 3 rfl rfl)
theorem dL_law_1555 : decode cL_law 1555 = .ok (.iaload, 1) := dk_46 (dk_at dksL_law_61 4 rfl rfl)
theorem dL_law_1556 : decode cL_law 1556 = .ok (.invokevirtual 199, 3) := dk_182 0 199 (dk_at dksL_law_61 5 rfl rfl)
theorem dL_law_1559 : decode cL_law 1559 = .ok (.istore 7, 2) := dk_54 7 (dk_at dksL_law_61 8 rfl rfl)
theorem dL_law_1561 : decode cL_law 1561 = .ok (.aload_n 2, 1) := dk_44 (dk_at dksL_law_61 10 rfl rfl)
theorem dL_law_1562 : decode cL_law 1562 = .ok (.invokevirtual 124, 3) := dk_182 0 124 (dk_at dksL_law_61 11 rfl rfl)
theorem dL_law_1565 : decode cL_law 1565 = .ok (.iload 6, 2) := dk_21 6 (dk_at dksL_law_61 14 rfl rfl)
theorem dL_law_1567 : decode cL_law 1567 = .ok (.if_icmp .eq 5, 3) := dk_159 0 5 (dk_at dksL_law_61 16 rfl rfl)
theorem dL_law_1570 : decode cL_law 1570 = .ok (.iconst 0, 1) := dk_3 (dk_at dksL_law_61 19 rfl rfl)
theorem dL_law_1571 : decode cL_law 1571 = .ok (.ireturn, 1) := dk_172 (dk_at dksL_law_61 20 rfl rfl)
theorem dL_law_1572 : decode cL_law 1572 = .ok (.iload 6, 2) := dk_21 6 (dk_at dksL_law_61 21 rfl rfl)
theorem dL_law_1574 : decode cL_law 1574 = .ok (.ifCond .ne 15, 3) := dk_154 0 15 (dk_at dksL_law_62 0 rfl rfl)
theorem dL_law_1577 : decode cL_law 1577 = .ok (.aload_n 3, 1) := dk_45 (dk_at dksL_law_62 3 rfl rfl)
theorem dL_law_1578 : decode cL_law 1578 = .ok (.iconst 0, 1) := dk_3 (dk_at dksL_law_62 4 rfl rfl)
theorem dL_law_1579 : decode cL_law 1579 = .ok (.laload, 1) := dk_47 (dk_at dksL_law_62 5 rfl rfl)
theorem dL_law_1580 : decode cL_law 1580 = .ok (.iload 7, 2) := dk_21 7 (dk_at dksL_law_62 6 rfl rfl)
theorem dL_law_1582 : decode cL_law 1582 = .ok (.i2l, 1) := dk_133 (dk_at dksL_law_62 8 rfl rfl)
theorem dL_law_1583 : decode cL_law 1583 = .ok (.lcmp, 1) := dk_148 (dk_at dksL_law_62 9 rfl rfl)
theorem dL_law_1584 : decode cL_law 1584 = .ok (.ifCond .eq 5, 3) := dk_153 0 5 (dk_at dksL_law_62 10 rfl rfl)
theorem dL_law_1587 : decode cL_law 1587 = .ok (.iconst 0, 1) := dk_3 (dk_at dksL_law_62 13 rfl rfl)
theorem dL_law_1588 : decode cL_law 1588 = .ok (.ireturn, 1) := dk_172 (dk_at dksL_law_62 14 rfl rfl)
theorem dL_law_1589 : decode cL_law 1589 = .ok (.goto 575, 3) := dk_167 2 63 (dk_at dksL_law_62 15 rfl rfl)
theorem dL_law_1592 : decode cL_law 1592 = .ok (.aload_n 1, 1) := dk_43 (dk_at dksL_law_62 18 rfl rfl)
theorem dL_law_1593 : decode cL_law 1593 = .ok (.aload_n 0, 1) := dk_42 (dk_at dksL_law_62 19 rfl rfl)
theorem dL_law_1594 : decode cL_law 1594 = .ok (.iload 5, 2) := dk_21 5 (dk_at dksL_law_62 20 rfl rfl)
theorem dL_law_1596 : decode cL_law 1596 = .ok (.iconst 1, 1) := dk_4 (dk_at dksL_law_62 22 rfl rfl)
theorem dL_law_1597 : decode cL_law 1597 = .ok (.iadd, 1) := dk_96 (dk_at dksL_law_62 23 rfl rfl)
theorem dL_law_1598 : decode cL_law 1598 = .ok (.iaload, 1) := dk_46 (dk_at dksL_law_63 0 rfl rfl)
theorem dL_law_1599 : decode cL_law 1599 = .ok (.aload_n 0, 1) := dk_42 (dk_at dksL_law_63 1 rfl rfl)
theorem dL_law_1600 : decode cL_law 1600 = .ok (.iload 5, 2) := dk_21 5 (dk_at dksL_law_63 2 rfl rfl)
theorem dL_law_1602 : decode cL_law 1602 = .ok (.iconst 2, 1) := dk_5 (dk_at dksL_law_63 4 rfl rfl)
theorem dL_law_1603 : decode cL_law 1603 = .ok (.iadd, 1) := dk_96 (dk_at dksL_law_63 5 rfl rfl)
theorem dL_law_1604 : decode cL_law 1604 = .ok (.iaload, 1) := dk_46 (dk_at dksL_law_63 6 rfl rfl)
theorem dL_law_1605 : decode cL_law 1605 = .ok (.aload_n 3, 1) := dk_45 (dk_at dksL_law_63 7 rfl rfl)
theorem dL_law_1606 : decode cL_law 1606 = .ok (.invokestatic 200, 3) := dk_184 0 200 (dk_at dksL_law_63 8 rfl rfl)
theorem dL_law_1609 : decode cL_law 1609 = .ok (.istore 6, 2) := dk_54 6 (dk_at dksL_law_63 11 rfl rfl)
theorem dL_law_1611 : decode cL_law 1611 = .ok (.aload_n 2, 1) := dk_44 (dk_at dksL_law_63 13 rfl rfl)
theorem dL_law_1612 : decode cL_law 1612 = .ok (.aload_n 0, 1) := dk_42 (dk_at dksL_law_63 14 rfl rfl)
theorem dL_law_1613 : decode cL_law 1613 = .ok (.iload 5, 2) := dk_21 5 (dk_at dksL_law_63 15 rfl rfl)
theorem dL_law_1615 : decode cL_law 1615 = .ok (.iconst 1, 1) := dk_4 (dk_at dksL_law_63 17 rfl rfl)
theorem dL_law_1616 : decode cL_law 1616 = .ok (.iadd, 1) := dk_96 (dk_at dksL_law_63 18 rfl rfl)
theorem dL_law_1617 : decode cL_law 1617 = .ok (.iaload, 1) := dk_46 (dk_at dksL_law_63 19 rfl rfl)
theorem dL_law_1618 : decode cL_law 1618 = .ok (.aload_n 0, 1) := dk_42 (dk_at dksL_law_63 20 rfl rfl)
theorem dL_law_1619 : decode cL_law 1619 = .ok (.iload 5, 2) := dk_21 5 (dk_at dksL_law_63 21 rfl rfl)
theorem dL_law_1621 : decode cL_law 1621 = .ok (.iconst 2, 1) := dk_5 (dk_at dksL_law_63 23 rfl rfl)
theorem dL_law_1622 : decode cL_law 1622 = .ok (.iadd, 1) := dk_96 (dk_at dksL_law_64 0 rfl rfl)
theorem dL_law_1623 : decode cL_law 1623 = .ok (.iaload, 1) := dk_46 (dk_at dksL_law_64 1 rfl rfl)
theorem dL_law_1624 : decode cL_law 1624 = .ok (.invokevirtual 202, 3) := dk_182 0 202 (dk_at dksL_law_64 2 rfl rfl)
theorem dL_law_1627 : decode cL_law 1627 = .ok (.istore 7, 2) := dk_54 7 (dk_at dksL_law_64 5 rfl rfl)
theorem dL_law_1629 : decode cL_law 1629 = .ok (.aload_n 2, 1) := dk_44 (dk_at dksL_law_64 7 rfl rfl)
theorem dL_law_1630 : decode cL_law 1630 = .ok (.invokevirtual 124, 3) := dk_182 0 124 (dk_at dksL_law_64 8 rfl rfl)
theorem dL_law_1633 : decode cL_law 1633 = .ok (.iload 6, 2) := dk_21 6 (dk_at dksL_law_64 11 rfl rfl)
theorem dL_law_1635 : decode cL_law 1635 = .ok (.if_icmp .eq 5, 3) := dk_159 0 5 (dk_at dksL_law_64 13 rfl rfl)
theorem dL_law_1638 : decode cL_law 1638 = .ok (.iconst 0, 1) := dk_3 (dk_at dksL_law_64 16 rfl rfl)
theorem dL_law_1639 : decode cL_law 1639 = .ok (.ireturn, 1) := dk_172 (dk_at dksL_law_64 17 rfl rfl)
theorem dL_law_1640 : decode cL_law 1640 = .ok (.iload 6, 2) := dk_21 6 (dk_at dksL_law_64 18 rfl rfl)
theorem dL_law_1642 : decode cL_law 1642 = .ok (.ifCond .ne 15, 3) := dk_154 0 15 (dk_at dksL_law_64 20 rfl rfl)
theorem dL_law_1645 : decode cL_law 1645 = .ok (.aload_n 3, 1) := dk_45 (dk_at dksL_law_64 23 rfl rfl)
theorem dL_law_1646 : decode cL_law 1646 = .ok (.iconst 0, 1) := dk_3 (dk_at dksL_law_65 0 rfl rfl)
theorem dL_law_1647 : decode cL_law 1647 = .ok (.laload, 1) := dk_47 (dk_at dksL_law_65 1 rfl rfl)
theorem dL_law_1648 : decode cL_law 1648 = .ok (.iload 7, 2) := dk_21 7 (dk_at dksL_law_65 2 rfl rfl)
theorem dL_law_1650 : decode cL_law 1650 = .ok (.i2l, 1) := dk_133 (dk_at dksL_law_65 4 rfl rfl)
theorem dL_law_1651 : decode cL_law 1651 = .ok (.lcmp, 1) := dk_148 (dk_at dksL_law_65 5 rfl rfl)
theorem dL_law_1652 : decode cL_law 1652 = .ok (.ifCond .eq 5, 3) := dk_153 0 5 (dk_at dksL_law_65 6 rfl rfl)
theorem dL_law_1655 : decode cL_law 1655 = .ok (.iconst 0, 1) := dk_3 (dk_at dksL_law_65 9 rfl rfl)
theorem dL_law_1656 : decode cL_law 1656 = .ok (.ireturn, 1) := dk_172 (dk_at dksL_law_65 10 rfl rfl)
theorem dL_law_1657 : decode cL_law 1657 = .ok (.goto 507, 3) := dk_167 1 251 (dk_at dksL_law_65 11 rfl rfl)
theorem dL_law_1660 : decode cL_law 1660 = .ok (.aload_n 1, 1) := dk_43 (dk_at dksL_law_65 14 rfl rfl)
theorem dL_law_1661 : decode cL_law 1661 = .ok (.aload_n 0, 1) := dk_42 (dk_at dksL_law_65 15 rfl rfl)
theorem dL_law_1662 : decode cL_law 1662 = .ok (.iload 5, 2) := dk_21 5 (dk_at dksL_law_65 16 rfl rfl)
theorem dL_law_1664 : decode cL_law 1664 = .ok (.iconst 1, 1) := dk_4 (dk_at dksL_law_65 18 rfl rfl)
theorem dL_law_1665 : decode cL_law 1665 = .ok (.iadd, 1) := dk_96 (dk_at dksL_law_65 19 rfl rfl)
theorem dL_law_1666 : decode cL_law 1666 = .ok (.iaload, 1) := dk_46 (dk_at dksL_law_65 20 rfl rfl)
theorem dL_law_1667 : decode cL_law 1667 = .ok (.aload_n 3, 1) := dk_45 (dk_at dksL_law_65 21 rfl rfl)
theorem dL_law_1668 : decode cL_law 1668 = .ok (.invokestatic 203, 3) := dk_184 0 203 (dk_at dksL_law_66 0 rfl rfl)
theorem dL_law_1671 : decode cL_law 1671 = .ok (.istore 6, 2) := dk_54 6 (dk_at dksL_law_66 3 rfl rfl)
theorem dL_law_1673 : decode cL_law 1673 = .ok (.aload_n 2, 1) := dk_44 (dk_at dksL_law_66 5 rfl rfl)
theorem dL_law_1674 : decode cL_law 1674 = .ok (.aload_n 0, 1) := dk_42 (dk_at dksL_law_66 6 rfl rfl)
theorem dL_law_1675 : decode cL_law 1675 = .ok (.iload 5, 2) := dk_21 5 (dk_at dksL_law_66 7 rfl rfl)
theorem dL_law_1677 : decode cL_law 1677 = .ok (.iconst 1, 1) := dk_4 (dk_at dksL_law_66 9 rfl rfl)
theorem dL_law_1678 : decode cL_law 1678 = .ok (.iadd, 1) := dk_96 (dk_at dksL_law_66 10 rfl rfl)
theorem dL_law_1679 : decode cL_law 1679 = .ok (.iaload, 1) := dk_46 (dk_at dksL_law_66 11 rfl rfl)
theorem dL_law_1680 : decode cL_law 1680 = .ok (.invokevirtual 205, 3) := dk_182 0 205 (dk_at dksL_law_66 12 rfl rfl)
theorem dL_law_1683 : decode cL_law 1683 = .ok (.istore 7, 2) := dk_54 7 (dk_at dksL_law_66 15 rfl rfl)
theorem dL_law_1685 : decode cL_law 1685 = .ok (.aload_n 2, 1) := dk_44 (dk_at dksL_law_66 17 rfl rfl)
theorem dL_law_1686 : decode cL_law 1686 = .ok (.invokevirtual 124, 3) := dk_182 0 124 (dk_at dksL_law_66 18 rfl rfl)
theorem dL_law_1689 : decode cL_law 1689 = .ok (.iload 6, 2) := dk_21 6 (dk_at dksL_law_66 21 rfl rfl)
theorem dL_law_1691 : decode cL_law 1691 = .ok (.if_icmp .eq 5, 3) := dk_159 0 5 (dk_at dksL_law_67 0 rfl rfl)
theorem dL_law_1694 : decode cL_law 1694 = .ok (.iconst 0, 1) := dk_3 (dk_at dksL_law_67 3 rfl rfl)
theorem dL_law_1695 : decode cL_law 1695 = .ok (.ireturn, 1) := dk_172 (dk_at dksL_law_67 4 rfl rfl)
theorem dL_law_1696 : decode cL_law 1696 = .ok (.iload 6, 2) := dk_21 6 (dk_at dksL_law_67 5 rfl rfl)
theorem dL_law_1698 : decode cL_law 1698 = .ok (.ifCond .ne 15, 3) := dk_154 0 15 (dk_at dksL_law_67 7 rfl rfl)
theorem dL_law_1701 : decode cL_law 1701 = .ok (.aload_n 3, 1) := dk_45 (dk_at dksL_law_67 10 rfl rfl)
theorem dL_law_1702 : decode cL_law 1702 = .ok (.iconst 0, 1) := dk_3 (dk_at dksL_law_67 11 rfl rfl)
theorem dL_law_1703 : decode cL_law 1703 = .ok (.laload, 1) := dk_47 (dk_at dksL_law_67 12 rfl rfl)
theorem dL_law_1704 : decode cL_law 1704 = .ok (.iload 7, 2) := dk_21 7 (dk_at dksL_law_67 13 rfl rfl)
theorem dL_law_1706 : decode cL_law 1706 = .ok (.i2l, 1) := dk_133 (dk_at dksL_law_67 15 rfl rfl)
theorem dL_law_1707 : decode cL_law 1707 = .ok (.lcmp, 1) := dk_148 (dk_at dksL_law_67 16 rfl rfl)
theorem dL_law_1708 : decode cL_law 1708 = .ok (.ifCond .eq 5, 3) := dk_153 0 5 (dk_at dksL_law_67 17 rfl rfl)
theorem dL_law_1711 : decode cL_law 1711 = .ok (.iconst 0, 1) := dk_3 (dk_at dksL_law_67 20 rfl rfl)
theorem dL_law_1712 : decode cL_law 1712 = .ok (.ireturn, 1) := dk_172 (dk_at dksL_law_67 21 rfl rfl)
theorem dL_law_1713 : decode cL_law 1713 = .ok (.goto 451, 3) := dk_167 1 195 (dk_at dksL_law_68 0 rfl rfl)
theorem dL_law_1716 : decode cL_law 1716 = .ok (.aload_n 1, 1) := dk_43 (dk_at dksL_law_68 3 rfl rfl)
theorem dL_law_1717 : decode cL_law 1717 = .ok (.aload_n 0, 1) := dk_42 (dk_at dksL_law_68 4 rfl rfl)
theorem dL_law_1718 : decode cL_law 1718 = .ok (.iload 5, 2) := dk_21 5 (dk_at dksL_law_68 5 rfl rfl)
theorem dL_law_1720 : decode cL_law 1720 = .ok (.iconst 1, 1) := dk_4 (dk_at dksL_law_68 7 rfl rfl)
theorem dL_law_1721 : decode cL_law 1721 = .ok (.iadd, 1) := dk_96 (dk_at dksL_law_68 8 rfl rfl)
theorem dL_law_1722 : decode cL_law 1722 = .ok (.iaload, 1) := dk_46 (dk_at dksL_law_68 9 rfl rfl)
theorem dL_law_1723 : decode cL_law 1723 = .ok (.aload_n 3, 1) := dk_45 (dk_at dksL_law_68 10 rfl rfl)
theorem dL_law_1724 : decode cL_law 1724 = .ok (.invokestatic 206, 3) := dk_184 0 206 (dk_at dksL_law_68 11 rfl rfl)
theorem dL_law_1727 : decode cL_law 1727 = .ok (.istore 6, 2) := dk_54 6 (dk_at dksL_law_68 14 rfl rfl)
theorem dL_law_1729 : decode cL_law 1729 = .ok (.aload_n 2, 1) := dk_44 (dk_at dksL_law_68 16 rfl rfl)
theorem dL_law_1730 : decode cL_law 1730 = .ok (.aload_n 0, 1) := dk_42 (dk_at dksL_law_68 17 rfl rfl)
theorem dL_law_1731 : decode cL_law 1731 = .ok (.iload 5, 2) := dk_21 5 (dk_at dksL_law_68 18 rfl rfl)
theorem dL_law_1733 : decode cL_law 1733 = .ok (.iconst 1, 1) := dk_4 (dk_at dksL_law_68 20 rfl rfl)
theorem dL_law_1734 : decode cL_law 1734 = .ok (.iadd, 1) := dk_96 (dk_at dksL_law_68 21 rfl rfl)
theorem dL_law_1735 : decode cL_law 1735 = .ok (.iaload, 1) := dk_46 (dk_at dksL_law_68 22 rfl rfl)
theorem dL_law_1736 : decode cL_law 1736 = .ok (.invokevirtual 208, 3) := dk_182 0 208 (dk_at dksL_law_69 0 rfl rfl)
theorem dL_law_1739 : decode cL_law 1739 = .ok (.istore 7, 2) := dk_54 7 (dk_at dksL_law_69 3 rfl rfl)
theorem dL_law_1741 : decode cL_law 1741 = .ok (.aload_n 2, 1) := dk_44 (dk_at dksL_law_69 5 rfl rfl)
theorem dL_law_1742 : decode cL_law 1742 = .ok (.invokevirtual 124, 3) := dk_182 0 124 (dk_at dksL_law_69 6 rfl rfl)
theorem dL_law_1745 : decode cL_law 1745 = .ok (.iload 6, 2) := dk_21 6 (dk_at dksL_law_69 9 rfl rfl)
theorem dL_law_1747 : decode cL_law 1747 = .ok (.if_icmp .eq 5, 3) := dk_159 0 5 (dk_at dksL_law_69 11 rfl rfl)
theorem dL_law_1750 : decode cL_law 1750 = .ok (.iconst 0, 1) := dk_3 (dk_at dksL_law_69 14 rfl rfl)
theorem dL_law_1751 : decode cL_law 1751 = .ok (.ireturn, 1) := dk_172 (dk_at dksL_law_69 15 rfl rfl)
theorem dL_law_1752 : decode cL_law 1752 = .ok (.iload 6, 2) := dk_21 6 (dk_at dksL_law_69 16 rfl rfl)
theorem dL_law_1754 : decode cL_law 1754 = .ok (.ifCond .ne 15, 3) := dk_154 0 15 (dk_at dksL_law_69 18 rfl rfl)
theorem dL_law_1757 : decode cL_law 1757 = .ok (.aload_n 3, 1) := dk_45 (dk_at dksL_law_69 21 rfl rfl)
theorem dL_law_1758 : decode cL_law 1758 = .ok (.iconst 0, 1) := dk_3 (dk_at dksL_law_69 22 rfl rfl)
theorem dL_law_1759 : decode cL_law 1759 = .ok (.laload, 1) := dk_47 (dk_at dksL_law_69 23 rfl rfl)
theorem dL_law_1760 : decode cL_law 1760 = .ok (.iload 7, 2) := dk_21 7 (dk_at dksL_law_70 0 rfl rfl)
theorem dL_law_1762 : decode cL_law 1762 = .ok (.i2l, 1) := dk_133 (dk_at dksL_law_70 2 rfl rfl)
theorem dL_law_1763 : decode cL_law 1763 = .ok (.lcmp, 1) := dk_148 (dk_at dksL_law_70 3 rfl rfl)
theorem dL_law_1764 : decode cL_law 1764 = .ok (.ifCond .eq 5, 3) := dk_153 0 5 (dk_at dksL_law_70 4 rfl rfl)
theorem dL_law_1767 : decode cL_law 1767 = .ok (.iconst 0, 1) := dk_3 (dk_at dksL_law_70 7 rfl rfl)
theorem dL_law_1768 : decode cL_law 1768 = .ok (.ireturn, 1) := dk_172 (dk_at dksL_law_70 8 rfl rfl)
theorem dL_law_1769 : decode cL_law 1769 = .ok (.goto 395, 3) := dk_167 1 139 (dk_at dksL_law_70 9 rfl rfl)
theorem dL_law_1772 : decode cL_law 1772 = .ok (.aload_n 1, 1) := dk_43 (dk_at dksL_law_70 12 rfl rfl)
theorem dL_law_1773 : decode cL_law 1773 = .ok (.invokevirtual 209, 3) := dk_182 0 209 (dk_at dksL_law_70 13 rfl rfl)
theorem dL_law_1776 : decode cL_law 1776 = .ok (.aload_n 2, 1) := dk_44 (dk_at dksL_law_70 16 rfl rfl)
theorem dL_law_1777 : decode cL_law 1777 = .ok (.invokevirtual 212, 3) := dk_182 0 212 (dk_at dksL_law_70 17 rfl rfl)
theorem dL_law_1780 : decode cL_law 1780 = .ok (.if_icmp .eq 384, 3) := dk_159 1 128 (dk_at dksL_law_70 20 rfl rfl)
theorem dL_law_1783 : decode cL_law 1783 = .ok (.iconst 0, 1) := dk_3 (dk_at dksL_law_70 23 rfl rfl)
theorem dL_law_1784 : decode cL_law 1784 = .ok (.ireturn, 1) := dk_172 (dk_at dksL_law_71 0 rfl rfl)
theorem dL_law_1785 : decode cL_law 1785 = .ok (.aload_n 1, 1) := dk_43 (dk_at dksL_law_71 1 rfl rfl)
theorem dL_law_1786 : decode cL_law 1786 = .ok (.aload_n 0, 1) := dk_42 (dk_at dksL_law_71 2 rfl rfl)
theorem dL_law_1787 : decode cL_law 1787 = .ok (.iload 5, 2) := dk_21 5 (dk_at dksL_law_71 3 rfl rfl)
theorem dL_law_1789 : decode cL_law 1789 = .ok (.iconst 1, 1) := dk_4 (dk_at dksL_law_71 5 rfl rfl)
theorem dL_law_1790 : decode cL_law 1790 = .ok (.iadd, 1) := dk_96 (dk_at dksL_law_71 6 rfl rfl)
theorem dL_law_1791 : decode cL_law 1791 = .ok (.iaload, 1) := dk_46 (dk_at dksL_law_71 7 rfl rfl)
theorem dL_law_1792 : decode cL_law 1792 = .ok (.aload_n 3, 1) := dk_45 (dk_at dksL_law_71 8 rfl rfl)
theorem dL_law_1793 : decode cL_law 1793 = .ok (.invokestatic 213, 3) := dk_184 0 213 (dk_at dksL_law_71 9 rfl rfl)
theorem dL_law_1796 : decode cL_law 1796 = .ok (.istore 6, 2) := dk_54 6 (dk_at dksL_law_71 12 rfl rfl)
theorem dL_law_1798 : decode cL_law 1798 = .ok (.aload_n 2, 1) := dk_44 (dk_at dksL_law_71 14 rfl rfl)
theorem dL_law_1799 : decode cL_law 1799 = .ok (.aload_n 0, 1) := dk_42 (dk_at dksL_law_71 15 rfl rfl)
theorem dL_law_1800 : decode cL_law 1800 = .ok (.iload 5, 2) := dk_21 5 (dk_at dksL_law_71 16 rfl rfl)
theorem dL_law_1802 : decode cL_law 1802 = .ok (.iconst 1, 1) := dk_4 (dk_at dksL_law_71 18 rfl rfl)
theorem dL_law_1803 : decode cL_law 1803 = .ok (.iadd, 1) := dk_96 (dk_at dksL_law_71 19 rfl rfl)
theorem dL_law_1804 : decode cL_law 1804 = .ok (.iaload, 1) := dk_46 (dk_at dksL_law_71 20 rfl rfl)
theorem dL_law_1805 : decode cL_law 1805 = .ok (.invokevirtual 215, 3) := dk_182 0 215 (dk_at dksL_law_71 21 rfl rfl)
theorem dL_law_1808 : decode cL_law 1808 = .ok (.istore 7, 2) := dk_54 7 (dk_at dksL_law_72 0 rfl rfl)
theorem dL_law_1810 : decode cL_law 1810 = .ok (.aload_n 2, 1) := dk_44 (dk_at dksL_law_72 2 rfl rfl)
theorem dL_law_1811 : decode cL_law 1811 = .ok (.invokevirtual 124, 3) := dk_182 0 124 (dk_at dksL_law_72 3 rfl rfl)
theorem dL_law_1814 : decode cL_law 1814 = .ok (.iload 6, 2) := dk_21 6 (dk_at dksL_law_72 6 rfl rfl)
theorem dL_law_1816 : decode cL_law 1816 = .ok (.if_icmp .eq 5, 3) := dk_159 0 5 (dk_at dksL_law_72 8 rfl rfl)
theorem dL_law_1819 : decode cL_law 1819 = .ok (.iconst 0, 1) := dk_3 (dk_at dksL_law_72 11 rfl rfl)
theorem dL_law_1820 : decode cL_law 1820 = .ok (.ireturn, 1) := dk_172 (dk_at dksL_law_72 12 rfl rfl)
theorem dL_law_1821 : decode cL_law 1821 = .ok (.iload 6, 2) := dk_21 6 (dk_at dksL_law_72 13 rfl rfl)
theorem dL_law_1823 : decode cL_law 1823 = .ok (.ifCond .ne 15, 3) := dk_154 0 15 (dk_at dksL_law_72 15 rfl rfl)
theorem dL_law_1826 : decode cL_law 1826 = .ok (.aload_n 3, 1) := dk_45 (dk_at dksL_law_72 18 rfl rfl)
theorem dL_law_1827 : decode cL_law 1827 = .ok (.iconst 0, 1) := dk_3 (dk_at dksL_law_72 19 rfl rfl)
theorem dL_law_1828 : decode cL_law 1828 = .ok (.laload, 1) := dk_47 (dk_at dksL_law_72 20 rfl rfl)
theorem dL_law_1829 : decode cL_law 1829 = .ok (.iload 7, 2) := dk_21 7 (dk_at dksL_law_72 21 rfl rfl)
theorem dL_law_1831 : decode cL_law 1831 = .ok (.i2l, 1) := dk_133 (dk_at dksL_law_72 23 rfl rfl)
theorem dL_law_1832 : decode cL_law 1832 = .ok (.lcmp, 1) := dk_148 (dk_at dksL_law_73 0 rfl rfl)
theorem dL_law_1833 : decode cL_law 1833 = .ok (.ifCond .eq 5, 3) := dk_153 0 5 (dk_at dksL_law_73 1 rfl rfl)
theorem dL_law_1836 : decode cL_law 1836 = .ok (.iconst 0, 1) := dk_3 (dk_at dksL_law_73 4 rfl rfl)
theorem dL_law_1837 : decode cL_law 1837 = .ok (.ireturn, 1) := dk_172 (dk_at dksL_law_73 5 rfl rfl)
theorem dL_law_1838 : decode cL_law 1838 = .ok (.goto 326, 3) := dk_167 1 70 (dk_at dksL_law_73 6 rfl rfl)
theorem dL_law_1841 : decode cL_law 1841 = .ok (.aload_n 1, 1) := dk_43 (dk_at dksL_law_73 9 rfl rfl)
theorem dL_law_1842 : decode cL_law 1842 = .ok (.aload_n 0, 1) := dk_42 (dk_at dksL_law_73 10 rfl rfl)
theorem dL_law_1843 : decode cL_law 1843 = .ok (.iload 5, 2) := dk_21 5 (dk_at dksL_law_73 11 rfl rfl)
theorem dL_law_1845 : decode cL_law 1845 = .ok (.iconst 1, 1) := dk_4 (dk_at dksL_law_73 13 rfl rfl)
theorem dL_law_1846 : decode cL_law 1846 = .ok (.iadd, 1) := dk_96 (dk_at dksL_law_73 14 rfl rfl)
theorem dL_law_1847 : decode cL_law 1847 = .ok (.iaload, 1) := dk_46 (dk_at dksL_law_73 15 rfl rfl)
theorem dL_law_1848 : decode cL_law 1848 = .ok (.aload_n 0, 1) := dk_42 (dk_at dksL_law_73 16 rfl rfl)
theorem dL_law_1849 : decode cL_law 1849 = .ok (.iload 5, 2) := dk_21 5 (dk_at dksL_law_73 17 rfl rfl)
theorem dL_law_1851 : decode cL_law 1851 = .ok (.iconst 2, 1) := dk_5 (dk_at dksL_law_73 19 rfl rfl)
theorem dL_law_1852 : decode cL_law 1852 = .ok (.iadd, 1) := dk_96 (dk_at dksL_law_73 20 rfl rfl)
theorem dL_law_1853 : decode cL_law 1853 = .ok (.iaload, 1) := dk_46 (dk_at dksL_law_73 21 rfl rfl)
theorem dL_law_1854 : decode cL_law 1854 = .ok (.aload_n 3, 1) := dk_45 (dk_at dksL_law_73 22 rfl rfl)
theorem dL_law_1855 : decode cL_law 1855 = .ok (.invokestatic 216, 3) := dk_184 0 216 (dk_at dksL_law_74 0 rfl rfl)
theorem dL_law_1858 : decode cL_law 1858 = .ok (.istore 6, 2) := dk_54 6 (dk_at dksL_law_74 3 rfl rfl)
theorem dL_law_1860 : decode cL_law 1860 = .ok (.aload_n 2, 1) := dk_44 (dk_at dksL_law_74 5 rfl rfl)
theorem dL_law_1861 : decode cL_law 1861 = .ok (.aload_n 0, 1) := dk_42 (dk_at dksL_law_74 6 rfl rfl)
theorem dL_law_1862 : decode cL_law 1862 = .ok (.iload 5, 2) := dk_21 5 (dk_at dksL_law_74 7 rfl rfl)
theorem dL_law_1864 : decode cL_law 1864 = .ok (.iconst 1, 1) := dk_4 (dk_at dksL_law_74 9 rfl rfl)
theorem dL_law_1865 : decode cL_law 1865 = .ok (.iadd, 1) := dk_96 (dk_at dksL_law_74 10 rfl rfl)
theorem dL_law_1866 : decode cL_law 1866 = .ok (.iaload, 1) := dk_46 (dk_at dksL_law_74 11 rfl rfl)
theorem dL_law_1867 : decode cL_law 1867 = .ok (.aload_n 0, 1) := dk_42 (dk_at dksL_law_74 12 rfl rfl)
theorem dL_law_1868 : decode cL_law 1868 = .ok (.iload 5, 2) := dk_21 5 (dk_at dksL_law_74 13 rfl rfl)
theorem dL_law_1870 : decode cL_law 1870 = .ok (.iconst 2, 1) := dk_5 (dk_at dksL_law_74 15 rfl rfl)
theorem dL_law_1871 : decode cL_law 1871 = .ok (.iadd, 1) := dk_96 (dk_at dksL_law_74 16 rfl rfl)
theorem dL_law_1872 : decode cL_law 1872 = .ok (.iaload, 1) := dk_46 (dk_at dksL_law_74 17 rfl rfl)
theorem dL_law_1873 : decode cL_law 1873 = .ok (.invokevirtual 218, 3) := dk_182 0 218 (dk_at dksL_law_74 18 rfl rfl)
theorem dL_law_1876 : decode cL_law 1876 = .ok (.istore 7, 2) := dk_54 7 (dk_at dksL_law_74 21 rfl rfl)
theorem dL_law_1878 : decode cL_law 1878 = .ok (.aload_n 2, 1) := dk_44 (dk_at dksL_law_74 23 rfl rfl)
theorem dL_law_1879 : decode cL_law 1879 = .ok (.invokevirtual 124, 3) := dk_182 0 124 (dk_at dksL_law_75 0 rfl rfl)
theorem dL_law_1882 : decode cL_law 1882 = .ok (.iload 6, 2) := dk_21 6 (dk_at dksL_law_75 3 rfl rfl)
theorem dL_law_1884 : decode cL_law 1884 = .ok (.if_icmp .eq 5, 3) := dk_159 0 5 (dk_at dksL_law_75 5 rfl rfl)
theorem dL_law_1887 : decode cL_law 1887 = .ok (.iconst 0, 1) := dk_3 (dk_at dksL_law_75 8 rfl rfl)
theorem dL_law_1888 : decode cL_law 1888 = .ok (.ireturn, 1) := dk_172 (dk_at dksL_law_75 9 rfl rfl)
theorem dL_law_1889 : decode cL_law 1889 = .ok (.iload 6, 2) := dk_21 6 (dk_at dksL_law_75 10 rfl rfl)
theorem dL_law_1891 : decode cL_law 1891 = .ok (.ifCond .ne 15, 3) := dk_154 0 15 (dk_at dksL_law_75 12 rfl rfl)
theorem dL_law_1894 : decode cL_law 1894 = .ok (.aload_n 3, 1) := dk_45 (dk_at dksL_law_75 15 rfl rfl)
theorem dL_law_1895 : decode cL_law 1895 = .ok (.iconst 0, 1) := dk_3 (dk_at dksL_law_75 16 rfl rfl)
theorem dL_law_1896 : decode cL_law 1896 = .ok (.laload, 1) := dk_47 (dk_at dksL_law_75 17 rfl rfl)
theorem dL_law_1897 : decode cL_law 1897 = .ok (.iload 7, 2) := dk_21 7 (dk_at dksL_law_75 18 rfl rfl)
theorem dL_law_1899 : decode cL_law 1899 = .ok (.i2l, 1) := dk_133 (dk_at dksL_law_75 20 rfl rfl)
theorem dL_law_1900 : decode cL_law 1900 = .ok (.lcmp, 1) := dk_148 (dk_at dksL_law_75 21 rfl rfl)
theorem dL_law_1901 : decode cL_law 1901 = .ok (.ifCond .eq 5, 3) := dk_153 0 5 (dk_at dksL_law_76 0 rfl rfl)
theorem dL_law_1904 : decode cL_law 1904 = .ok (.iconst 0, 1) := dk_3 (dk_at dksL_law_76 3 rfl rfl)
theorem dL_law_1905 : decode cL_law 1905 = .ok (.ireturn, 1) := dk_172 (dk_at dksL_law_76 4 rfl rfl)
theorem dL_law_1906 : decode cL_law 1906 = .ok (.goto 258, 3) := dk_167 1 2 (dk_at dksL_law_76 5 rfl rfl)
theorem dL_law_1909 : decode cL_law 1909 = .ok (.aload_n 1, 1) := dk_43 (dk_at dksL_law_76 8 rfl rfl)
theorem dL_law_1910 : decode cL_law 1910 = .ok (.invokevirtual 219, 3) := dk_182 0 219 (dk_at dksL_law_76 9 rfl rfl)
theorem dL_law_1913 : decode cL_law 1913 = .ok (.aload_n 2, 1) := dk_44 (dk_at dksL_law_76 12 rfl rfl)
theorem dL_law_1914 : decode cL_law 1914 = .ok (.invokevirtual 222, 3) := dk_182 0 222 (dk_at dksL_law_76 13 rfl rfl)
theorem dL_law_1917 : decode cL_law 1917 = .ok (.if_icmp .eq 247, 3) := dk_159 0 247 (dk_at dksL_law_76 16 rfl rfl)
theorem dL_law_1920 : decode cL_law 1920 = .ok (.iconst 0, 1) := dk_3 (dk_at dksL_law_76 19 rfl rfl)
theorem dL_law_1921 : decode cL_law 1921 = .ok (.ireturn, 1) := dk_172 (dk_at dksL_law_76 20 rfl rfl)
theorem dL_law_1922 : decode cL_law 1922 = .ok (.aload_n 1, 1) := dk_43 (dk_at dksL_law_76 21 rfl rfl)
theorem dL_law_1923 : decode cL_law 1923 = .ok (.aload_n 0, 1) := dk_42 (dk_at dksL_law_76 22 rfl rfl)
theorem dL_law_1924 : decode cL_law 1924 = .ok (.iload 5, 2) := dk_21 5 (dk_at dksL_law_77 0 rfl rfl)
theorem dL_law_1926 : decode cL_law 1926 = .ok (.iconst 1, 1) := dk_4 (dk_at dksL_law_77 2 rfl rfl)
theorem dL_law_1927 : decode cL_law 1927 = .ok (.iadd, 1) := dk_96 (dk_at dksL_law_77 3 rfl rfl)
theorem dL_law_1928 : decode cL_law 1928 = .ok (.iaload, 1) := dk_46 (dk_at dksL_law_77 4 rfl rfl)
theorem dL_law_1929 : decode cL_law 1929 = .ok (.aload_n 3, 1) := dk_45 (dk_at dksL_law_77 5 rfl rfl)
theorem dL_law_1930 : decode cL_law 1930 = .ok (.invokestatic 223, 3) := dk_184 0 223 (dk_at dksL_law_77 6 rfl rfl)
theorem dL_law_1933 : decode cL_law 1933 = .ok (.istore 6, 2) := dk_54 6 (dk_at dksL_law_77 9 rfl rfl)
theorem dL_law_1935 : decode cL_law 1935 = .ok (.aload_n 2, 1) := dk_44 (dk_at dksL_law_77 11 rfl rfl)
theorem dL_law_1936 : decode cL_law 1936 = .ok (.aload_n 0, 1) := dk_42 (dk_at dksL_law_77 12 rfl rfl)
theorem dL_law_1937 : decode cL_law 1937 = .ok (.iload 5, 2) := dk_21 5 (dk_at dksL_law_77 13 rfl rfl)
theorem dL_law_1939 : decode cL_law 1939 = .ok (.iconst 1, 1) := dk_4 (dk_at dksL_law_77 15 rfl rfl)
theorem dL_law_1940 : decode cL_law 1940 = .ok (.iadd, 1) := dk_96 (dk_at dksL_law_77 16 rfl rfl)
theorem dL_law_1941 : decode cL_law 1941 = .ok (.iaload, 1) := dk_46 (dk_at dksL_law_77 17 rfl rfl)
theorem dL_law_1942 : decode cL_law 1942 = .ok (.invokevirtual 225, 3) := dk_182 0 225 (dk_at dksL_law_77 18 rfl rfl)
theorem dL_law_1945 : decode cL_law 1945 = .ok (.istore 7, 2) := dk_54 7 (dk_at dksL_law_77 21 rfl rfl)
theorem dL_law_1947 : decode cL_law 1947 = .ok (.aload_n 2, 1) := dk_44 (dk_at dksL_law_77 23 rfl rfl)
theorem dL_law_1948 : decode cL_law 1948 = .ok (.invokevirtual 124, 3) := dk_182 0 124 (dk_at dksL_law_78 0 rfl rfl)
theorem dL_law_1951 : decode cL_law 1951 = .ok (.iload 6, 2) := dk_21 6 (dk_at dksL_law_78 3 rfl rfl)
theorem dL_law_1953 : decode cL_law 1953 = .ok (.if_icmp .eq 5, 3) := dk_159 0 5 (dk_at dksL_law_78 5 rfl rfl)
theorem dL_law_1956 : decode cL_law 1956 = .ok (.iconst 0, 1) := dk_3 (dk_at dksL_law_78 8 rfl rfl)
theorem dL_law_1957 : decode cL_law 1957 = .ok (.ireturn, 1) := dk_172 (dk_at dksL_law_78 9 rfl rfl)
theorem dL_law_1958 : decode cL_law 1958 = .ok (.iload 6, 2) := dk_21 6 (dk_at dksL_law_78 10 rfl rfl)
theorem dL_law_1960 : decode cL_law 1960 = .ok (.ifCond .ne 15, 3) := dk_154 0 15 (dk_at dksL_law_78 12 rfl rfl)
theorem dL_law_1963 : decode cL_law 1963 = .ok (.aload_n 3, 1) := dk_45 (dk_at dksL_law_78 15 rfl rfl)
theorem dL_law_1964 : decode cL_law 1964 = .ok (.iconst 0, 1) := dk_3 (dk_at dksL_law_78 16 rfl rfl)
theorem dL_law_1965 : decode cL_law 1965 = .ok (.laload, 1) := dk_47 (dk_at dksL_law_78 17 rfl rfl)
theorem dL_law_1966 : decode cL_law 1966 = .ok (.iload 7, 2) := dk_21 7 (dk_at dksL_law_78 18 rfl rfl)
theorem dL_law_1968 : decode cL_law 1968 = .ok (.i2l, 1) := dk_133 (dk_at dksL_law_78 20 rfl rfl)
theorem dL_law_1969 : decode cL_law 1969 = .ok (.lcmp, 1) := dk_148 (dk_at dksL_law_78 21 rfl rfl)
theorem dL_law_1970 : decode cL_law 1970 = .ok (.ifCond .eq 5, 3) := dk_153 0 5 (dk_at dksL_law_79 0 rfl rfl)
theorem dL_law_1973 : decode cL_law 1973 = .ok (.iconst 0, 1) := dk_3 (dk_at dksL_law_79 3 rfl rfl)
theorem dL_law_1974 : decode cL_law 1974 = .ok (.ireturn, 1) := dk_172 (dk_at dksL_law_79 4 rfl rfl)
theorem dL_law_1975 : decode cL_law 1975 = .ok (.goto 189, 3) := dk_167 0 189 (dk_at dksL_law_79 5 rfl rfl)
theorem dL_law_1978 : decode cL_law 1978 = .ok (.aload_n 1, 1) := dk_43 (dk_at dksL_law_79 8 rfl rfl)
theorem dL_law_1979 : decode cL_law 1979 = .ok (.invokevirtual 226, 3) := dk_182 0 226 (dk_at dksL_law_79 9 rfl rfl)
theorem dL_law_1982 : decode cL_law 1982 = .ok (.aload_n 2, 1) := dk_44 (dk_at dksL_law_79 12 rfl rfl)
theorem dL_law_1983 : decode cL_law 1983 = .ok (.invokevirtual 229, 3) := dk_182 0 229 (dk_at dksL_law_79 13 rfl rfl)
theorem dL_law_1986 : decode cL_law 1986 = .ok (.if_icmp .eq 178, 3) := dk_159 0 178 (dk_at dksL_law_79 16 rfl rfl)
theorem dL_law_1989 : decode cL_law 1989 = .ok (.iconst 0, 1) := dk_3 (dk_at dksL_law_79 19 rfl rfl)
theorem dL_law_1990 : decode cL_law 1990 = .ok (.ireturn, 1) := dk_172 (dk_at dksL_law_79 20 rfl rfl)
theorem dL_law_1991 : decode cL_law 1991 = .ok (.aload_n 1, 1) := dk_43 (dk_at dksL_law_79 21 rfl rfl)
theorem dL_law_1992 : decode cL_law 1992 = .ok (.aload_n 0, 1) := dk_42 (dk_at dksL_law_79 22 rfl rfl)
theorem dL_law_1993 : decode cL_law 1993 = .ok (.iload 5, 2) := dk_21 5 (dk_at dksL_law_80 0 rfl rfl)
theorem dL_law_1995 : decode cL_law 1995 = .ok (.iconst 1, 1) := dk_4 (dk_at dksL_law_80 2 rfl rfl)
theorem dL_law_1996 : decode cL_law 1996 = .ok (.iadd, 1) := dk_96 (dk_at dksL_law_80 3 rfl rfl)
theorem dL_law_1997 : decode cL_law 1997 = .ok (.iaload, 1) := dk_46 (dk_at dksL_law_80 4 rfl rfl)
theorem dL_law_1998 : decode cL_law 1998 = .ok (.i2c, 1) := dk_146 (dk_at dksL_law_80 5 rfl rfl)
theorem dL_law_1999 : decode cL_law 1999 = .ok (.invokestatic 230, 3) := dk_184 0 230 (dk_at dksL_law_80 6 rfl rfl)
theorem dL_law_2002 : decode cL_law 2002 = .ok (.istore 6, 2) := dk_54 6 (dk_at dksL_law_80 9 rfl rfl)
theorem dL_law_2004 : decode cL_law 2004 = .ok (.aload_n 2, 1) := dk_44 (dk_at dksL_law_80 11 rfl rfl)
theorem dL_law_2005 : decode cL_law 2005 = .ok (.aload_n 0, 1) := dk_42 (dk_at dksL_law_80 12 rfl rfl)
theorem dL_law_2006 : decode cL_law 2006 = .ok (.iload 5, 2) := dk_21 5 (dk_at dksL_law_80 13 rfl rfl)
theorem dL_law_2008 : decode cL_law 2008 = .ok (.iconst 1, 1) := dk_4 (dk_at dksL_law_80 15 rfl rfl)
theorem dL_law_2009 : decode cL_law 2009 = .ok (.iadd, 1) := dk_96 (dk_at dksL_law_80 16 rfl rfl)
theorem dL_law_2010 : decode cL_law 2010 = .ok (.iaload, 1) := dk_46 (dk_at dksL_law_80 17 rfl rfl)
theorem dL_law_2011 : decode cL_law 2011 = .ok (.i2c, 1) := dk_146 (dk_at dksL_law_80 18 rfl rfl)
theorem dL_law_2012 : decode cL_law 2012 = .ok (.invokevirtual 233, 3) := dk_182 0 233 (dk_at dksL_law_80 19 rfl rfl)
theorem dL_law_2015 : decode cL_law 2015 = .ok (.aload_n 2, 1) := dk_44 (dk_at dksL_law_80 22 rfl rfl)
theorem dL_law_2016 : decode cL_law 2016 = .ok (.invokevirtual 124, 3) := dk_182 0 124 (dk_at dksL_law_81 0 rfl rfl)
theorem dL_law_2019 : decode cL_law 2019 = .ok (.iload 6, 2) := dk_21 6 (dk_at dksL_law_81 3 rfl rfl)
theorem dL_law_2021 : decode cL_law 2021 = .ok (.if_icmp .eq 5, 3) := dk_159 0 5 (dk_at dksL_law_81 5 rfl rfl)
theorem dL_law_2024 : decode cL_law 2024 = .ok (.iconst 0, 1) := dk_3 (dk_at dksL_law_81 8 rfl rfl)
theorem dL_law_2025 : decode cL_law 2025 = .ok (.ireturn, 1) := dk_172 (dk_at dksL_law_81 9 rfl rfl)
theorem dL_law_2026 : decode cL_law 2026 = .ok (.goto 138, 3) := dk_167 0 138 (dk_at dksL_law_81 10 rfl rfl)
theorem dL_law_2029 : decode cL_law 2029 = .ok (.aload_n 1, 1) := dk_43 (dk_at dksL_law_81 13 rfl rfl)
theorem dL_law_2030 : decode cL_law 2030 = .ok (.aload_n 3, 1) := dk_45 (dk_at dksL_law_81 14 rfl rfl)
theorem dL_law_2031 : decode cL_law 2031 = .ok (.invokestatic 234, 3) := dk_184 0 234 (dk_at dksL_law_81 15 rfl rfl)
theorem dL_law_2034 : decode cL_law 2034 = .ok (.istore 6, 2) := dk_54 6 (dk_at dksL_law_81 18 rfl rfl)
theorem dL_law_2036 : decode cL_law 2036 = .ok (.aload_n 2, 1) := dk_44 (dk_at dksL_law_81 20 rfl rfl)
theorem dL_law_2037 : decode cL_law 2037 = .ok (.invokevirtual 237, 3) := dk_182 0 237 (dk_at dksL_law_81 21 rfl rfl)
theorem dL_law_2040 : decode cL_law 2040 = .ok (.istore 7, 2) := dk_54 7 (dk_at dksL_law_82 0 rfl rfl)
theorem dL_law_2042 : decode cL_law 2042 = .ok (.aload_n 2, 1) := dk_44 (dk_at dksL_law_82 2 rfl rfl)
theorem dL_law_2043 : decode cL_law 2043 = .ok (.invokevirtual 124, 3) := dk_182 0 124 (dk_at dksL_law_82 3 rfl rfl)
theorem dL_law_2046 : decode cL_law 2046 = .ok (.iload 6, 2) := dk_21 6 (dk_at dksL_law_82 6 rfl rfl)
theorem dL_law_2048 : decode cL_law 2048 = .ok (.if_icmp .eq 5, 3) := dk_159 0 5 (dk_at dksL_law_82 8 rfl rfl)
theorem dL_law_2051 : decode cL_law 2051 = .ok (.iconst 0, 1) := dk_3 (dk_at dksL_law_82 11 rfl rfl)
theorem dL_law_2052 : decode cL_law 2052 = .ok (.ireturn, 1) := dk_172 (dk_at dksL_law_82 12 rfl rfl)
theorem dL_law_2053 : decode cL_law 2053 = .ok (.iload 6, 2) := dk_21 6 (dk_at dksL_law_82 13 rfl rfl)
theorem dL_law_2055 : decode cL_law 2055 = .ok (.ifCond .ne 15, 3) := dk_154 0 15 (dk_at dksL_law_82 15 rfl rfl)
theorem dL_law_2058 : decode cL_law 2058 = .ok (.aload_n 3, 1) := dk_45 (dk_at dksL_law_82 18 rfl rfl)
theorem dL_law_2059 : decode cL_law 2059 = .ok (.iconst 0, 1) := dk_3 (dk_at dksL_law_82 19 rfl rfl)
theorem dL_law_2060 : decode cL_law 2060 = .ok (.laload, 1) := dk_47 (dk_at dksL_law_82 20 rfl rfl)
theorem dL_law_2061 : decode cL_law 2061 = .ok (.iload 7, 2) := dk_21 7 (dk_at dksL_law_82 21 rfl rfl)
theorem dL_law_2063 : decode cL_law 2063 = .ok (.i2l, 1) := dk_133 (dk_at dksL_law_82 23 rfl rfl)
theorem dL_law_2064 : decode cL_law 2064 = .ok (.lcmp, 1) := dk_148 (dk_at dksL_law_83 0 rfl rfl)
theorem dL_law_2065 : decode cL_law 2065 = .ok (.ifCond .eq 5, 3) := dk_153 0 5 (dk_at dksL_law_83 1 rfl rfl)
theorem dL_law_2068 : decode cL_law 2068 = .ok (.iconst 0, 1) := dk_3 (dk_at dksL_law_83 4 rfl rfl)
theorem dL_law_2069 : decode cL_law 2069 = .ok (.ireturn, 1) := dk_172 (dk_at dksL_law_83 5 rfl rfl)
theorem dL_law_2070 : decode cL_law 2070 = .ok (.goto 94, 3) := dk_167 0 94 (dk_at dksL_law_83 6 rfl rfl)
theorem dL_law_2073 : decode cL_law 2073 = .ok (.aload_n 1, 1) := dk_43 (dk_at dksL_law_83 9 rfl rfl)
theorem dL_law_2074 : decode cL_law 2074 = .ok (.aload_n 0, 1) := dk_42 (dk_at dksL_law_83 10 rfl rfl)
theorem dL_law_2075 : decode cL_law 2075 = .ok (.iload 5, 2) := dk_21 5 (dk_at dksL_law_83 11 rfl rfl)
theorem dL_law_2077 : decode cL_law 2077 = .ok (.iconst 1, 1) := dk_4 (dk_at dksL_law_83 13 rfl rfl)
theorem dL_law_2078 : decode cL_law 2078 = .ok (.iadd, 1) := dk_96 (dk_at dksL_law_83 14 rfl rfl)
theorem dL_law_2079 : decode cL_law 2079 = .ok (.iaload, 1) := dk_46 (dk_at dksL_law_83 15 rfl rfl)
theorem dL_law_2080 : decode cL_law 2080 = .ok (.aload_n 3, 1) := dk_45 (dk_at dksL_law_83 16 rfl rfl)
theorem dL_law_2081 : decode cL_law 2081 = .ok (.invokestatic 238, 3) := dk_184 0 238 (dk_at dksL_law_83 17 rfl rfl)
theorem dL_law_2084 : decode cL_law 2084 = .ok (.istore 6, 2) := dk_54 6 (dk_at dksL_law_83 20 rfl rfl)
theorem dL_law_2086 : decode cL_law 2086 = .ok (.aload_n 2, 1) := dk_44 (dk_at dksL_law_83 22 rfl rfl)
theorem dL_law_2087 : decode cL_law 2087 = .ok (.aload_n 0, 1) := dk_42 (dk_at dksL_law_83 23 rfl rfl)
theorem dL_law_2088 : decode cL_law 2088 = .ok (.iload 5, 2) := dk_21 5 (dk_at dksL_law_84 0 rfl rfl)
theorem dL_law_2090 : decode cL_law 2090 = .ok (.iconst 1, 1) := dk_4 (dk_at dksL_law_84 2 rfl rfl)
theorem dL_law_2091 : decode cL_law 2091 = .ok (.iadd, 1) := dk_96 (dk_at dksL_law_84 3 rfl rfl)
theorem dL_law_2092 : decode cL_law 2092 = .ok (.iaload, 1) := dk_46 (dk_at dksL_law_84 4 rfl rfl)
theorem dL_law_2093 : decode cL_law 2093 = .ok (.invokevirtual 240, 3) := dk_182 0 240 (dk_at dksL_law_84 5 rfl rfl)
theorem dL_law_2096 : decode cL_law 2096 = .ok (.istore 7, 2) := dk_54 7 (dk_at dksL_law_84 8 rfl rfl)
theorem dL_law_2098 : decode cL_law 2098 = .ok (.aload_n 2, 1) := dk_44 (dk_at dksL_law_84 10 rfl rfl)
theorem dL_law_2099 : decode cL_law 2099 = .ok (.invokevirtual 124, 3) := dk_182 0 124 (dk_at dksL_law_84 11 rfl rfl)
theorem dL_law_2102 : decode cL_law 2102 = .ok (.iload 6, 2) := dk_21 6 (dk_at dksL_law_84 14 rfl rfl)
theorem dL_law_2104 : decode cL_law 2104 = .ok (.if_icmp .eq 5, 3) := dk_159 0 5 (dk_at dksL_law_84 16 rfl rfl)
theorem dL_law_2107 : decode cL_law 2107 = .ok (.iconst 0, 1) := dk_3 (dk_at dksL_law_84 19 rfl rfl)
theorem dL_law_2108 : decode cL_law 2108 = .ok (.ireturn, 1) := dk_172 (dk_at dksL_law_84 20 rfl rfl)
theorem dL_law_2109 : decode cL_law 2109 = .ok (.iload 6, 2) := dk_21 6 (dk_at dksL_law_84 21 rfl rfl)
theorem dL_law_2111 : decode cL_law 2111 = .ok (.ifCond .ne 15, 3) := dk_154 0 15 (dk_at dksL_law_85 0 rfl rfl)
theorem dL_law_2114 : decode cL_law 2114 = .ok (.aload_n 3, 1) := dk_45 (dk_at dksL_law_85 3 rfl rfl)
theorem dL_law_2115 : decode cL_law 2115 = .ok (.iconst 0, 1) := dk_3 (dk_at dksL_law_85 4 rfl rfl)
theorem dL_law_2116 : decode cL_law 2116 = .ok (.laload, 1) := dk_47 (dk_at dksL_law_85 5 rfl rfl)
theorem dL_law_2117 : decode cL_law 2117 = .ok (.iload 7, 2) := dk_21 7 (dk_at dksL_law_85 6 rfl rfl)
theorem dL_law_2119 : decode cL_law 2119 = .ok (.i2l, 1) := dk_133 (dk_at dksL_law_85 8 rfl rfl)
theorem dL_law_2120 : decode cL_law 2120 = .ok (.lcmp, 1) := dk_148 (dk_at dksL_law_85 9 rfl rfl)
theorem dL_law_2121 : decode cL_law 2121 = .ok (.ifCond .eq 5, 3) := dk_153 0 5 (dk_at dksL_law_85 10 rfl rfl)
theorem dL_law_2124 : decode cL_law 2124 = .ok (.iconst 0, 1) := dk_3 (dk_at dksL_law_85 13 rfl rfl)
theorem dL_law_2125 : decode cL_law 2125 = .ok (.ireturn, 1) := dk_172 (dk_at dksL_law_85 14 rfl rfl)
theorem dL_law_2126 : decode cL_law 2126 = .ok (.goto 38, 3) := dk_167 0 38 (dk_at dksL_law_85 15 rfl rfl)
theorem dL_law_2129 : decode cL_law 2129 = .ok (.aload_n 1, 1) := dk_43 (dk_at dksL_law_85 18 rfl rfl)
theorem dL_law_2130 : decode cL_law 2130 = .ok (.invokevirtual 241, 3) := dk_182 0 241 (dk_at dksL_law_85 19 rfl rfl)
theorem dL_law_2133 : decode cL_law 2133 = .ok (.aload_n 2, 1) := dk_44 (dk_at dksL_law_85 22 rfl rfl)
theorem dL_law_2134 : decode cL_law 2134 = .ok (.invokevirtual 244, 3) := dk_182 0 244 (dk_at dksL_law_86 0 rfl rfl)
theorem dL_law_2137 : decode cL_law 2137 = .ok (.goto 27, 3) := dk_167 0 27 (dk_at dksL_law_86 3 rfl rfl)
theorem dL_law_2140 : decode cL_law 2140 = .ok (.aload_n 1, 1) := dk_43 (dk_at dksL_law_86 6 rfl rfl)
theorem dL_law_2141 : decode cL_law 2141 = .ok (.invokestatic 245, 3) := dk_184 0 245 (dk_at dksL_law_86 7 rfl rfl)
theorem dL_law_2144 : decode cL_law 2144 = .ok (.istore 6, 2) := dk_54 6 (dk_at dksL_law_86 10 rfl rfl)
theorem dL_law_2146 : decode cL_law 2146 = .ok (.aload_n 2, 1) := dk_44 (dk_at dksL_law_86 12 rfl rfl)
theorem dL_law_2147 : decode cL_law 2147 = .ok (.invokevirtual 248, 3) := dk_182 0 248 (dk_at dksL_law_86 13 rfl rfl)
theorem dL_law_2150 : decode cL_law 2150 = .ok (.aload_n 2, 1) := dk_44 (dk_at dksL_law_86 16 rfl rfl)
theorem dL_law_2151 : decode cL_law 2151 = .ok (.invokevirtual 124, 3) := dk_182 0 124 (dk_at dksL_law_86 17 rfl rfl)
theorem dL_law_2154 : decode cL_law 2154 = .ok (.iload 6, 2) := dk_21 6 (dk_at dksL_law_86 20 rfl rfl)
theorem dL_law_2156 : decode cL_law 2156 = .ok (.if_icmp .eq 5, 3) := dk_159 0 5 (dk_at dksL_law_87 0 rfl rfl)
theorem dL_law_2159 : decode cL_law 2159 = .ok (.iconst 0, 1) := dk_3 (dk_at dksL_law_87 3 rfl rfl)
theorem dL_law_2160 : decode cL_law 2160 = .ok (.ireturn, 1) := dk_172 (dk_at dksL_law_87 4 rfl rfl)
theorem dL_law_2161 : decode cL_law 2161 = .ok (.goto 3, 3) := dk_167 0 3 (dk_at dksL_law_87 5 rfl rfl)
theorem dL_law_2164 : decode cL_law 2164 = .ok (.iinc 5 5, 3) := dk_132 5 5 (dk_at dksL_law_87 8 rfl rfl)
theorem dL_law_2167 : decode cL_law 2167 = .ok (.goto (-2139), 3) := dk_167 247 165 (dk_at dksL_law_87 11 rfl rfl)
theorem dL_law_2170 : decode cL_law 2170 = .ok (.iconst 1, 1) := dk_4 (dk_at dksL_law_87 14 rfl rfl)
theorem dL_law_2171 : decode cL_law 2171 = .ok (.ireturn, 1) := dk_172 (dk_at dksL_law_87 15 rfl rfl)

theorem q1372 : (Jvm.Cond.sameMethod "[B" "java/lang/Object" "clone" "()Ljava/lang/Object;") ∈ lw_all := lw_g (lw_at lw_m6 84 rfl) rfl
set_option maxRecDepth 100000
theorem q1375 : (Jvm.Cond.selects "[B" ({ cls := "[B", name := "clone", desc := "()Ljava/lang/Object;" } : Jvm.MethodName) ({ cls := "java/lang/Object", name := "clone", desc := "()Ljava/lang/Object;" } : Jvm.MethodName)) ∈ lw_all := lw_g (lw_at lw_m6 87 rfl) rfl
theorem q1376 : (Jvm.Cond.castable "[B" "java/lang/Cloneable") ∈ lw_tbl := lw_at lw_m6 88 rfl
theorem q2321 : (Jvm.Cond.castable "[B" "java/lang/Object") ∈ lw_tbl := lw_at lw_m10 73 rfl
theorem q2322 : (Jvm.Cond.castable "[C" "java/lang/Object") ∈ lw_tbl := lw_at lw_m10 74 rfl
set_option maxRecDepth 100000
theorem q2325 : (Jvm.Cond.castable "[D" "java/lang/Object") ∈ lw_tbl := lw_at lw_m10 77 rfl
set_option maxRecDepth 100000
theorem q2320 : (Jvm.Cond.castable "[I" "java/lang/Object") ∈ lw_tbl := lw_at lw_m10 72 rfl
set_option maxRecDepth 100000
theorem q2324 : (Jvm.Cond.castable "[J" "java/lang/Object") ∈ lw_tbl := lw_at lw_m10 76 rfl
set_option maxRecDepth 100000
theorem q2316 : (Jvm.Cond.sameMethod "[Ljava/lang/Object;" "java/lang/Object" "getClass" "()Ljava/lang/Class;") ∈ lw_all := lw_g (lw_at lw_m10 68 rfl) rfl
set_option maxRecDepth 100000
theorem q2317 : (Jvm.Cond.selects "[Ljava/lang/Object;" ({ cls := "java/lang/Object", name := "getClass", desc := "()Ljava/lang/Class;" } : Jvm.MethodName) ({ cls := "java/lang/Object", name := "getClass", desc := "()Ljava/lang/Class;" } : Jvm.MethodName)) ∈ lw_all := lw_g (lw_at lw_m10 69 rfl) rfl
theorem q2319 : (Jvm.Cond.castable "[Ljava/lang/Object;" "java/lang/Object") ∈ lw_tbl := lw_at lw_m10 71 rfl
theorem q2323 : (Jvm.Cond.castable "[Z" "java/lang/Object") ∈ lw_tbl := lw_at lw_m10 75 rfl
set_option maxRecDepth 100000
theorem q119 : (Jvm.Cond.initialized "java/lang/Integer$IntegerCache") ∈ lw_all := lw_g (lw_at lw_m1 31 rfl) rfl
set_option maxRecDepth 100000
theorem q473 : (Jvm.Cond.laysStatic "java/lang/Integer$IntegerCache" "high" "I") ∈ lw_tbl := lw_at lw_m2 145 rfl
theorem q475 : (Jvm.Cond.laysStatic "java/lang/Integer$IntegerCache" "cache" "[Ljava/lang/Integer;") ∈ lw_tbl := lw_at lw_m2 147 rfl
theorem q97 : (Jvm.Cond.initialized "java/lang/System") ∈ lw_all := lw_g (lw_at lw_m1 9 rfl) rfl
set_option maxRecDepth 100000
theorem q242 : (Jvm.Cond.static ({ cls := "java/lang/System", name := "arraycopy", desc := "(Ljava/lang/Object;ILjava/lang/Object;II)V" } : Jvm.MethodName)) ∈ lw_all := lw_g (lw_at lw_m1 154 rfl) rfl
theorem q243 : (Jvm.Cond.native ({ cls := "java/lang/System", name := "arraycopy", desc := "(Ljava/lang/Object;ILjava/lang/Object;II)V" } : Jvm.MethodName)) ∈ lw_all := lw_g (lw_at lw_m1 155 rfl) rfl
theorem q657 : (Jvm.Cond.interfaceMethod "java/util/Collection" "java/util/Collection" "toArray" "()[Ljava/lang/Object;") ∈ lw_tbl := lw_at lw_m3 89 rfl
set_option maxRecDepth 100000
theorem q658 : (Jvm.Cond.declares ({ cls := "java/util/Collection", name := "toArray", desc := "()[Ljava/lang/Object;" } : Jvm.MethodName)) ∈ lw_tbl := lw_at lw_m3 90 rfl
theorem q236 : (Jvm.Cond.arrayOver (Jvm.ClassFile.FieldType.object "java/lang/Object")) ∈ lw_tbl := lw_at lw_m1 148 rfl
set_option maxRecDepth 100000
theorem q266 : (Jvm.Cond.arrayClass Jvm.ClassFile.FieldType.int) ∈ lw_all := lw_g (lw_at lw_m1 178 rfl) rfl
theorem q354 : (Jvm.Cond.arrayClass Jvm.ClassFile.FieldType.byte) ∈ lw_all := lw_g (lw_at lw_m2 26 rfl) rfl
theorem q1904 : (Jvm.Cond.arrayClass Jvm.ClassFile.FieldType.char) ∈ lw_all := lw_g (lw_at lw_m8 136 rfl) rfl
theorem q1905 : (Jvm.Cond.arrayClass Jvm.ClassFile.FieldType.boolean) ∈ lw_all := lw_g (lw_at lw_m8 137 rfl) rfl
theorem q2269 : (Jvm.Cond.arrayClass Jvm.ClassFile.FieldType.long) ∈ lw_all := lw_g (lw_at lw_m10 21 rfl) rfl
theorem q2270 : (Jvm.Cond.arrayClass Jvm.ClassFile.FieldType.double) ∈ lw_all := lw_g (lw_at lw_m10 22 rfl) rfl
