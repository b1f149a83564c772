/-! InkPrinteryLaw -/
set_option maxRecDepth 100000
def RX0 : String := "InkPrinteryLaw"
abbrev cX0_addInk : ByteArray := method_3_code
def yX0_addInk : MethodName := ⟨RX0, "addInk", "(LInkPrintery;II[J)I"⟩
def dkwX0_addInk_0 : List UInt8 := [45, 3, 42, 27, 28, 182, 0, 7, 133, 80, 167, 0, 11, 58, 4, 4, 172, 58, 4, 5, 172, 3, 172]
abbrev dktX0_addInk_0 : List UInt8 := dkwX0_addInk_0 ++ []
theorem dksX0_addInk_0 : cX0_addInk.data.toList.drop 0 = dktX0_addInk_0 := by decide +kernel
theorem dX0_addInk_0 : decode cX0_addInk 0 = .ok (.aload_n 3, 1) := dk_45 (dk_at dksX0_addInk_0 0 rfl rfl)
theorem dX0_addInk_1 : decode cX0_addInk 1 = .ok (.iconst 0, 1) := dk_3 (dk_at dksX0_addInk_0 1 rfl rfl)
theorem dX0_addInk_2 : decode cX0_addInk 2 = .ok (.aload_n 0, 1) := dk_42 (dk_at dksX0_addInk_0 2 rfl rfl)
theorem dX0_addInk_3 : decode cX0_addInk 3 = .ok (.iload_n 1, 1) := dk_27 (dk_at dksX0_addInk_0 3 rfl rfl)
theorem dX0_addInk_4 : decode cX0_addInk 4 = .ok (.iload_n 2, 1) := dk_28 (dk_at dksX0_addInk_0 4 rfl rfl)
theorem dX0_addInk_5 : decode cX0_addInk 5 = .ok (.invokevirtual 7, 3) := dk_182 0 7 (dk_at dksX0_addInk_0 5 rfl rfl)
theorem dX0_addInk_8 : decode cX0_addInk 8 = .ok (.i2l, 1) := dk_133 (dk_at dksX0_addInk_0 8 rfl rfl)
theorem dX0_addInk_9 : decode cX0_addInk 9 = .ok (.lastore, 1) := dk_80 (dk_at dksX0_addInk_0 9 rfl rfl)
theorem dX0_addInk_10 : decode cX0_addInk 10 = .ok (.goto 11, 3) := dk_167 0 11 (dk_at dksX0_addInk_0 10 rfl rfl)
theorem dX0_addInk_13 : decode cX0_addInk 13 = .ok (.astore 4, 2) := dk_58 4 (dk_at dksX0_addInk_0 13 rfl rfl)
theorem dX0_addInk_15 : decode cX0_addInk 15 = .ok (.iconst 1, 1) := dk_4 (dk_at dksX0_addInk_0 15 rfl rfl)
theorem dX0_addInk_16 : decode cX0_addInk 16 = .ok (.ireturn, 1) := dk_172 (dk_at dksX0_addInk_0 16 rfl rfl)
theorem dX0_addInk_17 : decode cX0_addInk 17 = .ok (.astore 4, 2) := dk_58 4 (dk_at dksX0_addInk_0 17 rfl rfl)
theorem dX0_addInk_19 : decode cX0_addInk 19 = .ok (.iconst 2, 1) := dk_5 (dk_at dksX0_addInk_0 19 rfl rfl)
theorem dX0_addInk_20 : decode cX0_addInk 20 = .ok (.ireturn, 1) := dk_172 (dk_at dksX0_addInk_0 20 rfl rfl)
theorem dX0_addInk_21 : decode cX0_addInk 21 = .ok (.iconst 0, 1) := dk_3 (dk_at dksX0_addInk_0 21 rfl rfl)
theorem dX0_addInk_22 : decode cX0_addInk 22 = .ok (.ireturn, 1) := dk_172 (dk_at dksX0_addInk_0 22 rfl rfl)
abbrev cX0_addPaper : ByteArray := method_4_code
def yX0_addPaper : MethodName := ⟨RX0, "addPaper", "(LInkPrintery;I[J)I"⟩
def dkwX0_addPaper_0 : List UInt8 := [44, 3, 42, 27, 182, 0, 17, 133, 80, 167, 0, 9, 78, 4, 172, 78, 5, 172, 3, 172]
abbrev dktX0_addPaper_0 : List UInt8 := dkwX0_addPaper_0 ++ []
theorem dksX0_addPaper_0 : cX0_addPaper.data.toList.drop 0 = dktX0_addPaper_0 := by decide +kernel
theorem dX0_addPaper_0 : decode cX0_addPaper 0 = .ok (.aload_n 2, 1) := dk_44 (dk_at dksX0_addPaper_0 0 rfl rfl)
theorem dX0_addPaper_1 : decode cX0_addPaper 1 = .ok (.iconst 0, 1) := dk_3 (dk_at dksX0_addPaper_0 1 rfl rfl)
theorem dX0_addPaper_2 : decode cX0_addPaper 2 = .ok (.aload_n 0, 1) := dk_42 (dk_at dksX0_addPaper_0 2 rfl rfl)
theorem dX0_addPaper_3 : decode cX0_addPaper 3 = .ok (.iload_n 1, 1) := dk_27 (dk_at dksX0_addPaper_0 3 rfl rfl)
theorem dX0_addPaper_4 : decode cX0_addPaper 4 = .ok (.invokevirtual 17, 3) := dk_182 0 17 (dk_at dksX0_addPaper_0 4 rfl rfl)
theorem dX0_addPaper_7 : decode cX0_addPaper 7 = .ok (.i2l, 1) := dk_133 (dk_at dksX0_addPaper_0 7 rfl rfl)
theorem dX0_addPaper_8 : decode cX0_addPaper 8 = .ok (.lastore, 1) := dk_80 (dk_at dksX0_addPaper_0 8 rfl rfl)
theorem dX0_addPaper_9 : decode cX0_addPaper 9 = .ok (.goto 9, 3) := dk_167 0 9 (dk_at dksX0_addPaper_0 9 rfl rfl)
theorem dX0_addPaper_12 : decode cX0_addPaper 12 = .ok (.astore_n 3, 1) := dk_78 (dk_at dksX0_addPaper_0 12 rfl rfl)
theorem dX0_addPaper_13 : decode cX0_addPaper 13 = .ok (.iconst 1, 1) := dk_4 (dk_at dksX0_addPaper_0 13 rfl rfl)
theorem dX0_addPaper_14 : decode cX0_addPaper 14 = .ok (.ireturn, 1) := dk_172 (dk_at dksX0_addPaper_0 14 rfl rfl)
theorem dX0_addPaper_15 : decode cX0_addPaper 15 = .ok (.astore_n 3, 1) := dk_78 (dk_at dksX0_addPaper_0 15 rfl rfl)
theorem dX0_addPaper_16 : decode cX0_addPaper 16 = .ok (.iconst 2, 1) := dk_5 (dk_at dksX0_addPaper_0 16 rfl rfl)
theorem dX0_addPaper_17 : decode cX0_addPaper 17 = .ok (.ireturn, 1) := dk_172 (dk_at dksX0_addPaper_0 17 rfl rfl)
theorem dX0_addPaper_18 : decode cX0_addPaper 18 = .ok (.iconst 0, 1) := dk_3 (dk_at dksX0_addPaper_0 18 rfl rfl)
theorem dX0_addPaper_19 : decode cX0_addPaper 19 = .ok (.ireturn, 1) := dk_172 (dk_at dksX0_addPaper_0 19 rfl rfl)
abbrev cX0_pass : ByteArray := method_5_code
def yX0_pass : MethodName := ⟨RX0, "pass", "(LInkPrintery;I[J)I"⟩
def dkwX0_pass_0 : List UInt8 := [44, 3, 42, 27, 182, 0, 21, 133, 80, 167, 0, 6, 78, 4, 172, 3, 172]
abbrev dktX0_pass_0 : List UInt8 := dkwX0_pass_0 ++ []
theorem dksX0_pass_0 : cX0_pass.data.toList.drop 0 = dktX0_pass_0 := by decide +kernel
theorem dX0_pass_0 : decode cX0_pass 0 = .ok (.aload_n 2, 1) := dk_44 (dk_at dksX0_pass_0 0 rfl rfl)
theorem dX0_pass_1 : decode cX0_pass 1 = .ok (.iconst 0, 1) := dk_3 (dk_at dksX0_pass_0 1 rfl rfl)
theorem dX0_pass_2 : decode cX0_pass 2 = .ok (.aload_n 0, 1) := dk_42 (dk_at dksX0_pass_0 2 rfl rfl)
theorem dX0_pass_3 : decode cX0_pass 3 = .ok (.iload_n 1, 1) := dk_27 (dk_at dksX0_pass_0 3 rfl rfl)
theorem dX0_pass_4 : decode cX0_pass 4 = .ok (.invokevirtual 21, 3) := dk_182 0 21 (dk_at dksX0_pass_0 4 rfl rfl)
theorem dX0_pass_7 : decode cX0_pass 7 = .ok (.i2l, 1) := dk_133 (dk_at dksX0_pass_0 7 rfl rfl)
theorem dX0_pass_8 : decode cX0_pass 8 = .ok (.lastore, 1) := dk_80 (dk_at dksX0_pass_0 8 rfl rfl)
theorem dX0_pass_9 : decode cX0_pass 9 = .ok (.goto 6, 3) := dk_167 0 6 (dk_at dksX0_pass_0 9 rfl rfl)
theorem dX0_pass_12 : decode cX0_pass 12 = .ok (.astore_n 3, 1) := dk_78 (dk_at dksX0_pass_0 12 rfl rfl)
theorem dX0_pass_13 : decode cX0_pass 13 = .ok (.iconst 1, 1) := dk_4 (dk_at dksX0_pass_0 13 rfl rfl)
theorem dX0_pass_14 : decode cX0_pass 14 = .ok (.ireturn, 1) := dk_172 (dk_at dksX0_pass_0 14 rfl rfl)
theorem dX0_pass_15 : decode cX0_pass 15 = .ok (.iconst 0, 1) := dk_3 (dk_at dksX0_pass_0 15 rfl rfl)
theorem dX0_pass_16 : decode cX0_pass 16 = .ok (.ireturn, 1) := dk_172 (dk_at dksX0_pass_0 16 rfl rfl)
abbrev cX0_ink : ByteArray := method_6_code
def yX0_ink : MethodName := ⟨RX0, "ink", "(LInkPrintery;I[J)I"⟩
def dkwX0_ink_0 : List UInt8 := [44, 3, 42, 27, 182, 0, 24, 133, 80, 167, 0, 6, 78, 4, 172, 3, 172]
abbrev dktX0_ink_0 : List UInt8 := dkwX0_ink_0 ++ []
theorem dksX0_ink_0 : cX0_ink.data.toList.drop 0 = dktX0_ink_0 := by decide +kernel
theorem dX0_ink_0 : decode cX0_ink 0 = .ok (.aload_n 2, 1) := dk_44 (dk_at dksX0_ink_0 0 rfl rfl)
theorem dX0_ink_1 : decode cX0_ink 1 = .ok (.iconst 0, 1) := dk_3 (dk_at dksX0_ink_0 1 rfl rfl)
theorem dX0_ink_2 : decode cX0_ink 2 = .ok (.aload_n 0, 1) := dk_42 (dk_at dksX0_ink_0 2 rfl rfl)
theorem dX0_ink_3 : decode cX0_ink 3 = .ok (.iload_n 1, 1) := dk_27 (dk_at dksX0_ink_0 3 rfl rfl)
theorem dX0_ink_4 : decode cX0_ink 4 = .ok (.invokevirtual 24, 3) := dk_182 0 24 (dk_at dksX0_ink_0 4 rfl rfl)
theorem dX0_ink_7 : decode cX0_ink 7 = .ok (.i2l, 1) := dk_133 (dk_at dksX0_ink_0 7 rfl rfl)
theorem dX0_ink_8 : decode cX0_ink 8 = .ok (.lastore, 1) := dk_80 (dk_at dksX0_ink_0 8 rfl rfl)
theorem dX0_ink_9 : decode cX0_ink 9 = .ok (.goto 6, 3) := dk_167 0 6 (dk_at dksX0_ink_0 9 rfl rfl)
theorem dX0_ink_12 : decode cX0_ink 12 = .ok (.astore_n 3, 1) := dk_78 (dk_at dksX0_ink_0 12 rfl rfl)
theorem dX0_ink_13 : decode cX0_ink 13 = .ok (.iconst 1, 1) := dk_4 (dk_at dksX0_ink_0 13 rfl rfl)
theorem dX0_ink_14 : decode cX0_ink 14 = .ok (.ireturn, 1) := dk_172 (dk_at dksX0_ink_0 14 rfl rfl)
theorem dX0_ink_15 : decode cX0_ink 15 = .ok (.iconst 0, 1) := dk_3 (dk_at dksX0_ink_0 15 rfl rfl)
theorem dX0_ink_16 : decode cX0_ink 16 = .ok (.ireturn, 1) := dk_172 (dk_at dksX0_ink_0 16 rfl rfl)
abbrev cX0_inkAfter : ByteArray := method_7_code
def yX0_inkAfter : MethodName := ⟨RX0, "inkAfter", "(LInkPrintery;II[J)I"⟩
def dkwX0_inkAfter_0 : List UInt8 := [45, 3, 42, 27, 28, 182, 0, 27, 133, 80, 167, 0, 7, 58, 4, 4, 172, 3, 172]
abbrev dktX0_inkAfter_0 : List UInt8 := dkwX0_inkAfter_0 ++ []
theorem dksX0_inkAfter_0 : cX0_inkAfter.data.toList.drop 0 = dktX0_inkAfter_0 := by decide +kernel
theorem dX0_inkAfter_0 : decode cX0_inkAfter 0 = .ok (.aload_n 3, 1) := dk_45 (dk_at dksX0_inkAfter_0 0 rfl rfl)
theorem dX0_inkAfter_1 : decode cX0_inkAfter 1 = .ok (.iconst 0, 1) := dk_3 (dk_at dksX0_inkAfter_0 1 rfl rfl)
theorem dX0_inkAfter_2 : decode cX0_inkAfter 2 = .ok (.aload_n 0, 1) := dk_42 (dk_at dksX0_inkAfter_0 2 rfl rfl)
theorem dX0_inkAfter_3 : decode cX0_inkAfter 3 = .ok (.iload_n 1, 1) := dk_27 (dk_at dksX0_inkAfter_0 3 rfl rfl)
theorem dX0_inkAfter_4 : decode cX0_inkAfter 4 = .ok (.iload_n 2, 1) := dk_28 (dk_at dksX0_inkAfter_0 4 rfl rfl)
theorem dX0_inkAfter_5 : decode cX0_inkAfter 5 = .ok (.invokevirtual 27, 3) := dk_182 0 27 (dk_at dksX0_inkAfter_0 5 rfl rfl)
theorem dX0_inkAfter_8 : decode cX0_inkAfter 8 = .ok (.i2l, 1) := dk_133 (dk_at dksX0_inkAfter_0 8 rfl rfl)
theorem dX0_inkAfter_9 : decode cX0_inkAfter 9 = .ok (.lastore, 1) := dk_80 (dk_at dksX0_inkAfter_0 9 rfl rfl)
theorem dX0_inkAfter_10 : decode cX0_inkAfter 10 = .ok (.goto 7, 3) := dk_167 0 7 (dk_at dksX0_inkAfter_0 10 rfl rfl)
theorem dX0_inkAfter_13 : decode cX0_inkAfter 13 = .ok (.astore 4, 2) := dk_58 4 (dk_at dksX0_inkAfter_0 13 rfl rfl)
theorem dX0_inkAfter_15 : decode cX0_inkAfter 15 = .ok (.iconst 1, 1) := dk_4 (dk_at dksX0_inkAfter_0 15 rfl rfl)
theorem dX0_inkAfter_16 : decode cX0_inkAfter 16 = .ok (.ireturn, 1) := dk_172 (dk_at dksX0_inkAfter_0 16 rfl rfl)
theorem dX0_inkAfter_17 : decode cX0_inkAfter 17 = .ok (.iconst 0, 1) := dk_3 (dk_at dksX0_inkAfter_0 17 rfl rfl)
theorem dX0_inkAfter_18 : decode cX0_inkAfter 18 = .ok (.ireturn, 1) := dk_172 (dk_at dksX0_inkAfter_0 18 rfl rfl)
abbrev cX0_inkByHalvings : ByteArray := method_8_code
def yX0_inkByHalvings : MethodName := ⟨RX0, "inkByHalvings", "(LInkPrintery;II[J)I"⟩
def dkwX0_inkByHalvings_0 : List UInt8 := [45, 3, 42, 27, 28, 182, 0, 30, 133, 80, 167, 0, 7, 58, 4, 4, 172, 3, 172]
abbrev dktX0_inkByHalvings_0 : List UInt8 := dkwX0_inkByHalvings_0 ++ []
theorem dksX0_inkByHalvings_0 : cX0_inkByHalvings.data.toList.drop 0 = dktX0_inkByHalvings_0 := by decide +kernel
theorem dX0_inkByHalvings_0 : decode cX0_inkByHalvings 0 = .ok (.aload_n 3, 1) := dk_45 (dk_at dksX0_inkByHalvings_0 0 rfl rfl)
theorem dX0_inkByHalvings_1 : decode cX0_inkByHalvings 1 = .ok (.iconst 0, 1) := dk_3 (dk_at dksX0_inkByHalvings_0 1 rfl rfl)
theorem dX0_inkByHalvings_2 : decode cX0_inkByHalvings 2 = .ok (.aload_n 0, 1) := dk_42 (dk_at dksX0_inkByHalvings_0 2 rfl rfl)
theorem dX0_inkByHalvings_3 : decode cX0_inkByHalvings 3 = .ok (.iload_n 1, 1) := dk_27 (dk_at dksX0_inkByHalvings_0 3 rfl rfl)
theorem dX0_inkByHalvings_4 : decode cX0_inkByHalvings 4 = .ok (.iload_n 2, 1) := dk_28 (dk_at dksX0_inkByHalvings_0 4 rfl rfl)
theorem dX0_inkByHalvings_5 : decode cX0_inkByHalvings 5 = .ok (.invokevirtual 30, 3) := dk_182 0 30 (dk_at dksX0_inkByHalvings_0 5 rfl rfl)
theorem dX0_inkByHalvings_8 : decode cX0_inkByHalvings 8 = .ok (.i2l, 1) := dk_133 (dk_at dksX0_inkByHalvings_0 8 rfl rfl)
theorem dX0_inkByHalvings_9 : decode cX0_inkByHalvings 9 = .ok (.lastore, 1) := dk_80 (dk_at dksX0_inkByHalvings_0 9 rfl rfl)
theorem dX0_inkByHalvings_10 : decode cX0_inkByHalvings 10 = .ok (.goto 7, 3) := dk_167 0 7 (dk_at dksX0_inkByHalvings_0 10 rfl rfl)
theorem dX0_inkByHalvings_13 : decode cX0_inkByHalvings 13 = .ok (.astore 4, 2) := dk_58 4 (dk_at dksX0_inkByHalvings_0 13 rfl rfl)
theorem dX0_inkByHalvings_15 : decode cX0_inkByHalvings 15 = .ok (.iconst 1, 1) := dk_4 (dk_at dksX0_inkByHalvings_0 15 rfl rfl)
theorem dX0_inkByHalvings_16 : decode cX0_inkByHalvings 16 = .ok (.ireturn, 1) := dk_172 (dk_at dksX0_inkByHalvings_0 16 rfl rfl)
theorem dX0_inkByHalvings_17 : decode cX0_inkByHalvings 17 = .ok (.iconst 0, 1) := dk_3 (dk_at dksX0_inkByHalvings_0 17 rfl rfl)
theorem dX0_inkByHalvings_18 : decode cX0_inkByHalvings 18 = .ok (.ireturn, 1) := dk_172 (dk_at dksX0_inkByHalvings_0 18 rfl rfl)
abbrev cX0_hoursUntilLess : ByteArray := method_9_code
def yX0_hoursUntilLess : MethodName := ⟨RX0, "hoursUntilLess", "(LInkPrintery;II[J)I"⟩
def dkwX0_hoursUntilLess_0 : List UInt8 := [45, 3, 42, 27, 28, 182, 0, 33, 133, 80, 167, 0, 7, 58, 4, 4, 172, 3, 172]
abbrev dktX0_hoursUntilLess_0 : List UInt8 := dkwX0_hoursUntilLess_0 ++ []
theorem dksX0_hoursUntilLess_0 : cX0_hoursUntilLess.data.toList.drop 0 = dktX0_hoursUntilLess_0 := by decide +kernel
theorem dX0_hoursUntilLess_0 : decode cX0_hoursUntilLess 0 = .ok (.aload_n 3, 1) := dk_45 (dk_at dksX0_hoursUntilLess_0 0 rfl rfl)
theorem dX0_hoursUntilLess_1 : decode cX0_hoursUntilLess 1 = .ok (.iconst 0, 1) := dk_3 (dk_at dksX0_hoursUntilLess_0 1 rfl rfl)
theorem dX0_hoursUntilLess_2 : decode cX0_hoursUntilLess 2 = .ok (.aload_n 0, 1) := dk_42 (dk_at dksX0_hoursUntilLess_0 2 rfl rfl)
theorem dX0_hoursUntilLess_3 : decode cX0_hoursUntilLess 3 = .ok (.iload_n 1, 1) := dk_27 (dk_at dksX0_hoursUntilLess_0 3 rfl rfl)
theorem dX0_hoursUntilLess_4 : decode cX0_hoursUntilLess 4 = .ok (.iload_n 2, 1) := dk_28 (dk_at dksX0_hoursUntilLess_0 4 rfl rfl)
theorem dX0_hoursUntilLess_5 : decode cX0_hoursUntilLess 5 = .ok (.invokevirtual 33, 3) := dk_182 0 33 (dk_at dksX0_hoursUntilLess_0 5 rfl rfl)
theorem dX0_hoursUntilLess_8 : decode cX0_hoursUntilLess 8 = .ok (.i2l, 1) := dk_133 (dk_at dksX0_hoursUntilLess_0 8 rfl rfl)
theorem dX0_hoursUntilLess_9 : decode cX0_hoursUntilLess 9 = .ok (.lastore, 1) := dk_80 (dk_at dksX0_hoursUntilLess_0 9 rfl rfl)
theorem dX0_hoursUntilLess_10 : decode cX0_hoursUntilLess 10 = .ok (.goto 7, 3) := dk_167 0 7 (dk_at dksX0_hoursUntilLess_0 10 rfl rfl)
theorem dX0_hoursUntilLess_13 : decode cX0_hoursUntilLess 13 = .ok (.astore 4, 2) := dk_58 4 (dk_at dksX0_hoursUntilLess_0 13 rfl rfl)
theorem dX0_hoursUntilLess_15 : decode cX0_hoursUntilLess 15 = .ok (.iconst 1, 1) := dk_4 (dk_at dksX0_hoursUntilLess_0 15 rfl rfl)
theorem dX0_hoursUntilLess_16 : decode cX0_hoursUntilLess 16 = .ok (.ireturn, 1) := dk_172 (dk_at dksX0_hoursUntilLess_0 16 rfl rfl)
theorem dX0_hoursUntilLess_17 : decode cX0_hoursUntilLess 17 = .ok (.iconst 0, 1) := dk_3 (dk_at dksX0_hoursUntilLess_0 17 rfl rfl)
theorem dX0_hoursUntilLess_18 : decode cX0_hoursUntilLess 18 = .ok (.ireturn, 1) := dk_172 (dk_at dksX0_hoursUntilLess_0 18 rfl rfl)
abbrev cX0_addEdition : ByteArray := method_10_code
def yX0_addEdition : MethodName := ⟨RX0, "addEdition", "(LInkPrintery;II[J)I"⟩
def dkwX0_addEdition_0 : List UInt8 := [45, 3, 42, 27, 28, 182, 0, 36, 133, 80, 167, 0, 11, 58, 4, 4, 172, 58, 4, 5, 172, 3, 172]
abbrev dktX0_addEdition_0 : List UInt8 := dkwX0_addEdition_0 ++ []
theorem dksX0_addEdition_0 : cX0_addEdition.data.toList.drop 0 = dktX0_addEdition_0 := by decide +kernel
theorem dX0_addEdition_0 : decode cX0_addEdition 0 = .ok (.aload_n 3, 1) := dk_45 (dk_at dksX0_addEdition_0 0 rfl rfl)
theorem dX0_addEdition_1 : decode cX0_addEdition 1 = .ok (.iconst 0, 1) := dk_3 (dk_at dksX0_addEdition_0 1 rfl rfl)
theorem dX0_addEdition_2 : decode cX0_addEdition 2 = .ok (.aload_n 0, 1) := dk_42 (dk_at dksX0_addEdition_0 2 rfl rfl)
theorem dX0_addEdition_3 : decode cX0_addEdition 3 = .ok (.iload_n 1, 1) := dk_27 (dk_at dksX0_addEdition_0 3 rfl rfl)
theorem dX0_addEdition_4 : decode cX0_addEdition 4 = .ok (.iload_n 2, 1) := dk_28 (dk_at dksX0_addEdition_0 4 rfl rfl)
theorem dX0_addEdition_5 : decode cX0_addEdition 5 = .ok (.invokevirtual 36, 3) := dk_182 0 36 (dk_at dksX0_addEdition_0 5 rfl rfl)
theorem dX0_addEdition_8 : decode cX0_addEdition 8 = .ok (.i2l, 1) := dk_133 (dk_at dksX0_addEdition_0 8 rfl rfl)
theorem dX0_addEdition_9 : decode cX0_addEdition 9 = .ok (.lastore, 1) := dk_80 (dk_at dksX0_addEdition_0 9 rfl rfl)
theorem dX0_addEdition_10 : decode cX0_addEdition 10 = .ok (.goto 11, 3) := dk_167 0 11 (dk_at dksX0_addEdition_0 10 rfl rfl)
theorem dX0_addEdition_13 : decode cX0_addEdition 13 = .ok (.astore 4, 2) := dk_58 4 (dk_at dksX0_addEdition_0 13 rfl rfl)
theorem dX0_addEdition_15 : decode cX0_addEdition 15 = .ok (.iconst 1, 1) := dk_4 (dk_at dksX0_addEdition_0 15 rfl rfl)
theorem dX0_addEdition_16 : decode cX0_addEdition 16 = .ok (.ireturn, 1) := dk_172 (dk_at dksX0_addEdition_0 16 rfl rfl)
theorem dX0_addEdition_17 : decode cX0_addEdition 17 = .ok (.astore 4, 2) := dk_58 4 (dk_at dksX0_addEdition_0 17 rfl rfl)
theorem dX0_addEdition_19 : decode cX0_addEdition 19 = .ok (.iconst 2, 1) := dk_5 (dk_at dksX0_addEdition_0 19 rfl rfl)
theorem dX0_addEdition_20 : decode cX0_addEdition 20 = .ok (.ireturn, 1) := dk_172 (dk_at dksX0_addEdition_0 20 rfl rfl)
theorem dX0_addEdition_21 : decode cX0_addEdition 21 = .ok (.iconst 0, 1) := dk_3 (dk_at dksX0_addEdition_0 21 rfl rfl)
theorem dX0_addEdition_22 : decode cX0_addEdition 22 = .ok (.ireturn, 1) := dk_172 (dk_at dksX0_addEdition_0 22 rfl rfl)
abbrev cX0_removeEdition : ByteArray := method_11_code
def yX0_removeEdition : MethodName := ⟨RX0, "removeEdition", "(LInkPrintery;I[J)I"⟩
def dkwX0_removeEdition_0 : List UInt8 := [44, 3, 42, 27, 182, 0, 39, 133, 80, 167, 0, 6, 78, 4, 172, 3, 172]
abbrev dktX0_removeEdition_0 : List UInt8 := dkwX0_removeEdition_0 ++ []
theorem dksX0_removeEdition_0 : cX0_removeEdition.data.toList.drop 0 = dktX0_removeEdition_0 := by decide +kernel
theorem dX0_removeEdition_0 : decode cX0_removeEdition 0 = .ok (.aload_n 2, 1) := dk_44 (dk_at dksX0_removeEdition_0 0 rfl rfl)
theorem dX0_removeEdition_1 : decode cX0_removeEdition 1 = .ok (.iconst 0, 1) := dk_3 (dk_at dksX0_removeEdition_0 1 rfl rfl)
theorem dX0_removeEdition_2 : decode cX0_removeEdition 2 = .ok (.aload_n 0, 1) := dk_42 (dk_at dksX0_removeEdition_0 2 rfl rfl)
theorem dX0_removeEdition_3 : decode cX0_removeEdition 3 = .ok (.iload_n 1, 1) := dk_27 (dk_at dksX0_removeEdition_0 3 rfl rfl)
theorem dX0_removeEdition_4 : decode cX0_removeEdition 4 = .ok (.invokevirtual 39, 3) := dk_182 0 39 (dk_at dksX0_removeEdition_0 4 rfl rfl)
theorem dX0_removeEdition_7 : decode cX0_removeEdition 7 = .ok (.i2l, 1) := dk_133 (dk_at dksX0_removeEdition_0 7 rfl rfl)
theorem dX0_removeEdition_8 : decode cX0_removeEdition 8 = .ok (.lastore, 1) := dk_80 (dk_at dksX0_removeEdition_0 8 rfl rfl)
theorem dX0_removeEdition_9 : decode cX0_removeEdition 9 = .ok (.goto 6, 3) := dk_167 0 6 (dk_at dksX0_removeEdition_0 9 rfl rfl)
theorem dX0_removeEdition_12 : decode cX0_removeEdition 12 = .ok (.astore_n 3, 1) := dk_78 (dk_at dksX0_removeEdition_0 12 rfl rfl)
theorem dX0_removeEdition_13 : decode cX0_removeEdition 13 = .ok (.iconst 1, 1) := dk_4 (dk_at dksX0_removeEdition_0 13 rfl rfl)
theorem dX0_removeEdition_14 : decode cX0_removeEdition 14 = .ok (.ireturn, 1) := dk_172 (dk_at dksX0_removeEdition_0 14 rfl rfl)
theorem dX0_removeEdition_15 : decode cX0_removeEdition 15 = .ok (.iconst 0, 1) := dk_3 (dk_at dksX0_removeEdition_0 15 rfl rfl)
theorem dX0_removeEdition_16 : decode cX0_removeEdition 16 = .ok (.ireturn, 1) := dk_172 (dk_at dksX0_removeEdition_0 16 rfl rfl)
abbrev cX0_print : ByteArray := method_12_code
def yX0_print : MethodName := ⟨RX0, "print", "(LInkPrintery;I[J)I"⟩
def dkwX0_print_0 : List UInt8 := [44, 3, 42, 27, 182, 0, 44, 133, 80, 167, 0, 12, 78, 4, 172, 78, 5, 172, 78, 6, 172, 3, 172]
abbrev dktX0_print_0 : List UInt8 := dkwX0_print_0 ++ []
theorem dksX0_print_0 : cX0_print.data.toList.drop 0 = dktX0_print_0 := by decide +kernel
theorem dX0_print_0 : decode cX0_print 0 = .ok (.aload_n 2, 1) := dk_44 (dk_at dksX0_print_0 0 rfl rfl)
theorem dX0_print_1 : decode cX0_print 1 = .ok (.iconst 0, 1) := dk_3 (dk_at dksX0_print_0 1 rfl rfl)
theorem dX0_print_2 : decode cX0_print 2 = .ok (.aload_n 0, 1) := dk_42 (dk_at dksX0_print_0 2 rfl rfl)
theorem dX0_print_3 : decode cX0_print 3 = .ok (.iload_n 1, 1) := dk_27 (dk_at dksX0_print_0 3 rfl rfl)
theorem dX0_print_4 : decode cX0_print 4 = .ok (.invokevirtual 44, 3) := dk_182 0 44 (dk_at dksX0_print_0 4 rfl rfl)
theorem dX0_print_7 : decode cX0_print 7 = .ok (.i2l, 1) := dk_133 (dk_at dksX0_print_0 7 rfl rfl)
theorem dX0_print_8 : decode cX0_print 8 = .ok (.lastore, 1) := dk_80 (dk_at dksX0_print_0 8 rfl rfl)
theorem dX0_print_9 : decode cX0_print 9 = .ok (.goto 12, 3) := dk_167 0 12 (dk_at dksX0_print_0 9 rfl rfl)
theorem dX0_print_12 : decode cX0_print 12 = .ok (.astore_n 3, 1) := dk_78 (dk_at dksX0_print_0 12 rfl rfl)
theorem dX0_print_13 : decode cX0_print 13 = .ok (.iconst 1, 1) := dk_4 (dk_at dksX0_print_0 13 rfl rfl)
theorem dX0_print_14 : decode cX0_print 14 = .ok (.ireturn, 1) := dk_172 (dk_at dksX0_print_0 14 rfl rfl)
theorem dX0_print_15 : decode cX0_print 15 = .ok (.astore_n 3, 1) := dk_78 (dk_at dksX0_print_0 15 rfl rfl)
theorem dX0_print_16 : decode cX0_print 16 = .ok (.iconst 2, 1) := dk_5 (dk_at dksX0_print_0 16 rfl rfl)
theorem dX0_print_17 : decode cX0_print 17 = .ok (.ireturn, 1) := dk_172 (dk_at dksX0_print_0 17 rfl rfl)
theorem dX0_print_18 : decode cX0_print 18 = .ok (.astore_n 3, 1) := dk_78 (dk_at dksX0_print_0 18 rfl rfl)
theorem dX0_print_19 : decode cX0_print 19 = .ok (.iconst 3, 1) := dk_6 (dk_at dksX0_print_0 19 rfl rfl)
theorem dX0_print_20 : decode cX0_print 20 = .ok (.ireturn, 1) := dk_172 (dk_at dksX0_print_0 20 rfl rfl)
theorem dX0_print_21 : decode cX0_print 21 = .ok (.iconst 0, 1) := dk_3 (dk_at dksX0_print_0 21 rfl rfl)
theorem dX0_print_22 : decode cX0_print 22 = .ok (.ireturn, 1) := dk_172 (dk_at dksX0_print_0 22 rfl rfl)
abbrev cX0_colourOf : ByteArray := method_13_code
def yX0_colourOf : MethodName := ⟨RX0, "colourOf", "(LInkPrintery;I[J)I"⟩
def dkwX0_colourOf_0 : List UInt8 := [44, 3, 42, 27, 182, 0, 49, 133, 80, 167, 0, 6, 78, 4, 172, 3, 172]
abbrev dktX0_colourOf_0 : List UInt8 := dkwX0_colourOf_0 ++ []
theorem dksX0_colourOf_0 : cX0_colourOf.data.toList.drop 0 = dktX0_colourOf_0 := by decide +kernel
theorem dX0_colourOf_0 : decode cX0_colourOf 0 = .ok (.aload_n 2, 1) := dk_44 (dk_at dksX0_colourOf_0 0 rfl rfl)
theorem dX0_colourOf_1 : decode cX0_colourOf 1 = .ok (.iconst 0, 1) := dk_3 (dk_at dksX0_colourOf_0 1 rfl rfl)
theorem dX0_colourOf_2 : decode cX0_colourOf 2 = .ok (.aload_n 0, 1) := dk_42 (dk_at dksX0_colourOf_0 2 rfl rfl)
theorem dX0_colourOf_3 : decode cX0_colourOf 3 = .ok (.iload_n 1, 1) := dk_27 (dk_at dksX0_colourOf_0 3 rfl rfl)
theorem dX0_colourOf_4 : decode cX0_colourOf 4 = .ok (.invokevirtual 49, 3) := dk_182 0 49 (dk_at dksX0_colourOf_0 4 rfl rfl)
theorem dX0_colourOf_7 : decode cX0_colourOf 7 = .ok (.i2l, 1) := dk_133 (dk_at dksX0_colourOf_0 7 rfl rfl)
theorem dX0_colourOf_8 : decode cX0_colourOf 8 = .ok (.lastore, 1) := dk_80 (dk_at dksX0_colourOf_0 8 rfl rfl)
theorem dX0_colourOf_9 : decode cX0_colourOf 9 = .ok (.goto 6, 3) := dk_167 0 6 (dk_at dksX0_colourOf_0 9 rfl rfl)
theorem dX0_colourOf_12 : decode cX0_colourOf 12 = .ok (.astore_n 3, 1) := dk_78 (dk_at dksX0_colourOf_0 12 rfl rfl)
theorem dX0_colourOf_13 : decode cX0_colourOf 13 = .ok (.iconst 1, 1) := dk_4 (dk_at dksX0_colourOf_0 13 rfl rfl)
theorem dX0_colourOf_14 : decode cX0_colourOf 14 = .ok (.ireturn, 1) := dk_172 (dk_at dksX0_colourOf_0 14 rfl rfl)
theorem dX0_colourOf_15 : decode cX0_colourOf 15 = .ok (.iconst 0, 1) := dk_3 (dk_at dksX0_colourOf_0 15 rfl rfl)
theorem dX0_colourOf_16 : decode cX0_colourOf 16 = .ok (.ireturn, 1) := dk_172 (dk_at dksX0_colourOf_0 16 rfl rfl)
abbrev cX0_runOf : ByteArray := method_14_code
def yX0_runOf : MethodName := ⟨RX0, "runOf", "(LInkPrintery;I[J)I"⟩
def dkwX0_runOf_0 : List UInt8 := [44, 3, 42, 27, 182, 0, 52, 133, 80, 167, 0, 6, 78, 4, 172, 3, 172]
abbrev dktX0_runOf_0 : List UInt8 := dkwX0_runOf_0 ++ []
theorem dksX0_runOf_0 : cX0_runOf.data.toList.drop 0 = dktX0_runOf_0 := by decide +kernel
theorem dX0_runOf_0 : decode cX0_runOf 0 = .ok (.aload_n 2, 1) := dk_44 (dk_at dksX0_runOf_0 0 rfl rfl)
theorem dX0_runOf_1 : decode cX0_runOf 1 = .ok (.iconst 0, 1) := dk_3 (dk_at dksX0_runOf_0 1 rfl rfl)
theorem dX0_runOf_2 : decode cX0_runOf 2 = .ok (.aload_n 0, 1) := dk_42 (dk_at dksX0_runOf_0 2 rfl rfl)
theorem dX0_runOf_3 : decode cX0_runOf 3 = .ok (.iload_n 1, 1) := dk_27 (dk_at dksX0_runOf_0 3 rfl rfl)
theorem dX0_runOf_4 : decode cX0_runOf 4 = .ok (.invokevirtual 52, 3) := dk_182 0 52 (dk_at dksX0_runOf_0 4 rfl rfl)
theorem dX0_runOf_7 : decode cX0_runOf 7 = .ok (.i2l, 1) := dk_133 (dk_at dksX0_runOf_0 7 rfl rfl)
theorem dX0_runOf_8 : decode cX0_runOf 8 = .ok (.lastore, 1) := dk_80 (dk_at dksX0_runOf_0 8 rfl rfl)
theorem dX0_runOf_9 : decode cX0_runOf 9 = .ok (.goto 6, 3) := dk_167 0 6 (dk_at dksX0_runOf_0 9 rfl rfl)
theorem dX0_runOf_12 : decode cX0_runOf 12 = .ok (.astore_n 3, 1) := dk_78 (dk_at dksX0_runOf_0 12 rfl rfl)
theorem dX0_runOf_13 : decode cX0_runOf 13 = .ok (.iconst 1, 1) := dk_4 (dk_at dksX0_runOf_0 13 rfl rfl)
theorem dX0_runOf_14 : decode cX0_runOf 14 = .ok (.ireturn, 1) := dk_172 (dk_at dksX0_runOf_0 14 rfl rfl)
theorem dX0_runOf_15 : decode cX0_runOf 15 = .ok (.iconst 0, 1) := dk_3 (dk_at dksX0_runOf_0 15 rfl rfl)
theorem dX0_runOf_16 : decode cX0_runOf 16 = .ok (.ireturn, 1) := dk_172 (dk_at dksX0_runOf_0 16 rfl rfl)
abbrev cX0_printedOf : ByteArray := method_15_code
def yX0_printedOf : MethodName := ⟨RX0, "printedOf", "(LInkPrintery;I[J)I"⟩
def dkwX0_printedOf_0 : List UInt8 := [44, 3, 42, 27, 182, 0, 55, 133, 80, 167, 0, 6, 78, 4, 172, 3, 172]
abbrev dktX0_printedOf_0 : List UInt8 := dkwX0_printedOf_0 ++ []
theorem dksX0_printedOf_0 : cX0_printedOf.data.toList.drop 0 = dktX0_printedOf_0 := by decide +kernel
theorem dX0_printedOf_0 : decode cX0_printedOf 0 = .ok (.aload_n 2, 1) := dk_44 (dk_at dksX0_printedOf_0 0 rfl rfl)
theorem dX0_printedOf_1 : decode cX0_printedOf 1 = .ok (.iconst 0, 1) := dk_3 (dk_at dksX0_printedOf_0 1 rfl rfl)
theorem dX0_printedOf_2 : decode cX0_printedOf 2 = .ok (.aload_n 0, 1) := dk_42 (dk_at dksX0_printedOf_0 2 rfl rfl)
theorem dX0_printedOf_3 : decode cX0_printedOf 3 = .ok (.iload_n 1, 1) := dk_27 (dk_at dksX0_printedOf_0 3 rfl rfl)
theorem dX0_printedOf_4 : decode cX0_printedOf 4 = .ok (.invokevirtual 55, 3) := dk_182 0 55 (dk_at dksX0_printedOf_0 4 rfl rfl)
theorem dX0_printedOf_7 : decode cX0_printedOf 7 = .ok (.i2l, 1) := dk_133 (dk_at dksX0_printedOf_0 7 rfl rfl)
theorem dX0_printedOf_8 : decode cX0_printedOf 8 = .ok (.lastore, 1) := dk_80 (dk_at dksX0_printedOf_0 8 rfl rfl)
theorem dX0_printedOf_9 : decode cX0_printedOf 9 = .ok (.goto 6, 3) := dk_167 0 6 (dk_at dksX0_printedOf_0 9 rfl rfl)
theorem dX0_printedOf_12 : decode cX0_printedOf 12 = .ok (.astore_n 3, 1) := dk_78 (dk_at dksX0_printedOf_0 12 rfl rfl)
theorem dX0_printedOf_13 : decode cX0_printedOf 13 = .ok (.iconst 1, 1) := dk_4 (dk_at dksX0_printedOf_0 13 rfl rfl)
theorem dX0_printedOf_14 : decode cX0_printedOf 14 = .ok (.ireturn, 1) := dk_172 (dk_at dksX0_printedOf_0 14 rfl rfl)
theorem dX0_printedOf_15 : decode cX0_printedOf 15 = .ok (.iconst 0, 1) := dk_3 (dk_at dksX0_printedOf_0 15 rfl rfl)
theorem dX0_printedOf_16 : decode cX0_printedOf 16 = .ok (.ireturn, 1) := dk_172 (dk_at dksX0_printedOf_0 16 rfl rfl)
abbrev cX0_isComplete : ByteArray := method_16_code
def yX0_isComplete : MethodName := ⟨RX0, "isComplete", "(LInkPrintery;I[J)I"⟩
def dkwX0_isComplete_0 : List UInt8 := [44, 3, 42, 27, 182, 0, 58, 153, 0, 7, 10, 167, 0, 4, 9, 80, 167, 0, 6, 78, 4, 172, 3, 172]
abbrev dktX0_isComplete_0 : List UInt8 := dkwX0_isComplete_0 ++ []
theorem dksX0_isComplete_0 : cX0_isComplete.data.toList.drop 0 = dktX0_isComplete_0 := by decide +kernel
theorem dX0_isComplete_0 : decode cX0_isComplete 0 = .ok (.aload_n 2, 1) := dk_44 (dk_at dksX0_isComplete_0 0 rfl rfl)
theorem dX0_isComplete_1 : decode cX0_isComplete 1 = .ok (.iconst 0, 1) := dk_3 (dk_at dksX0_isComplete_0 1 rfl rfl)
theorem dX0_isComplete_2 : decode cX0_isComplete 2 = .ok (.aload_n 0, 1) := dk_42 (dk_at dksX0_isComplete_0 2 rfl rfl)
theorem dX0_isComplete_3 : decode cX0_isComplete 3 = .ok (.iload_n 1, 1) := dk_27 (dk_at dksX0_isComplete_0 3 rfl rfl)
theorem dX0_isComplete_4 : decode cX0_isComplete 4 = .ok (.invokevirtual 58, 3) := dk_182 0 58 (dk_at dksX0_isComplete_0 4 rfl rfl)
theorem dX0_isComplete_7 : decode cX0_isComplete 7 = .ok (.ifCond .eq 7, 3) := dk_153 0 7 (dk_at dksX0_isComplete_0 7 rfl rfl)
theorem dX0_isComplete_10 : decode cX0_isComplete 10 = .ok (.lconst 1, 1) := dk_10 (dk_at dksX0_isComplete_0 10 rfl rfl)
theorem dX0_isComplete_11 : decode cX0_isComplete 11 = .ok (.goto 4, 3) := dk_167 0 4 (dk_at dksX0_isComplete_0 11 rfl rfl)
theorem dX0_isComplete_14 : decode cX0_isComplete 14 = .ok (.lconst 0, 1) := dk_9 (dk_at dksX0_isComplete_0 14 rfl rfl)
theorem dX0_isComplete_15 : decode cX0_isComplete 15 = .ok (.lastore, 1) := dk_80 (dk_at dksX0_isComplete_0 15 rfl rfl)
theorem dX0_isComplete_16 : decode cX0_isComplete 16 = .ok (.goto 6, 3) := dk_167 0 6 (dk_at dksX0_isComplete_0 16 rfl rfl)
theorem dX0_isComplete_19 : decode cX0_isComplete 19 = .ok (.astore_n 3, 1) := dk_78 (dk_at dksX0_isComplete_0 19 rfl rfl)
theorem dX0_isComplete_20 : decode cX0_isComplete 20 = .ok (.iconst 1, 1) := dk_4 (dk_at dksX0_isComplete_0 20 rfl rfl)
theorem dX0_isComplete_21 : decode cX0_isComplete 21 = .ok (.ireturn, 1) := dk_172 (dk_at dksX0_isComplete_0 21 rfl rfl)
theorem dX0_isComplete_22 : decode cX0_isComplete 22 = .ok (.iconst 0, 1) := dk_3 (dk_at dksX0_isComplete_0 22 rfl rfl)
theorem dX0_isComplete_23 : decode cX0_isComplete 23 = .ok (.ireturn, 1) := dk_172 (dk_at dksX0_isComplete_0 23 rfl rfl)
abbrev cX0_changeMinutes : ByteArray := method_17_code
def yX0_changeMinutes : MethodName := ⟨RX0, "changeMinutes", "(LInkPrintery;II[J)I"⟩
def dkwX0_changeMinutes_0 : List UInt8 := [45, 3, 42, 27, 28, 182, 0, 62, 133, 80, 167, 0, 7, 58, 4, 4, 172, 3, 172]
abbrev dktX0_changeMinutes_0 : List UInt8 := dkwX0_changeMinutes_0 ++ []
theorem dksX0_changeMinutes_0 : cX0_changeMinutes.data.toList.drop 0 = dktX0_changeMinutes_0 := by decide +kernel
theorem dX0_changeMinutes_0 : decode cX0_changeMinutes 0 = .ok (.aload_n 3, 1) := dk_45 (dk_at dksX0_changeMinutes_0 0 rfl rfl)
theorem dX0_changeMinutes_1 : decode cX0_changeMinutes 1 = .ok (.iconst 0, 1) := dk_3 (dk_at dksX0_changeMinutes_0 1 rfl rfl)
theorem dX0_changeMinutes_2 : decode cX0_changeMinutes 2 = .ok (.aload_n 0, 1) := dk_42 (dk_at dksX0_changeMinutes_0 2 rfl rfl)
theorem dX0_changeMinutes_3 : decode cX0_changeMinutes 3 = .ok (.iload_n 1, 1) := dk_27 (dk_at dksX0_changeMinutes_0 3 rfl rfl)
theorem dX0_changeMinutes_4 : decode cX0_changeMinutes 4 = .ok (.iload_n 2, 1) := dk_28 (dk_at dksX0_changeMinutes_0 4 rfl rfl)
theorem dX0_changeMinutes_5 : decode cX0_changeMinutes 5 = .ok (.invokevirtual 62, 3) := dk_182 0 62 (dk_at dksX0_changeMinutes_0 5 rfl rfl)
theorem dX0_changeMinutes_8 : decode cX0_changeMinutes 8 = .ok (.i2l, 1) := dk_133 (dk_at dksX0_changeMinutes_0 8 rfl rfl)
theorem dX0_changeMinutes_9 : decode cX0_changeMinutes 9 = .ok (.lastore, 1) := dk_80 (dk_at dksX0_changeMinutes_0 9 rfl rfl)
theorem dX0_changeMinutes_10 : decode cX0_changeMinutes 10 = .ok (.goto 7, 3) := dk_167 0 7 (dk_at dksX0_changeMinutes_0 10 rfl rfl)
theorem dX0_changeMinutes_13 : decode cX0_changeMinutes 13 = .ok (.astore 4, 2) := dk_58 4 (dk_at dksX0_changeMinutes_0 13 rfl rfl)
theorem dX0_changeMinutes_15 : decode cX0_changeMinutes 15 = .ok (.iconst 1, 1) := dk_4 (dk_at dksX0_changeMinutes_0 15 rfl rfl)
theorem dX0_changeMinutes_16 : decode cX0_changeMinutes 16 = .ok (.ireturn, 1) := dk_172 (dk_at dksX0_changeMinutes_0 16 rfl rfl)
theorem dX0_changeMinutes_17 : decode cX0_changeMinutes 17 = .ok (.iconst 0, 1) := dk_3 (dk_at dksX0_changeMinutes_0 17 rfl rfl)
theorem dX0_changeMinutes_18 : decode cX0_changeMinutes 18 = .ok (.ireturn, 1) := dk_172 (dk_at dksX0_changeMinutes_0 18 rfl rfl)
abbrev cX0_editionAt : ByteArray := method_18_code
def yX0_editionAt : MethodName := ⟨RX0, "editionAt", "(LInkPrintery;I[J)I"⟩
def dkwX0_editionAt_0 : List UInt8 := [44, 3, 42, 27, 182, 0, 65, 133, 80, 167, 0, 6, 78, 4, 172, 3, 172]
abbrev dktX0_editionAt_0 : List UInt8 := dkwX0_editionAt_0 ++ []
theorem dksX0_editionAt_0 : cX0_editionAt.data.toList.drop 0 = dktX0_editionAt_0 := by decide +kernel
theorem dX0_editionAt_0 : decode cX0_editionAt 0 = .ok (.aload_n 2, 1) := dk_44 (dk_at dksX0_editionAt_0 0 rfl rfl)
theorem dX0_editionAt_1 : decode cX0_editionAt 1 = .ok (.iconst 0, 1) := dk_3 (dk_at dksX0_editionAt_0 1 rfl rfl)
theorem dX0_editionAt_2 : decode cX0_editionAt 2 = .ok (.aload_n 0, 1) := dk_42 (dk_at dksX0_editionAt_0 2 rfl rfl)
theorem dX0_editionAt_3 : decode cX0_editionAt 3 = .ok (.iload_n 1, 1) := dk_27 (dk_at dksX0_editionAt_0 3 rfl rfl)
theorem dX0_editionAt_4 : decode cX0_editionAt 4 = .ok (.invokevirtual 65, 3) := dk_182 0 65 (dk_at dksX0_editionAt_0 4 rfl rfl)
theorem dX0_editionAt_7 : decode cX0_editionAt 7 = .ok (.i2l, 1) := dk_133 (dk_at dksX0_editionAt_0 7 rfl rfl)
theorem dX0_editionAt_8 : decode cX0_editionAt 8 = .ok (.lastore, 1) := dk_80 (dk_at dksX0_editionAt_0 8 rfl rfl)
theorem dX0_editionAt_9 : decode cX0_editionAt 9 = .ok (.goto 6, 3) := dk_167 0 6 (dk_at dksX0_editionAt_0 9 rfl rfl)
theorem dX0_editionAt_12 : decode cX0_editionAt 12 = .ok (.astore_n 3, 1) := dk_78 (dk_at dksX0_editionAt_0 12 rfl rfl)
theorem dX0_editionAt_13 : decode cX0_editionAt 13 = .ok (.iconst 1, 1) := dk_4 (dk_at dksX0_editionAt_0 13 rfl rfl)
theorem dX0_editionAt_14 : decode cX0_editionAt 14 = .ok (.ireturn, 1) := dk_172 (dk_at dksX0_editionAt_0 14 rfl rfl)
theorem dX0_editionAt_15 : decode cX0_editionAt 15 = .ok (.iconst 0, 1) := dk_3 (dk_at dksX0_editionAt_0 15 rfl rfl)
theorem dX0_editionAt_16 : decode cX0_editionAt 16 = .ok (.ireturn, 1) := dk_172 (dk_at dksX0_editionAt_0 16 rfl rfl)
abbrev cX0_shareOf : ByteArray := method_19_code
def yX0_shareOf : MethodName := ⟨RX0, "shareOf", "(LInkPrintery;I[J)I"⟩
def dkwX0_shareOf_0 : List UInt8 := [44, 3, 42, 27, 182, 0, 70, 133, 80, 167, 0, 6, 78, 4, 172, 3, 172]
abbrev dktX0_shareOf_0 : List UInt8 := dkwX0_shareOf_0 ++ []
theorem dksX0_shareOf_0 : cX0_shareOf.data.toList.drop 0 = dktX0_shareOf_0 := by decide +kernel
theorem dX0_shareOf_0 : decode cX0_shareOf 0 = .ok (.aload_n 2, 1) := dk_44 (dk_at dksX0_shareOf_0 0 rfl rfl)
theorem dX0_shareOf_1 : decode cX0_shareOf 1 = .ok (.iconst 0, 1) := dk_3 (dk_at dksX0_shareOf_0 1 rfl rfl)
theorem dX0_shareOf_2 : decode cX0_shareOf 2 = .ok (.aload_n 0, 1) := dk_42 (dk_at dksX0_shareOf_0 2 rfl rfl)
theorem dX0_shareOf_3 : decode cX0_shareOf 3 = .ok (.iload_n 1, 1) := dk_27 (dk_at dksX0_shareOf_0 3 rfl rfl)
theorem dX0_shareOf_4 : decode cX0_shareOf 4 = .ok (.invokevirtual 70, 3) := dk_182 0 70 (dk_at dksX0_shareOf_0 4 rfl rfl)
theorem dX0_shareOf_7 : decode cX0_shareOf 7 = .ok (.i2l, 1) := dk_133 (dk_at dksX0_shareOf_0 7 rfl rfl)
theorem dX0_shareOf_8 : decode cX0_shareOf 8 = .ok (.lastore, 1) := dk_80 (dk_at dksX0_shareOf_0 8 rfl rfl)
theorem dX0_shareOf_9 : decode cX0_shareOf 9 = .ok (.goto 6, 3) := dk_167 0 6 (dk_at dksX0_shareOf_0 9 rfl rfl)
theorem dX0_shareOf_12 : decode cX0_shareOf 12 = .ok (.astore_n 3, 1) := dk_78 (dk_at dksX0_shareOf_0 12 rfl rfl)
theorem dX0_shareOf_13 : decode cX0_shareOf 13 = .ok (.iconst 1, 1) := dk_4 (dk_at dksX0_shareOf_0 13 rfl rfl)
theorem dX0_shareOf_14 : decode cX0_shareOf 14 = .ok (.ireturn, 1) := dk_172 (dk_at dksX0_shareOf_0 14 rfl rfl)
theorem dX0_shareOf_15 : decode cX0_shareOf 15 = .ok (.iconst 0, 1) := dk_3 (dk_at dksX0_shareOf_0 15 rfl rfl)
theorem dX0_shareOf_16 : decode cX0_shareOf 16 = .ok (.ireturn, 1) := dk_172 (dk_at dksX0_shareOf_0 16 rfl rfl)
abbrev cX0_shareByLevel : ByteArray := method_20_code
def yX0_shareByLevel : MethodName := ⟨RX0, "shareByLevel", "(LInkPrintery;I[J)I"⟩
def dkwX0_shareByLevel_0 : List UInt8 := [44, 3, 42, 27, 182, 0, 73, 133, 80, 167, 0, 6, 78, 4, 172, 3, 172]
abbrev dktX0_shareByLevel_0 : List UInt8 := dkwX0_shareByLevel_0 ++ []
theorem dksX0_shareByLevel_0 : cX0_shareByLevel.data.toList.drop 0 = dktX0_shareByLevel_0 := by decide +kernel
theorem dX0_shareByLevel_0 : decode cX0_shareByLevel 0 = .ok (.aload_n 2, 1) := dk_44 (dk_at dksX0_shareByLevel_0 0 rfl rfl)
theorem dX0_shareByLevel_1 : decode cX0_shareByLevel 1 = .ok (.iconst 0, 1) := dk_3 (dk_at dksX0_shareByLevel_0 1 rfl rfl)
theorem dX0_shareByLevel_2 : decode cX0_shareByLevel 2 = .ok (.aload_n 0, 1) := dk_42 (dk_at dksX0_shareByLevel_0 2 rfl rfl)
theorem dX0_shareByLevel_3 : decode cX0_shareByLevel 3 = .ok (.iload_n 1, 1) := dk_27 (dk_at dksX0_shareByLevel_0 3 rfl rfl)
theorem dX0_shareByLevel_4 : decode cX0_shareByLevel 4 = .ok (.invokevirtual 73, 3) := dk_182 0 73 (dk_at dksX0_shareByLevel_0 4 rfl rfl)
theorem dX0_shareByLevel_7 : decode cX0_shareByLevel 7 = .ok (.i2l, 1) := dk_133 (dk_at dksX0_shareByLevel_0 7 rfl rfl)
theorem dX0_shareByLevel_8 : decode cX0_shareByLevel 8 = .ok (.lastore, 1) := dk_80 (dk_at dksX0_shareByLevel_0 8 rfl rfl)
theorem dX0_shareByLevel_9 : decode cX0_shareByLevel 9 = .ok (.goto 6, 3) := dk_167 0 6 (dk_at dksX0_shareByLevel_0 9 rfl rfl)
theorem dX0_shareByLevel_12 : decode cX0_shareByLevel 12 = .ok (.astore_n 3, 1) := dk_78 (dk_at dksX0_shareByLevel_0 12 rfl rfl)
theorem dX0_shareByLevel_13 : decode cX0_shareByLevel 13 = .ok (.iconst 1, 1) := dk_4 (dk_at dksX0_shareByLevel_0 13 rfl rfl)
theorem dX0_shareByLevel_14 : decode cX0_shareByLevel 14 = .ok (.ireturn, 1) := dk_172 (dk_at dksX0_shareByLevel_0 14 rfl rfl)
theorem dX0_shareByLevel_15 : decode cX0_shareByLevel 15 = .ok (.iconst 0, 1) := dk_3 (dk_at dksX0_shareByLevel_0 15 rfl rfl)
theorem dX0_shareByLevel_16 : decode cX0_shareByLevel 16 = .ok (.ireturn, 1) := dk_172 (dk_at dksX0_shareByLevel_0 16 rfl rfl)
abbrev cX0_editionByMissing : ByteArray := method_21_code
def yX0_editionByMissing : MethodName := ⟨RX0, "editionByMissing", "(LInkPrintery;I[J)I"⟩
def dkwX0_editionByMissing_0 : List UInt8 := [44, 3, 42, 27, 182, 0, 76, 133, 80, 167, 0, 6, 78, 4, 172, 3, 172]
abbrev dktX0_editionByMissing_0 : List UInt8 := dkwX0_editionByMissing_0 ++ []
theorem dksX0_editionByMissing_0 : cX0_editionByMissing.data.toList.drop 0 = dktX0_editionByMissing_0 := by decide +kernel
theorem dX0_editionByMissing_0 : decode cX0_editionByMissing 0 = .ok (.aload_n 2, 1) := dk_44 (dk_at dksX0_editionByMissing_0 0 rfl rfl)
theorem dX0_editionByMissing_1 : decode cX0_editionByMissing 1 = .ok (.iconst 0, 1) := dk_3 (dk_at dksX0_editionByMissing_0 1 rfl rfl)
theorem dX0_editionByMissing_2 : decode cX0_editionByMissing 2 = .ok (.aload_n 0, 1) := dk_42 (dk_at dksX0_editionByMissing_0 2 rfl rfl)
theorem dX0_editionByMissing_3 : decode cX0_editionByMissing 3 = .ok (.iload_n 1, 1) := dk_27 (dk_at dksX0_editionByMissing_0 3 rfl rfl)
theorem dX0_editionByMissing_4 : decode cX0_editionByMissing 4 = .ok (.invokevirtual 76, 3) := dk_182 0 76 (dk_at dksX0_editionByMissing_0 4 rfl rfl)
theorem dX0_editionByMissing_7 : decode cX0_editionByMissing 7 = .ok (.i2l, 1) := dk_133 (dk_at dksX0_editionByMissing_0 7 rfl rfl)
theorem dX0_editionByMissing_8 : decode cX0_editionByMissing 8 = .ok (.lastore, 1) := dk_80 (dk_at dksX0_editionByMissing_0 8 rfl rfl)
theorem dX0_editionByMissing_9 : decode cX0_editionByMissing 9 = .ok (.goto 6, 3) := dk_167 0 6 (dk_at dksX0_editionByMissing_0 9 rfl rfl)
theorem dX0_editionByMissing_12 : decode cX0_editionByMissing 12 = .ok (.astore_n 3, 1) := dk_78 (dk_at dksX0_editionByMissing_0 12 rfl rfl)
theorem dX0_editionByMissing_13 : decode cX0_editionByMissing 13 = .ok (.iconst 1, 1) := dk_4 (dk_at dksX0_editionByMissing_0 13 rfl rfl)
theorem dX0_editionByMissing_14 : decode cX0_editionByMissing 14 = .ok (.ireturn, 1) := dk_172 (dk_at dksX0_editionByMissing_0 14 rfl rfl)
theorem dX0_editionByMissing_15 : decode cX0_editionByMissing 15 = .ok (.iconst 0, 1) := dk_3 (dk_at dksX0_editionByMissing_0 15 rfl rfl)
theorem dX0_editionByMissing_16 : decode cX0_editionByMissing 16 = .ok (.ireturn, 1) := dk_172 (dk_at dksX0_editionByMissing_0 16 rfl rfl)
abbrev cX0_addProof : ByteArray := method_22_code
def yX0_addProof : MethodName := ⟨RX0, "addProof", "(LInkPrintery;I[J)I"⟩
def dkwX0_addProof_0 : List UInt8 := [44, 3, 42, 27, 182, 0, 79, 133, 80, 167, 0, 9, 78, 4, 172, 78, 5, 172, 3, 172]
abbrev dktX0_addProof_0 : List UInt8 := dkwX0_addProof_0 ++ []
theorem dksX0_addProof_0 : cX0_addProof.data.toList.drop 0 = dktX0_addProof_0 := by decide +kernel
theorem dX0_addProof_0 : decode cX0_addProof 0 = .ok (.aload_n 2, 1) := dk_44 (dk_at dksX0_addProof_0 0 rfl rfl)
theorem dX0_addProof_1 : decode cX0_addProof 1 = .ok (.iconst 0, 1) := dk_3 (dk_at dksX0_addProof_0 1 rfl rfl)
theorem dX0_addProof_2 : decode cX0_addProof 2 = .ok (.aload_n 0, 1) := dk_42 (dk_at dksX0_addProof_0 2 rfl rfl)
theorem dX0_addProof_3 : decode cX0_addProof 3 = .ok (.iload_n 1, 1) := dk_27 (dk_at dksX0_addProof_0 3 rfl rfl)
theorem dX0_addProof_4 : decode cX0_addProof 4 = .ok (.invokevirtual 79, 3) := dk_182 0 79 (dk_at dksX0_addProof_0 4 rfl rfl)
theorem dX0_addProof_7 : decode cX0_addProof 7 = .ok (.i2l, 1) := dk_133 (dk_at dksX0_addProof_0 7 rfl rfl)
theorem dX0_addProof_8 : decode cX0_addProof 8 = .ok (.lastore, 1) := dk_80 (dk_at dksX0_addProof_0 8 rfl rfl)
theorem dX0_addProof_9 : decode cX0_addProof 9 = .ok (.goto 9, 3) := dk_167 0 9 (dk_at dksX0_addProof_0 9 rfl rfl)
theorem dX0_addProof_12 : decode cX0_addProof 12 = .ok (.astore_n 3, 1) := dk_78 (dk_at dksX0_addProof_0 12 rfl rfl)
theorem dX0_addProof_13 : decode cX0_addProof 13 = .ok (.iconst 1, 1) := dk_4 (dk_at dksX0_addProof_0 13 rfl rfl)
theorem dX0_addProof_14 : decode cX0_addProof 14 = .ok (.ireturn, 1) := dk_172 (dk_at dksX0_addProof_0 14 rfl rfl)
theorem dX0_addProof_15 : decode cX0_addProof 15 = .ok (.astore_n 3, 1) := dk_78 (dk_at dksX0_addProof_0 15 rfl rfl)
theorem dX0_addProof_16 : decode cX0_addProof 16 = .ok (.iconst 2, 1) := dk_5 (dk_at dksX0_addProof_0 16 rfl rfl)
theorem dX0_addProof_17 : decode cX0_addProof 17 = .ok (.ireturn, 1) := dk_172 (dk_at dksX0_addProof_0 17 rfl rfl)
theorem dX0_addProof_18 : decode cX0_addProof 18 = .ok (.iconst 0, 1) := dk_3 (dk_at dksX0_addProof_0 18 rfl rfl)
theorem dX0_addProof_19 : decode cX0_addProof 19 = .ok (.ireturn, 1) := dk_172 (dk_at dksX0_addProof_0 19 rfl rfl)
abbrev cX0_dropProof : ByteArray := method_23_code
def yX0_dropProof : MethodName := ⟨RX0, "dropProof", "(LInkPrintery;I[J)I"⟩
def dkwX0_dropProof_0 : List UInt8 := [44, 3, 42, 27, 182, 0, 82, 133, 80, 167, 0, 6, 78, 4, 172, 3, 172]
abbrev dktX0_dropProof_0 : List UInt8 := dkwX0_dropProof_0 ++ []
theorem dksX0_dropProof_0 : cX0_dropProof.data.toList.drop 0 = dktX0_dropProof_0 := by decide +kernel
theorem dX0_dropProof_0 : decode cX0_dropProof 0 = .ok (.aload_n 2, 1) := dk_44 (dk_at dksX0_dropProof_0 0 rfl rfl)
theorem dX0_dropProof_1 : decode cX0_dropProof 1 = .ok (.iconst 0, 1) := dk_3 (dk_at dksX0_dropProof_0 1 rfl rfl)
theorem dX0_dropProof_2 : decode cX0_dropProof 2 = .ok (.aload_n 0, 1) := dk_42 (dk_at dksX0_dropProof_0 2 rfl rfl)
theorem dX0_dropProof_3 : decode cX0_dropProof 3 = .ok (.iload_n 1, 1) := dk_27 (dk_at dksX0_dropProof_0 3 rfl rfl)
theorem dX0_dropProof_4 : decode cX0_dropProof 4 = .ok (.invokevirtual 82, 3) := dk_182 0 82 (dk_at dksX0_dropProof_0 4 rfl rfl)
theorem dX0_dropProof_7 : decode cX0_dropProof 7 = .ok (.i2l, 1) := dk_133 (dk_at dksX0_dropProof_0 7 rfl rfl)
theorem dX0_dropProof_8 : decode cX0_dropProof 8 = .ok (.lastore, 1) := dk_80 (dk_at dksX0_dropProof_0 8 rfl rfl)
theorem dX0_dropProof_9 : decode cX0_dropProof 9 = .ok (.goto 6, 3) := dk_167 0 6 (dk_at dksX0_dropProof_0 9 rfl rfl)
theorem dX0_dropProof_12 : decode cX0_dropProof 12 = .ok (.astore_n 3, 1) := dk_78 (dk_at dksX0_dropProof_0 12 rfl rfl)
theorem dX0_dropProof_13 : decode cX0_dropProof 13 = .ok (.iconst 1, 1) := dk_4 (dk_at dksX0_dropProof_0 13 rfl rfl)
theorem dX0_dropProof_14 : decode cX0_dropProof 14 = .ok (.ireturn, 1) := dk_172 (dk_at dksX0_dropProof_0 14 rfl rfl)
theorem dX0_dropProof_15 : decode cX0_dropProof 15 = .ok (.iconst 0, 1) := dk_3 (dk_at dksX0_dropProof_0 15 rfl rfl)
theorem dX0_dropProof_16 : decode cX0_dropProof 16 = .ok (.ireturn, 1) := dk_172 (dk_at dksX0_dropProof_0 16 rfl rfl)
abbrev cX0_marksOf : ByteArray := method_24_code
def yX0_marksOf : MethodName := ⟨RX0, "marksOf", "(LInkPrintery;I[J)I"⟩
def dkwX0_marksOf_0 : List UInt8 := [44, 3, 42, 27, 182, 0, 85, 133, 80, 167, 0, 6, 78, 4, 172, 3, 172]
abbrev dktX0_marksOf_0 : List UInt8 := dkwX0_marksOf_0 ++ []
theorem dksX0_marksOf_0 : cX0_marksOf.data.toList.drop 0 = dktX0_marksOf_0 := by decide +kernel
theorem dX0_marksOf_0 : decode cX0_marksOf 0 = .ok (.aload_n 2, 1) := dk_44 (dk_at dksX0_marksOf_0 0 rfl rfl)
theorem dX0_marksOf_1 : decode cX0_marksOf 1 = .ok (.iconst 0, 1) := dk_3 (dk_at dksX0_marksOf_0 1 rfl rfl)
theorem dX0_marksOf_2 : decode cX0_marksOf 2 = .ok (.aload_n 0, 1) := dk_42 (dk_at dksX0_marksOf_0 2 rfl rfl)
theorem dX0_marksOf_3 : decode cX0_marksOf 3 = .ok (.iload_n 1, 1) := dk_27 (dk_at dksX0_marksOf_0 3 rfl rfl)
theorem dX0_marksOf_4 : decode cX0_marksOf 4 = .ok (.invokevirtual 85, 3) := dk_182 0 85 (dk_at dksX0_marksOf_0 4 rfl rfl)
theorem dX0_marksOf_7 : decode cX0_marksOf 7 = .ok (.i2l, 1) := dk_133 (dk_at dksX0_marksOf_0 7 rfl rfl)
theorem dX0_marksOf_8 : decode cX0_marksOf 8 = .ok (.lastore, 1) := dk_80 (dk_at dksX0_marksOf_0 8 rfl rfl)
theorem dX0_marksOf_9 : decode cX0_marksOf 9 = .ok (.goto 6, 3) := dk_167 0 6 (dk_at dksX0_marksOf_0 9 rfl rfl)
theorem dX0_marksOf_12 : decode cX0_marksOf 12 = .ok (.astore_n 3, 1) := dk_78 (dk_at dksX0_marksOf_0 12 rfl rfl)
theorem dX0_marksOf_13 : decode cX0_marksOf 13 = .ok (.iconst 1, 1) := dk_4 (dk_at dksX0_marksOf_0 13 rfl rfl)
theorem dX0_marksOf_14 : decode cX0_marksOf 14 = .ok (.ireturn, 1) := dk_172 (dk_at dksX0_marksOf_0 14 rfl rfl)
theorem dX0_marksOf_15 : decode cX0_marksOf 15 = .ok (.iconst 0, 1) := dk_3 (dk_at dksX0_marksOf_0 15 rfl rfl)
theorem dX0_marksOf_16 : decode cX0_marksOf 16 = .ok (.ireturn, 1) := dk_172 (dk_at dksX0_marksOf_0 16 rfl rfl)
abbrev cX0_hourOf : ByteArray := method_25_code
def yX0_hourOf : MethodName := ⟨RX0, "hourOf", "(LInkPrintery;I[J)I"⟩
def dkwX0_hourOf_0 : List UInt8 := [44, 3, 42, 27, 182, 0, 88, 133, 80, 167, 0, 6, 78, 4, 172, 3, 172]
abbrev dktX0_hourOf_0 : List UInt8 := dkwX0_hourOf_0 ++ []
theorem dksX0_hourOf_0 : cX0_hourOf.data.toList.drop 0 = dktX0_hourOf_0 := by decide +kernel
theorem dX0_hourOf_0 : decode cX0_hourOf 0 = .ok (.aload_n 2, 1) := dk_44 (dk_at dksX0_hourOf_0 0 rfl rfl)
theorem dX0_hourOf_1 : decode cX0_hourOf 1 = .ok (.iconst 0, 1) := dk_3 (dk_at dksX0_hourOf_0 1 rfl rfl)
theorem dX0_hourOf_2 : decode cX0_hourOf 2 = .ok (.aload_n 0, 1) := dk_42 (dk_at dksX0_hourOf_0 2 rfl rfl)
theorem dX0_hourOf_3 : decode cX0_hourOf 3 = .ok (.iload_n 1, 1) := dk_27 (dk_at dksX0_hourOf_0 3 rfl rfl)
theorem dX0_hourOf_4 : decode cX0_hourOf 4 = .ok (.invokevirtual 88, 3) := dk_182 0 88 (dk_at dksX0_hourOf_0 4 rfl rfl)
theorem dX0_hourOf_7 : decode cX0_hourOf 7 = .ok (.i2l, 1) := dk_133 (dk_at dksX0_hourOf_0 7 rfl rfl)
theorem dX0_hourOf_8 : decode cX0_hourOf 8 = .ok (.lastore, 1) := dk_80 (dk_at dksX0_hourOf_0 8 rfl rfl)
theorem dX0_hourOf_9 : decode cX0_hourOf 9 = .ok (.goto 6, 3) := dk_167 0 6 (dk_at dksX0_hourOf_0 9 rfl rfl)
theorem dX0_hourOf_12 : decode cX0_hourOf 12 = .ok (.astore_n 3, 1) := dk_78 (dk_at dksX0_hourOf_0 12 rfl rfl)
theorem dX0_hourOf_13 : decode cX0_hourOf 13 = .ok (.iconst 1, 1) := dk_4 (dk_at dksX0_hourOf_0 13 rfl rfl)
theorem dX0_hourOf_14 : decode cX0_hourOf 14 = .ok (.ireturn, 1) := dk_172 (dk_at dksX0_hourOf_0 14 rfl rfl)
theorem dX0_hourOf_15 : decode cX0_hourOf 15 = .ok (.iconst 0, 1) := dk_3 (dk_at dksX0_hourOf_0 15 rfl rfl)
theorem dX0_hourOf_16 : decode cX0_hourOf 16 = .ok (.ireturn, 1) := dk_172 (dk_at dksX0_hourOf_0 16 rfl rfl)
abbrev cX0_meanRun : ByteArray := method_26_code
def yX0_meanRun : MethodName := ⟨RX0, "meanRun", "(LInkPrintery;[D)I"⟩
def dkwX0_meanRun_0 : List UInt8 := [43, 3, 42, 182, 0, 91, 82, 167, 0, 6, 77, 4, 172, 3, 172]
abbrev dktX0_meanRun_0 : List UInt8 := dkwX0_meanRun_0 ++ []
theorem dksX0_meanRun_0 : cX0_meanRun.data.toList.drop 0 = dktX0_meanRun_0 := by decide +kernel
theorem dX0_meanRun_0 : decode cX0_meanRun 0 = .ok (.aload_n 1, 1) := dk_43 (dk_at dksX0_meanRun_0 0 rfl rfl)
theorem dX0_meanRun_1 : decode cX0_meanRun 1 = .ok (.iconst 0, 1) := dk_3 (dk_at dksX0_meanRun_0 1 rfl rfl)
theorem dX0_meanRun_2 : decode cX0_meanRun 2 = .ok (.aload_n 0, 1) := dk_42 (dk_at dksX0_meanRun_0 2 rfl rfl)
theorem dX0_meanRun_3 : decode cX0_meanRun 3 = .ok (.invokevirtual 91, 3) := dk_182 0 91 (dk_at dksX0_meanRun_0 3 rfl rfl)
theorem dX0_meanRun_6 : decode cX0_meanRun 6 = .ok (.dastore, 1) := dk_82 (dk_at dksX0_meanRun_0 6 rfl rfl)
theorem dX0_meanRun_7 : decode cX0_meanRun 7 = .ok (.goto 6, 3) := dk_167 0 6 (dk_at dksX0_meanRun_0 7 rfl rfl)
theorem dX0_meanRun_10 : decode cX0_meanRun 10 = .ok (.astore_n 2, 1) := dk_77 (dk_at dksX0_meanRun_0 10 rfl rfl)
theorem dX0_meanRun_11 : decode cX0_meanRun 11 = .ok (.iconst 1, 1) := dk_4 (dk_at dksX0_meanRun_0 11 rfl rfl)
theorem dX0_meanRun_12 : decode cX0_meanRun 12 = .ok (.ireturn, 1) := dk_172 (dk_at dksX0_meanRun_0 12 rfl rfl)
theorem dX0_meanRun_13 : decode cX0_meanRun 13 = .ok (.iconst 0, 1) := dk_3 (dk_at dksX0_meanRun_0 13 rfl rfl)
theorem dX0_meanRun_14 : decode cX0_meanRun 14 = .ok (.ireturn, 1) := dk_172 (dk_at dksX0_meanRun_0 14 rfl rfl)
abbrev cX0_fadedShare : ByteArray := method_27_code
def yX0_fadedShare : MethodName := ⟨RX0, "fadedShare", "(LInkPrintery;[D)I"⟩
def dkwX0_fadedShare_0 : List UInt8 := [43, 3, 42, 182, 0, 97, 141, 82, 167, 0, 6, 77, 4, 172, 3, 172]
abbrev dktX0_fadedShare_0 : List UInt8 := dkwX0_fadedShare_0 ++ []
theorem dksX0_fadedShare_0 : cX0_fadedShare.data.toList.drop 0 = dktX0_fadedShare_0 := by decide +kernel
theorem dX0_fadedShare_0 : decode cX0_fadedShare 0 = .ok (.aload_n 1, 1) := dk_43 (dk_at dksX0_fadedShare_0 0 rfl rfl)
theorem dX0_fadedShare_1 : decode cX0_fadedShare 1 = .ok (.iconst 0, 1) := dk_3 (dk_at dksX0_fadedShare_0 1 rfl rfl)
theorem dX0_fadedShare_2 : decode cX0_fadedShare 2 = .ok (.aload_n 0, 1) := dk_42 (dk_at dksX0_fadedShare_0 2 rfl rfl)
theorem dX0_fadedShare_3 : decode cX0_fadedShare 3 = .ok (.invokevirtual 97, 3) := dk_182 0 97 (dk_at dksX0_fadedShare_0 3 rfl rfl)
theorem dX0_fadedShare_6 : decode cX0_fadedShare 6 = .ok (.f2d, 1) := dk_141 (dk_at dksX0_fadedShare_0 6 rfl rfl)
theorem dX0_fadedShare_7 : decode cX0_fadedShare 7 = .ok (.dastore, 1) := dk_82 (dk_at dksX0_fadedShare_0 7 rfl rfl)
theorem dX0_fadedShare_8 : decode cX0_fadedShare 8 = .ok (.goto 6, 3) := dk_167 0 6 (dk_at dksX0_fadedShare_0 8 rfl rfl)
theorem dX0_fadedShare_11 : decode cX0_fadedShare 11 = .ok (.astore_n 2, 1) := dk_77 (dk_at dksX0_fadedShare_0 11 rfl rfl)
theorem dX0_fadedShare_12 : decode cX0_fadedShare 12 = .ok (.iconst 1, 1) := dk_4 (dk_at dksX0_fadedShare_0 12 rfl rfl)
theorem dX0_fadedShare_13 : decode cX0_fadedShare 13 = .ok (.ireturn, 1) := dk_172 (dk_at dksX0_fadedShare_0 13 rfl rfl)
theorem dX0_fadedShare_14 : decode cX0_fadedShare 14 = .ok (.iconst 0, 1) := dk_3 (dk_at dksX0_fadedShare_0 14 rfl rfl)
theorem dX0_fadedShare_15 : decode cX0_fadedShare 15 = .ok (.ireturn, 1) := dk_172 (dk_at dksX0_fadedShare_0 15 rfl rfl)
abbrev cX0_writeEdition : ByteArray := method_28_code
def yX0_writeEdition : MethodName := ⟨RX0, "writeEdition", "(LInkPrintery;I[J)I"⟩
def dkwX0_writeEdition_0 : List UInt8 := [44, 3, 42, 27, 182, 0, 101, 133, 80, 167, 0, 6, 78, 4, 172, 3, 172]
abbrev dktX0_writeEdition_0 : List UInt8 := dkwX0_writeEdition_0 ++ []
theorem dksX0_writeEdition_0 : cX0_writeEdition.data.toList.drop 0 = dktX0_writeEdition_0 := by decide +kernel
theorem dX0_writeEdition_0 : decode cX0_writeEdition 0 = .ok (.aload_n 2, 1) := dk_44 (dk_at dksX0_writeEdition_0 0 rfl rfl)
theorem dX0_writeEdition_1 : decode cX0_writeEdition 1 = .ok (.iconst 0, 1) := dk_3 (dk_at dksX0_writeEdition_0 1 rfl rfl)
theorem dX0_writeEdition_2 : decode cX0_writeEdition 2 = .ok (.aload_n 0, 1) := dk_42 (dk_at dksX0_writeEdition_0 2 rfl rfl)
theorem dX0_writeEdition_3 : decode cX0_writeEdition 3 = .ok (.iload_n 1, 1) := dk_27 (dk_at dksX0_writeEdition_0 3 rfl rfl)
theorem dX0_writeEdition_4 : decode cX0_writeEdition 4 = .ok (.invokevirtual 101, 3) := dk_182 0 101 (dk_at dksX0_writeEdition_0 4 rfl rfl)
theorem dX0_writeEdition_7 : decode cX0_writeEdition 7 = .ok (.i2l, 1) := dk_133 (dk_at dksX0_writeEdition_0 7 rfl rfl)
theorem dX0_writeEdition_8 : decode cX0_writeEdition 8 = .ok (.lastore, 1) := dk_80 (dk_at dksX0_writeEdition_0 8 rfl rfl)
theorem dX0_writeEdition_9 : decode cX0_writeEdition 9 = .ok (.goto 6, 3) := dk_167 0 6 (dk_at dksX0_writeEdition_0 9 rfl rfl)
theorem dX0_writeEdition_12 : decode cX0_writeEdition 12 = .ok (.astore_n 3, 1) := dk_78 (dk_at dksX0_writeEdition_0 12 rfl rfl)
theorem dX0_writeEdition_13 : decode cX0_writeEdition 13 = .ok (.iconst 1, 1) := dk_4 (dk_at dksX0_writeEdition_0 13 rfl rfl)
theorem dX0_writeEdition_14 : decode cX0_writeEdition 14 = .ok (.ireturn, 1) := dk_172 (dk_at dksX0_writeEdition_0 14 rfl rfl)
theorem dX0_writeEdition_15 : decode cX0_writeEdition 15 = .ok (.iconst 0, 1) := dk_3 (dk_at dksX0_writeEdition_0 15 rfl rfl)
theorem dX0_writeEdition_16 : decode cX0_writeEdition 16 = .ok (.ireturn, 1) := dk_172 (dk_at dksX0_writeEdition_0 16 rfl rfl)
abbrev cX0_lineAt : ByteArray := method_29_code
def yX0_lineAt : MethodName := ⟨RX0, "lineAt", "(LInkPrintery;I[J)I"⟩
def dkwX0_lineAt_0 : List UInt8 := [44, 3, 42, 27, 182, 0, 104, 133, 80, 167, 0, 6, 78, 4, 172, 3, 172]
abbrev dktX0_lineAt_0 : List UInt8 := dkwX0_lineAt_0 ++ []
theorem dksX0_lineAt_0 : cX0_lineAt.data.toList.drop 0 = dktX0_lineAt_0 := by decide +kernel
theorem dX0_lineAt_0 : decode cX0_lineAt 0 = .ok (.aload_n 2, 1) := dk_44 (dk_at dksX0_lineAt_0 0 rfl rfl)
theorem dX0_lineAt_1 : decode cX0_lineAt 1 = .ok (.iconst 0, 1) := dk_3 (dk_at dksX0_lineAt_0 1 rfl rfl)
theorem dX0_lineAt_2 : decode cX0_lineAt 2 = .ok (.aload_n 0, 1) := dk_42 (dk_at dksX0_lineAt_0 2 rfl rfl)
theorem dX0_lineAt_3 : decode cX0_lineAt 3 = .ok (.iload_n 1, 1) := dk_27 (dk_at dksX0_lineAt_0 3 rfl rfl)
theorem dX0_lineAt_4 : decode cX0_lineAt 4 = .ok (.invokevirtual 104, 3) := dk_182 0 104 (dk_at dksX0_lineAt_0 4 rfl rfl)
theorem dX0_lineAt_7 : decode cX0_lineAt 7 = .ok (.i2l, 1) := dk_133 (dk_at dksX0_lineAt_0 7 rfl rfl)
theorem dX0_lineAt_8 : decode cX0_lineAt 8 = .ok (.lastore, 1) := dk_80 (dk_at dksX0_lineAt_0 8 rfl rfl)
theorem dX0_lineAt_9 : decode cX0_lineAt 9 = .ok (.goto 6, 3) := dk_167 0 6 (dk_at dksX0_lineAt_0 9 rfl rfl)
theorem dX0_lineAt_12 : decode cX0_lineAt 12 = .ok (.astore_n 3, 1) := dk_78 (dk_at dksX0_lineAt_0 12 rfl rfl)
theorem dX0_lineAt_13 : decode cX0_lineAt 13 = .ok (.iconst 1, 1) := dk_4 (dk_at dksX0_lineAt_0 13 rfl rfl)
theorem dX0_lineAt_14 : decode cX0_lineAt 14 = .ok (.ireturn, 1) := dk_172 (dk_at dksX0_lineAt_0 14 rfl rfl)
theorem dX0_lineAt_15 : decode cX0_lineAt 15 = .ok (.iconst 0, 1) := dk_3 (dk_at dksX0_lineAt_0 15 rfl rfl)
theorem dX0_lineAt_16 : decode cX0_lineAt 16 = .ok (.ireturn, 1) := dk_172 (dk_at dksX0_lineAt_0 16 rfl rfl)
abbrev cX0_type : ByteArray := method_30_code
def yX0_type : MethodName := ⟨RX0, "type", "(LInkPrintery;C[J)I"⟩
def dkwX0_type_0 : List UInt8 := [44, 3, 42, 27, 182, 0, 108, 133, 80, 167, 0, 9, 78, 4, 172, 78, 5, 172, 3, 172]
abbrev dktX0_type_0 : List UInt8 := dkwX0_type_0 ++ []
theorem dksX0_type_0 : cX0_type.data.toList.drop 0 = dktX0_type_0 := by decide +kernel
theorem dX0_type_0 : decode cX0_type 0 = .ok (.aload_n 2, 1) := dk_44 (dk_at dksX0_type_0 0 rfl rfl)
theorem dX0_type_1 : decode cX0_type 1 = .ok (.iconst 0, 1) := dk_3 (dk_at dksX0_type_0 1 rfl rfl)
theorem dX0_type_2 : decode cX0_type 2 = .ok (.aload_n 0, 1) := dk_42 (dk_at dksX0_type_0 2 rfl rfl)
theorem dX0_type_3 : decode cX0_type 3 = .ok (.iload_n 1, 1) := dk_27 (dk_at dksX0_type_0 3 rfl rfl)
theorem dX0_type_4 : decode cX0_type 4 = .ok (.invokevirtual 108, 3) := dk_182 0 108 (dk_at dksX0_type_0 4 rfl rfl)
theorem dX0_type_7 : decode cX0_type 7 = .ok (.i2l, 1) := dk_133 (dk_at dksX0_type_0 7 rfl rfl)
theorem dX0_type_8 : decode cX0_type 8 = .ok (.lastore, 1) := dk_80 (dk_at dksX0_type_0 8 rfl rfl)
theorem dX0_type_9 : decode cX0_type 9 = .ok (.goto 9, 3) := dk_167 0 9 (dk_at dksX0_type_0 9 rfl rfl)
theorem dX0_type_12 : decode cX0_type 12 = .ok (.astore_n 3, 1) := dk_78 (dk_at dksX0_type_0 12 rfl rfl)
theorem dX0_type_13 : decode cX0_type 13 = .ok (.iconst 1, 1) := dk_4 (dk_at dksX0_type_0 13 rfl rfl)
theorem dX0_type_14 : decode cX0_type 14 = .ok (.ireturn, 1) := dk_172 (dk_at dksX0_type_0 14 rfl rfl)
theorem dX0_type_15 : decode cX0_type 15 = .ok (.astore_n 3, 1) := dk_78 (dk_at dksX0_type_0 15 rfl rfl)
theorem dX0_type_16 : decode cX0_type 16 = .ok (.iconst 2, 1) := dk_5 (dk_at dksX0_type_0 16 rfl rfl)
theorem dX0_type_17 : decode cX0_type 17 = .ok (.ireturn, 1) := dk_172 (dk_at dksX0_type_0 17 rfl rfl)
theorem dX0_type_18 : decode cX0_type 18 = .ok (.iconst 0, 1) := dk_3 (dk_at dksX0_type_0 18 rfl rfl)
theorem dX0_type_19 : decode cX0_type 19 = .ok (.ireturn, 1) := dk_172 (dk_at dksX0_type_0 19 rfl rfl)
abbrev cX0_execute : ByteArray := method_31_code
def yX0_execute : MethodName := ⟨RX0, "execute", "(LInkPrintery;[J)I"⟩
def dkwX0_execute_0 : List UInt8 := [43, 3, 42, 182, 0, 112, 133, 80, 167, 0, 9, 77, 4, 172, 77, 5, 172, 3, 172]
abbrev dktX0_execute_0 : List UInt8 := dkwX0_execute_0 ++ []
theorem dksX0_execute_0 : cX0_execute.data.toList.drop 0 = dktX0_execute_0 := by decide +kernel
theorem dX0_execute_0 : decode cX0_execute 0 = .ok (.aload_n 1, 1) := dk_43 (dk_at dksX0_execute_0 0 rfl rfl)
theorem dX0_execute_1 : decode cX0_execute 1 = .ok (.iconst 0, 1) := dk_3 (dk_at dksX0_execute_0 1 rfl rfl)
theorem dX0_execute_2 : decode cX0_execute 2 = .ok (.aload_n 0, 1) := dk_42 (dk_at dksX0_execute_0 2 rfl rfl)
theorem dX0_execute_3 : decode cX0_execute 3 = .ok (.invokevirtual 112, 3) := dk_182 0 112 (dk_at dksX0_execute_0 3 rfl rfl)
theorem dX0_execute_6 : decode cX0_execute 6 = .ok (.i2l, 1) := dk_133 (dk_at dksX0_execute_0 6 rfl rfl)
theorem dX0_execute_7 : decode cX0_execute 7 = .ok (.lastore, 1) := dk_80 (dk_at dksX0_execute_0 7 rfl rfl)
theorem dX0_execute_8 : decode cX0_execute 8 = .ok (.goto 9, 3) := dk_167 0 9 (dk_at dksX0_execute_0 8 rfl rfl)
theorem dX0_execute_11 : decode cX0_execute 11 = .ok (.astore_n 2, 1) := dk_77 (dk_at dksX0_execute_0 11 rfl rfl)
theorem dX0_execute_12 : decode cX0_execute 12 = .ok (.iconst 1, 1) := dk_4 (dk_at dksX0_execute_0 12 rfl rfl)
theorem dX0_execute_13 : decode cX0_execute 13 = .ok (.ireturn, 1) := dk_172 (dk_at dksX0_execute_0 13 rfl rfl)
theorem dX0_execute_14 : decode cX0_execute 14 = .ok (.astore_n 2, 1) := dk_77 (dk_at dksX0_execute_0 14 rfl rfl)
theorem dX0_execute_15 : decode cX0_execute 15 = .ok (.iconst 2, 1) := dk_5 (dk_at dksX0_execute_0 15 rfl rfl)
theorem dX0_execute_16 : decode cX0_execute 16 = .ok (.ireturn, 1) := dk_172 (dk_at dksX0_execute_0 16 rfl rfl)
theorem dX0_execute_17 : decode cX0_execute 17 = .ok (.iconst 0, 1) := dk_3 (dk_at dksX0_execute_0 17 rfl rfl)
theorem dX0_execute_18 : decode cX0_execute 18 = .ok (.ireturn, 1) := dk_172 (dk_at dksX0_execute_0 18 rfl rfl)
abbrev cX0_errorPosition : ByteArray := method_32_code
def yX0_errorPosition : MethodName := ⟨RX0, "errorPosition", "(LInkPrintery;[J)I"⟩
def dkwX0_errorPosition_0 : List UInt8 := [43, 3, 42, 182, 0, 116, 133, 80, 167, 0, 6, 77, 4, 172, 3, 172]
abbrev dktX0_errorPosition_0 : List UInt8 := dkwX0_errorPosition_0 ++ []
theorem dksX0_errorPosition_0 : cX0_errorPosition.data.toList.drop 0 = dktX0_errorPosition_0 := by decide +kernel
theorem dX0_errorPosition_0 : decode cX0_errorPosition 0 = .ok (.aload_n 1, 1) := dk_43 (dk_at dksX0_errorPosition_0 0 rfl rfl)
theorem dX0_errorPosition_1 : decode cX0_errorPosition 1 = .ok (.iconst 0, 1) := dk_3 (dk_at dksX0_errorPosition_0 1 rfl rfl)
theorem dX0_errorPosition_2 : decode cX0_errorPosition 2 = .ok (.aload_n 0, 1) := dk_42 (dk_at dksX0_errorPosition_0 2 rfl rfl)
theorem dX0_errorPosition_3 : decode cX0_errorPosition 3 = .ok (.invokevirtual 116, 3) := dk_182 0 116 (dk_at dksX0_errorPosition_0 3 rfl rfl)
theorem dX0_errorPosition_6 : decode cX0_errorPosition 6 = .ok (.i2l, 1) := dk_133 (dk_at dksX0_errorPosition_0 6 rfl rfl)
theorem dX0_errorPosition_7 : decode cX0_errorPosition 7 = .ok (.lastore, 1) := dk_80 (dk_at dksX0_errorPosition_0 7 rfl rfl)
theorem dX0_errorPosition_8 : decode cX0_errorPosition 8 = .ok (.goto 6, 3) := dk_167 0 6 (dk_at dksX0_errorPosition_0 8 rfl rfl)
theorem dX0_errorPosition_11 : decode cX0_errorPosition 11 = .ok (.astore_n 2, 1) := dk_77 (dk_at dksX0_errorPosition_0 11 rfl rfl)
theorem dX0_errorPosition_12 : decode cX0_errorPosition 12 = .ok (.iconst 1, 1) := dk_4 (dk_at dksX0_errorPosition_0 12 rfl rfl)
theorem dX0_errorPosition_13 : decode cX0_errorPosition 13 = .ok (.ireturn, 1) := dk_172 (dk_at dksX0_errorPosition_0 13 rfl rfl)
theorem dX0_errorPosition_14 : decode cX0_errorPosition 14 = .ok (.iconst 0, 1) := dk_3 (dk_at dksX0_errorPosition_0 14 rfl rfl)
theorem dX0_errorPosition_15 : decode cX0_errorPosition 15 = .ok (.ireturn, 1) := dk_172 (dk_at dksX0_errorPosition_0 15 rfl rfl)
abbrev cX0_failedCommand : ByteArray := method_33_code
def yX0_failedCommand : MethodName := ⟨RX0, "failedCommand", "(LInkPrintery;[J)I"⟩
def dkwX0_failedCommand_0 : List UInt8 := [43, 3, 42, 182, 0, 119, 133, 80, 167, 0, 6, 77, 4, 172, 3, 172]
abbrev dktX0_failedCommand_0 : List UInt8 := dkwX0_failedCommand_0 ++ []
theorem dksX0_failedCommand_0 : cX0_failedCommand.data.toList.drop 0 = dktX0_failedCommand_0 := by decide +kernel
theorem dX0_failedCommand_0 : decode cX0_failedCommand 0 = .ok (.aload_n 1, 1) := dk_43 (dk_at dksX0_failedCommand_0 0 rfl rfl)
theorem dX0_failedCommand_1 : decode cX0_failedCommand 1 = .ok (.iconst 0, 1) := dk_3 (dk_at dksX0_failedCommand_0 1 rfl rfl)
theorem dX0_failedCommand_2 : decode cX0_failedCommand 2 = .ok (.aload_n 0, 1) := dk_42 (dk_at dksX0_failedCommand_0 2 rfl rfl)
theorem dX0_failedCommand_3 : decode cX0_failedCommand 3 = .ok (.invokevirtual 119, 3) := dk_182 0 119 (dk_at dksX0_failedCommand_0 3 rfl rfl)
theorem dX0_failedCommand_6 : decode cX0_failedCommand 6 = .ok (.i2l, 1) := dk_133 (dk_at dksX0_failedCommand_0 6 rfl rfl)
theorem dX0_failedCommand_7 : decode cX0_failedCommand 7 = .ok (.lastore, 1) := dk_80 (dk_at dksX0_failedCommand_0 7 rfl rfl)
theorem dX0_failedCommand_8 : decode cX0_failedCommand 8 = .ok (.goto 6, 3) := dk_167 0 6 (dk_at dksX0_failedCommand_0 8 rfl rfl)
theorem dX0_failedCommand_11 : decode cX0_failedCommand 11 = .ok (.astore_n 2, 1) := dk_77 (dk_at dksX0_failedCommand_0 11 rfl rfl)
theorem dX0_failedCommand_12 : decode cX0_failedCommand 12 = .ok (.iconst 1, 1) := dk_4 (dk_at dksX0_failedCommand_0 12 rfl rfl)
theorem dX0_failedCommand_13 : decode cX0_failedCommand 13 = .ok (.ireturn, 1) := dk_172 (dk_at dksX0_failedCommand_0 13 rfl rfl)
theorem dX0_failedCommand_14 : decode cX0_failedCommand 14 = .ok (.iconst 0, 1) := dk_3 (dk_at dksX0_failedCommand_0 14 rfl rfl)
theorem dX0_failedCommand_15 : decode cX0_failedCommand 15 = .ok (.ireturn, 1) := dk_172 (dk_at dksX0_failedCommand_0 15 rfl rfl)
abbrev cX0_undo : ByteArray := method_34_code
def yX0_undo : MethodName := ⟨RX0, "undo", "(LInkPrintery;[J)I"⟩
def dkwX0_undo_0 : List UInt8 := [43, 3, 42, 182, 0, 122, 133, 80, 167, 0, 6, 77, 4, 172, 3, 172]
abbrev dktX0_undo_0 : List UInt8 := dkwX0_undo_0 ++ []
theorem dksX0_undo_0 : cX0_undo.data.toList.drop 0 = dktX0_undo_0 := by decide +kernel
theorem dX0_undo_0 : decode cX0_undo 0 = .ok (.aload_n 1, 1) := dk_43 (dk_at dksX0_undo_0 0 rfl rfl)
theorem dX0_undo_1 : decode cX0_undo 1 = .ok (.iconst 0, 1) := dk_3 (dk_at dksX0_undo_0 1 rfl rfl)
theorem dX0_undo_2 : decode cX0_undo 2 = .ok (.aload_n 0, 1) := dk_42 (dk_at dksX0_undo_0 2 rfl rfl)
theorem dX0_undo_3 : decode cX0_undo 3 = .ok (.invokevirtual 122, 3) := dk_182 0 122 (dk_at dksX0_undo_0 3 rfl rfl)
theorem dX0_undo_6 : decode cX0_undo 6 = .ok (.i2l, 1) := dk_133 (dk_at dksX0_undo_0 6 rfl rfl)
theorem dX0_undo_7 : decode cX0_undo 7 = .ok (.lastore, 1) := dk_80 (dk_at dksX0_undo_0 7 rfl rfl)
theorem dX0_undo_8 : decode cX0_undo 8 = .ok (.goto 6, 3) := dk_167 0 6 (dk_at dksX0_undo_0 8 rfl rfl)
theorem dX0_undo_11 : decode cX0_undo 11 = .ok (.astore_n 2, 1) := dk_77 (dk_at dksX0_undo_0 11 rfl rfl)
theorem dX0_undo_12 : decode cX0_undo 12 = .ok (.iconst 1, 1) := dk_4 (dk_at dksX0_undo_0 12 rfl rfl)
theorem dX0_undo_13 : decode cX0_undo 13 = .ok (.ireturn, 1) := dk_172 (dk_at dksX0_undo_0 13 rfl rfl)
theorem dX0_undo_14 : decode cX0_undo 14 = .ok (.iconst 0, 1) := dk_3 (dk_at dksX0_undo_0 14 rfl rfl)
theorem dX0_undo_15 : decode cX0_undo 15 = .ok (.ireturn, 1) := dk_172 (dk_at dksX0_undo_0 15 rfl rfl)
abbrev cX0_restore : ByteArray := method_35_code
def yX0_restore : MethodName := ⟨RX0, "restore", "(LInkPrintery;[J)I"⟩
def dkwX0_restore_0 : List UInt8 := [43, 3, 42, 182, 0, 125, 133, 80, 167, 0, 6, 77, 4, 172, 3, 172]
abbrev dktX0_restore_0 : List UInt8 := dkwX0_restore_0 ++ []
theorem dksX0_restore_0 : cX0_restore.data.toList.drop 0 = dktX0_restore_0 := by decide +kernel
theorem dX0_restore_0 : decode cX0_restore 0 = .ok (.aload_n 1, 1) := dk_43 (dk_at dksX0_restore_0 0 rfl rfl)
theorem dX0_restore_1 : decode cX0_restore 1 = .ok (.iconst 0, 1) := dk_3 (dk_at dksX0_restore_0 1 rfl rfl)
theorem dX0_restore_2 : decode cX0_restore 2 = .ok (.aload_n 0, 1) := dk_42 (dk_at dksX0_restore_0 2 rfl rfl)
theorem dX0_restore_3 : decode cX0_restore 3 = .ok (.invokevirtual 125, 3) := dk_182 0 125 (dk_at dksX0_restore_0 3 rfl rfl)
theorem dX0_restore_6 : decode cX0_restore 6 = .ok (.i2l, 1) := dk_133 (dk_at dksX0_restore_0 6 rfl rfl)
theorem dX0_restore_7 : decode cX0_restore 7 = .ok (.lastore, 1) := dk_80 (dk_at dksX0_restore_0 7 rfl rfl)
theorem dX0_restore_8 : decode cX0_restore 8 = .ok (.goto 6, 3) := dk_167 0 6 (dk_at dksX0_restore_0 8 rfl rfl)
theorem dX0_restore_11 : decode cX0_restore 11 = .ok (.astore_n 2, 1) := dk_77 (dk_at dksX0_restore_0 11 rfl rfl)
theorem dX0_restore_12 : decode cX0_restore 12 = .ok (.iconst 1, 1) := dk_4 (dk_at dksX0_restore_0 12 rfl rfl)
theorem dX0_restore_13 : decode cX0_restore 13 = .ok (.ireturn, 1) := dk_172 (dk_at dksX0_restore_0 13 rfl rfl)
theorem dX0_restore_14 : decode cX0_restore 14 = .ok (.iconst 0, 1) := dk_3 (dk_at dksX0_restore_0 14 rfl rfl)
theorem dX0_restore_15 : decode cX0_restore 15 = .ok (.ireturn, 1) := dk_172 (dk_at dksX0_restore_0 15 rfl rfl)
theorem q83 : (Jvm.Cond.initialized "InkPrinteryLaw") ∈ lw_all := lw_g (lw_at lw_m1 0 rfl) rfl
theorem q140 : (Jvm.Cond.classLink "InkPrinteryLaw" (8 : Nat) "InkPrintery") ∈ lw_all := lw_g (lw_at lw_m1 57 rfl) rfl
theorem q142 : (Jvm.Cond.methodLink "InkPrinteryLaw" (128 : Nat) ({ cls := "InkPrintery", name := "<init>", desc := "()V" } : Jvm.MethodName)) ∈ lw_all := lw_g (lw_at lw_m1 59 rfl) rfl
theorem q577 : (Jvm.Cond.methodLink "InkPrinteryLaw" (151 : Nat) ({ cls := "InkPrintery", name := "paper", desc := "()I" } : Jvm.MethodName)) ∈ lw_all := lw_g (lw_at lw_m3 14 rfl) rfl
theorem q581 : (Jvm.Cond.methodLink "InkPrinteryLaw" (155 : Nat) ({ cls := "InkPrintery", name := "hour", desc := "()I" } : Jvm.MethodName)) ∈ lw_all := lw_g (lw_at lw_m3 18 rfl) rfl
theorem q585 : (Jvm.Cond.methodLink "InkPrinteryLaw" (177 : Nat) ({ cls := "InkPrintery", name := "printAll", desc := "()I" } : Jvm.MethodName)) ∈ lw_all := lw_g (lw_at lw_m3 22 rfl) rfl
theorem q721 : (Jvm.Cond.methodLink "InkPrinteryLaw" (181 : Nat) ({ cls := "InkPrintery", name := "editionCount", desc := "()I" } : Jvm.MethodName)) ∈ lw_all := lw_g (lw_at lw_m3 158 rfl) rfl
theorem q725 : (Jvm.Cond.methodLink "InkPrinteryLaw" (200 : Nat) ({ cls := "InkPrintery", name := "pressColour", desc := "()I" } : Jvm.MethodName)) ∈ lw_all := lw_g (lw_at lw_m3 162 rfl) rfl
theorem q729 : (Jvm.Cond.methodLink "InkPrinteryLaw" (204 : Nat) ({ cls := "InkPrintery", name := "fewestMinutes", desc := "()I" } : Jvm.MethodName)) ∈ lw_all := lw_g (lw_at lw_m3 166 rfl) rfl
theorem q748 : (Jvm.Cond.methodLink "InkPrinteryLaw" (208 : Nat) ({ cls := "InkPrintery", name := "minutesByOrders", desc := "()I" } : Jvm.MethodName)) ∈ lw_all := lw_g (lw_at lw_m3 185 rfl) rfl
theorem q770 : (Jvm.Cond.methodLink "InkPrinteryLaw" (230 : Nat) ({ cls := "InkPrintery", name := "proofCount", desc := "()I" } : Jvm.MethodName)) ∈ lw_all := lw_g (lw_at lw_m3 207 rfl) rfl
theorem q774 : (Jvm.Cond.methodLink "InkPrinteryLaw" (240 : Nat) ({ cls := "InkPrintery", name := "longestRise", desc := "()I" } : Jvm.MethodName)) ∈ lw_all := lw_g (lw_at lw_m3 211 rfl) rfl
theorem q789 : (Jvm.Cond.methodLink "InkPrinteryLaw" (244 : Nat) ({ cls := "InkPrintery", name := "riseByEnds", desc := "()I" } : Jvm.MethodName)) ∈ lw_all := lw_g (lw_at lw_m3 226 rfl) rfl
theorem q797 : (Jvm.Cond.methodLink "InkPrinteryLaw" (248 : Nat) ({ cls := "InkPrintery", name := "riseCount", desc := "()I" } : Jvm.MethodName)) ∈ lw_all := lw_g (lw_at lw_m3 234 rfl) rfl
theorem q806 : (Jvm.Cond.methodLink "InkPrinteryLaw" (252 : Nat) ({ cls := "InkPrintery", name := "minutes", desc := "()I" } : Jvm.MethodName)) ∈ lw_all := lw_g (lw_at lw_m4 3 rfl) rfl
theorem q810 : (Jvm.Cond.methodLink "InkPrinteryLaw" (256 : Nat) ({ cls := "InkPrintery", name := "poured", desc := "()I" } : Jvm.MethodName)) ∈ lw_all := lw_g (lw_at lw_m4 7 rfl) rfl
theorem q814 : (Jvm.Cond.methodLink "InkPrinteryLaw" (260 : Nat) ({ cls := "InkPrintery", name := "used", desc := "()I" } : Jvm.MethodName)) ∈ lw_all := lw_g (lw_at lw_m4 11 rfl) rfl
theorem q818 : (Jvm.Cond.methodLink "InkPrinteryLaw" (264 : Nat) ({ cls := "InkPrintery", name := "faded", desc := "()J" } : Jvm.MethodName)) ∈ lw_all := lw_g (lw_at lw_m4 15 rfl) rfl
theorem q822 : (Jvm.Cond.methodLink "InkPrinteryLaw" (269 : Nat) ({ cls := "InkPrintery", name := "inkInWells", desc := "()I" } : Jvm.MethodName)) ∈ lw_all := lw_g (lw_at lw_m4 19 rfl) rfl
theorem q830 : (Jvm.Cond.methodLink "InkPrinteryLaw" (283 : Nat) ({ cls := "InkPrintery", name := "writeWells", desc := "()I" } : Jvm.MethodName)) ∈ lw_all := lw_g (lw_at lw_m4 27 rfl) rfl
theorem q1229 : (Jvm.Cond.methodLink "InkPrinteryLaw" (290 : Nat) ({ cls := "InkPrintery", name := "isConsistent", desc := "()Z" } : Jvm.MethodName)) ∈ lw_all := lw_g (lw_at lw_m5 186 rfl) rfl
theorem q1277 : (Jvm.Cond.methodLink "InkPrinteryLaw" (312 : Nat) ({ cls := "InkPrintery", name := "save", desc := "()I" } : Jvm.MethodName)) ∈ lw_all := lw_g (lw_at lw_m5 234 rfl) rfl
theorem q1281 : (Jvm.Cond.methodLink "InkPrinteryLaw" (132 : Nat) ({ cls := "InkPrinteryLaw", name := "addInk", desc := "(LInkPrintery;II[J)I" } : Jvm.MethodName)) ∈ lw_all := lw_g (lw_at lw_m5 238 rfl) rfl
theorem q1282 : (Jvm.Cond.static ({ cls := "InkPrinteryLaw", name := "addInk", desc := "(LInkPrintery;II[J)I" } : Jvm.MethodName)) ∈ lw_all := lw_g (lw_at lw_m5 239 rfl) rfl
theorem q1283 : (Jvm.Cond.codeWith ({ cls := "InkPrinteryLaw", name := "addInk", desc := "(LInkPrintery;II[J)I" } : Jvm.MethodName) method_3_code (5 : Nat) (Option.some Jvm.ClassFile.FieldType.int) [((0 : Nat), (10 : Nat), (13 : Nat), (13 : Nat)), ((0 : Nat), (10 : Nat), (17 : Nat), (15 : Nat))]) ∈ lw_all := lw_g (lw_at lw_m6 0 rfl) rfl
theorem q1284 : (Jvm.Cond.classLink "InkPrinteryLaw" (13 : Nat) "java/lang/IllegalArgumentException") ∈ lw_all := lw_g (lw_at lw_m6 1 rfl) rfl
theorem q1285 : (Jvm.Cond.classLink "InkPrinteryLaw" (15 : Nat) "java/lang/IllegalStateException") ∈ lw_all := lw_g (lw_at lw_m6 2 rfl) rfl
theorem q1286 : (Jvm.Cond.methodLink "InkPrinteryLaw" (7 : Nat) ({ cls := "InkPrintery", name := "addInk", desc := "(II)I" } : Jvm.MethodName)) ∈ lw_all := lw_g (lw_at lw_m6 3 rfl) rfl
theorem q1317 : (Jvm.Cond.methodLink "InkPrinteryLaw" (141 : Nat) ({ cls := "InkPrinteryLaw", name := "addPaper", desc := "(LInkPrintery;I[J)I" } : Jvm.MethodName)) ∈ lw_all := lw_g (lw_at lw_m6 34 rfl) rfl
theorem q1318 : (Jvm.Cond.static ({ cls := "InkPrinteryLaw", name := "addPaper", desc := "(LInkPrintery;I[J)I" } : Jvm.MethodName)) ∈ lw_all := lw_g (lw_at lw_m6 35 rfl) rfl
theorem q1319 : (Jvm.Cond.codeWith ({ cls := "InkPrinteryLaw", name := "addPaper", desc := "(LInkPrintery;I[J)I" } : Jvm.MethodName) method_4_code (4 : Nat) (Option.some Jvm.ClassFile.FieldType.int) [((0 : Nat), (9 : Nat), (12 : Nat), (13 : Nat)), ((0 : Nat), (9 : Nat), (15 : Nat), (15 : Nat))]) ∈ lw_all := lw_g (lw_at lw_m6 36 rfl) rfl
theorem q1320 : (Jvm.Cond.methodLink "InkPrinteryLaw" (17 : Nat) ({ cls := "InkPrintery", name := "addPaper", desc := "(I)I" } : Jvm.MethodName)) ∈ lw_all := lw_g (lw_at lw_m6 37 rfl) rfl
theorem q1328 : (Jvm.Cond.methodLink "InkPrinteryLaw" (145 : Nat) ({ cls := "InkPrinteryLaw", name := "pass", desc := "(LInkPrintery;I[J)I" } : Jvm.MethodName)) ∈ lw_all := lw_g (lw_at lw_m6 45 rfl) rfl
theorem q1329 : (Jvm.Cond.static ({ cls := "InkPrinteryLaw", name := "pass", desc := "(LInkPrintery;I[J)I" } : Jvm.MethodName)) ∈ lw_all := lw_g (lw_at lw_m6 46 rfl) rfl
theorem q1330 : (Jvm.Cond.codeWith ({ cls := "InkPrinteryLaw", name := "pass", desc := "(LInkPrintery;I[J)I" } : Jvm.MethodName) method_5_code (4 : Nat) (Option.some Jvm.ClassFile.FieldType.int) [((0 : Nat), (9 : Nat), (12 : Nat), (13 : Nat))]) ∈ lw_all := lw_g (lw_at lw_m6 47 rfl) rfl
theorem q1331 : (Jvm.Cond.methodLink "InkPrinteryLaw" (21 : Nat) ({ cls := "InkPrintery", name := "pass", desc := "(I)I" } : Jvm.MethodName)) ∈ lw_all := lw_g (lw_at lw_m6 48 rfl) rfl
theorem q1343 : (Jvm.Cond.methodLink "InkPrinteryLaw" (148 : Nat) ({ cls := "InkPrinteryLaw", name := "ink", desc := "(LInkPrintery;I[J)I" } : Jvm.MethodName)) ∈ lw_all := lw_g (lw_at lw_m6 60 rfl) rfl
theorem q1344 : (Jvm.Cond.static ({ cls := "InkPrinteryLaw", name := "ink", desc := "(LInkPrintery;I[J)I" } : Jvm.MethodName)) ∈ lw_all := lw_g (lw_at lw_m6 61 rfl) rfl
theorem q1345 : (Jvm.Cond.codeWith ({ cls := "InkPrinteryLaw", name := "ink", desc := "(LInkPrintery;I[J)I" } : Jvm.MethodName) method_6_code (4 : Nat) (Option.some Jvm.ClassFile.FieldType.int) [((0 : Nat), (9 : Nat), (12 : Nat), (13 : Nat))]) ∈ lw_all := lw_g (lw_at lw_m6 62 rfl) rfl
theorem q1346 : (Jvm.Cond.methodLink "InkPrinteryLaw" (24 : Nat) ({ cls := "InkPrintery", name := "ink", desc := "(I)I" } : Jvm.MethodName)) ∈ lw_all := lw_g (lw_at lw_m6 63 rfl) rfl
theorem q1352 : (Jvm.Cond.methodLink "InkPrinteryLaw" (159 : Nat) ({ cls := "InkPrinteryLaw", name := "inkAfter", desc := "(LInkPrintery;II[J)I" } : Jvm.MethodName)) ∈ lw_all := lw_g (lw_at lw_m6 69 rfl) rfl
theorem q1353 : (Jvm.Cond.static ({ cls := "InkPrinteryLaw", name := "inkAfter", desc := "(LInkPrintery;II[J)I" } : Jvm.MethodName)) ∈ lw_all := lw_g (lw_at lw_m6 70 rfl) rfl
theorem q1354 : (Jvm.Cond.codeWith ({ cls := "InkPrinteryLaw", name := "inkAfter", desc := "(LInkPrintery;II[J)I" } : Jvm.MethodName) method_7_code (5 : Nat) (Option.some Jvm.ClassFile.FieldType.int) [((0 : Nat), (10 : Nat), (13 : Nat), (13 : Nat))]) ∈ lw_all := lw_g (lw_at lw_m6 71 rfl) rfl
theorem q1355 : (Jvm.Cond.methodLink "InkPrinteryLaw" (27 : Nat) ({ cls := "InkPrintery", name := "inkAfter", desc := "(II)I" } : Jvm.MethodName)) ∈ lw_all := lw_g (lw_at lw_m6 72 rfl) rfl
theorem q1363 : (Jvm.Cond.methodLink "InkPrinteryLaw" (162 : Nat) ({ cls := "InkPrinteryLaw", name := "inkByHalvings", desc := "(LInkPrintery;II[J)I" } : Jvm.MethodName)) ∈ lw_all := lw_g (lw_at lw_m6 80 rfl) rfl
theorem q1364 : (Jvm.Cond.static ({ cls := "InkPrinteryLaw", name := "inkByHalvings", desc := "(LInkPrintery;II[J)I" } : Jvm.MethodName)) ∈ lw_all := lw_g (lw_at lw_m6 81 rfl) rfl
theorem q1365 : (Jvm.Cond.codeWith ({ cls := "InkPrinteryLaw", name := "inkByHalvings", desc := "(LInkPrintery;II[J)I" } : Jvm.MethodName) method_8_code (5 : Nat) (Option.some Jvm.ClassFile.FieldType.int) [((0 : Nat), (10 : Nat), (13 : Nat), (13 : Nat))]) ∈ lw_all := lw_g (lw_at lw_m6 82 rfl) rfl
theorem q1366 : (Jvm.Cond.methodLink "InkPrinteryLaw" (30 : Nat) ({ cls := "InkPrintery", name := "inkByHalvings", desc := "(II)I" } : Jvm.MethodName)) ∈ lw_all := lw_g (lw_at lw_m6 83 rfl) rfl
theorem q1371 : (Jvm.Cond.methodLink "InkPrinteryLaw" (165 : Nat) ({ cls := "InkPrinteryLaw", name := "hoursUntilLess", desc := "(LInkPrintery;II[J)I" } : Jvm.MethodName)) ∈ lw_all := lw_g (lw_at lw_m6 88 rfl) rfl
theorem q1372 : (Jvm.Cond.static ({ cls := "InkPrinteryLaw", name := "hoursUntilLess", desc := "(LInkPrintery;II[J)I" } : Jvm.MethodName)) ∈ lw_all := lw_g (lw_at lw_m6 89 rfl) rfl
theorem q1373 : (Jvm.Cond.codeWith ({ cls := "InkPrinteryLaw", name := "hoursUntilLess", desc := "(LInkPrintery;II[J)I" } : Jvm.MethodName) method_9_code (5 : Nat) (Option.some Jvm.ClassFile.FieldType.int) [((0 : Nat), (10 : Nat), (13 : Nat), (13 : Nat))]) ∈ lw_all := lw_g (lw_at lw_m6 90 rfl) rfl
theorem q1374 : (Jvm.Cond.methodLink "InkPrinteryLaw" (33 : Nat) ({ cls := "InkPrintery", name := "hoursUntilLess", desc := "(II)I" } : Jvm.MethodName)) ∈ lw_all := lw_g (lw_at lw_m6 91 rfl) rfl
theorem q1382 : (Jvm.Cond.methodLink "InkPrinteryLaw" (168 : Nat) ({ cls := "InkPrinteryLaw", name := "addEdition", desc := "(LInkPrintery;II[J)I" } : Jvm.MethodName)) ∈ lw_all := lw_g (lw_at lw_m6 99 rfl) rfl
theorem q1383 : (Jvm.Cond.static ({ cls := "InkPrinteryLaw", name := "addEdition", desc := "(LInkPrintery;II[J)I" } : Jvm.MethodName)) ∈ lw_all := lw_g (lw_at lw_m6 100 rfl) rfl
theorem q1384 : (Jvm.Cond.codeWith ({ cls := "InkPrinteryLaw", name := "addEdition", desc := "(LInkPrintery;II[J)I" } : Jvm.MethodName) method_10_code (5 : Nat) (Option.some Jvm.ClassFile.FieldType.int) [((0 : Nat), (10 : Nat), (13 : Nat), (13 : Nat)), ((0 : Nat), (10 : Nat), (17 : Nat), (15 : Nat))]) ∈ lw_all := lw_g (lw_at lw_m6 101 rfl) rfl
theorem q1385 : (Jvm.Cond.methodLink "InkPrinteryLaw" (36 : Nat) ({ cls := "InkPrintery", name := "addEdition", desc := "(II)I" } : Jvm.MethodName)) ∈ lw_all := lw_g (lw_at lw_m6 102 rfl) rfl
theorem q1394 : (Jvm.Cond.methodLink "InkPrinteryLaw" (171 : Nat) ({ cls := "InkPrinteryLaw", name := "removeEdition", desc := "(LInkPrintery;I[J)I" } : Jvm.MethodName)) ∈ lw_all := lw_g (lw_at lw_m6 111 rfl) rfl
theorem q1395 : (Jvm.Cond.static ({ cls := "InkPrinteryLaw", name := "removeEdition", desc := "(LInkPrintery;I[J)I" } : Jvm.MethodName)) ∈ lw_all := lw_g (lw_at lw_m6 112 rfl) rfl
theorem q1396 : (Jvm.Cond.codeWith ({ cls := "InkPrinteryLaw", name := "removeEdition", desc := "(LInkPrintery;I[J)I" } : Jvm.MethodName) method_11_code (4 : Nat) (Option.some Jvm.ClassFile.FieldType.int) [((0 : Nat), (9 : Nat), (12 : Nat), (42 : Nat))]) ∈ lw_all := lw_g (lw_at lw_m6 113 rfl) rfl
theorem q1397 : (Jvm.Cond.classLink "InkPrinteryLaw" (42 : Nat) "java/lang/IndexOutOfBoundsException") ∈ lw_all := lw_g (lw_at lw_m6 114 rfl) rfl
theorem q1400 : (Jvm.Cond.methodLink "InkPrinteryLaw" (39 : Nat) ({ cls := "InkPrintery", name := "removeEdition", desc := "(I)I" } : Jvm.MethodName)) ∈ lw_all := lw_g (lw_at lw_m6 117 rfl) rfl
theorem q1420 : (Jvm.Cond.methodLink "InkPrinteryLaw" (174 : Nat) ({ cls := "InkPrinteryLaw", name := "print", desc := "(LInkPrintery;I[J)I" } : Jvm.MethodName)) ∈ lw_all := lw_g (lw_at lw_m6 137 rfl) rfl
theorem q1421 : (Jvm.Cond.static ({ cls := "InkPrinteryLaw", name := "print", desc := "(LInkPrintery;I[J)I" } : Jvm.MethodName)) ∈ lw_all := lw_g (lw_at lw_m6 138 rfl) rfl
theorem q1422 : (Jvm.Cond.codeWith ({ cls := "InkPrinteryLaw", name := "print", desc := "(LInkPrintery;I[J)I" } : Jvm.MethodName) method_12_code (4 : Nat) (Option.some Jvm.ClassFile.FieldType.int) [((0 : Nat), (9 : Nat), (12 : Nat), (42 : Nat)), ((0 : Nat), (9 : Nat), (15 : Nat), (15 : Nat)), ((0 : Nat), (9 : Nat), (18 : Nat), (47 : Nat))]) ∈ lw_all := lw_g (lw_at lw_m6 139 rfl) rfl
theorem q1423 : (Jvm.Cond.classLink "InkPrinteryLaw" (47 : Nat) "java/lang/UnsupportedOperationException") ∈ lw_all := lw_g (lw_at lw_m6 140 rfl) rfl
theorem q1424 : (Jvm.Cond.methodLink "InkPrinteryLaw" (44 : Nat) ({ cls := "InkPrintery", name := "print", desc := "(I)I" } : Jvm.MethodName)) ∈ lw_all := lw_g (lw_at lw_m6 141 rfl) rfl
theorem q1451 : (Jvm.Cond.methodLink "InkPrinteryLaw" (185 : Nat) ({ cls := "InkPrinteryLaw", name := "colourOf", desc := "(LInkPrintery;I[J)I" } : Jvm.MethodName)) ∈ lw_all := lw_g (lw_at lw_m6 168 rfl) rfl
theorem q1452 : (Jvm.Cond.static ({ cls := "InkPrinteryLaw", name := "colourOf", desc := "(LInkPrintery;I[J)I" } : Jvm.MethodName)) ∈ lw_all := lw_g (lw_at lw_m6 169 rfl) rfl
theorem q1453 : (Jvm.Cond.codeWith ({ cls := "InkPrinteryLaw", name := "colourOf", desc := "(LInkPrintery;I[J)I" } : Jvm.MethodName) method_13_code (4 : Nat) (Option.some Jvm.ClassFile.FieldType.int) [((0 : Nat), (9 : Nat), (12 : Nat), (42 : Nat))]) ∈ lw_all := lw_g (lw_at lw_m6 170 rfl) rfl
theorem q1454 : (Jvm.Cond.methodLink "InkPrinteryLaw" (49 : Nat) ({ cls := "InkPrintery", name := "colourOf", desc := "(I)I" } : Jvm.MethodName)) ∈ lw_all := lw_g (lw_at lw_m6 171 rfl) rfl
theorem q1459 : (Jvm.Cond.methodLink "InkPrinteryLaw" (188 : Nat) ({ cls := "InkPrinteryLaw", name := "runOf", desc := "(LInkPrintery;I[J)I" } : Jvm.MethodName)) ∈ lw_all := lw_g (lw_at lw_m6 176 rfl) rfl
theorem q1460 : (Jvm.Cond.static ({ cls := "InkPrinteryLaw", name := "runOf", desc := "(LInkPrintery;I[J)I" } : Jvm.MethodName)) ∈ lw_all := lw_g (lw_at lw_m6 177 rfl) rfl
theorem q1461 : (Jvm.Cond.codeWith ({ cls := "InkPrinteryLaw", name := "runOf", desc := "(LInkPrintery;I[J)I" } : Jvm.MethodName) method_14_code (4 : Nat) (Option.some Jvm.ClassFile.FieldType.int) [((0 : Nat), (9 : Nat), (12 : Nat), (42 : Nat))]) ∈ lw_all := lw_g (lw_at lw_m6 178 rfl) rfl
theorem q1462 : (Jvm.Cond.methodLink "InkPrinteryLaw" (52 : Nat) ({ cls := "InkPrintery", name := "runOf", desc := "(I)I" } : Jvm.MethodName)) ∈ lw_all := lw_g (lw_at lw_m6 179 rfl) rfl
theorem q1466 : (Jvm.Cond.methodLink "InkPrinteryLaw" (191 : Nat) ({ cls := "InkPrinteryLaw", name := "printedOf", desc := "(LInkPrintery;I[J)I" } : Jvm.MethodName)) ∈ lw_all := lw_g (lw_at lw_m6 183 rfl) rfl
theorem q1467 : (Jvm.Cond.static ({ cls := "InkPrinteryLaw", name := "printedOf", desc := "(LInkPrintery;I[J)I" } : Jvm.MethodName)) ∈ lw_all := lw_g (lw_at lw_m6 184 rfl) rfl
theorem q1468 : (Jvm.Cond.codeWith ({ cls := "InkPrinteryLaw", name := "printedOf", desc := "(LInkPrintery;I[J)I" } : Jvm.MethodName) method_15_code (4 : Nat) (Option.some Jvm.ClassFile.FieldType.int) [((0 : Nat), (9 : Nat), (12 : Nat), (42 : Nat))]) ∈ lw_all := lw_g (lw_at lw_m6 185 rfl) rfl
theorem q1469 : (Jvm.Cond.methodLink "InkPrinteryLaw" (55 : Nat) ({ cls := "InkPrintery", name := "printedOf", desc := "(I)I" } : Jvm.MethodName)) ∈ lw_all := lw_g (lw_at lw_m6 186 rfl) rfl
theorem q1473 : (Jvm.Cond.methodLink "InkPrinteryLaw" (194 : Nat) ({ cls := "InkPrinteryLaw", name := "isComplete", desc := "(LInkPrintery;I[J)I" } : Jvm.MethodName)) ∈ lw_all := lw_g (lw_at lw_m6 190 rfl) rfl
theorem q1474 : (Jvm.Cond.static ({ cls := "InkPrinteryLaw", name := "isComplete", desc := "(LInkPrintery;I[J)I" } : Jvm.MethodName)) ∈ lw_all := lw_g (lw_at lw_m6 191 rfl) rfl
theorem q1475 : (Jvm.Cond.codeWith ({ cls := "InkPrinteryLaw", name := "isComplete", desc := "(LInkPrintery;I[J)I" } : Jvm.MethodName) method_16_code (4 : Nat) (Option.some Jvm.ClassFile.FieldType.int) [((0 : Nat), (16 : Nat), (19 : Nat), (42 : Nat))]) ∈ lw_all := lw_g (lw_at lw_m6 192 rfl) rfl
theorem q1476 : (Jvm.Cond.methodLink "InkPrinteryLaw" (58 : Nat) ({ cls := "InkPrintery", name := "isComplete", desc := "(I)Z" } : Jvm.MethodName)) ∈ lw_all := lw_g (lw_at lw_m6 193 rfl) rfl
theorem q1481 : (Jvm.Cond.methodLink "InkPrinteryLaw" (197 : Nat) ({ cls := "InkPrinteryLaw", name := "changeMinutes", desc := "(LInkPrintery;II[J)I" } : Jvm.MethodName)) ∈ lw_all := lw_g (lw_at lw_m6 198 rfl) rfl
theorem q1482 : (Jvm.Cond.static ({ cls := "InkPrinteryLaw", name := "changeMinutes", desc := "(LInkPrintery;II[J)I" } : Jvm.MethodName)) ∈ lw_all := lw_g (lw_at lw_m6 199 rfl) rfl
theorem q1483 : (Jvm.Cond.codeWith ({ cls := "InkPrinteryLaw", name := "changeMinutes", desc := "(LInkPrintery;II[J)I" } : Jvm.MethodName) method_17_code (5 : Nat) (Option.some Jvm.ClassFile.FieldType.int) [((0 : Nat), (10 : Nat), (13 : Nat), (13 : Nat))]) ∈ lw_all := lw_g (lw_at lw_m6 200 rfl) rfl
theorem q1484 : (Jvm.Cond.methodLink "InkPrinteryLaw" (62 : Nat) ({ cls := "InkPrintery", name := "changeMinutes", desc := "(II)I" } : Jvm.MethodName)) ∈ lw_all := lw_g (lw_at lw_m6 201 rfl) rfl
theorem q1490 : (Jvm.Cond.methodLink "InkPrinteryLaw" (212 : Nat) ({ cls := "InkPrinteryLaw", name := "editionAt", desc := "(LInkPrintery;I[J)I" } : Jvm.MethodName)) ∈ lw_all := lw_g (lw_at lw_m6 207 rfl) rfl
theorem q1491 : (Jvm.Cond.static ({ cls := "InkPrinteryLaw", name := "editionAt", desc := "(LInkPrintery;I[J)I" } : Jvm.MethodName)) ∈ lw_all := lw_g (lw_at lw_m6 208 rfl) rfl
theorem q1492 : (Jvm.Cond.codeWith ({ cls := "InkPrinteryLaw", name := "editionAt", desc := "(LInkPrintery;I[J)I" } : Jvm.MethodName) method_18_code (4 : Nat) (Option.some Jvm.ClassFile.FieldType.int) [((0 : Nat), (9 : Nat), (12 : Nat), (68 : Nat))]) ∈ lw_all := lw_g (lw_at lw_m6 209 rfl) rfl
theorem q1493 : (Jvm.Cond.classLink "InkPrinteryLaw" (68 : Nat) "java/util/NoSuchElementException") ∈ lw_all := lw_g (lw_at lw_m6 210 rfl) rfl
theorem q1494 : (Jvm.Cond.methodLink "InkPrinteryLaw" (65 : Nat) ({ cls := "InkPrintery", name := "editionAt", desc := "(I)I" } : Jvm.MethodName)) ∈ lw_all := lw_g (lw_at lw_m6 211 rfl) rfl
theorem q1517 : (Jvm.Cond.methodLink "InkPrinteryLaw" (215 : Nat) ({ cls := "InkPrinteryLaw", name := "shareOf", desc := "(LInkPrintery;I[J)I" } : Jvm.MethodName)) ∈ lw_all := lw_g (lw_at lw_m6 234 rfl) rfl
theorem q1518 : (Jvm.Cond.static ({ cls := "InkPrinteryLaw", name := "shareOf", desc := "(LInkPrintery;I[J)I" } : Jvm.MethodName)) ∈ lw_all := lw_g (lw_at lw_m6 235 rfl) rfl
theorem q1519 : (Jvm.Cond.codeWith ({ cls := "InkPrinteryLaw", name := "shareOf", desc := "(LInkPrintery;I[J)I" } : Jvm.MethodName) method_19_code (4 : Nat) (Option.some Jvm.ClassFile.FieldType.int) [((0 : Nat), (9 : Nat), (12 : Nat), (42 : Nat))]) ∈ lw_all := lw_g (lw_at lw_m6 236 rfl) rfl
theorem q1520 : (Jvm.Cond.methodLink "InkPrinteryLaw" (70 : Nat) ({ cls := "InkPrintery", name := "shareOf", desc := "(I)I" } : Jvm.MethodName)) ∈ lw_all := lw_g (lw_at lw_m6 237 rfl) rfl
theorem q1525 : (Jvm.Cond.methodLink "InkPrinteryLaw" (218 : Nat) ({ cls := "InkPrinteryLaw", name := "shareByLevel", desc := "(LInkPrintery;I[J)I" } : Jvm.MethodName)) ∈ lw_all := lw_g (lw_at lw_m7 2 rfl) rfl
theorem q1526 : (Jvm.Cond.static ({ cls := "InkPrinteryLaw", name := "shareByLevel", desc := "(LInkPrintery;I[J)I" } : Jvm.MethodName)) ∈ lw_all := lw_g (lw_at lw_m7 3 rfl) rfl
theorem q1527 : (Jvm.Cond.codeWith ({ cls := "InkPrinteryLaw", name := "shareByLevel", desc := "(LInkPrintery;I[J)I" } : Jvm.MethodName) method_20_code (4 : Nat) (Option.some Jvm.ClassFile.FieldType.int) [((0 : Nat), (9 : Nat), (12 : Nat), (42 : Nat))]) ∈ lw_all := lw_g (lw_at lw_m7 4 rfl) rfl
theorem q1528 : (Jvm.Cond.methodLink "InkPrinteryLaw" (73 : Nat) ({ cls := "InkPrintery", name := "shareByLevel", desc := "(I)I" } : Jvm.MethodName)) ∈ lw_all := lw_g (lw_at lw_m7 5 rfl) rfl
theorem q1533 : (Jvm.Cond.methodLink "InkPrinteryLaw" (221 : Nat) ({ cls := "InkPrinteryLaw", name := "editionByMissing", desc := "(LInkPrintery;I[J)I" } : Jvm.MethodName)) ∈ lw_all := lw_g (lw_at lw_m7 10 rfl) rfl
theorem q1534 : (Jvm.Cond.static ({ cls := "InkPrinteryLaw", name := "editionByMissing", desc := "(LInkPrintery;I[J)I" } : Jvm.MethodName)) ∈ lw_all := lw_g (lw_at lw_m7 11 rfl) rfl
theorem q1535 : (Jvm.Cond.codeWith ({ cls := "InkPrinteryLaw", name := "editionByMissing", desc := "(LInkPrintery;I[J)I" } : Jvm.MethodName) method_21_code (4 : Nat) (Option.some Jvm.ClassFile.FieldType.int) [((0 : Nat), (9 : Nat), (12 : Nat), (68 : Nat))]) ∈ lw_all := lw_g (lw_at lw_m7 12 rfl) rfl
theorem q1536 : (Jvm.Cond.methodLink "InkPrinteryLaw" (76 : Nat) ({ cls := "InkPrintery", name := "editionByMissing", desc := "(I)I" } : Jvm.MethodName)) ∈ lw_all := lw_g (lw_at lw_m7 13 rfl) rfl
theorem q1547 : (Jvm.Cond.methodLink "InkPrinteryLaw" (224 : Nat) ({ cls := "InkPrinteryLaw", name := "addProof", desc := "(LInkPrintery;I[J)I" } : Jvm.MethodName)) ∈ lw_all := lw_g (lw_at lw_m7 24 rfl) rfl
theorem q1548 : (Jvm.Cond.static ({ cls := "InkPrinteryLaw", name := "addProof", desc := "(LInkPrintery;I[J)I" } : Jvm.MethodName)) ∈ lw_all := lw_g (lw_at lw_m7 25 rfl) rfl
theorem q1549 : (Jvm.Cond.codeWith ({ cls := "InkPrinteryLaw", name := "addProof", desc := "(LInkPrintery;I[J)I" } : Jvm.MethodName) method_22_code (4 : Nat) (Option.some Jvm.ClassFile.FieldType.int) [((0 : Nat), (9 : Nat), (12 : Nat), (13 : Nat)), ((0 : Nat), (9 : Nat), (15 : Nat), (15 : Nat))]) ∈ lw_all := lw_g (lw_at lw_m7 26 rfl) rfl
theorem q1550 : (Jvm.Cond.methodLink "InkPrinteryLaw" (79 : Nat) ({ cls := "InkPrintery", name := "addProof", desc := "(I)I" } : Jvm.MethodName)) ∈ lw_all := lw_g (lw_at lw_m7 27 rfl) rfl
theorem q1558 : (Jvm.Cond.methodLink "InkPrinteryLaw" (227 : Nat) ({ cls := "InkPrinteryLaw", name := "dropProof", desc := "(LInkPrintery;I[J)I" } : Jvm.MethodName)) ∈ lw_all := lw_g (lw_at lw_m7 35 rfl) rfl
theorem q1559 : (Jvm.Cond.static ({ cls := "InkPrinteryLaw", name := "dropProof", desc := "(LInkPrintery;I[J)I" } : Jvm.MethodName)) ∈ lw_all := lw_g (lw_at lw_m7 36 rfl) rfl
theorem q1560 : (Jvm.Cond.codeWith ({ cls := "InkPrinteryLaw", name := "dropProof", desc := "(LInkPrintery;I[J)I" } : Jvm.MethodName) method_23_code (4 : Nat) (Option.some Jvm.ClassFile.FieldType.int) [((0 : Nat), (9 : Nat), (12 : Nat), (42 : Nat))]) ∈ lw_all := lw_g (lw_at lw_m7 37 rfl) rfl
theorem q1561 : (Jvm.Cond.methodLink "InkPrinteryLaw" (82 : Nat) ({ cls := "InkPrintery", name := "dropProof", desc := "(I)I" } : Jvm.MethodName)) ∈ lw_all := lw_g (lw_at lw_m7 38 rfl) rfl
theorem q1573 : (Jvm.Cond.methodLink "InkPrinteryLaw" (234 : Nat) ({ cls := "InkPrinteryLaw", name := "marksOf", desc := "(LInkPrintery;I[J)I" } : Jvm.MethodName)) ∈ lw_all := lw_g (lw_at lw_m7 50 rfl) rfl
theorem q1574 : (Jvm.Cond.static ({ cls := "InkPrinteryLaw", name := "marksOf", desc := "(LInkPrintery;I[J)I" } : Jvm.MethodName)) ∈ lw_all := lw_g (lw_at lw_m7 51 rfl) rfl
theorem q1575 : (Jvm.Cond.codeWith ({ cls := "InkPrinteryLaw", name := "marksOf", desc := "(LInkPrintery;I[J)I" } : Jvm.MethodName) method_24_code (4 : Nat) (Option.some Jvm.ClassFile.FieldType.int) [((0 : Nat), (9 : Nat), (12 : Nat), (42 : Nat))]) ∈ lw_all := lw_g (lw_at lw_m7 52 rfl) rfl
theorem q1576 : (Jvm.Cond.methodLink "InkPrinteryLaw" (85 : Nat) ({ cls := "InkPrintery", name := "marksOf", desc := "(I)I" } : Jvm.MethodName)) ∈ lw_all := lw_g (lw_at lw_m7 53 rfl) rfl
theorem q1581 : (Jvm.Cond.methodLink "InkPrinteryLaw" (237 : Nat) ({ cls := "InkPrinteryLaw", name := "hourOf", desc := "(LInkPrintery;I[J)I" } : Jvm.MethodName)) ∈ lw_all := lw_g (lw_at lw_m7 58 rfl) rfl
theorem q1582 : (Jvm.Cond.static ({ cls := "InkPrinteryLaw", name := "hourOf", desc := "(LInkPrintery;I[J)I" } : Jvm.MethodName)) ∈ lw_all := lw_g (lw_at lw_m7 59 rfl) rfl
theorem q1583 : (Jvm.Cond.codeWith ({ cls := "InkPrinteryLaw", name := "hourOf", desc := "(LInkPrintery;I[J)I" } : Jvm.MethodName) method_25_code (4 : Nat) (Option.some Jvm.ClassFile.FieldType.int) [((0 : Nat), (9 : Nat), (12 : Nat), (42 : Nat))]) ∈ lw_all := lw_g (lw_at lw_m7 60 rfl) rfl
theorem q1584 : (Jvm.Cond.methodLink "InkPrinteryLaw" (88 : Nat) ({ cls := "InkPrintery", name := "hourOf", desc := "(I)I" } : Jvm.MethodName)) ∈ lw_all := lw_g (lw_at lw_m7 61 rfl) rfl
theorem q1588 : (Jvm.Cond.methodLink "InkPrinteryLaw" (273 : Nat) ({ cls := "InkPrinteryLaw", name := "meanRun", desc := "(LInkPrintery;[D)I" } : Jvm.MethodName)) ∈ lw_all := lw_g (lw_at lw_m7 65 rfl) rfl
theorem q1589 : (Jvm.Cond.static ({ cls := "InkPrinteryLaw", name := "meanRun", desc := "(LInkPrintery;[D)I" } : Jvm.MethodName)) ∈ lw_all := lw_g (lw_at lw_m7 66 rfl) rfl
theorem q1590 : (Jvm.Cond.codeWith ({ cls := "InkPrinteryLaw", name := "meanRun", desc := "(LInkPrintery;[D)I" } : Jvm.MethodName) method_26_code (3 : Nat) (Option.some Jvm.ClassFile.FieldType.int) [((0 : Nat), (7 : Nat), (10 : Nat), (95 : Nat))]) ∈ lw_all := lw_g (lw_at lw_m7 67 rfl) rfl
theorem q1591 : (Jvm.Cond.classLink "InkPrinteryLaw" (95 : Nat) "java/lang/ArithmeticException") ∈ lw_all := lw_g (lw_at lw_m7 68 rfl) rfl
theorem q1605 : (Jvm.Cond.methodLink "InkPrinteryLaw" (91 : Nat) ({ cls := "InkPrintery", name := "meanRun", desc := "()D" } : Jvm.MethodName)) ∈ lw_all := lw_g (lw_at lw_m7 82 rfl) rfl
theorem q1621 : (Jvm.Cond.methodLink "InkPrinteryLaw" (277 : Nat) ({ cls := "InkPrinteryLaw", name := "fadedShare", desc := "(LInkPrintery;[D)I" } : Jvm.MethodName)) ∈ lw_all := lw_g (lw_at lw_m7 98 rfl) rfl
theorem q1622 : (Jvm.Cond.static ({ cls := "InkPrinteryLaw", name := "fadedShare", desc := "(LInkPrintery;[D)I" } : Jvm.MethodName)) ∈ lw_all := lw_g (lw_at lw_m7 99 rfl) rfl
theorem q1623 : (Jvm.Cond.codeWith ({ cls := "InkPrinteryLaw", name := "fadedShare", desc := "(LInkPrintery;[D)I" } : Jvm.MethodName) method_27_code (3 : Nat) (Option.some Jvm.ClassFile.FieldType.int) [((0 : Nat), (8 : Nat), (11 : Nat), (95 : Nat))]) ∈ lw_all := lw_g (lw_at lw_m7 100 rfl) rfl
theorem q1624 : (Jvm.Cond.methodLink "InkPrinteryLaw" (97 : Nat) ({ cls := "InkPrintery", name := "fadedShare", desc := "()F" } : Jvm.MethodName)) ∈ lw_all := lw_g (lw_at lw_m7 101 rfl) rfl
theorem q1628 : (Jvm.Cond.methodLink "InkPrinteryLaw" (280 : Nat) ({ cls := "InkPrinteryLaw", name := "writeEdition", desc := "(LInkPrintery;I[J)I" } : Jvm.MethodName)) ∈ lw_all := lw_g (lw_at lw_m7 105 rfl) rfl
theorem q1629 : (Jvm.Cond.static ({ cls := "InkPrinteryLaw", name := "writeEdition", desc := "(LInkPrintery;I[J)I" } : Jvm.MethodName)) ∈ lw_all := lw_g (lw_at lw_m7 106 rfl) rfl
theorem q1630 : (Jvm.Cond.codeWith ({ cls := "InkPrinteryLaw", name := "writeEdition", desc := "(LInkPrintery;I[J)I" } : Jvm.MethodName) method_28_code (4 : Nat) (Option.some Jvm.ClassFile.FieldType.int) [((0 : Nat), (9 : Nat), (12 : Nat), (42 : Nat))]) ∈ lw_all := lw_g (lw_at lw_m7 107 rfl) rfl
theorem q1631 : (Jvm.Cond.methodLink "InkPrinteryLaw" (101 : Nat) ({ cls := "InkPrintery", name := "writeEdition", desc := "(I)I" } : Jvm.MethodName)) ∈ lw_all := lw_g (lw_at lw_m7 108 rfl) rfl
theorem q1671 : (Jvm.Cond.methodLink "InkPrinteryLaw" (287 : Nat) ({ cls := "InkPrinteryLaw", name := "lineAt", desc := "(LInkPrintery;I[J)I" } : Jvm.MethodName)) ∈ lw_all := lw_g (lw_at lw_m7 148 rfl) rfl
theorem q1672 : (Jvm.Cond.static ({ cls := "InkPrinteryLaw", name := "lineAt", desc := "(LInkPrintery;I[J)I" } : Jvm.MethodName)) ∈ lw_all := lw_g (lw_at lw_m7 149 rfl) rfl
theorem q1673 : (Jvm.Cond.codeWith ({ cls := "InkPrinteryLaw", name := "lineAt", desc := "(LInkPrintery;I[J)I" } : Jvm.MethodName) method_29_code (4 : Nat) (Option.some Jvm.ClassFile.FieldType.int) [((0 : Nat), (9 : Nat), (12 : Nat), (42 : Nat))]) ∈ lw_all := lw_g (lw_at lw_m7 150 rfl) rfl
theorem q1674 : (Jvm.Cond.methodLink "InkPrinteryLaw" (104 : Nat) ({ cls := "InkPrintery", name := "lineAt", desc := "(I)C" } : Jvm.MethodName)) ∈ lw_all := lw_g (lw_at lw_m7 151 rfl) rfl
theorem q1689 : (Jvm.Cond.methodLink "InkPrinteryLaw" (295 : Nat) ({ cls := "InkPrinteryLaw", name := "type", desc := "(LInkPrintery;C[J)I" } : Jvm.MethodName)) ∈ lw_all := lw_g (lw_at lw_m7 166 rfl) rfl
theorem q1690 : (Jvm.Cond.static ({ cls := "InkPrinteryLaw", name := "type", desc := "(LInkPrintery;C[J)I" } : Jvm.MethodName)) ∈ lw_all := lw_g (lw_at lw_m7 167 rfl) rfl
theorem q1691 : (Jvm.Cond.codeWith ({ cls := "InkPrinteryLaw", name := "type", desc := "(LInkPrintery;C[J)I" } : Jvm.MethodName) method_30_code (4 : Nat) (Option.some Jvm.ClassFile.FieldType.int) [((0 : Nat), (9 : Nat), (12 : Nat), (13 : Nat)), ((0 : Nat), (9 : Nat), (15 : Nat), (15 : Nat))]) ∈ lw_all := lw_g (lw_at lw_m7 168 rfl) rfl
theorem q1692 : (Jvm.Cond.methodLink "InkPrinteryLaw" (108 : Nat) ({ cls := "InkPrintery", name := "type", desc := "(C)I" } : Jvm.MethodName)) ∈ lw_all := lw_g (lw_at lw_m7 169 rfl) rfl
theorem q1698 : (Jvm.Cond.methodLink "InkPrinteryLaw" (299 : Nat) ({ cls := "InkPrinteryLaw", name := "execute", desc := "(LInkPrintery;[J)I" } : Jvm.MethodName)) ∈ lw_all := lw_g (lw_at lw_m7 175 rfl) rfl
theorem q1699 : (Jvm.Cond.static ({ cls := "InkPrinteryLaw", name := "execute", desc := "(LInkPrintery;[J)I" } : Jvm.MethodName)) ∈ lw_all := lw_g (lw_at lw_m7 176 rfl) rfl
theorem q1700 : (Jvm.Cond.codeWith ({ cls := "InkPrinteryLaw", name := "execute", desc := "(LInkPrintery;[J)I" } : Jvm.MethodName) method_31_code (3 : Nat) (Option.some Jvm.ClassFile.FieldType.int) [((0 : Nat), (8 : Nat), (11 : Nat), (13 : Nat)), ((0 : Nat), (8 : Nat), (14 : Nat), (15 : Nat))]) ∈ lw_all := lw_g (lw_at lw_m7 177 rfl) rfl
theorem q1701 : (Jvm.Cond.methodLink "InkPrinteryLaw" (112 : Nat) ({ cls := "InkPrintery", name := "execute", desc := "()I" } : Jvm.MethodName)) ∈ lw_all := lw_g (lw_at lw_m7 178 rfl) rfl
theorem q2193 : (Jvm.Cond.methodLink "InkPrinteryLaw" (303 : Nat) ({ cls := "InkPrinteryLaw", name := "errorPosition", desc := "(LInkPrintery;[J)I" } : Jvm.MethodName)) ∈ lw_all := lw_g (lw_at lw_m9 190 rfl) rfl
theorem q2194 : (Jvm.Cond.static ({ cls := "InkPrinteryLaw", name := "errorPosition", desc := "(LInkPrintery;[J)I" } : Jvm.MethodName)) ∈ lw_all := lw_g (lw_at lw_m9 191 rfl) rfl
theorem q2195 : (Jvm.Cond.codeWith ({ cls := "InkPrinteryLaw", name := "errorPosition", desc := "(LInkPrintery;[J)I" } : Jvm.MethodName) method_32_code (3 : Nat) (Option.some Jvm.ClassFile.FieldType.int) [((0 : Nat), (8 : Nat), (11 : Nat), (68 : Nat))]) ∈ lw_all := lw_g (lw_at lw_m9 192 rfl) rfl
theorem q2196 : (Jvm.Cond.methodLink "InkPrinteryLaw" (116 : Nat) ({ cls := "InkPrintery", name := "errorPosition", desc := "()I" } : Jvm.MethodName)) ∈ lw_all := lw_g (lw_at lw_m9 193 rfl) rfl
theorem q2200 : (Jvm.Cond.methodLink "InkPrinteryLaw" (306 : Nat) ({ cls := "InkPrinteryLaw", name := "failedCommand", desc := "(LInkPrintery;[J)I" } : Jvm.MethodName)) ∈ lw_all := lw_g (lw_at lw_m9 197 rfl) rfl
theorem q2201 : (Jvm.Cond.static ({ cls := "InkPrinteryLaw", name := "failedCommand", desc := "(LInkPrintery;[J)I" } : Jvm.MethodName)) ∈ lw_all := lw_g (lw_at lw_m9 198 rfl) rfl
theorem q2202 : (Jvm.Cond.codeWith ({ cls := "InkPrinteryLaw", name := "failedCommand", desc := "(LInkPrintery;[J)I" } : Jvm.MethodName) method_33_code (3 : Nat) (Option.some Jvm.ClassFile.FieldType.int) [((0 : Nat), (8 : Nat), (11 : Nat), (68 : Nat))]) ∈ lw_all := lw_g (lw_at lw_m9 199 rfl) rfl
theorem q2203 : (Jvm.Cond.methodLink "InkPrinteryLaw" (119 : Nat) ({ cls := "InkPrintery", name := "failedCommand", desc := "()I" } : Jvm.MethodName)) ∈ lw_all := lw_g (lw_at lw_m9 200 rfl) rfl
theorem q2207 : (Jvm.Cond.methodLink "InkPrinteryLaw" (309 : Nat) ({ cls := "InkPrinteryLaw", name := "undo", desc := "(LInkPrintery;[J)I" } : Jvm.MethodName)) ∈ lw_all := lw_g (lw_at lw_m9 204 rfl) rfl
theorem q2208 : (Jvm.Cond.static ({ cls := "InkPrinteryLaw", name := "undo", desc := "(LInkPrintery;[J)I" } : Jvm.MethodName)) ∈ lw_all := lw_g (lw_at lw_m9 205 rfl) rfl
theorem q2209 : (Jvm.Cond.codeWith ({ cls := "InkPrinteryLaw", name := "undo", desc := "(LInkPrintery;[J)I" } : Jvm.MethodName) method_34_code (3 : Nat) (Option.some Jvm.ClassFile.FieldType.int) [((0 : Nat), (8 : Nat), (11 : Nat), (15 : Nat))]) ∈ lw_all := lw_g (lw_at lw_m9 206 rfl) rfl
theorem q2210 : (Jvm.Cond.methodLink "InkPrinteryLaw" (122 : Nat) ({ cls := "InkPrintery", name := "undo", desc := "()I" } : Jvm.MethodName)) ∈ lw_all := lw_g (lw_at lw_m9 207 rfl) rfl
theorem q2228 : (Jvm.Cond.methodLink "InkPrinteryLaw" (316 : Nat) ({ cls := "InkPrinteryLaw", name := "restore", desc := "(LInkPrintery;[J)I" } : Jvm.MethodName)) ∈ lw_all := lw_g (lw_at lw_m9 225 rfl) rfl
theorem q2229 : (Jvm.Cond.static ({ cls := "InkPrinteryLaw", name := "restore", desc := "(LInkPrintery;[J)I" } : Jvm.MethodName)) ∈ lw_all := lw_g (lw_at lw_m9 226 rfl) rfl
theorem q2230 : (Jvm.Cond.codeWith ({ cls := "InkPrinteryLaw", name := "restore", desc := "(LInkPrintery;[J)I" } : Jvm.MethodName) method_35_code (3 : Nat) (Option.some Jvm.ClassFile.FieldType.int) [((0 : Nat), (8 : Nat), (11 : Nat), (15 : Nat))]) ∈ lw_all := lw_g (lw_at lw_m9 227 rfl) rfl
theorem q2231 : (Jvm.Cond.methodLink "InkPrinteryLaw" (125 : Nat) ({ cls := "InkPrintery", name := "restore", desc := "()I" } : Jvm.MethodName)) ∈ lw_all := lw_g (lw_at lw_m9 228 rfl) rfl
theorem q2235 : (Jvm.Cond.classLink "InkPrinteryLaw" (129 : Nat) "InkPrinteryModel") ∈ lw_all := lw_g (lw_at lw_m9 232 rfl) rfl
theorem q2237 : (Jvm.Cond.methodLink "InkPrinteryLaw" (131 : Nat) ({ cls := "InkPrinteryModel", name := "<init>", desc := "()V" } : Jvm.MethodName)) ∈ lw_all := lw_g (lw_at lw_m9 234 rfl) rfl
theorem q2317 : (Jvm.Cond.methodLink "InkPrinteryLaw" (138 : Nat) ({ cls := "InkPrinteryModel", name := "thrown", desc := "()I" } : Jvm.MethodName)) ∈ lw_all := lw_g (lw_at lw_m10 74 rfl) rfl
theorem q2321 : (Jvm.Cond.methodLink "InkPrinteryLaw" (137 : Nat) ({ cls := "InkPrinteryModel", name := "addInk", desc := "(II)I" } : Jvm.MethodName)) ∈ lw_all := lw_g (lw_at lw_m10 78 rfl) rfl
theorem q2354 : (Jvm.Cond.methodLink "InkPrinteryLaw" (144 : Nat) ({ cls := "InkPrinteryModel", name := "addPaper", desc := "(I)I" } : Jvm.MethodName)) ∈ lw_all := lw_g (lw_at lw_m10 111 rfl) rfl
theorem q2366 : (Jvm.Cond.methodLink "InkPrinteryLaw" (147 : Nat) ({ cls := "InkPrinteryModel", name := "pass", desc := "(I)I" } : Jvm.MethodName)) ∈ lw_all := lw_g (lw_at lw_m10 123 rfl) rfl
theorem q2374 : (Jvm.Cond.methodLink "InkPrinteryLaw" (150 : Nat) ({ cls := "InkPrinteryModel", name := "ink", desc := "(I)I" } : Jvm.MethodName)) ∈ lw_all := lw_g (lw_at lw_m10 131 rfl) rfl
theorem q2382 : (Jvm.Cond.methodLink "InkPrinteryLaw" (154 : Nat) ({ cls := "InkPrinteryModel", name := "paper", desc := "()I" } : Jvm.MethodName)) ∈ lw_all := lw_g (lw_at lw_m10 139 rfl) rfl
theorem q2390 : (Jvm.Cond.methodLink "InkPrinteryLaw" (158 : Nat) ({ cls := "InkPrinteryModel", name := "hour", desc := "()I" } : Jvm.MethodName)) ∈ lw_all := lw_g (lw_at lw_m10 147 rfl) rfl
theorem q2394 : (Jvm.Cond.methodLink "InkPrinteryLaw" (161 : Nat) ({ cls := "InkPrinteryModel", name := "inkAfter", desc := "(II)I" } : Jvm.MethodName)) ∈ lw_all := lw_g (lw_at lw_m10 151 rfl) rfl
theorem q2406 : (Jvm.Cond.methodLink "InkPrinteryLaw" (164 : Nat) ({ cls := "InkPrinteryModel", name := "inkByHalvings", desc := "(II)I" } : Jvm.MethodName)) ∈ lw_all := lw_g (lw_at lw_m10 163 rfl) rfl
theorem q2410 : (Jvm.Cond.methodLink "InkPrinteryLaw" (167 : Nat) ({ cls := "InkPrinteryModel", name := "hoursUntilLess", desc := "(II)I" } : Jvm.MethodName)) ∈ lw_all := lw_g (lw_at lw_m10 167 rfl) rfl
theorem q2414 : (Jvm.Cond.methodLink "InkPrinteryLaw" (170 : Nat) ({ cls := "InkPrinteryModel", name := "addEdition", desc := "(II)I" } : Jvm.MethodName)) ∈ lw_all := lw_g (lw_at lw_m10 171 rfl) rfl
theorem q2426 : (Jvm.Cond.methodLink "InkPrinteryLaw" (173 : Nat) ({ cls := "InkPrinteryModel", name := "removeEdition", desc := "(I)I" } : Jvm.MethodName)) ∈ lw_all := lw_g (lw_at lw_m10 183 rfl) rfl
theorem q2438 : (Jvm.Cond.methodLink "InkPrinteryLaw" (176 : Nat) ({ cls := "InkPrinteryModel", name := "print", desc := "(I)I" } : Jvm.MethodName)) ∈ lw_all := lw_g (lw_at lw_m10 195 rfl) rfl
theorem q2472 : (Jvm.Cond.methodLink "InkPrinteryLaw" (199 : Nat) ({ cls := "InkPrinteryModel", name := "changeMinutes", desc := "(II)I" } : Jvm.MethodName)) ∈ lw_all := lw_g (lw_at lw_m10 229 rfl) rfl
theorem q2476 : (Jvm.Cond.methodLink "InkPrinteryLaw" (203 : Nat) ({ cls := "InkPrinteryModel", name := "pressColour", desc := "()I" } : Jvm.MethodName)) ∈ lw_all := lw_g (lw_at lw_m10 233 rfl) rfl
theorem q2480 : (Jvm.Cond.methodLink "InkPrinteryLaw" (207 : Nat) ({ cls := "InkPrinteryModel", name := "fewestMinutes", desc := "()I" } : Jvm.MethodName)) ∈ lw_all := lw_g (lw_at lw_m10 237 rfl) rfl
theorem q2505 : (Jvm.Cond.methodLink "InkPrinteryLaw" (211 : Nat) ({ cls := "InkPrinteryModel", name := "minutesByOrders", desc := "()I" } : Jvm.MethodName)) ∈ lw_all := lw_g (lw_at lw_m11 22 rfl) rfl
theorem q2509 : (Jvm.Cond.methodLink "InkPrinteryLaw" (214 : Nat) ({ cls := "InkPrinteryModel", name := "editionAt", desc := "(I)I" } : Jvm.MethodName)) ∈ lw_all := lw_g (lw_at lw_m11 26 rfl) rfl
theorem q2517 : (Jvm.Cond.methodLink "InkPrinteryLaw" (217 : Nat) ({ cls := "InkPrinteryModel", name := "shareOf", desc := "(I)I" } : Jvm.MethodName)) ∈ lw_all := lw_g (lw_at lw_m11 34 rfl) rfl
theorem q2533 : (Jvm.Cond.methodLink "InkPrinteryLaw" (220 : Nat) ({ cls := "InkPrinteryModel", name := "shareByLevel", desc := "(I)I" } : Jvm.MethodName)) ∈ lw_all := lw_g (lw_at lw_m11 50 rfl) rfl
theorem q2537 : (Jvm.Cond.methodLink "InkPrinteryLaw" (180 : Nat) ({ cls := "InkPrinteryModel", name := "printAll", desc := "()I" } : Jvm.MethodName)) ∈ lw_all := lw_g (lw_at lw_m11 54 rfl) rfl
theorem q2545 : (Jvm.Cond.methodLink "InkPrinteryLaw" (184 : Nat) ({ cls := "InkPrinteryModel", name := "editionCount", desc := "()I" } : Jvm.MethodName)) ∈ lw_all := lw_g (lw_at lw_m11 62 rfl) rfl
theorem q2549 : (Jvm.Cond.methodLink "InkPrinteryLaw" (187 : Nat) ({ cls := "InkPrinteryModel", name := "colourOf", desc := "(I)I" } : Jvm.MethodName)) ∈ lw_all := lw_g (lw_at lw_m11 66 rfl) rfl
theorem q2557 : (Jvm.Cond.methodLink "InkPrinteryLaw" (190 : Nat) ({ cls := "InkPrinteryModel", name := "runOf", desc := "(I)I" } : Jvm.MethodName)) ∈ lw_all := lw_g (lw_at lw_m11 74 rfl) rfl
theorem q2561 : (Jvm.Cond.methodLink "InkPrinteryLaw" (193 : Nat) ({ cls := "InkPrinteryModel", name := "printedOf", desc := "(I)I" } : Jvm.MethodName)) ∈ lw_all := lw_g (lw_at lw_m11 78 rfl) rfl
theorem q2565 : (Jvm.Cond.methodLink "InkPrinteryLaw" (196 : Nat) ({ cls := "InkPrinteryModel", name := "isComplete", desc := "(I)Z" } : Jvm.MethodName)) ∈ lw_all := lw_g (lw_at lw_m11 82 rfl) rfl
theorem q2569 : (Jvm.Cond.methodLink "InkPrinteryLaw" (223 : Nat) ({ cls := "InkPrinteryModel", name := "editionByMissing", desc := "(I)I" } : Jvm.MethodName)) ∈ lw_all := lw_g (lw_at lw_m11 86 rfl) rfl
theorem q2573 : (Jvm.Cond.methodLink "InkPrinteryLaw" (226 : Nat) ({ cls := "InkPrinteryModel", name := "addProof", desc := "(I)I" } : Jvm.MethodName)) ∈ lw_all := lw_g (lw_at lw_m11 90 rfl) rfl
theorem q2585 : (Jvm.Cond.methodLink "InkPrinteryLaw" (229 : Nat) ({ cls := "InkPrinteryModel", name := "dropProof", desc := "(I)I" } : Jvm.MethodName)) ∈ lw_all := lw_g (lw_at lw_m11 102 rfl) rfl
theorem q2597 : (Jvm.Cond.methodLink "InkPrinteryLaw" (233 : Nat) ({ cls := "InkPrinteryModel", name := "proofCount", desc := "()I" } : Jvm.MethodName)) ∈ lw_all := lw_g (lw_at lw_m11 114 rfl) rfl
theorem q2601 : (Jvm.Cond.methodLink "InkPrinteryLaw" (236 : Nat) ({ cls := "InkPrinteryModel", name := "marksOf", desc := "(I)I" } : Jvm.MethodName)) ∈ lw_all := lw_g (lw_at lw_m11 118 rfl) rfl
theorem q2609 : (Jvm.Cond.methodLink "InkPrinteryLaw" (239 : Nat) ({ cls := "InkPrinteryModel", name := "hourOf", desc := "(I)I" } : Jvm.MethodName)) ∈ lw_all := lw_g (lw_at lw_m11 126 rfl) rfl
theorem q2613 : (Jvm.Cond.methodLink "InkPrinteryLaw" (243 : Nat) ({ cls := "InkPrinteryModel", name := "longestRise", desc := "()I" } : Jvm.MethodName)) ∈ lw_all := lw_g (lw_at lw_m11 130 rfl) rfl
theorem q2621 : (Jvm.Cond.methodLink "InkPrinteryLaw" (247 : Nat) ({ cls := "InkPrinteryModel", name := "riseByEnds", desc := "()I" } : Jvm.MethodName)) ∈ lw_all := lw_g (lw_at lw_m11 138 rfl) rfl
theorem q2625 : (Jvm.Cond.methodLink "InkPrinteryLaw" (251 : Nat) ({ cls := "InkPrinteryModel", name := "riseCount", desc := "()I" } : Jvm.MethodName)) ∈ lw_all := lw_g (lw_at lw_m11 142 rfl) rfl
theorem q2629 : (Jvm.Cond.methodLink "InkPrinteryLaw" (255 : Nat) ({ cls := "InkPrinteryModel", name := "minutes", desc := "()I" } : Jvm.MethodName)) ∈ lw_all := lw_g (lw_at lw_m11 146 rfl) rfl
theorem q2633 : (Jvm.Cond.methodLink "InkPrinteryLaw" (259 : Nat) ({ cls := "InkPrinteryModel", name := "poured", desc := "()I" } : Jvm.MethodName)) ∈ lw_all := lw_g (lw_at lw_m11 150 rfl) rfl
theorem q2637 : (Jvm.Cond.methodLink "InkPrinteryLaw" (263 : Nat) ({ cls := "InkPrinteryModel", name := "used", desc := "()I" } : Jvm.MethodName)) ∈ lw_all := lw_g (lw_at lw_m11 154 rfl) rfl
theorem q2641 : (Jvm.Cond.methodLink "InkPrinteryLaw" (268 : Nat) ({ cls := "InkPrinteryModel", name := "faded", desc := "()J" } : Jvm.MethodName)) ∈ lw_all := lw_g (lw_at lw_m11 158 rfl) rfl
theorem q2645 : (Jvm.Cond.methodLink "InkPrinteryLaw" (272 : Nat) ({ cls := "InkPrinteryModel", name := "inkInWells", desc := "()I" } : Jvm.MethodName)) ∈ lw_all := lw_g (lw_at lw_m11 162 rfl) rfl
theorem q2649 : (Jvm.Cond.methodLink "InkPrinteryLaw" (276 : Nat) ({ cls := "InkPrinteryModel", name := "meanRun", desc := "()D" } : Jvm.MethodName)) ∈ lw_all := lw_g (lw_at lw_m11 166 rfl) rfl
theorem q2653 : (Jvm.Cond.methodLink "InkPrinteryLaw" (279 : Nat) ({ cls := "InkPrinteryModel", name := "fadedShare", desc := "()F" } : Jvm.MethodName)) ∈ lw_all := lw_g (lw_at lw_m11 170 rfl) rfl
theorem q2657 : (Jvm.Cond.methodLink "InkPrinteryLaw" (294 : Nat) ({ cls := "InkPrinteryModel", name := "isConsistent", desc := "()Z" } : Jvm.MethodName)) ∈ lw_all := lw_g (lw_at lw_m11 174 rfl) rfl
theorem q2661 : (Jvm.Cond.methodLink "InkPrinteryLaw" (282 : Nat) ({ cls := "InkPrinteryModel", name := "writeEdition", desc := "(I)I" } : Jvm.MethodName)) ∈ lw_all := lw_g (lw_at lw_m11 178 rfl) rfl
theorem q2673 : (Jvm.Cond.methodLink "InkPrinteryLaw" (286 : Nat) ({ cls := "InkPrinteryModel", name := "writeWells", desc := "()I" } : Jvm.MethodName)) ∈ lw_all := lw_g (lw_at lw_m11 190 rfl) rfl
theorem q2677 : (Jvm.Cond.methodLink "InkPrinteryLaw" (289 : Nat) ({ cls := "InkPrinteryModel", name := "lineAt", desc := "(I)C" } : Jvm.MethodName)) ∈ lw_all := lw_g (lw_at lw_m11 194 rfl) rfl
theorem q2681 : (Jvm.Cond.methodLink "InkPrinteryLaw" (298 : Nat) ({ cls := "InkPrinteryModel", name := "type", desc := "(C)I" } : Jvm.MethodName)) ∈ lw_all := lw_g (lw_at lw_m11 198 rfl) rfl
theorem q2685 : (Jvm.Cond.methodLink "InkPrinteryLaw" (302 : Nat) ({ cls := "InkPrinteryModel", name := "execute", desc := "()I" } : Jvm.MethodName)) ∈ lw_all := lw_g (lw_at lw_m11 202 rfl) rfl
theorem q2726 : (Jvm.Cond.methodLink "InkPrinteryLaw" (305 : Nat) ({ cls := "InkPrinteryModel", name := "errorPosition", desc := "()I" } : Jvm.MethodName)) ∈ lw_all := lw_g (lw_at lw_m12 3 rfl) rfl
theorem q2734 : (Jvm.Cond.methodLink "InkPrinteryLaw" (308 : Nat) ({ cls := "InkPrinteryModel", name := "failedCommand", desc := "()I" } : Jvm.MethodName)) ∈ lw_all := lw_g (lw_at lw_m12 11 rfl) rfl
theorem q2738 : (Jvm.Cond.methodLink "InkPrinteryLaw" (311 : Nat) ({ cls := "InkPrinteryModel", name := "undo", desc := "()I" } : Jvm.MethodName)) ∈ lw_all := lw_g (lw_at lw_m12 15 rfl) rfl
theorem q2742 : (Jvm.Cond.methodLink "InkPrinteryLaw" (315 : Nat) ({ cls := "InkPrinteryModel", name := "save", desc := "()I" } : Jvm.MethodName)) ∈ lw_all := lw_g (lw_at lw_m12 19 rfl) rfl
theorem q2746 : (Jvm.Cond.methodLink "InkPrinteryLaw" (318 : Nat) ({ cls := "InkPrinteryModel", name := "restore", desc := "()I" } : Jvm.MethodName)) ∈ lw_all := lw_g (lw_at lw_m12 23 rfl) rfl
/-! InkPrintery -/
set_option maxRecDepth 100000
def RX1 : String := "InkPrintery"
def TX1 : u_T := fun k => match k with
  | 0 => ("InkPrintery", "state", "LInkPrintery$State;", true)
  | 1 => ("InkPrintery", "attempt", "LInkPrintery$State;", true)
  | 2 => ("InkPrintery", "snapshot", "LInkPrintery$State;", true)
  | 3 => ("InkPrintery", "hasSnapshot", "Z", false)
  | 4 => ("InkPrintery", "history", "Ljava/util/ArrayDeque;", true)
  | 5 => ("InkPrintery", "spare", "Ljava/util/ArrayDeque;", true)
  | 6 => ("InkPrintery", "buffer", "Ljava/lang/StringBuilder;", true)
  | 7 => ("InkPrintery", "line", "Ljava/lang/StringBuilder;", true)
  | 8 => ("InkPrintery", "parser", "LInkPrintery$Parser;", true)
  | 9 => ("InkPrintery", "errorPosition", "I", false)
  | _ => ("InkPrintery", "failedCommand", "I", false)
def tyX1 : Nat → FieldType := fun k => match k with
  | 0 => .object "InkPrintery$State"
  | 1 => .object "InkPrintery$State"
  | 2 => .object "InkPrintery$State"
  | 3 => .boolean
  | 4 => .object "java/util/ArrayDeque"
  | 5 => .object "java/util/ArrayDeque"
  | 6 => .object "java/lang/StringBuilder"
  | 7 => .object "java/lang/StringBuilder"
  | 8 => .object "InkPrintery$Parser"
  | 9 => .int
  | _ => .int
abbrev wsX10 : List Cond := u_ws RX1 TX1 11
theorem nmX1 : ∀ a, a < 11 → ∀ b, b < 11 → a ≠ b → (TX1 a).2.1 ≠ (TX1 b).2.1 := by decide +kernel
theorem tyX1_ok : ∀ k, k < 11 → parseFieldDescriptor (TX1 k).2.2.1 = some (tyX1 k) := by decide +kernel
abbrev cX1_init : ByteArray := prog_1_method_4_code
def yX1_init : MethodName := ⟨RX1, "<init>", "()V"⟩
def dkwX1_init_5 : List UInt8 := [42, 180, 0, 33, 187, 0, 13, 89, 183, 0, 15, 182, 0, 62, 132, 1, 1, 167, 255, 233, 177]
abbrev dktX1_init_5 : List UInt8 := dkwX1_init_5 ++ []
def dkwX1_init_4 : List UInt8 := [183, 0, 48, 181, 0, 51, 42, 2, 181, 0, 55, 42, 2, 181, 0, 59, 3, 60, 27, 16, 8, 162, 0, 23]
abbrev dktX1_init_4 : List UInt8 := dkwX1_init_4 ++ dktX1_init_5
def dkwX1_init_3 : List UInt8 := [181, 0, 39, 42, 187, 0, 36, 89, 183, 0, 38, 181, 0, 43, 42, 187, 0, 46, 89, 42, 180, 0, 39]
abbrev dktX1_init_3 : List UInt8 := dkwX1_init_3 ++ dktX1_init_4
def dkwX1_init_2 : List UInt8 := [181, 0, 29, 42, 187, 0, 26, 89, 183, 0, 28, 181, 0, 33, 42, 187, 0, 36, 89, 183, 0, 38]
abbrev dktX1_init_2 : List UInt8 := dkwX1_init_2 ++ dktX1_init_3
def dkwX1_init_1 : List UInt8 := [181, 0, 20, 42, 187, 0, 13, 89, 183, 0, 15, 181, 0, 23, 42, 187, 0, 26, 89, 183, 0, 28]
abbrev dktX1_init_1 : List UInt8 := dkwX1_init_1 ++ dktX1_init_2
def dkwX1_init_0 : List UInt8 := [42, 183, 0, 7, 42, 187, 0, 13, 89, 183, 0, 15, 181, 0, 16, 42, 187, 0, 13, 89, 183, 0, 15]
abbrev dktX1_init_0 : List UInt8 := dkwX1_init_0 ++ dktX1_init_1
theorem dksX1_init_0 : cX1_init.data.toList.drop 0 = dktX1_init_0 := by decide +kernel
theorem dksX1_init_1 : cX1_init.data.toList.drop 23 = dktX1_init_1 := dk_seg dksX1_init_0 23 rfl rfl
theorem dksX1_init_2 : cX1_init.data.toList.drop 45 = dktX1_init_2 := dk_seg dksX1_init_1 22 rfl rfl
theorem dksX1_init_3 : cX1_init.data.toList.drop 67 = dktX1_init_3 := dk_seg dksX1_init_2 22 rfl rfl
theorem dksX1_init_4 : cX1_init.data.toList.drop 90 = dktX1_init_4 := dk_seg dksX1_init_3 23 rfl rfl
theorem dksX1_init_5 : cX1_init.data.toList.drop 114 = dktX1_init_5 := dk_seg dksX1_init_4 24 rfl rfl
theorem dX1_init_0 : decode cX1_init 0 = .ok (.aload_n 0, 1) := dk_42 (dk_at dksX1_init_0 0 rfl rfl)
theorem dX1_init_1 : decode cX1_init 1 = .ok (.invokespecial 7, 3) := dk_183 0 7 (dk_at dksX1_init_0 1 rfl rfl)
theorem dX1_init_4 : decode cX1_init 4 = .ok (.aload_n 0, 1) := dk_42 (dk_at dksX1_init_0 4 rfl rfl)
theorem dX1_init_5 : decode cX1_init 5 = .ok (.new 13, 3) := dk_187 0 13 (dk_at dksX1_init_0 5 rfl rfl)
theorem dX1_init_8 : decode cX1_init 8 = .ok (.dup, 1) := dk_89 (dk_at dksX1_init_0 8 rfl rfl)
theorem dX1_init_9 : decode cX1_init 9 = .ok (.invokespecial 15, 3) := dk_183 0 15 (dk_at dksX1_init_0 9 rfl rfl)
theorem dX1_init_12 : decode cX1_init 12 = .ok (.putfield 16, 3) := dk_181 0 16 (dk_at dksX1_init_0 12 rfl rfl)
theorem dX1_init_15 : decode cX1_init 15 = .ok (.aload_n 0, 1) := dk_42 (dk_at dksX1_init_0 15 rfl rfl)
theorem dX1_init_16 : decode cX1_init 16 = .ok (.new 13, 3) := dk_187 0 13 (dk_at dksX1_init_0 16 rfl rfl)
theorem dX1_init_19 : decode cX1_init 19 = .ok (.dup, 1) := dk_89 (dk_at dksX1_init_0 19 rfl rfl)
theorem dX1_init_20 : decode cX1_init 20 = .ok (.invokespecial 15, 3) := dk_183 0 15 (dk_at dksX1_init_0 20 rfl rfl)
theorem dX1_init_23 : decode cX1_init 23 = .ok (.putfield 20, 3) := dk_181 0 20 (dk_at dksX1_init_1 0 rfl rfl)
theorem dX1_init_26 : decode cX1_init 26 = .ok (.aload_n 0, 1) := dk_42 (dk_at dksX1_init_1 3 rfl rfl)
theorem dX1_init_27 : decode cX1_init 27 = .ok (.new 13, 3) := dk_187 0 13 (dk_at dksX1_init_1 4 rfl rfl)
theorem dX1_init_30 : decode cX1_init 30 = .ok (.dup, 1) := dk_89 (dk_at dksX1_init_1 7 rfl rfl)
theorem dX1_init_31 : decode cX1_init 31 = .ok (.invokespecial 15, 3) := dk_183 0 15 (dk_at dksX1_init_1 8 rfl rfl)
theorem dX1_init_34 : decode cX1_init 34 = .ok (.putfield 23, 3) := dk_181 0 23 (dk_at dksX1_init_1 11 rfl rfl)
theorem dX1_init_37 : decode cX1_init 37 = .ok (.aload_n 0, 1) := dk_42 (dk_at dksX1_init_1 14 rfl rfl)
theorem dX1_init_38 : decode cX1_init 38 = .ok (.new 26, 3) := dk_187 0 26 (dk_at dksX1_init_1 15 rfl rfl)
theorem dX1_init_41 : decode cX1_init 41 = .ok (.dup, 1) := dk_89 (dk_at dksX1_init_1 18 rfl rfl)
theorem dX1_init_42 : decode cX1_init 42 = .ok (.invokespecial 28, 3) := dk_183 0 28 (dk_at dksX1_init_1 19 rfl rfl)
theorem dX1_init_45 : decode cX1_init 45 = .ok (.putfield 29, 3) := dk_181 0 29 (dk_at dksX1_init_2 0 rfl rfl)
theorem dX1_init_48 : decode cX1_init 48 = .ok (.aload_n 0, 1) := dk_42 (dk_at dksX1_init_2 3 rfl rfl)
theorem dX1_init_49 : decode cX1_init 49 = .ok (.new 26, 3) := dk_187 0 26 (dk_at dksX1_init_2 4 rfl rfl)
theorem dX1_init_52 : decode cX1_init 52 = .ok (.dup, 1) := dk_89 (dk_at dksX1_init_2 7 rfl rfl)
theorem dX1_init_53 : decode cX1_init 53 = .ok (.invokespecial 28, 3) := dk_183 0 28 (dk_at dksX1_init_2 8 rfl rfl)
theorem dX1_init_56 : decode cX1_init 56 = .ok (.putfield 33, 3) := dk_181 0 33 (dk_at dksX1_init_2 11 rfl rfl)
theorem dX1_init_59 : decode cX1_init 59 = .ok (.aload_n 0, 1) := dk_42 (dk_at dksX1_init_2 14 rfl rfl)
theorem dX1_init_60 : decode cX1_init 60 = .ok (.new 36, 3) := dk_187 0 36 (dk_at dksX1_init_2 15 rfl rfl)
theorem dX1_init_63 : decode cX1_init 63 = .ok (.dup, 1) := dk_89 (dk_at dksX1_init_2 18 rfl rfl)
theorem dX1_init_64 : decode cX1_init 64 = .ok (.invokespecial 38, 3) := dk_183 0 38 (dk_at dksX1_init_2 19 rfl rfl)
theorem dX1_init_67 : decode cX1_init 67 = .ok (.putfield 39, 3) := dk_181 0 39 (dk_at dksX1_init_3 0 rfl rfl)
theorem dX1_init_70 : decode cX1_init 70 = .ok (.aload_n 0, 1) := dk_42 (dk_at dksX1_init_3 3 rfl rfl)
theorem dX1_init_71 : decode cX1_init 71 = .ok (.new 36, 3) := dk_187 0 36 (dk_at dksX1_init_3 4 rfl rfl)
theorem dX1_init_74 : decode cX1_init 74 = .ok (.dup, 1) := dk_89 (dk_at dksX1_init_3 7 rfl rfl)
theorem dX1_init_75 : decode cX1_init 75 = .ok (.invokespecial 38, 3) := dk_183 0 38 (dk_at dksX1_init_3 8 rfl rfl)
theorem dX1_init_78 : decode cX1_init 78 = .ok (.putfield 43, 3) := dk_181 0 43 (dk_at dksX1_init_3 11 rfl rfl)
theorem dX1_init_81 : decode cX1_init 81 = .ok (.aload_n 0, 1) := dk_42 (dk_at dksX1_init_3 14 rfl rfl)
theorem dX1_init_82 : decode cX1_init 82 = .ok (.new 46, 3) := dk_187 0 46 (dk_at dksX1_init_3 15 rfl rfl)
theorem dX1_init_85 : decode cX1_init 85 = .ok (.dup, 1) := dk_89 (dk_at dksX1_init_3 18 rfl rfl)
theorem dX1_init_86 : decode cX1_init 86 = .ok (.aload_n 0, 1) := dk_42 (dk_at dksX1_init_3 19 rfl rfl)
theorem dX1_init_87 : decode cX1_init 87 = .ok (.getfield 39, 3) := dk_180 0 39 (dk_at dksX1_init_3 20 rfl rfl)
theorem dX1_init_90 : decode cX1_init 90 = .ok (.invokespecial 48, 3) := dk_183 0 48 (dk_at dksX1_init_4 0 rfl rfl)
theorem dX1_init_93 : decode cX1_init 93 = .ok (.putfield 51, 3) := dk_181 0 51 (dk_at dksX1_init_4 3 rfl rfl)
theorem dX1_init_96 : decode cX1_init 96 = .ok (.aload_n 0, 1) := dk_42 (dk_at dksX1_init_4 6 rfl rfl)
theorem dX1_init_97 : decode cX1_init 97 = .ok (.iconst (-1), 1) := dk_2 (dk_at dksX1_init_4 7 rfl rfl)
theorem dX1_init_98 : decode cX1_init 98 = .ok (.putfield 55, 3) := dk_181 0 55 (dk_at dksX1_init_4 8 rfl rfl)
theorem dX1_init_101 : decode cX1_init 101 = .ok (.aload_n 0, 1) := dk_42 (dk_at dksX1_init_4 11 rfl rfl)
theorem dX1_init_102 : decode cX1_init 102 = .ok (.iconst (-1), 1) := dk_2 (dk_at dksX1_init_4 12 rfl rfl)
theorem dX1_init_103 : decode cX1_init 103 = .ok (.putfield 59, 3) := dk_181 0 59 (dk_at dksX1_init_4 13 rfl rfl)
theorem dX1_init_106 : decode cX1_init 106 = .ok (.iconst 0, 1) := dk_3 (dk_at dksX1_init_4 16 rfl rfl)
theorem dX1_init_107 : decode cX1_init 107 = .ok (.istore_n 1, 1) := dk_60 (dk_at dksX1_init_4 17 rfl rfl)
theorem dX1_init_108 : decode cX1_init 108 = .ok (.iload_n 1, 1) := dk_27 (dk_at dksX1_init_4 18 rfl rfl)
theorem dX1_init_109 : decode cX1_init 109 = .ok (.bipush 8, 2) := dk_16 8 (dk_at dksX1_init_4 19 rfl rfl)
theorem dX1_init_111 : decode cX1_init 111 = .ok (.if_icmp .ge 23, 3) := dk_162 0 23 (dk_at dksX1_init_4 21 rfl rfl)
theorem dX1_init_114 : decode cX1_init 114 = .ok (.aload_n 0, 1) := dk_42 (dk_at dksX1_init_5 0 rfl rfl)
theorem dX1_init_115 : decode cX1_init 115 = .ok (.getfield 33, 3) := dk_180 0 33 (dk_at dksX1_init_5 1 rfl rfl)
theorem dX1_init_118 : decode cX1_init 118 = .ok (.new 13, 3) := dk_187 0 13 (dk_at dksX1_init_5 4 rfl rfl)
theorem dX1_init_121 : decode cX1_init 121 = .ok (.dup, 1) := dk_89 (dk_at dksX1_init_5 7 rfl rfl)
theorem dX1_init_122 : decode cX1_init 122 = .ok (.invokespecial 15, 3) := dk_183 0 15 (dk_at dksX1_init_5 8 rfl rfl)
theorem dX1_init_125 : decode cX1_init 125 = .ok (.invokevirtual 62, 3) := dk_182 0 62 (dk_at dksX1_init_5 11 rfl rfl)
theorem dX1_init_128 : decode cX1_init 128 = .ok (.iinc 1 1, 3) := dk_132 1 1 (dk_at dksX1_init_5 14 rfl rfl)
theorem dX1_init_131 : decode cX1_init 131 = .ok (.goto (-23), 3) := dk_167 255 233 (dk_at dksX1_init_5 17 rfl rfl)
theorem dX1_init_134 : decode cX1_init 134 = .ok (.return_, 1) := dk_177 (dk_at dksX1_init_5 20 rfl rfl)
abbrev cX1_paper : ByteArray := prog_1_method_18_code
def yX1_paper : MethodName := ⟨RX1, "paper", "()I"⟩
def dkwX1_paper_0 : List UInt8 := [42, 180, 0, 16, 180, 0, 129, 172]
abbrev dktX1_paper_0 : List UInt8 := dkwX1_paper_0 ++ []
theorem dksX1_paper_0 : cX1_paper.data.toList.drop 0 = dktX1_paper_0 := by decide +kernel
theorem dX1_paper_0 : decode cX1_paper 0 = .ok (.aload_n 0, 1) := dk_42 (dk_at dksX1_paper_0 0 rfl rfl)
theorem dX1_paper_1 : decode cX1_paper 1 = .ok (.getfield 16, 3) := dk_180 0 16 (dk_at dksX1_paper_0 1 rfl rfl)
theorem dX1_paper_4 : decode cX1_paper 4 = .ok (.getfield 129, 3) := dk_180 0 129 (dk_at dksX1_paper_0 4 rfl rfl)
theorem dX1_paper_7 : decode cX1_paper 7 = .ok (.ireturn, 1) := dk_172 (dk_at dksX1_paper_0 7 rfl rfl)
abbrev cX1_hour : ByteArray := prog_1_method_19_code
def yX1_hour : MethodName := ⟨RX1, "hour", "()I"⟩
def dkwX1_hour_0 : List UInt8 := [42, 180, 0, 16, 180, 0, 132, 172]
abbrev dktX1_hour_0 : List UInt8 := dkwX1_hour_0 ++ []
theorem dksX1_hour_0 : cX1_hour.data.toList.drop 0 = dktX1_hour_0 := by decide +kernel
theorem dX1_hour_0 : decode cX1_hour 0 = .ok (.aload_n 0, 1) := dk_42 (dk_at dksX1_hour_0 0 rfl rfl)
theorem dX1_hour_1 : decode cX1_hour 1 = .ok (.getfield 16, 3) := dk_180 0 16 (dk_at dksX1_hour_0 1 rfl rfl)
theorem dX1_hour_4 : decode cX1_hour 4 = .ok (.getfield 132, 3) := dk_180 0 132 (dk_at dksX1_hour_0 4 rfl rfl)
theorem dX1_hour_7 : decode cX1_hour 7 = .ok (.ireturn, 1) := dk_172 (dk_at dksX1_hour_0 7 rfl rfl)
abbrev cX1_printAll : ByteArray := prog_1_method_27_code
def yX1_printAll : MethodName := ⟨RX1, "printAll", "()I"⟩
def dkwX1_printAll_0 : List UInt8 := [42, 42, 182, 0, 100, 182, 0, 157, 182, 0, 108, 172]
abbrev dktX1_printAll_0 : List UInt8 := dkwX1_printAll_0 ++ []
theorem dksX1_printAll_0 : cX1_printAll.data.toList.drop 0 = dktX1_printAll_0 := by decide +kernel
theorem dX1_printAll_0 : decode cX1_printAll 0 = .ok (.aload_n 0, 1) := dk_42 (dk_at dksX1_printAll_0 0 rfl rfl)
theorem dX1_printAll_1 : decode cX1_printAll 1 = .ok (.aload_n 0, 1) := dk_42 (dk_at dksX1_printAll_0 1 rfl rfl)
theorem dX1_printAll_2 : decode cX1_printAll 2 = .ok (.invokevirtual 100, 3) := dk_182 0 100 (dk_at dksX1_printAll_0 2 rfl rfl)
theorem dX1_printAll_5 : decode cX1_printAll 5 = .ok (.invokevirtual 157, 3) := dk_182 0 157 (dk_at dksX1_printAll_0 5 rfl rfl)
theorem dX1_printAll_8 : decode cX1_printAll 8 = .ok (.invokevirtual 108, 3) := dk_182 0 108 (dk_at dksX1_printAll_0 8 rfl rfl)
theorem dX1_printAll_11 : decode cX1_printAll 11 = .ok (.ireturn, 1) := dk_172 (dk_at dksX1_printAll_0 11 rfl rfl)
abbrev cX1_begin : ByteArray := prog_1_method_12_code
def yX1_begin : MethodName := ⟨RX1, "begin", "()LInkPrintery$State;"⟩
def dkwX1_begin_0 : List UInt8 := [42, 180, 0, 20, 42, 180, 0, 16, 182, 0, 88, 42, 180, 0, 20, 176]
abbrev dktX1_begin_0 : List UInt8 := dkwX1_begin_0 ++ []
theorem dksX1_begin_0 : cX1_begin.data.toList.drop 0 = dktX1_begin_0 := by decide +kernel
theorem dX1_begin_0 : decode cX1_begin 0 = .ok (.aload_n 0, 1) := dk_42 (dk_at dksX1_begin_0 0 rfl rfl)
theorem dX1_begin_1 : decode cX1_begin 1 = .ok (.getfield 20, 3) := dk_180 0 20 (dk_at dksX1_begin_0 1 rfl rfl)
theorem dX1_begin_4 : decode cX1_begin 4 = .ok (.aload_n 0, 1) := dk_42 (dk_at dksX1_begin_0 4 rfl rfl)
theorem dX1_begin_5 : decode cX1_begin 5 = .ok (.getfield 16, 3) := dk_180 0 16 (dk_at dksX1_begin_0 5 rfl rfl)
theorem dX1_begin_8 : decode cX1_begin 8 = .ok (.invokevirtual 88, 3) := dk_182 0 88 (dk_at dksX1_begin_0 8 rfl rfl)
theorem dX1_begin_11 : decode cX1_begin 11 = .ok (.aload_n 0, 1) := dk_42 (dk_at dksX1_begin_0 11 rfl rfl)
theorem dX1_begin_12 : decode cX1_begin 12 = .ok (.getfield 20, 3) := dk_180 0 20 (dk_at dksX1_begin_0 12 rfl rfl)
theorem dX1_begin_15 : decode cX1_begin 15 = .ok (.areturn, 1) := dk_176 (dk_at dksX1_begin_0 15 rfl rfl)
abbrev cX1_isIn : ByteArray := prog_1_method_3_code
def yX1_isIn : MethodName := ⟨RX1, "isIn", "(II)Z"⟩
def dkwX1_isIn_0 : List UInt8 := [26, 27, 122, 4, 126, 4, 160, 0, 7, 4, 167, 0, 4, 3, 172]
abbrev dktX1_isIn_0 : List UInt8 := dkwX1_isIn_0 ++ []
theorem dksX1_isIn_0 : cX1_isIn.data.toList.drop 0 = dktX1_isIn_0 := by decide +kernel
theorem dX1_isIn_0 : decode cX1_isIn 0 = .ok (.iload_n 0, 1) := dk_26 (dk_at dksX1_isIn_0 0 rfl rfl)
theorem dX1_isIn_1 : decode cX1_isIn 1 = .ok (.iload_n 1, 1) := dk_27 (dk_at dksX1_isIn_0 1 rfl rfl)
theorem dX1_isIn_2 : decode cX1_isIn 2 = .ok (.ishr, 1) := dk_122 (dk_at dksX1_isIn_0 2 rfl rfl)
theorem dX1_isIn_3 : decode cX1_isIn 3 = .ok (.iconst 1, 1) := dk_4 (dk_at dksX1_isIn_0 3 rfl rfl)
theorem dX1_isIn_4 : decode cX1_isIn 4 = .ok (.iand, 1) := dk_126 (dk_at dksX1_isIn_0 4 rfl rfl)
theorem dX1_isIn_5 : decode cX1_isIn 5 = .ok (.iconst 1, 1) := dk_4 (dk_at dksX1_isIn_0 5 rfl rfl)
theorem dX1_isIn_6 : decode cX1_isIn 6 = .ok (.if_icmp .ne 7, 3) := dk_160 0 7 (dk_at dksX1_isIn_0 6 rfl rfl)
theorem dX1_isIn_9 : decode cX1_isIn 9 = .ok (.iconst 1, 1) := dk_4 (dk_at dksX1_isIn_0 9 rfl rfl)
theorem dX1_isIn_10 : decode cX1_isIn 10 = .ok (.goto 4, 3) := dk_167 0 4 (dk_at dksX1_isIn_0 10 rfl rfl)
theorem dX1_isIn_13 : decode cX1_isIn 13 = .ok (.iconst 0, 1) := dk_3 (dk_at dksX1_isIn_0 13 rfl rfl)
theorem dX1_isIn_14 : decode cX1_isIn 14 = .ok (.ireturn, 1) := dk_172 (dk_at dksX1_isIn_0 14 rfl rfl)
abbrev cX1_commit : ByteArray := prog_1_method_13_code
def yX1_commit : MethodName := ⟨RX1, "commit", "(I)I"⟩
def dkwX1_commit_2 : List UInt8 := [182, 0, 62, 42, 180, 0, 16, 42, 180, 0, 20, 182, 0, 88, 27, 172]
abbrev dktX1_commit_2 : List UInt8 := dkwX1_commit_2 ++ []
def dkwX1_commit_1 : List UInt8 := [180, 0, 33, 182, 0, 96, 192, 0, 13, 77, 44, 42, 180, 0, 16, 182, 0, 88, 42, 180, 0, 29, 44]
abbrev dktX1_commit_1 : List UInt8 := dkwX1_commit_1 ++ dktX1_commit_2
def dkwX1_commit_0 : List UInt8 := [42, 180, 0, 33, 182, 0, 92, 153, 0, 16, 42, 180, 0, 29, 182, 0, 96, 192, 0, 13, 167, 0, 13, 42]
abbrev dktX1_commit_0 : List UInt8 := dkwX1_commit_0 ++ dktX1_commit_1
theorem dksX1_commit_0 : cX1_commit.data.toList.drop 0 = dktX1_commit_0 := by decide +kernel
theorem dksX1_commit_1 : cX1_commit.data.toList.drop 24 = dktX1_commit_1 := dk_seg dksX1_commit_0 24 rfl rfl
theorem dksX1_commit_2 : cX1_commit.data.toList.drop 47 = dktX1_commit_2 := dk_seg dksX1_commit_1 23 rfl rfl
theorem dX1_commit_0 : decode cX1_commit 0 = .ok (.aload_n 0, 1) := dk_42 (dk_at dksX1_commit_0 0 rfl rfl)
theorem dX1_commit_1 : decode cX1_commit 1 = .ok (.getfield 33, 3) := dk_180 0 33 (dk_at dksX1_commit_0 1 rfl rfl)
theorem dX1_commit_4 : decode cX1_commit 4 = .ok (.invokevirtual 92, 3) := dk_182 0 92 (dk_at dksX1_commit_0 4 rfl rfl)
theorem dX1_commit_7 : decode cX1_commit 7 = .ok (.ifCond .eq 16, 3) := dk_153 0 16 (dk_at dksX1_commit_0 7 rfl rfl)
theorem dX1_commit_10 : decode cX1_commit 10 = .ok (.aload_n 0, 1) := dk_42 (dk_at dksX1_commit_0 10 rfl rfl)
theorem dX1_commit_11 : decode cX1_commit 11 = .ok (.getfield 29, 3) := dk_180 0 29 (dk_at dksX1_commit_0 11 rfl rfl)
theorem dX1_commit_14 : decode cX1_commit 14 = .ok (.invokevirtual 96, 3) := dk_182 0 96 (dk_at dksX1_commit_0 14 rfl rfl)
theorem dX1_commit_17 : decode cX1_commit 17 = .ok (.checkcast 13, 3) := dk_192 0 13 (dk_at dksX1_commit_0 17 rfl rfl)
theorem dX1_commit_20 : decode cX1_commit 20 = .ok (.goto 13, 3) := dk_167 0 13 (dk_at dksX1_commit_0 20 rfl rfl)
theorem dX1_commit_23 : decode cX1_commit 23 = .ok (.aload_n 0, 1) := dk_42 (dk_at dksX1_commit_0 23 rfl rfl)
theorem dX1_commit_24 : decode cX1_commit 24 = .ok (.getfield 33, 3) := dk_180 0 33 (dk_at dksX1_commit_1 0 rfl rfl)
theorem dX1_commit_27 : decode cX1_commit 27 = .ok (.invokevirtual 96, 3) := dk_182 0 96 (dk_at dksX1_commit_1 3 rfl rfl)
theorem dX1_commit_30 : decode cX1_commit 30 = .ok (.checkcast 13, 3) := dk_192 0 13 (dk_at dksX1_commit_1 6 rfl rfl)
theorem dX1_commit_33 : decode cX1_commit 33 = .ok (.astore_n 2, 1) := dk_77 (dk_at dksX1_commit_1 9 rfl rfl)
theorem dX1_commit_34 : decode cX1_commit 34 = .ok (.aload_n 2, 1) := dk_44 (dk_at dksX1_commit_1 10 rfl rfl)
theorem dX1_commit_35 : decode cX1_commit 35 = .ok (.aload_n 0, 1) := dk_42 (dk_at dksX1_commit_1 11 rfl rfl)
theorem dX1_commit_36 : decode cX1_commit 36 = .ok (.getfield 16, 3) := dk_180 0 16 (dk_at dksX1_commit_1 12 rfl rfl)
theorem dX1_commit_39 : decode cX1_commit 39 = .ok (.invokevirtual 88, 3) := dk_182 0 88 (dk_at dksX1_commit_1 15 rfl rfl)
theorem dX1_commit_42 : decode cX1_commit 42 = .ok (.aload_n 0, 1) := dk_42 (dk_at dksX1_commit_1 18 rfl rfl)
theorem dX1_commit_43 : decode cX1_commit 43 = .ok (.getfield 29, 3) := dk_180 0 29 (dk_at dksX1_commit_1 19 rfl rfl)
theorem dX1_commit_46 : decode cX1_commit 46 = .ok (.aload_n 2, 1) := dk_44 (dk_at dksX1_commit_1 22 rfl rfl)
theorem dX1_commit_47 : decode cX1_commit 47 = .ok (.invokevirtual 62, 3) := dk_182 0 62 (dk_at dksX1_commit_2 0 rfl rfl)
theorem dX1_commit_50 : decode cX1_commit 50 = .ok (.aload_n 0, 1) := dk_42 (dk_at dksX1_commit_2 3 rfl rfl)
theorem dX1_commit_51 : decode cX1_commit 51 = .ok (.getfield 16, 3) := dk_180 0 16 (dk_at dksX1_commit_2 4 rfl rfl)
theorem dX1_commit_54 : decode cX1_commit 54 = .ok (.aload_n 0, 1) := dk_42 (dk_at dksX1_commit_2 7 rfl rfl)
theorem dX1_commit_55 : decode cX1_commit 55 = .ok (.getfield 20, 3) := dk_180 0 20 (dk_at dksX1_commit_2 8 rfl rfl)
theorem dX1_commit_58 : decode cX1_commit 58 = .ok (.invokevirtual 88, 3) := dk_182 0 88 (dk_at dksX1_commit_2 11 rfl rfl)
theorem dX1_commit_61 : decode cX1_commit 61 = .ok (.iload_n 1, 1) := dk_27 (dk_at dksX1_commit_2 14 rfl rfl)
theorem dX1_commit_62 : decode cX1_commit 62 = .ok (.ireturn, 1) := dk_172 (dk_at dksX1_commit_2 15 rfl rfl)
abbrev cX1_editionCount : ByteArray := prog_1_method_28_code
def yX1_editionCount : MethodName := ⟨RX1, "editionCount", "()I"⟩
def dkwX1_editionCount_0 : List UInt8 := [42, 180, 0, 16, 180, 0, 161, 172]
abbrev dktX1_editionCount_0 : List UInt8 := dkwX1_editionCount_0 ++ []
theorem dksX1_editionCount_0 : cX1_editionCount.data.toList.drop 0 = dktX1_editionCount_0 := by decide +kernel
theorem dX1_editionCount_0 : decode cX1_editionCount 0 = .ok (.aload_n 0, 1) := dk_42 (dk_at dksX1_editionCount_0 0 rfl rfl)
theorem dX1_editionCount_1 : decode cX1_editionCount 1 = .ok (.getfield 16, 3) := dk_180 0 16 (dk_at dksX1_editionCount_0 1 rfl rfl)
theorem dX1_editionCount_4 : decode cX1_editionCount 4 = .ok (.getfield 161, 3) := dk_180 0 161 (dk_at dksX1_editionCount_0 4 rfl rfl)
theorem dX1_editionCount_7 : decode cX1_editionCount 7 = .ok (.ireturn, 1) := dk_172 (dk_at dksX1_editionCount_0 7 rfl rfl)
abbrev cX1_pressColour : ByteArray := prog_1_method_34_code
def yX1_pressColour : MethodName := ⟨RX1, "pressColour", "()I"⟩
def dkwX1_pressColour_0 : List UInt8 := [42, 180, 0, 16, 180, 0, 191, 172]
abbrev dktX1_pressColour_0 : List UInt8 := dkwX1_pressColour_0 ++ []
theorem dksX1_pressColour_0 : cX1_pressColour.data.toList.drop 0 = dktX1_pressColour_0 := by decide +kernel
theorem dX1_pressColour_0 : decode cX1_pressColour 0 = .ok (.aload_n 0, 1) := dk_42 (dk_at dksX1_pressColour_0 0 rfl rfl)
theorem dX1_pressColour_1 : decode cX1_pressColour 1 = .ok (.getfield 16, 3) := dk_180 0 16 (dk_at dksX1_pressColour_0 1 rfl rfl)
theorem dX1_pressColour_4 : decode cX1_pressColour 4 = .ok (.getfield 191, 3) := dk_180 0 191 (dk_at dksX1_pressColour_0 4 rfl rfl)
theorem dX1_pressColour_7 : decode cX1_pressColour 7 = .ok (.ireturn, 1) := dk_172 (dk_at dksX1_pressColour_0 7 rfl rfl)
abbrev cX1_fewestMinutes : ByteArray := prog_1_method_36_code
def yX1_fewestMinutes : MethodName := ⟨RX1, "fewestMinutes", "()I"⟩
def dkwX1_fewestMinutes_0 : List UInt8 := [42, 182, 0, 204, 182, 0, 208, 172]
abbrev dktX1_fewestMinutes_0 : List UInt8 := dkwX1_fewestMinutes_0 ++ []
theorem dksX1_fewestMinutes_0 : cX1_fewestMinutes.data.toList.drop 0 = dktX1_fewestMinutes_0 := by decide +kernel
theorem dX1_fewestMinutes_0 : decode cX1_fewestMinutes 0 = .ok (.aload_n 0, 1) := dk_42 (dk_at dksX1_fewestMinutes_0 0 rfl rfl)
theorem dX1_fewestMinutes_1 : decode cX1_fewestMinutes 1 = .ok (.invokevirtual 204, 3) := dk_182 0 204 (dk_at dksX1_fewestMinutes_0 1 rfl rfl)
theorem dX1_fewestMinutes_4 : decode cX1_fewestMinutes 4 = .ok (.invokevirtual 208, 3) := dk_182 0 208 (dk_at dksX1_fewestMinutes_0 4 rfl rfl)
theorem dX1_fewestMinutes_7 : decode cX1_fewestMinutes 7 = .ok (.ireturn, 1) := dk_172 (dk_at dksX1_fewestMinutes_0 7 rfl rfl)
abbrev cX1_search : ByteArray := prog_1_method_35_code
def yX1_search : MethodName := ⟨RX1, "search", "()LInkPrintery$State$OrderSearch;"⟩
def dkwX1_search_0 : List UInt8 := [187, 0, 194, 89, 42, 180, 0, 16, 89, 184, 0, 196, 87, 183, 0, 202, 176]
abbrev dktX1_search_0 : List UInt8 := dkwX1_search_0 ++ []
theorem dksX1_search_0 : cX1_search.data.toList.drop 0 = dktX1_search_0 := by decide +kernel
theorem dX1_search_0 : decode cX1_search 0 = .ok (.new 194, 3) := dk_187 0 194 (dk_at dksX1_search_0 0 rfl rfl)
theorem dX1_search_3 : decode cX1_search 3 = .ok (.dup, 1) := dk_89 (dk_at dksX1_search_0 3 rfl rfl)
theorem dX1_search_4 : decode cX1_search 4 = .ok (.aload_n 0, 1) := dk_42 (dk_at dksX1_search_0 4 rfl rfl)
theorem dX1_search_5 : decode cX1_search 5 = .ok (.getfield 16, 3) := dk_180 0 16 (dk_at dksX1_search_0 5 rfl rfl)
theorem dX1_search_8 : decode cX1_search 8 = .ok (.dup, 1) := dk_89 (dk_at dksX1_search_0 8 rfl rfl)
theorem dX1_search_9 : decode cX1_search 9 = .ok (.invokestatic 196, 3) := dk_184 0 196 (dk_at dksX1_search_0 9 rfl rfl)
theorem dX1_search_12 : decode cX1_search 12 = .ok (.pop, 1) := dk_87 (dk_at dksX1_search_0 12 rfl rfl)
theorem dX1_search_13 : decode cX1_search 13 = .ok (.invokespecial 202, 3) := dk_183 0 202 (dk_at dksX1_search_0 13 rfl rfl)
theorem dX1_search_16 : decode cX1_search 16 = .ok (.areturn, 1) := dk_176 (dk_at dksX1_search_0 16 rfl rfl)
abbrev cX1_minutesByOrders : ByteArray := prog_1_method_37_code
def yX1_minutesByOrders : MethodName := ⟨RX1, "minutesByOrders", "()I"⟩
def dkwX1_minutesByOrders_0 : List UInt8 := [42, 182, 0, 204, 182, 0, 211, 172]
abbrev dktX1_minutesByOrders_0 : List UInt8 := dkwX1_minutesByOrders_0 ++ []
theorem dksX1_minutesByOrders_0 : cX1_minutesByOrders.data.toList.drop 0 = dktX1_minutesByOrders_0 := by decide +kernel
theorem dX1_minutesByOrders_0 : decode cX1_minutesByOrders 0 = .ok (.aload_n 0, 1) := dk_42 (dk_at dksX1_minutesByOrders_0 0 rfl rfl)
theorem dX1_minutesByOrders_1 : decode cX1_minutesByOrders 1 = .ok (.invokevirtual 204, 3) := dk_182 0 204 (dk_at dksX1_minutesByOrders_0 1 rfl rfl)
theorem dX1_minutesByOrders_4 : decode cX1_minutesByOrders 4 = .ok (.invokevirtual 211, 3) := dk_182 0 211 (dk_at dksX1_minutesByOrders_0 4 rfl rfl)
theorem dX1_minutesByOrders_7 : decode cX1_minutesByOrders 7 = .ok (.ireturn, 1) := dk_172 (dk_at dksX1_minutesByOrders_0 7 rfl rfl)
abbrev cX1_proofCount : ByteArray := prog_1_method_44_code
def yX1_proofCount : MethodName := ⟨RX1, "proofCount", "()I"⟩
def dkwX1_proofCount_0 : List UInt8 := [42, 180, 0, 16, 180, 0, 236, 172]
abbrev dktX1_proofCount_0 : List UInt8 := dkwX1_proofCount_0 ++ []
theorem dksX1_proofCount_0 : cX1_proofCount.data.toList.drop 0 = dktX1_proofCount_0 := by decide +kernel
theorem dX1_proofCount_0 : decode cX1_proofCount 0 = .ok (.aload_n 0, 1) := dk_42 (dk_at dksX1_proofCount_0 0 rfl rfl)
theorem dX1_proofCount_1 : decode cX1_proofCount 1 = .ok (.getfield 16, 3) := dk_180 0 16 (dk_at dksX1_proofCount_0 1 rfl rfl)
theorem dX1_proofCount_4 : decode cX1_proofCount 4 = .ok (.getfield 236, 3) := dk_180 0 236 (dk_at dksX1_proofCount_0 4 rfl rfl)
theorem dX1_proofCount_7 : decode cX1_proofCount 7 = .ok (.ireturn, 1) := dk_172 (dk_at dksX1_proofCount_0 7 rfl rfl)
abbrev cX1_longestRise : ByteArray := prog_1_method_47_code
def yX1_longestRise : MethodName := ⟨RX1, "longestRise", "()I"⟩
def dkwX1_longestRise_0 : List UInt8 := [42, 180, 0, 16, 182, 0, 249, 172]
abbrev dktX1_longestRise_0 : List UInt8 := dkwX1_longestRise_0 ++ []
theorem dksX1_longestRise_0 : cX1_longestRise.data.toList.drop 0 = dktX1_longestRise_0 := by decide +kernel
theorem dX1_longestRise_0 : decode cX1_longestRise 0 = .ok (.aload_n 0, 1) := dk_42 (dk_at dksX1_longestRise_0 0 rfl rfl)
theorem dX1_longestRise_1 : decode cX1_longestRise 1 = .ok (.getfield 16, 3) := dk_180 0 16 (dk_at dksX1_longestRise_0 1 rfl rfl)
theorem dX1_longestRise_4 : decode cX1_longestRise 4 = .ok (.invokevirtual 249, 3) := dk_182 0 249 (dk_at dksX1_longestRise_0 4 rfl rfl)
theorem dX1_longestRise_7 : decode cX1_longestRise 7 = .ok (.ireturn, 1) := dk_172 (dk_at dksX1_longestRise_0 7 rfl rfl)
abbrev cX1_riseByEnds : ByteArray := prog_1_method_48_code
def yX1_riseByEnds : MethodName := ⟨RX1, "riseByEnds", "()I"⟩
def dkwX1_riseByEnds_0 : List UInt8 := [42, 180, 0, 16, 182, 0, 252, 172]
abbrev dktX1_riseByEnds_0 : List UInt8 := dkwX1_riseByEnds_0 ++ []
theorem dksX1_riseByEnds_0 : cX1_riseByEnds.data.toList.drop 0 = dktX1_riseByEnds_0 := by decide +kernel
theorem dX1_riseByEnds_0 : decode cX1_riseByEnds 0 = .ok (.aload_n 0, 1) := dk_42 (dk_at dksX1_riseByEnds_0 0 rfl rfl)
theorem dX1_riseByEnds_1 : decode cX1_riseByEnds 1 = .ok (.getfield 16, 3) := dk_180 0 16 (dk_at dksX1_riseByEnds_0 1 rfl rfl)
theorem dX1_riseByEnds_4 : decode cX1_riseByEnds 4 = .ok (.invokevirtual 252, 3) := dk_182 0 252 (dk_at dksX1_riseByEnds_0 4 rfl rfl)
theorem dX1_riseByEnds_7 : decode cX1_riseByEnds 7 = .ok (.ireturn, 1) := dk_172 (dk_at dksX1_riseByEnds_0 7 rfl rfl)
abbrev cX1_riseCount : ByteArray := prog_1_method_49_code
def yX1_riseCount : MethodName := ⟨RX1, "riseCount", "()I"⟩
def dkwX1_riseCount_0 : List UInt8 := [42, 180, 0, 16, 182, 0, 255, 172]
abbrev dktX1_riseCount_0 : List UInt8 := dkwX1_riseCount_0 ++ []
theorem dksX1_riseCount_0 : cX1_riseCount.data.toList.drop 0 = dktX1_riseCount_0 := by decide +kernel
theorem dX1_riseCount_0 : decode cX1_riseCount 0 = .ok (.aload_n 0, 1) := dk_42 (dk_at dksX1_riseCount_0 0 rfl rfl)
theorem dX1_riseCount_1 : decode cX1_riseCount 1 = .ok (.getfield 16, 3) := dk_180 0 16 (dk_at dksX1_riseCount_0 1 rfl rfl)
theorem dX1_riseCount_4 : decode cX1_riseCount 4 = .ok (.invokevirtual 255, 3) := dk_182 0 255 (dk_at dksX1_riseCount_0 4 rfl rfl)
theorem dX1_riseCount_7 : decode cX1_riseCount 7 = .ok (.ireturn, 1) := dk_172 (dk_at dksX1_riseCount_0 7 rfl rfl)
abbrev cX1_minutes : ByteArray := prog_1_method_50_code
def yX1_minutes : MethodName := ⟨RX1, "minutes", "()I"⟩
def dkwX1_minutes_0 : List UInt8 := [42, 180, 0, 16, 180, 1, 2, 172]
abbrev dktX1_minutes_0 : List UInt8 := dkwX1_minutes_0 ++ []
theorem dksX1_minutes_0 : cX1_minutes.data.toList.drop 0 = dktX1_minutes_0 := by decide +kernel
theorem dX1_minutes_0 : decode cX1_minutes 0 = .ok (.aload_n 0, 1) := dk_42 (dk_at dksX1_minutes_0 0 rfl rfl)
theorem dX1_minutes_1 : decode cX1_minutes 1 = .ok (.getfield 16, 3) := dk_180 0 16 (dk_at dksX1_minutes_0 1 rfl rfl)
theorem dX1_minutes_4 : decode cX1_minutes 4 = .ok (.getfield 258, 3) := dk_180 1 2 (dk_at dksX1_minutes_0 4 rfl rfl)
theorem dX1_minutes_7 : decode cX1_minutes 7 = .ok (.ireturn, 1) := dk_172 (dk_at dksX1_minutes_0 7 rfl rfl)
abbrev cX1_poured : ByteArray := prog_1_method_51_code
def yX1_poured : MethodName := ⟨RX1, "poured", "()I"⟩
def dkwX1_poured_0 : List UInt8 := [42, 180, 0, 16, 180, 1, 5, 172]
abbrev dktX1_poured_0 : List UInt8 := dkwX1_poured_0 ++ []
theorem dksX1_poured_0 : cX1_poured.data.toList.drop 0 = dktX1_poured_0 := by decide +kernel
theorem dX1_poured_0 : decode cX1_poured 0 = .ok (.aload_n 0, 1) := dk_42 (dk_at dksX1_poured_0 0 rfl rfl)
theorem dX1_poured_1 : decode cX1_poured 1 = .ok (.getfield 16, 3) := dk_180 0 16 (dk_at dksX1_poured_0 1 rfl rfl)
theorem dX1_poured_4 : decode cX1_poured 4 = .ok (.getfield 261, 3) := dk_180 1 5 (dk_at dksX1_poured_0 4 rfl rfl)
theorem dX1_poured_7 : decode cX1_poured 7 = .ok (.ireturn, 1) := dk_172 (dk_at dksX1_poured_0 7 rfl rfl)
abbrev cX1_used : ByteArray := prog_1_method_52_code
def yX1_used : MethodName := ⟨RX1, "used", "()I"⟩
def dkwX1_used_0 : List UInt8 := [42, 180, 0, 16, 180, 1, 8, 172]
abbrev dktX1_used_0 : List UInt8 := dkwX1_used_0 ++ []
theorem dksX1_used_0 : cX1_used.data.toList.drop 0 = dktX1_used_0 := by decide +kernel
theorem dX1_used_0 : decode cX1_used 0 = .ok (.aload_n 0, 1) := dk_42 (dk_at dksX1_used_0 0 rfl rfl)
theorem dX1_used_1 : decode cX1_used 1 = .ok (.getfield 16, 3) := dk_180 0 16 (dk_at dksX1_used_0 1 rfl rfl)
theorem dX1_used_4 : decode cX1_used 4 = .ok (.getfield 264, 3) := dk_180 1 8 (dk_at dksX1_used_0 4 rfl rfl)
theorem dX1_used_7 : decode cX1_used 7 = .ok (.ireturn, 1) := dk_172 (dk_at dksX1_used_0 7 rfl rfl)
abbrev cX1_faded : ByteArray := prog_1_method_53_code
def yX1_faded : MethodName := ⟨RX1, "faded", "()J"⟩
def dkwX1_faded_0 : List UInt8 := [42, 180, 0, 16, 180, 1, 11, 173]
abbrev dktX1_faded_0 : List UInt8 := dkwX1_faded_0 ++ []
theorem dksX1_faded_0 : cX1_faded.data.toList.drop 0 = dktX1_faded_0 := by decide +kernel
theorem dX1_faded_0 : decode cX1_faded 0 = .ok (.aload_n 0, 1) := dk_42 (dk_at dksX1_faded_0 0 rfl rfl)
theorem dX1_faded_1 : decode cX1_faded 1 = .ok (.getfield 16, 3) := dk_180 0 16 (dk_at dksX1_faded_0 1 rfl rfl)
theorem dX1_faded_4 : decode cX1_faded 4 = .ok (.getfield 267, 3) := dk_180 1 11 (dk_at dksX1_faded_0 4 rfl rfl)
theorem dX1_faded_7 : decode cX1_faded 7 = .ok (.lreturn, 1) := dk_173 (dk_at dksX1_faded_0 7 rfl rfl)
abbrev cX1_inkInWells : ByteArray := prog_1_method_54_code
def yX1_inkInWells : MethodName := ⟨RX1, "inkInWells", "()I"⟩
def dkwX1_inkInWells_0 : List UInt8 := [42, 180, 0, 16, 182, 1, 15, 172]
abbrev dktX1_inkInWells_0 : List UInt8 := dkwX1_inkInWells_0 ++ []
theorem dksX1_inkInWells_0 : cX1_inkInWells.data.toList.drop 0 = dktX1_inkInWells_0 := by decide +kernel
theorem dX1_inkInWells_0 : decode cX1_inkInWells 0 = .ok (.aload_n 0, 1) := dk_42 (dk_at dksX1_inkInWells_0 0 rfl rfl)
theorem dX1_inkInWells_1 : decode cX1_inkInWells 1 = .ok (.getfield 16, 3) := dk_180 0 16 (dk_at dksX1_inkInWells_0 1 rfl rfl)
theorem dX1_inkInWells_4 : decode cX1_inkInWells 4 = .ok (.invokevirtual 271, 3) := dk_182 1 15 (dk_at dksX1_inkInWells_0 4 rfl rfl)
theorem dX1_inkInWells_7 : decode cX1_inkInWells 7 = .ok (.ireturn, 1) := dk_172 (dk_at dksX1_inkInWells_0 7 rfl rfl)
abbrev cX1_writeWells : ByteArray := prog_1_method_58_code
def yX1_writeWells : MethodName := ⟨RX1, "writeWells", "()I"⟩
def dkwX1_writeWells_1 : List UInt8 := [182, 1, 38, 172]
abbrev dktX1_writeWells_1 : List UInt8 := dkwX1_writeWells_1 ++ []
def dkwX1_writeWells_0 : List UInt8 := [42, 180, 0, 43, 3, 182, 1, 24, 42, 180, 0, 16, 42, 180, 0, 43, 182, 1, 41, 42, 180, 0, 43]
abbrev dktX1_writeWells_0 : List UInt8 := dkwX1_writeWells_0 ++ dktX1_writeWells_1
theorem dksX1_writeWells_0 : cX1_writeWells.data.toList.drop 0 = dktX1_writeWells_0 := by decide +kernel
theorem dksX1_writeWells_1 : cX1_writeWells.data.toList.drop 23 = dktX1_writeWells_1 := dk_seg dksX1_writeWells_0 23 rfl rfl
theorem dX1_writeWells_0 : decode cX1_writeWells 0 = .ok (.aload_n 0, 1) := dk_42 (dk_at dksX1_writeWells_0 0 rfl rfl)
theorem dX1_writeWells_1 : decode cX1_writeWells 1 = .ok (.getfield 43, 3) := dk_180 0 43 (dk_at dksX1_writeWells_0 1 rfl rfl)
theorem dX1_writeWells_4 : decode cX1_writeWells 4 = .ok (.iconst 0, 1) := dk_3 (dk_at dksX1_writeWells_0 4 rfl rfl)
theorem dX1_writeWells_5 : decode cX1_writeWells 5 = .ok (.invokevirtual 280, 3) := dk_182 1 24 (dk_at dksX1_writeWells_0 5 rfl rfl)
theorem dX1_writeWells_8 : decode cX1_writeWells 8 = .ok (.aload_n 0, 1) := dk_42 (dk_at dksX1_writeWells_0 8 rfl rfl)
theorem dX1_writeWells_9 : decode cX1_writeWells 9 = .ok (.getfield 16, 3) := dk_180 0 16 (dk_at dksX1_writeWells_0 9 rfl rfl)
theorem dX1_writeWells_12 : decode cX1_writeWells 12 = .ok (.aload_n 0, 1) := dk_42 (dk_at dksX1_writeWells_0 12 rfl rfl)
theorem dX1_writeWells_13 : decode cX1_writeWells 13 = .ok (.getfield 43, 3) := dk_180 0 43 (dk_at dksX1_writeWells_0 13 rfl rfl)
theorem dX1_writeWells_16 : decode cX1_writeWells 16 = .ok (.invokevirtual 297, 3) := dk_182 1 41 (dk_at dksX1_writeWells_0 16 rfl rfl)
theorem dX1_writeWells_19 : decode cX1_writeWells 19 = .ok (.aload_n 0, 1) := dk_42 (dk_at dksX1_writeWells_0 19 rfl rfl)
theorem dX1_writeWells_20 : decode cX1_writeWells 20 = .ok (.getfield 43, 3) := dk_180 0 43 (dk_at dksX1_writeWells_0 20 rfl rfl)
theorem dX1_writeWells_23 : decode cX1_writeWells 23 = .ok (.invokevirtual 294, 3) := dk_182 1 38 (dk_at dksX1_writeWells_1 0 rfl rfl)
theorem dX1_writeWells_26 : decode cX1_writeWells 26 = .ok (.ireturn, 1) := dk_172 (dk_at dksX1_writeWells_1 3 rfl rfl)
abbrev cX1_isConsistent : ByteArray := prog_1_method_60_code
def yX1_isConsistent : MethodName := ⟨RX1, "isConsistent", "()Z"⟩
def dkwX1_isConsistent_0 : List UInt8 := [42, 180, 0, 16, 182, 1, 51, 172]
abbrev dktX1_isConsistent_0 : List UInt8 := dkwX1_isConsistent_0 ++ []
theorem dksX1_isConsistent_0 : cX1_isConsistent.data.toList.drop 0 = dktX1_isConsistent_0 := by decide +kernel
theorem dX1_isConsistent_0 : decode cX1_isConsistent 0 = .ok (.aload_n 0, 1) := dk_42 (dk_at dksX1_isConsistent_0 0 rfl rfl)
theorem dX1_isConsistent_1 : decode cX1_isConsistent 1 = .ok (.getfield 16, 3) := dk_180 0 16 (dk_at dksX1_isConsistent_0 1 rfl rfl)
theorem dX1_isConsistent_4 : decode cX1_isConsistent 4 = .ok (.invokevirtual 307, 3) := dk_182 1 51 (dk_at dksX1_isConsistent_0 4 rfl rfl)
theorem dX1_isConsistent_7 : decode cX1_isConsistent 7 = .ok (.ireturn, 1) := dk_172 (dk_at dksX1_isConsistent_0 7 rfl rfl)
abbrev cX1_save : ByteArray := prog_1_method_67_code
def yX1_save : MethodName := ⟨RX1, "save", "()I"⟩
def dkwX1_save_0 : List UInt8 := [42, 180, 0, 23, 42, 180, 0, 16, 182, 0, 88, 42, 4, 181, 1, 101, 42, 180, 0, 16, 180, 0, 161, 172]
abbrev dktX1_save_0 : List UInt8 := dkwX1_save_0 ++ []
theorem dksX1_save_0 : cX1_save.data.toList.drop 0 = dktX1_save_0 := by decide +kernel
theorem dX1_save_0 : decode cX1_save 0 = .ok (.aload_n 0, 1) := dk_42 (dk_at dksX1_save_0 0 rfl rfl)
theorem dX1_save_1 : decode cX1_save 1 = .ok (.getfield 23, 3) := dk_180 0 23 (dk_at dksX1_save_0 1 rfl rfl)
theorem dX1_save_4 : decode cX1_save 4 = .ok (.aload_n 0, 1) := dk_42 (dk_at dksX1_save_0 4 rfl rfl)
theorem dX1_save_5 : decode cX1_save 5 = .ok (.getfield 16, 3) := dk_180 0 16 (dk_at dksX1_save_0 5 rfl rfl)
theorem dX1_save_8 : decode cX1_save 8 = .ok (.invokevirtual 88, 3) := dk_182 0 88 (dk_at dksX1_save_0 8 rfl rfl)
theorem dX1_save_11 : decode cX1_save 11 = .ok (.aload_n 0, 1) := dk_42 (dk_at dksX1_save_0 11 rfl rfl)
theorem dX1_save_12 : decode cX1_save 12 = .ok (.iconst 1, 1) := dk_4 (dk_at dksX1_save_0 12 rfl rfl)
theorem dX1_save_13 : decode cX1_save 13 = .ok (.putfield 357, 3) := dk_181 1 101 (dk_at dksX1_save_0 13 rfl rfl)
theorem dX1_save_16 : decode cX1_save 16 = .ok (.aload_n 0, 1) := dk_42 (dk_at dksX1_save_0 16 rfl rfl)
theorem dX1_save_17 : decode cX1_save 17 = .ok (.getfield 16, 3) := dk_180 0 16 (dk_at dksX1_save_0 17 rfl rfl)
theorem dX1_save_20 : decode cX1_save 20 = .ok (.getfield 161, 3) := dk_180 0 161 (dk_at dksX1_save_0 20 rfl rfl)
theorem dX1_save_23 : decode cX1_save 23 = .ok (.ireturn, 1) := dk_172 (dk_at dksX1_save_0 23 rfl rfl)
abbrev cX1_addInk : ByteArray := prog_1_method_14_code
def yX1_addInk : MethodName := ⟨RX1, "addInk", "(II)I"⟩
def dkwX1_addInk_0 : List UInt8 := [42, 42, 182, 0, 100, 27, 28, 182, 0, 104, 182, 0, 108, 172]
abbrev dktX1_addInk_0 : List UInt8 := dkwX1_addInk_0 ++ []
theorem dksX1_addInk_0 : cX1_addInk.data.toList.drop 0 = dktX1_addInk_0 := by decide +kernel
theorem dX1_addInk_0 : decode cX1_addInk 0 = .ok (.aload_n 0, 1) := dk_42 (dk_at dksX1_addInk_0 0 rfl rfl)
theorem dX1_addInk_1 : decode cX1_addInk 1 = .ok (.aload_n 0, 1) := dk_42 (dk_at dksX1_addInk_0 1 rfl rfl)
theorem dX1_addInk_2 : decode cX1_addInk 2 = .ok (.invokevirtual 100, 3) := dk_182 0 100 (dk_at dksX1_addInk_0 2 rfl rfl)
theorem dX1_addInk_5 : decode cX1_addInk 5 = .ok (.iload_n 1, 1) := dk_27 (dk_at dksX1_addInk_0 5 rfl rfl)
theorem dX1_addInk_6 : decode cX1_addInk 6 = .ok (.iload_n 2, 1) := dk_28 (dk_at dksX1_addInk_0 6 rfl rfl)
theorem dX1_addInk_7 : decode cX1_addInk 7 = .ok (.invokevirtual 104, 3) := dk_182 0 104 (dk_at dksX1_addInk_0 7 rfl rfl)
theorem dX1_addInk_10 : decode cX1_addInk 10 = .ok (.invokevirtual 108, 3) := dk_182 0 108 (dk_at dksX1_addInk_0 10 rfl rfl)
theorem dX1_addInk_13 : decode cX1_addInk 13 = .ok (.ireturn, 1) := dk_172 (dk_at dksX1_addInk_0 13 rfl rfl)
abbrev cX1_isColour : ByteArray := prog_1_method_2_code
def yX1_isColour : MethodName := ⟨RX1, "isColour", "(I)Z"⟩
def dkwX1_isColour_0 : List UInt8 := [26, 3, 16, 9, 184, 0, 3, 172]
abbrev dktX1_isColour_0 : List UInt8 := dkwX1_isColour_0 ++ []
theorem dksX1_isColour_0 : cX1_isColour.data.toList.drop 0 = dktX1_isColour_0 := by decide +kernel
theorem dX1_isColour_0 : decode cX1_isColour 0 = .ok (.iload_n 0, 1) := dk_26 (dk_at dksX1_isColour_0 0 rfl rfl)
theorem dX1_isColour_1 : decode cX1_isColour 1 = .ok (.iconst 0, 1) := dk_3 (dk_at dksX1_isColour_0 1 rfl rfl)
theorem dX1_isColour_2 : decode cX1_isColour 2 = .ok (.bipush 9, 2) := dk_16 9 (dk_at dksX1_isColour_0 2 rfl rfl)
theorem dX1_isColour_4 : decode cX1_isColour 4 = .ok (.invokestatic 3, 3) := dk_184 0 3 (dk_at dksX1_isColour_0 4 rfl rfl)
theorem dX1_isColour_7 : decode cX1_isColour 7 = .ok (.ireturn, 1) := dk_172 (dk_at dksX1_isColour_0 7 rfl rfl)
abbrev cX1_inRange : ByteArray := prog_1_method_1_code
def yX1_inRange : MethodName := ⟨RX1, "inRange", "(III)Z"⟩
def dkwX1_inRange_0 : List UInt8 := [26, 27, 161, 0, 12, 26, 28, 163, 0, 7, 4, 167, 0, 4, 3, 172]
abbrev dktX1_inRange_0 : List UInt8 := dkwX1_inRange_0 ++ []
theorem dksX1_inRange_0 : cX1_inRange.data.toList.drop 0 = dktX1_inRange_0 := by decide +kernel
theorem dX1_inRange_0 : decode cX1_inRange 0 = .ok (.iload_n 0, 1) := dk_26 (dk_at dksX1_inRange_0 0 rfl rfl)
theorem dX1_inRange_1 : decode cX1_inRange 1 = .ok (.iload_n 1, 1) := dk_27 (dk_at dksX1_inRange_0 1 rfl rfl)
theorem dX1_inRange_2 : decode cX1_inRange 2 = .ok (.if_icmp .lt 12, 3) := dk_161 0 12 (dk_at dksX1_inRange_0 2 rfl rfl)
theorem dX1_inRange_5 : decode cX1_inRange 5 = .ok (.iload_n 0, 1) := dk_26 (dk_at dksX1_inRange_0 5 rfl rfl)
theorem dX1_inRange_6 : decode cX1_inRange 6 = .ok (.iload_n 2, 1) := dk_28 (dk_at dksX1_inRange_0 6 rfl rfl)
theorem dX1_inRange_7 : decode cX1_inRange 7 = .ok (.if_icmp .gt 7, 3) := dk_163 0 7 (dk_at dksX1_inRange_0 7 rfl rfl)
theorem dX1_inRange_10 : decode cX1_inRange 10 = .ok (.iconst 1, 1) := dk_4 (dk_at dksX1_inRange_0 10 rfl rfl)
theorem dX1_inRange_11 : decode cX1_inRange 11 = .ok (.goto 4, 3) := dk_167 0 4 (dk_at dksX1_inRange_0 11 rfl rfl)
theorem dX1_inRange_14 : decode cX1_inRange 14 = .ok (.iconst 0, 1) := dk_3 (dk_at dksX1_inRange_0 14 rfl rfl)
theorem dX1_inRange_15 : decode cX1_inRange 15 = .ok (.ireturn, 1) := dk_172 (dk_at dksX1_inRange_0 15 rfl rfl)
abbrev cX1_checkArgument : ByteArray := prog_1_method_5_code
def yX1_checkArgument : MethodName := ⟨RX1, "checkArgument", "(Z)V"⟩
def dkwX1_checkArgument_0 : List UInt8 := [26, 154, 0, 11, 187, 0, 66, 89, 183, 0, 68, 191, 177]
abbrev dktX1_checkArgument_0 : List UInt8 := dkwX1_checkArgument_0 ++ []
theorem dksX1_checkArgument_0 : cX1_checkArgument.data.toList.drop 0 = dktX1_checkArgument_0 := by decide +kernel
theorem dX1_checkArgument_0 : decode cX1_checkArgument 0 = .ok (.iload_n 0, 1) := dk_26 (dk_at dksX1_checkArgument_0 0 rfl rfl)
theorem dX1_checkArgument_1 : decode cX1_checkArgument 1 = .ok (.ifCond .ne 11, 3) := dk_154 0 11 (dk_at dksX1_checkArgument_0 1 rfl rfl)
theorem dX1_checkArgument_4 : decode cX1_checkArgument 4 = .ok (.new 66, 3) := dk_187 0 66 (dk_at dksX1_checkArgument_0 4 rfl rfl)
theorem dX1_checkArgument_7 : decode cX1_checkArgument 7 = .ok (.dup, 1) := dk_89 (dk_at dksX1_checkArgument_0 7 rfl rfl)
theorem dX1_checkArgument_8 : decode cX1_checkArgument 8 = .ok (.invokespecial 68, 3) := dk_183 0 68 (dk_at dksX1_checkArgument_0 8 rfl rfl)
theorem dX1_checkArgument_11 : decode cX1_checkArgument 11 = .ok (.athrow, 1) := dk_191 (dk_at dksX1_checkArgument_0 11 rfl rfl)
theorem dX1_checkArgument_12 : decode cX1_checkArgument 12 = .ok (.return_, 1) := dk_177 (dk_at dksX1_checkArgument_0 12 rfl rfl)
abbrev cX1_checkState : ByteArray := prog_1_method_7_code
def yX1_checkState : MethodName := ⟨RX1, "checkState", "(Z)V"⟩
def dkwX1_checkState_0 : List UInt8 := [26, 154, 0, 11, 187, 0, 72, 89, 183, 0, 74, 191, 177]
abbrev dktX1_checkState_0 : List UInt8 := dkwX1_checkState_0 ++ []
theorem dksX1_checkState_0 : cX1_checkState.data.toList.drop 0 = dktX1_checkState_0 := by decide +kernel
theorem dX1_checkState_0 : decode cX1_checkState 0 = .ok (.iload_n 0, 1) := dk_26 (dk_at dksX1_checkState_0 0 rfl rfl)
theorem dX1_checkState_1 : decode cX1_checkState 1 = .ok (.ifCond .ne 11, 3) := dk_154 0 11 (dk_at dksX1_checkState_0 1 rfl rfl)
theorem dX1_checkState_4 : decode cX1_checkState 4 = .ok (.new 72, 3) := dk_187 0 72 (dk_at dksX1_checkState_0 4 rfl rfl)
theorem dX1_checkState_7 : decode cX1_checkState 7 = .ok (.dup, 1) := dk_89 (dk_at dksX1_checkState_0 7 rfl rfl)
theorem dX1_checkState_8 : decode cX1_checkState 8 = .ok (.invokespecial 74, 3) := dk_183 0 74 (dk_at dksX1_checkState_0 8 rfl rfl)
theorem dX1_checkState_11 : decode cX1_checkState 11 = .ok (.athrow, 1) := dk_191 (dk_at dksX1_checkState_0 11 rfl rfl)
theorem dX1_checkState_12 : decode cX1_checkState 12 = .ok (.return_, 1) := dk_177 (dk_at dksX1_checkState_0 12 rfl rfl)
abbrev cX1_addPaper : ByteArray := prog_1_method_15_code
def yX1_addPaper : MethodName := ⟨RX1, "addPaper", "(I)I"⟩
def dkwX1_addPaper_0 : List UInt8 := [42, 42, 182, 0, 100, 27, 182, 0, 112, 182, 0, 108, 172]
abbrev dktX1_addPaper_0 : List UInt8 := dkwX1_addPaper_0 ++ []
theorem dksX1_addPaper_0 : cX1_addPaper.data.toList.drop 0 = dktX1_addPaper_0 := by decide +kernel
theorem dX1_addPaper_0 : decode cX1_addPaper 0 = .ok (.aload_n 0, 1) := dk_42 (dk_at dksX1_addPaper_0 0 rfl rfl)
theorem dX1_addPaper_1 : decode cX1_addPaper 1 = .ok (.aload_n 0, 1) := dk_42 (dk_at dksX1_addPaper_0 1 rfl rfl)
theorem dX1_addPaper_2 : decode cX1_addPaper 2 = .ok (.invokevirtual 100, 3) := dk_182 0 100 (dk_at dksX1_addPaper_0 2 rfl rfl)
theorem dX1_addPaper_5 : decode cX1_addPaper 5 = .ok (.iload_n 1, 1) := dk_27 (dk_at dksX1_addPaper_0 5 rfl rfl)
theorem dX1_addPaper_6 : decode cX1_addPaper 6 = .ok (.invokevirtual 112, 3) := dk_182 0 112 (dk_at dksX1_addPaper_0 6 rfl rfl)
theorem dX1_addPaper_9 : decode cX1_addPaper 9 = .ok (.invokevirtual 108, 3) := dk_182 0 108 (dk_at dksX1_addPaper_0 9 rfl rfl)
theorem dX1_addPaper_12 : decode cX1_addPaper 12 = .ok (.ireturn, 1) := dk_172 (dk_at dksX1_addPaper_0 12 rfl rfl)
abbrev cX1_pass : ByteArray := prog_1_method_16_code
def yX1_pass : MethodName := ⟨RX1, "pass", "(I)I"⟩
def dkwX1_pass_0 : List UInt8 := [42, 42, 182, 0, 100, 27, 182, 0, 115, 182, 0, 108, 172]
abbrev dktX1_pass_0 : List UInt8 := dkwX1_pass_0 ++ []
theorem dksX1_pass_0 : cX1_pass.data.toList.drop 0 = dktX1_pass_0 := by decide +kernel
theorem dX1_pass_0 : decode cX1_pass 0 = .ok (.aload_n 0, 1) := dk_42 (dk_at dksX1_pass_0 0 rfl rfl)
theorem dX1_pass_1 : decode cX1_pass 1 = .ok (.aload_n 0, 1) := dk_42 (dk_at dksX1_pass_0 1 rfl rfl)
theorem dX1_pass_2 : decode cX1_pass 2 = .ok (.invokevirtual 100, 3) := dk_182 0 100 (dk_at dksX1_pass_0 2 rfl rfl)
theorem dX1_pass_5 : decode cX1_pass 5 = .ok (.iload_n 1, 1) := dk_27 (dk_at dksX1_pass_0 5 rfl rfl)
theorem dX1_pass_6 : decode cX1_pass 6 = .ok (.invokevirtual 115, 3) := dk_182 0 115 (dk_at dksX1_pass_0 6 rfl rfl)
theorem dX1_pass_9 : decode cX1_pass 9 = .ok (.invokevirtual 108, 3) := dk_182 0 108 (dk_at dksX1_pass_0 9 rfl rfl)
theorem dX1_pass_12 : decode cX1_pass 12 = .ok (.ireturn, 1) := dk_172 (dk_at dksX1_pass_0 12 rfl rfl)
abbrev cX1_ink : ByteArray := prog_1_method_17_code
def yX1_ink : MethodName := ⟨RX1, "ink", "(I)I"⟩
def dkwX1_ink_0 : List UInt8 := [27, 184, 0, 118, 184, 0, 122, 42, 180, 0, 16, 180, 0, 125, 27, 46, 172]
abbrev dktX1_ink_0 : List UInt8 := dkwX1_ink_0 ++ []
theorem dksX1_ink_0 : cX1_ink.data.toList.drop 0 = dktX1_ink_0 := by decide +kernel
theorem dX1_ink_0 : decode cX1_ink 0 = .ok (.iload_n 1, 1) := dk_27 (dk_at dksX1_ink_0 0 rfl rfl)
theorem dX1_ink_1 : decode cX1_ink 1 = .ok (.invokestatic 118, 3) := dk_184 0 118 (dk_at dksX1_ink_0 1 rfl rfl)
theorem dX1_ink_4 : decode cX1_ink 4 = .ok (.invokestatic 122, 3) := dk_184 0 122 (dk_at dksX1_ink_0 4 rfl rfl)
theorem dX1_ink_7 : decode cX1_ink 7 = .ok (.aload_n 0, 1) := dk_42 (dk_at dksX1_ink_0 7 rfl rfl)
theorem dX1_ink_8 : decode cX1_ink 8 = .ok (.getfield 16, 3) := dk_180 0 16 (dk_at dksX1_ink_0 8 rfl rfl)
theorem dX1_ink_11 : decode cX1_ink 11 = .ok (.getfield 125, 3) := dk_180 0 125 (dk_at dksX1_ink_0 11 rfl rfl)
theorem dX1_ink_14 : decode cX1_ink 14 = .ok (.iload_n 1, 1) := dk_27 (dk_at dksX1_ink_0 14 rfl rfl)
theorem dX1_ink_15 : decode cX1_ink 15 = .ok (.iaload, 1) := dk_46 (dk_at dksX1_ink_0 15 rfl rfl)
theorem dX1_ink_16 : decode cX1_ink 16 = .ok (.ireturn, 1) := dk_172 (dk_at dksX1_ink_0 16 rfl rfl)
abbrev cX1_inkAfter : ByteArray := prog_1_method_21_code
def yX1_inkAfter : MethodName := ⟨RX1, "inkAfter", "(II)I"⟩
def dkwX1_inkAfter_0 : List UInt8 := [27, 28, 184, 0, 135, 42, 180, 0, 16, 27, 28, 182, 0, 139, 172]
abbrev dktX1_inkAfter_0 : List UInt8 := dkwX1_inkAfter_0 ++ []
theorem dksX1_inkAfter_0 : cX1_inkAfter.data.toList.drop 0 = dktX1_inkAfter_0 := by decide +kernel
theorem dX1_inkAfter_0 : decode cX1_inkAfter 0 = .ok (.iload_n 1, 1) := dk_27 (dk_at dksX1_inkAfter_0 0 rfl rfl)
theorem dX1_inkAfter_1 : decode cX1_inkAfter 1 = .ok (.iload_n 2, 1) := dk_28 (dk_at dksX1_inkAfter_0 1 rfl rfl)
theorem dX1_inkAfter_2 : decode cX1_inkAfter 2 = .ok (.invokestatic 135, 3) := dk_184 0 135 (dk_at dksX1_inkAfter_0 2 rfl rfl)
theorem dX1_inkAfter_5 : decode cX1_inkAfter 5 = .ok (.aload_n 0, 1) := dk_42 (dk_at dksX1_inkAfter_0 5 rfl rfl)
theorem dX1_inkAfter_6 : decode cX1_inkAfter 6 = .ok (.getfield 16, 3) := dk_180 0 16 (dk_at dksX1_inkAfter_0 6 rfl rfl)
theorem dX1_inkAfter_9 : decode cX1_inkAfter 9 = .ok (.iload_n 1, 1) := dk_27 (dk_at dksX1_inkAfter_0 9 rfl rfl)
theorem dX1_inkAfter_10 : decode cX1_inkAfter 10 = .ok (.iload_n 2, 1) := dk_28 (dk_at dksX1_inkAfter_0 10 rfl rfl)
theorem dX1_inkAfter_11 : decode cX1_inkAfter 11 = .ok (.invokevirtual 139, 3) := dk_182 0 139 (dk_at dksX1_inkAfter_0 11 rfl rfl)
theorem dX1_inkAfter_14 : decode cX1_inkAfter 14 = .ok (.ireturn, 1) := dk_172 (dk_at dksX1_inkAfter_0 14 rfl rfl)
abbrev cX1_checkAhead : ByteArray := prog_1_method_20_code
def yX1_checkAhead : MethodName := ⟨RX1, "checkAhead", "(II)V"⟩
def dkwX1_checkAhead_1 : List UInt8 := [184, 0, 122, 177]
abbrev dktX1_checkAhead_1 : List UInt8 := dkwX1_checkAhead_1 ++ []
def dkwX1_checkAhead_0 : List UInt8 := [26, 184, 0, 118, 153, 0, 17, 27, 3, 16, 99, 184, 0, 3, 153, 0, 7, 4, 167, 0, 4, 3]
abbrev dktX1_checkAhead_0 : List UInt8 := dkwX1_checkAhead_0 ++ dktX1_checkAhead_1
theorem dksX1_checkAhead_0 : cX1_checkAhead.data.toList.drop 0 = dktX1_checkAhead_0 := by decide +kernel
theorem dksX1_checkAhead_1 : cX1_checkAhead.data.toList.drop 22 = dktX1_checkAhead_1 := dk_seg dksX1_checkAhead_0 22 rfl rfl
theorem dX1_checkAhead_0 : decode cX1_checkAhead 0 = .ok (.iload_n 0, 1) := dk_26 (dk_at dksX1_checkAhead_0 0 rfl rfl)
theorem dX1_checkAhead_1 : decode cX1_checkAhead 1 = .ok (.invokestatic 118, 3) := dk_184 0 118 (dk_at dksX1_checkAhead_0 1 rfl rfl)
theorem dX1_checkAhead_4 : decode cX1_checkAhead 4 = .ok (.ifCond .eq 17, 3) := dk_153 0 17 (dk_at dksX1_checkAhead_0 4 rfl rfl)
theorem dX1_checkAhead_7 : decode cX1_checkAhead 7 = .ok (.iload_n 1, 1) := dk_27 (dk_at dksX1_checkAhead_0 7 rfl rfl)
theorem dX1_checkAhead_8 : decode cX1_checkAhead 8 = .ok (.iconst 0, 1) := dk_3 (dk_at dksX1_checkAhead_0 8 rfl rfl)
theorem dX1_checkAhead_9 : decode cX1_checkAhead 9 = .ok (.bipush 99, 2) := dk_16 99 (dk_at dksX1_checkAhead_0 9 rfl rfl)
theorem dX1_checkAhead_11 : decode cX1_checkAhead 11 = .ok (.invokestatic 3, 3) := dk_184 0 3 (dk_at dksX1_checkAhead_0 11 rfl rfl)
theorem dX1_checkAhead_14 : decode cX1_checkAhead 14 = .ok (.ifCond .eq 7, 3) := dk_153 0 7 (dk_at dksX1_checkAhead_0 14 rfl rfl)
theorem dX1_checkAhead_17 : decode cX1_checkAhead 17 = .ok (.iconst 1, 1) := dk_4 (dk_at dksX1_checkAhead_0 17 rfl rfl)
theorem dX1_checkAhead_18 : decode cX1_checkAhead 18 = .ok (.goto 4, 3) := dk_167 0 4 (dk_at dksX1_checkAhead_0 18 rfl rfl)
theorem dX1_checkAhead_21 : decode cX1_checkAhead 21 = .ok (.iconst 0, 1) := dk_3 (dk_at dksX1_checkAhead_0 21 rfl rfl)
theorem dX1_checkAhead_22 : decode cX1_checkAhead 22 = .ok (.invokestatic 122, 3) := dk_184 0 122 (dk_at dksX1_checkAhead_1 0 rfl rfl)
theorem dX1_checkAhead_25 : decode cX1_checkAhead 25 = .ok (.return_, 1) := dk_177 (dk_at dksX1_checkAhead_1 3 rfl rfl)
abbrev cX1_inkByHalvings : ByteArray := prog_1_method_22_code
def yX1_inkByHalvings : MethodName := ⟨RX1, "inkByHalvings", "(II)I"⟩
def dkwX1_inkByHalvings_0 : List UInt8 := [27, 28, 184, 0, 135, 42, 180, 0, 16, 27, 28, 182, 0, 142, 172]
abbrev dktX1_inkByHalvings_0 : List UInt8 := dkwX1_inkByHalvings_0 ++ []
theorem dksX1_inkByHalvings_0 : cX1_inkByHalvings.data.toList.drop 0 = dktX1_inkByHalvings_0 := by decide +kernel
theorem dX1_inkByHalvings_0 : decode cX1_inkByHalvings 0 = .ok (.iload_n 1, 1) := dk_27 (dk_at dksX1_inkByHalvings_0 0 rfl rfl)
theorem dX1_inkByHalvings_1 : decode cX1_inkByHalvings 1 = .ok (.iload_n 2, 1) := dk_28 (dk_at dksX1_inkByHalvings_0 1 rfl rfl)
theorem dX1_inkByHalvings_2 : decode cX1_inkByHalvings 2 = .ok (.invokestatic 135, 3) := dk_184 0 135 (dk_at dksX1_inkByHalvings_0 2 rfl rfl)
theorem dX1_inkByHalvings_5 : decode cX1_inkByHalvings 5 = .ok (.aload_n 0, 1) := dk_42 (dk_at dksX1_inkByHalvings_0 5 rfl rfl)
theorem dX1_inkByHalvings_6 : decode cX1_inkByHalvings 6 = .ok (.getfield 16, 3) := dk_180 0 16 (dk_at dksX1_inkByHalvings_0 6 rfl rfl)
theorem dX1_inkByHalvings_9 : decode cX1_inkByHalvings 9 = .ok (.iload_n 1, 1) := dk_27 (dk_at dksX1_inkByHalvings_0 9 rfl rfl)
theorem dX1_inkByHalvings_10 : decode cX1_inkByHalvings 10 = .ok (.iload_n 2, 1) := dk_28 (dk_at dksX1_inkByHalvings_0 10 rfl rfl)
theorem dX1_inkByHalvings_11 : decode cX1_inkByHalvings 11 = .ok (.invokevirtual 142, 3) := dk_182 0 142 (dk_at dksX1_inkByHalvings_0 11 rfl rfl)
theorem dX1_inkByHalvings_14 : decode cX1_inkByHalvings 14 = .ok (.ireturn, 1) := dk_172 (dk_at dksX1_inkByHalvings_0 14 rfl rfl)
abbrev cX1_hoursUntilLess : ByteArray := prog_1_method_23_code
def yX1_hoursUntilLess : MethodName := ⟨RX1, "hoursUntilLess", "(II)I"⟩
def dkwX1_hoursUntilLess_1 : List UInt8 := [184, 0, 122, 42, 180, 0, 16, 27, 28, 182, 0, 145, 172]
abbrev dktX1_hoursUntilLess_1 : List UInt8 := dkwX1_hoursUntilLess_1 ++ []
def dkwX1_hoursUntilLess_0 : List UInt8 := [27, 184, 0, 118, 153, 0, 18, 28, 4, 17, 3, 231, 184, 0, 3, 153, 0, 7, 4, 167, 0, 4, 3]
abbrev dktX1_hoursUntilLess_0 : List UInt8 := dkwX1_hoursUntilLess_0 ++ dktX1_hoursUntilLess_1
theorem dksX1_hoursUntilLess_0 : cX1_hoursUntilLess.data.toList.drop 0 = dktX1_hoursUntilLess_0 := by decide +kernel
theorem dksX1_hoursUntilLess_1 : cX1_hoursUntilLess.data.toList.drop 23 = dktX1_hoursUntilLess_1 := dk_seg dksX1_hoursUntilLess_0 23 rfl rfl
theorem dX1_hoursUntilLess_0 : decode cX1_hoursUntilLess 0 = .ok (.iload_n 1, 1) := dk_27 (dk_at dksX1_hoursUntilLess_0 0 rfl rfl)
theorem dX1_hoursUntilLess_1 : decode cX1_hoursUntilLess 1 = .ok (.invokestatic 118, 3) := dk_184 0 118 (dk_at dksX1_hoursUntilLess_0 1 rfl rfl)
theorem dX1_hoursUntilLess_4 : decode cX1_hoursUntilLess 4 = .ok (.ifCond .eq 18, 3) := dk_153 0 18 (dk_at dksX1_hoursUntilLess_0 4 rfl rfl)
theorem dX1_hoursUntilLess_7 : decode cX1_hoursUntilLess 7 = .ok (.iload_n 2, 1) := dk_28 (dk_at dksX1_hoursUntilLess_0 7 rfl rfl)
theorem dX1_hoursUntilLess_8 : decode cX1_hoursUntilLess 8 = .ok (.iconst 1, 1) := dk_4 (dk_at dksX1_hoursUntilLess_0 8 rfl rfl)
theorem dX1_hoursUntilLess_9 : decode cX1_hoursUntilLess 9 = .ok (.sipush 999, 3) := dk_17 3 231 (dk_at dksX1_hoursUntilLess_0 9 rfl rfl)
theorem dX1_hoursUntilLess_12 : decode cX1_hoursUntilLess 12 = .ok (.invokestatic 3, 3) := dk_184 0 3 (dk_at dksX1_hoursUntilLess_0 12 rfl rfl)
theorem dX1_hoursUntilLess_15 : decode cX1_hoursUntilLess 15 = .ok (.ifCond .eq 7, 3) := dk_153 0 7 (dk_at dksX1_hoursUntilLess_0 15 rfl rfl)
theorem dX1_hoursUntilLess_18 : decode cX1_hoursUntilLess 18 = .ok (.iconst 1, 1) := dk_4 (dk_at dksX1_hoursUntilLess_0 18 rfl rfl)
theorem dX1_hoursUntilLess_19 : decode cX1_hoursUntilLess 19 = .ok (.goto 4, 3) := dk_167 0 4 (dk_at dksX1_hoursUntilLess_0 19 rfl rfl)
theorem dX1_hoursUntilLess_22 : decode cX1_hoursUntilLess 22 = .ok (.iconst 0, 1) := dk_3 (dk_at dksX1_hoursUntilLess_0 22 rfl rfl)
theorem dX1_hoursUntilLess_23 : decode cX1_hoursUntilLess 23 = .ok (.invokestatic 122, 3) := dk_184 0 122 (dk_at dksX1_hoursUntilLess_1 0 rfl rfl)
theorem dX1_hoursUntilLess_26 : decode cX1_hoursUntilLess 26 = .ok (.aload_n 0, 1) := dk_42 (dk_at dksX1_hoursUntilLess_1 3 rfl rfl)
theorem dX1_hoursUntilLess_27 : decode cX1_hoursUntilLess 27 = .ok (.getfield 16, 3) := dk_180 0 16 (dk_at dksX1_hoursUntilLess_1 4 rfl rfl)
theorem dX1_hoursUntilLess_30 : decode cX1_hoursUntilLess 30 = .ok (.iload_n 1, 1) := dk_27 (dk_at dksX1_hoursUntilLess_1 7 rfl rfl)
theorem dX1_hoursUntilLess_31 : decode cX1_hoursUntilLess 31 = .ok (.iload_n 2, 1) := dk_28 (dk_at dksX1_hoursUntilLess_1 8 rfl rfl)
theorem dX1_hoursUntilLess_32 : decode cX1_hoursUntilLess 32 = .ok (.invokevirtual 145, 3) := dk_182 0 145 (dk_at dksX1_hoursUntilLess_1 9 rfl rfl)
theorem dX1_hoursUntilLess_35 : decode cX1_hoursUntilLess 35 = .ok (.ireturn, 1) := dk_172 (dk_at dksX1_hoursUntilLess_1 12 rfl rfl)
abbrev cX1_addEdition : ByteArray := prog_1_method_24_code
def yX1_addEdition : MethodName := ⟨RX1, "addEdition", "(II)I"⟩
def dkwX1_addEdition_0 : List UInt8 := [42, 42, 182, 0, 100, 27, 28, 182, 0, 148, 182, 0, 108, 172]
abbrev dktX1_addEdition_0 : List UInt8 := dkwX1_addEdition_0 ++ []
theorem dksX1_addEdition_0 : cX1_addEdition.data.toList.drop 0 = dktX1_addEdition_0 := by decide +kernel
theorem dX1_addEdition_0 : decode cX1_addEdition 0 = .ok (.aload_n 0, 1) := dk_42 (dk_at dksX1_addEdition_0 0 rfl rfl)
theorem dX1_addEdition_1 : decode cX1_addEdition 1 = .ok (.aload_n 0, 1) := dk_42 (dk_at dksX1_addEdition_0 1 rfl rfl)
theorem dX1_addEdition_2 : decode cX1_addEdition 2 = .ok (.invokevirtual 100, 3) := dk_182 0 100 (dk_at dksX1_addEdition_0 2 rfl rfl)
theorem dX1_addEdition_5 : decode cX1_addEdition 5 = .ok (.iload_n 1, 1) := dk_27 (dk_at dksX1_addEdition_0 5 rfl rfl)
theorem dX1_addEdition_6 : decode cX1_addEdition 6 = .ok (.iload_n 2, 1) := dk_28 (dk_at dksX1_addEdition_0 6 rfl rfl)
theorem dX1_addEdition_7 : decode cX1_addEdition 7 = .ok (.invokevirtual 148, 3) := dk_182 0 148 (dk_at dksX1_addEdition_0 7 rfl rfl)
theorem dX1_addEdition_10 : decode cX1_addEdition 10 = .ok (.invokevirtual 108, 3) := dk_182 0 108 (dk_at dksX1_addEdition_0 10 rfl rfl)
theorem dX1_addEdition_13 : decode cX1_addEdition 13 = .ok (.ireturn, 1) := dk_172 (dk_at dksX1_addEdition_0 13 rfl rfl)
abbrev cX1_removeEdition : ByteArray := prog_1_method_25_code
def yX1_removeEdition : MethodName := ⟨RX1, "removeEdition", "(I)I"⟩
def dkwX1_removeEdition_0 : List UInt8 := [42, 42, 182, 0, 100, 27, 182, 0, 151, 182, 0, 108, 172]
abbrev dktX1_removeEdition_0 : List UInt8 := dkwX1_removeEdition_0 ++ []
theorem dksX1_removeEdition_0 : cX1_removeEdition.data.toList.drop 0 = dktX1_removeEdition_0 := by decide +kernel
theorem dX1_removeEdition_0 : decode cX1_removeEdition 0 = .ok (.aload_n 0, 1) := dk_42 (dk_at dksX1_removeEdition_0 0 rfl rfl)
theorem dX1_removeEdition_1 : decode cX1_removeEdition 1 = .ok (.aload_n 0, 1) := dk_42 (dk_at dksX1_removeEdition_0 1 rfl rfl)
theorem dX1_removeEdition_2 : decode cX1_removeEdition 2 = .ok (.invokevirtual 100, 3) := dk_182 0 100 (dk_at dksX1_removeEdition_0 2 rfl rfl)
theorem dX1_removeEdition_5 : decode cX1_removeEdition 5 = .ok (.iload_n 1, 1) := dk_27 (dk_at dksX1_removeEdition_0 5 rfl rfl)
theorem dX1_removeEdition_6 : decode cX1_removeEdition 6 = .ok (.invokevirtual 151, 3) := dk_182 0 151 (dk_at dksX1_removeEdition_0 6 rfl rfl)
theorem dX1_removeEdition_9 : decode cX1_removeEdition 9 = .ok (.invokevirtual 108, 3) := dk_182 0 108 (dk_at dksX1_removeEdition_0 9 rfl rfl)
theorem dX1_removeEdition_12 : decode cX1_removeEdition 12 = .ok (.ireturn, 1) := dk_172 (dk_at dksX1_removeEdition_0 12 rfl rfl)
abbrev cX1_checkIndex : ByteArray := prog_1_method_8_code
def yX1_checkIndex : MethodName := ⟨RX1, "checkIndex", "(Z)V"⟩
def dkwX1_checkIndex_0 : List UInt8 := [26, 154, 0, 11, 187, 0, 75, 89, 183, 0, 77, 191, 177]
abbrev dktX1_checkIndex_0 : List UInt8 := dkwX1_checkIndex_0 ++ []
theorem dksX1_checkIndex_0 : cX1_checkIndex.data.toList.drop 0 = dktX1_checkIndex_0 := by decide +kernel
theorem dX1_checkIndex_0 : decode cX1_checkIndex 0 = .ok (.iload_n 0, 1) := dk_26 (dk_at dksX1_checkIndex_0 0 rfl rfl)
theorem dX1_checkIndex_1 : decode cX1_checkIndex 1 = .ok (.ifCond .ne 11, 3) := dk_154 0 11 (dk_at dksX1_checkIndex_0 1 rfl rfl)
theorem dX1_checkIndex_4 : decode cX1_checkIndex 4 = .ok (.new 75, 3) := dk_187 0 75 (dk_at dksX1_checkIndex_0 4 rfl rfl)
theorem dX1_checkIndex_7 : decode cX1_checkIndex 7 = .ok (.dup, 1) := dk_89 (dk_at dksX1_checkIndex_0 7 rfl rfl)
theorem dX1_checkIndex_8 : decode cX1_checkIndex 8 = .ok (.invokespecial 77, 3) := dk_183 0 77 (dk_at dksX1_checkIndex_0 8 rfl rfl)
theorem dX1_checkIndex_11 : decode cX1_checkIndex 11 = .ok (.athrow, 1) := dk_191 (dk_at dksX1_checkIndex_0 11 rfl rfl)
theorem dX1_checkIndex_12 : decode cX1_checkIndex 12 = .ok (.return_, 1) := dk_177 (dk_at dksX1_checkIndex_0 12 rfl rfl)
abbrev cX1_print : ByteArray := prog_1_method_26_code
def yX1_print : MethodName := ⟨RX1, "print", "(I)I"⟩
def dkwX1_print_0 : List UInt8 := [42, 42, 182, 0, 100, 27, 182, 0, 154, 182, 0, 108, 172]
abbrev dktX1_print_0 : List UInt8 := dkwX1_print_0 ++ []
theorem dksX1_print_0 : cX1_print.data.toList.drop 0 = dktX1_print_0 := by decide +kernel
theorem dX1_print_0 : decode cX1_print 0 = .ok (.aload_n 0, 1) := dk_42 (dk_at dksX1_print_0 0 rfl rfl)
theorem dX1_print_1 : decode cX1_print 1 = .ok (.aload_n 0, 1) := dk_42 (dk_at dksX1_print_0 1 rfl rfl)
theorem dX1_print_2 : decode cX1_print 2 = .ok (.invokevirtual 100, 3) := dk_182 0 100 (dk_at dksX1_print_0 2 rfl rfl)
theorem dX1_print_5 : decode cX1_print 5 = .ok (.iload_n 1, 1) := dk_27 (dk_at dksX1_print_0 5 rfl rfl)
theorem dX1_print_6 : decode cX1_print 6 = .ok (.invokevirtual 154, 3) := dk_182 0 154 (dk_at dksX1_print_0 6 rfl rfl)
theorem dX1_print_9 : decode cX1_print 9 = .ok (.invokevirtual 108, 3) := dk_182 0 108 (dk_at dksX1_print_0 9 rfl rfl)
theorem dX1_print_12 : decode cX1_print 12 = .ok (.ireturn, 1) := dk_172 (dk_at dksX1_print_0 12 rfl rfl)
abbrev cX1_checkSupported : ByteArray := prog_1_method_9_code
def yX1_checkSupported : MethodName := ⟨RX1, "checkSupported", "(Z)V"⟩
def dkwX1_checkSupported_0 : List UInt8 := [26, 154, 0, 11, 187, 0, 78, 89, 183, 0, 80, 191, 177]
abbrev dktX1_checkSupported_0 : List UInt8 := dkwX1_checkSupported_0 ++ []
theorem dksX1_checkSupported_0 : cX1_checkSupported.data.toList.drop 0 = dktX1_checkSupported_0 := by decide +kernel
theorem dX1_checkSupported_0 : decode cX1_checkSupported 0 = .ok (.iload_n 0, 1) := dk_26 (dk_at dksX1_checkSupported_0 0 rfl rfl)
theorem dX1_checkSupported_1 : decode cX1_checkSupported 1 = .ok (.ifCond .ne 11, 3) := dk_154 0 11 (dk_at dksX1_checkSupported_0 1 rfl rfl)
theorem dX1_checkSupported_4 : decode cX1_checkSupported 4 = .ok (.new 78, 3) := dk_187 0 78 (dk_at dksX1_checkSupported_0 4 rfl rfl)
theorem dX1_checkSupported_7 : decode cX1_checkSupported 7 = .ok (.dup, 1) := dk_89 (dk_at dksX1_checkSupported_0 7 rfl rfl)
theorem dX1_checkSupported_8 : decode cX1_checkSupported 8 = .ok (.invokespecial 80, 3) := dk_183 0 80 (dk_at dksX1_checkSupported_0 8 rfl rfl)
theorem dX1_checkSupported_11 : decode cX1_checkSupported 11 = .ok (.athrow, 1) := dk_191 (dk_at dksX1_checkSupported_0 11 rfl rfl)
theorem dX1_checkSupported_12 : decode cX1_checkSupported 12 = .ok (.return_, 1) := dk_177 (dk_at dksX1_checkSupported_0 12 rfl rfl)
abbrev cX1_colourOf : ByteArray := prog_1_method_29_code
def yX1_colourOf : MethodName := ⟨RX1, "colourOf", "(I)I"⟩
def dkwX1_colourOf_0 : List UInt8 := [42, 180, 0, 16, 27, 182, 0, 164, 180, 0, 168, 172]
abbrev dktX1_colourOf_0 : List UInt8 := dkwX1_colourOf_0 ++ []
theorem dksX1_colourOf_0 : cX1_colourOf.data.toList.drop 0 = dktX1_colourOf_0 := by decide +kernel
theorem dX1_colourOf_0 : decode cX1_colourOf 0 = .ok (.aload_n 0, 1) := dk_42 (dk_at dksX1_colourOf_0 0 rfl rfl)
theorem dX1_colourOf_1 : decode cX1_colourOf 1 = .ok (.getfield 16, 3) := dk_180 0 16 (dk_at dksX1_colourOf_0 1 rfl rfl)
theorem dX1_colourOf_4 : decode cX1_colourOf 4 = .ok (.iload_n 1, 1) := dk_27 (dk_at dksX1_colourOf_0 4 rfl rfl)
theorem dX1_colourOf_5 : decode cX1_colourOf 5 = .ok (.invokevirtual 164, 3) := dk_182 0 164 (dk_at dksX1_colourOf_0 5 rfl rfl)
theorem dX1_colourOf_8 : decode cX1_colourOf 8 = .ok (.getfield 168, 3) := dk_180 0 168 (dk_at dksX1_colourOf_0 8 rfl rfl)
theorem dX1_colourOf_11 : decode cX1_colourOf 11 = .ok (.ireturn, 1) := dk_172 (dk_at dksX1_colourOf_0 11 rfl rfl)
abbrev cX1_runOf : ByteArray := prog_1_method_30_code
def yX1_runOf : MethodName := ⟨RX1, "runOf", "(I)I"⟩
def dkwX1_runOf_0 : List UInt8 := [42, 180, 0, 16, 27, 182, 0, 164, 180, 0, 173, 172]
abbrev dktX1_runOf_0 : List UInt8 := dkwX1_runOf_0 ++ []
theorem dksX1_runOf_0 : cX1_runOf.data.toList.drop 0 = dktX1_runOf_0 := by decide +kernel
theorem dX1_runOf_0 : decode cX1_runOf 0 = .ok (.aload_n 0, 1) := dk_42 (dk_at dksX1_runOf_0 0 rfl rfl)
theorem dX1_runOf_1 : decode cX1_runOf 1 = .ok (.getfield 16, 3) := dk_180 0 16 (dk_at dksX1_runOf_0 1 rfl rfl)
theorem dX1_runOf_4 : decode cX1_runOf 4 = .ok (.iload_n 1, 1) := dk_27 (dk_at dksX1_runOf_0 4 rfl rfl)
theorem dX1_runOf_5 : decode cX1_runOf 5 = .ok (.invokevirtual 164, 3) := dk_182 0 164 (dk_at dksX1_runOf_0 5 rfl rfl)
theorem dX1_runOf_8 : decode cX1_runOf 8 = .ok (.getfield 173, 3) := dk_180 0 173 (dk_at dksX1_runOf_0 8 rfl rfl)
theorem dX1_runOf_11 : decode cX1_runOf 11 = .ok (.ireturn, 1) := dk_172 (dk_at dksX1_runOf_0 11 rfl rfl)
abbrev cX1_printedOf : ByteArray := prog_1_method_31_code
def yX1_printedOf : MethodName := ⟨RX1, "printedOf", "(I)I"⟩
def dkwX1_printedOf_0 : List UInt8 := [42, 180, 0, 16, 27, 182, 0, 164, 180, 0, 176, 172]
abbrev dktX1_printedOf_0 : List UInt8 := dkwX1_printedOf_0 ++ []
theorem dksX1_printedOf_0 : cX1_printedOf.data.toList.drop 0 = dktX1_printedOf_0 := by decide +kernel
theorem dX1_printedOf_0 : decode cX1_printedOf 0 = .ok (.aload_n 0, 1) := dk_42 (dk_at dksX1_printedOf_0 0 rfl rfl)
theorem dX1_printedOf_1 : decode cX1_printedOf 1 = .ok (.getfield 16, 3) := dk_180 0 16 (dk_at dksX1_printedOf_0 1 rfl rfl)
theorem dX1_printedOf_4 : decode cX1_printedOf 4 = .ok (.iload_n 1, 1) := dk_27 (dk_at dksX1_printedOf_0 4 rfl rfl)
theorem dX1_printedOf_5 : decode cX1_printedOf 5 = .ok (.invokevirtual 164, 3) := dk_182 0 164 (dk_at dksX1_printedOf_0 5 rfl rfl)
theorem dX1_printedOf_8 : decode cX1_printedOf 8 = .ok (.getfield 176, 3) := dk_180 0 176 (dk_at dksX1_printedOf_0 8 rfl rfl)
theorem dX1_printedOf_11 : decode cX1_printedOf 11 = .ok (.ireturn, 1) := dk_172 (dk_at dksX1_printedOf_0 11 rfl rfl)
abbrev cX1_isComplete : ByteArray := prog_1_method_32_code
def yX1_isComplete : MethodName := ⟨RX1, "isComplete", "(I)Z"⟩
def dkwX1_isComplete_0 : List UInt8 := [42, 180, 0, 16, 27, 182, 0, 164, 182, 0, 179, 172]
abbrev dktX1_isComplete_0 : List UInt8 := dkwX1_isComplete_0 ++ []
theorem dksX1_isComplete_0 : cX1_isComplete.data.toList.drop 0 = dktX1_isComplete_0 := by decide +kernel
theorem dX1_isComplete_0 : decode cX1_isComplete 0 = .ok (.aload_n 0, 1) := dk_42 (dk_at dksX1_isComplete_0 0 rfl rfl)
theorem dX1_isComplete_1 : decode cX1_isComplete 1 = .ok (.getfield 16, 3) := dk_180 0 16 (dk_at dksX1_isComplete_0 1 rfl rfl)
theorem dX1_isComplete_4 : decode cX1_isComplete 4 = .ok (.iload_n 1, 1) := dk_27 (dk_at dksX1_isComplete_0 4 rfl rfl)
theorem dX1_isComplete_5 : decode cX1_isComplete 5 = .ok (.invokevirtual 164, 3) := dk_182 0 164 (dk_at dksX1_isComplete_0 5 rfl rfl)
theorem dX1_isComplete_8 : decode cX1_isComplete 8 = .ok (.invokevirtual 179, 3) := dk_182 0 179 (dk_at dksX1_isComplete_0 8 rfl rfl)
theorem dX1_isComplete_11 : decode cX1_isComplete 11 = .ok (.ireturn, 1) := dk_172 (dk_at dksX1_isComplete_0 11 rfl rfl)
abbrev cX1_changeMinutes : ByteArray := prog_1_method_33_code
def yX1_changeMinutes : MethodName := ⟨RX1, "changeMinutes", "(II)I"⟩
def dkwX1_changeMinutes_1 : List UInt8 := [180, 0, 16, 180, 0, 182, 27, 28, 185, 0, 186, 3, 0, 172]
abbrev dktX1_changeMinutes_1 : List UInt8 := dkwX1_changeMinutes_1 ++ []
def dkwX1_changeMinutes_0 : List UInt8 := [27, 184, 0, 118, 153, 0, 14, 28, 184, 0, 118, 153, 0, 7, 4, 167, 0, 4, 3, 184, 0, 122, 42]
abbrev dktX1_changeMinutes_0 : List UInt8 := dkwX1_changeMinutes_0 ++ dktX1_changeMinutes_1
theorem dksX1_changeMinutes_0 : cX1_changeMinutes.data.toList.drop 0 = dktX1_changeMinutes_0 := by decide +kernel
theorem dksX1_changeMinutes_1 : cX1_changeMinutes.data.toList.drop 23 = dktX1_changeMinutes_1 := dk_seg dksX1_changeMinutes_0 23 rfl rfl
theorem dX1_changeMinutes_0 : decode cX1_changeMinutes 0 = .ok (.iload_n 1, 1) := dk_27 (dk_at dksX1_changeMinutes_0 0 rfl rfl)
theorem dX1_changeMinutes_1 : decode cX1_changeMinutes 1 = .ok (.invokestatic 118, 3) := dk_184 0 118 (dk_at dksX1_changeMinutes_0 1 rfl rfl)
theorem dX1_changeMinutes_4 : decode cX1_changeMinutes 4 = .ok (.ifCond .eq 14, 3) := dk_153 0 14 (dk_at dksX1_changeMinutes_0 4 rfl rfl)
theorem dX1_changeMinutes_7 : decode cX1_changeMinutes 7 = .ok (.iload_n 2, 1) := dk_28 (dk_at dksX1_changeMinutes_0 7 rfl rfl)
theorem dX1_changeMinutes_8 : decode cX1_changeMinutes 8 = .ok (.invokestatic 118, 3) := dk_184 0 118 (dk_at dksX1_changeMinutes_0 8 rfl rfl)
theorem dX1_changeMinutes_11 : decode cX1_changeMinutes 11 = .ok (.ifCond .eq 7, 3) := dk_153 0 7 (dk_at dksX1_changeMinutes_0 11 rfl rfl)
theorem dX1_changeMinutes_14 : decode cX1_changeMinutes 14 = .ok (.iconst 1, 1) := dk_4 (dk_at dksX1_changeMinutes_0 14 rfl rfl)
theorem dX1_changeMinutes_15 : decode cX1_changeMinutes 15 = .ok (.goto 4, 3) := dk_167 0 4 (dk_at dksX1_changeMinutes_0 15 rfl rfl)
theorem dX1_changeMinutes_18 : decode cX1_changeMinutes 18 = .ok (.iconst 0, 1) := dk_3 (dk_at dksX1_changeMinutes_0 18 rfl rfl)
theorem dX1_changeMinutes_19 : decode cX1_changeMinutes 19 = .ok (.invokestatic 122, 3) := dk_184 0 122 (dk_at dksX1_changeMinutes_0 19 rfl rfl)
theorem dX1_changeMinutes_22 : decode cX1_changeMinutes 22 = .ok (.aload_n 0, 1) := dk_42 (dk_at dksX1_changeMinutes_0 22 rfl rfl)
theorem dX1_changeMinutes_23 : decode cX1_changeMinutes 23 = .ok (.getfield 16, 3) := dk_180 0 16 (dk_at dksX1_changeMinutes_1 0 rfl rfl)
theorem dX1_changeMinutes_26 : decode cX1_changeMinutes 26 = .ok (.getfield 182, 3) := dk_180 0 182 (dk_at dksX1_changeMinutes_1 3 rfl rfl)
theorem dX1_changeMinutes_29 : decode cX1_changeMinutes 29 = .ok (.iload_n 1, 1) := dk_27 (dk_at dksX1_changeMinutes_1 6 rfl rfl)
theorem dX1_changeMinutes_30 : decode cX1_changeMinutes 30 = .ok (.iload_n 2, 1) := dk_28 (dk_at dksX1_changeMinutes_1 7 rfl rfl)
theorem dX1_changeMinutes_31 : decode cX1_changeMinutes 31 = .ok (.invokeinterface 186 3, 5) := by decide +kernel
theorem dX1_changeMinutes_36 : decode cX1_changeMinutes 36 = .ok (.ireturn, 1) := dk_172 (dk_at dksX1_changeMinutes_1 13 rfl rfl)
abbrev cX1_editionAt : ByteArray := prog_1_method_38_code
def yX1_editionAt : MethodName := ⟨RX1, "editionAt", "(I)I"⟩
def dkwX1_editionAt_0 : List UInt8 := [42, 180, 0, 16, 182, 0, 214, 77, 27, 3, 44, 190, 4, 100, 184, 0, 3, 184, 0, 81, 44, 27, 46, 172]
abbrev dktX1_editionAt_0 : List UInt8 := dkwX1_editionAt_0 ++ []
theorem dksX1_editionAt_0 : cX1_editionAt.data.toList.drop 0 = dktX1_editionAt_0 := by decide +kernel
theorem dX1_editionAt_0 : decode cX1_editionAt 0 = .ok (.aload_n 0, 1) := dk_42 (dk_at dksX1_editionAt_0 0 rfl rfl)
theorem dX1_editionAt_1 : decode cX1_editionAt 1 = .ok (.getfield 16, 3) := dk_180 0 16 (dk_at dksX1_editionAt_0 1 rfl rfl)
theorem dX1_editionAt_4 : decode cX1_editionAt 4 = .ok (.invokevirtual 214, 3) := dk_182 0 214 (dk_at dksX1_editionAt_0 4 rfl rfl)
theorem dX1_editionAt_7 : decode cX1_editionAt 7 = .ok (.astore_n 2, 1) := dk_77 (dk_at dksX1_editionAt_0 7 rfl rfl)
theorem dX1_editionAt_8 : decode cX1_editionAt 8 = .ok (.iload_n 1, 1) := dk_27 (dk_at dksX1_editionAt_0 8 rfl rfl)
theorem dX1_editionAt_9 : decode cX1_editionAt 9 = .ok (.iconst 0, 1) := dk_3 (dk_at dksX1_editionAt_0 9 rfl rfl)
theorem dX1_editionAt_10 : decode cX1_editionAt 10 = .ok (.aload_n 2, 1) := dk_44 (dk_at dksX1_editionAt_0 10 rfl rfl)
theorem dX1_editionAt_11 : decode cX1_editionAt 11 = .ok (.arraylength, 1) := dk_190 (dk_at dksX1_editionAt_0 11 rfl rfl)
theorem dX1_editionAt_12 : decode cX1_editionAt 12 = .ok (.iconst 1, 1) := dk_4 (dk_at dksX1_editionAt_0 12 rfl rfl)
theorem dX1_editionAt_13 : decode cX1_editionAt 13 = .ok (.isub, 1) := dk_100 (dk_at dksX1_editionAt_0 13 rfl rfl)
theorem dX1_editionAt_14 : decode cX1_editionAt 14 = .ok (.invokestatic 3, 3) := dk_184 0 3 (dk_at dksX1_editionAt_0 14 rfl rfl)
theorem dX1_editionAt_17 : decode cX1_editionAt 17 = .ok (.invokestatic 81, 3) := dk_184 0 81 (dk_at dksX1_editionAt_0 17 rfl rfl)
theorem dX1_editionAt_20 : decode cX1_editionAt 20 = .ok (.aload_n 2, 1) := dk_44 (dk_at dksX1_editionAt_0 20 rfl rfl)
theorem dX1_editionAt_21 : decode cX1_editionAt 21 = .ok (.iload_n 1, 1) := dk_27 (dk_at dksX1_editionAt_0 21 rfl rfl)
theorem dX1_editionAt_22 : decode cX1_editionAt 22 = .ok (.iaload, 1) := dk_46 (dk_at dksX1_editionAt_0 22 rfl rfl)
theorem dX1_editionAt_23 : decode cX1_editionAt 23 = .ok (.ireturn, 1) := dk_172 (dk_at dksX1_editionAt_0 23 rfl rfl)
abbrev cX1_checkElement : ByteArray := prog_1_method_6_code
def yX1_checkElement : MethodName := ⟨RX1, "checkElement", "(Z)V"⟩
def dkwX1_checkElement_0 : List UInt8 := [26, 154, 0, 11, 187, 0, 69, 89, 183, 0, 71, 191, 177]
abbrev dktX1_checkElement_0 : List UInt8 := dkwX1_checkElement_0 ++ []
theorem dksX1_checkElement_0 : cX1_checkElement.data.toList.drop 0 = dktX1_checkElement_0 := by decide +kernel
theorem dX1_checkElement_0 : decode cX1_checkElement 0 = .ok (.iload_n 0, 1) := dk_26 (dk_at dksX1_checkElement_0 0 rfl rfl)
theorem dX1_checkElement_1 : decode cX1_checkElement 1 = .ok (.ifCond .ne 11, 3) := dk_154 0 11 (dk_at dksX1_checkElement_0 1 rfl rfl)
theorem dX1_checkElement_4 : decode cX1_checkElement 4 = .ok (.new 69, 3) := dk_187 0 69 (dk_at dksX1_checkElement_0 4 rfl rfl)
theorem dX1_checkElement_7 : decode cX1_checkElement 7 = .ok (.dup, 1) := dk_89 (dk_at dksX1_checkElement_0 7 rfl rfl)
theorem dX1_checkElement_8 : decode cX1_checkElement 8 = .ok (.invokespecial 71, 3) := dk_183 0 71 (dk_at dksX1_checkElement_0 8 rfl rfl)
theorem dX1_checkElement_11 : decode cX1_checkElement 11 = .ok (.athrow, 1) := dk_191 (dk_at dksX1_checkElement_0 11 rfl rfl)
theorem dX1_checkElement_12 : decode cX1_checkElement 12 = .ok (.return_, 1) := dk_177 (dk_at dksX1_checkElement_0 12 rfl rfl)
abbrev cX1_shareOf : ByteArray := prog_1_method_39_code
def yX1_shareOf : MethodName := ⟨RX1, "shareOf", "(I)I"⟩
def dkwX1_shareOf_0 : List UInt8 := [42, 180, 0, 16, 27, 182, 0, 164, 87, 42, 180, 0, 16, 182, 0, 218, 27, 46, 172]
abbrev dktX1_shareOf_0 : List UInt8 := dkwX1_shareOf_0 ++ []
theorem dksX1_shareOf_0 : cX1_shareOf.data.toList.drop 0 = dktX1_shareOf_0 := by decide +kernel
theorem dX1_shareOf_0 : decode cX1_shareOf 0 = .ok (.aload_n 0, 1) := dk_42 (dk_at dksX1_shareOf_0 0 rfl rfl)
theorem dX1_shareOf_1 : decode cX1_shareOf 1 = .ok (.getfield 16, 3) := dk_180 0 16 (dk_at dksX1_shareOf_0 1 rfl rfl)
theorem dX1_shareOf_4 : decode cX1_shareOf 4 = .ok (.iload_n 1, 1) := dk_27 (dk_at dksX1_shareOf_0 4 rfl rfl)
theorem dX1_shareOf_5 : decode cX1_shareOf 5 = .ok (.invokevirtual 164, 3) := dk_182 0 164 (dk_at dksX1_shareOf_0 5 rfl rfl)
theorem dX1_shareOf_8 : decode cX1_shareOf 8 = .ok (.pop, 1) := dk_87 (dk_at dksX1_shareOf_0 8 rfl rfl)
theorem dX1_shareOf_9 : decode cX1_shareOf 9 = .ok (.aload_n 0, 1) := dk_42 (dk_at dksX1_shareOf_0 9 rfl rfl)
theorem dX1_shareOf_10 : decode cX1_shareOf 10 = .ok (.getfield 16, 3) := dk_180 0 16 (dk_at dksX1_shareOf_0 10 rfl rfl)
theorem dX1_shareOf_13 : decode cX1_shareOf 13 = .ok (.invokevirtual 218, 3) := dk_182 0 218 (dk_at dksX1_shareOf_0 13 rfl rfl)
theorem dX1_shareOf_16 : decode cX1_shareOf 16 = .ok (.iload_n 1, 1) := dk_27 (dk_at dksX1_shareOf_0 16 rfl rfl)
theorem dX1_shareOf_17 : decode cX1_shareOf 17 = .ok (.iaload, 1) := dk_46 (dk_at dksX1_shareOf_0 17 rfl rfl)
theorem dX1_shareOf_18 : decode cX1_shareOf 18 = .ok (.ireturn, 1) := dk_172 (dk_at dksX1_shareOf_0 18 rfl rfl)
abbrev cX1_shareByLevel : ByteArray := prog_1_method_40_code
def yX1_shareByLevel : MethodName := ⟨RX1, "shareByLevel", "(I)I"⟩
def dkwX1_shareByLevel_0 : List UInt8 := [42, 180, 0, 16, 27, 182, 0, 164, 87, 42, 180, 0, 16, 27, 182, 0, 221, 172]
abbrev dktX1_shareByLevel_0 : List UInt8 := dkwX1_shareByLevel_0 ++ []
theorem dksX1_shareByLevel_0 : cX1_shareByLevel.data.toList.drop 0 = dktX1_shareByLevel_0 := by decide +kernel
theorem dX1_shareByLevel_0 : decode cX1_shareByLevel 0 = .ok (.aload_n 0, 1) := dk_42 (dk_at dksX1_shareByLevel_0 0 rfl rfl)
theorem dX1_shareByLevel_1 : decode cX1_shareByLevel 1 = .ok (.getfield 16, 3) := dk_180 0 16 (dk_at dksX1_shareByLevel_0 1 rfl rfl)
theorem dX1_shareByLevel_4 : decode cX1_shareByLevel 4 = .ok (.iload_n 1, 1) := dk_27 (dk_at dksX1_shareByLevel_0 4 rfl rfl)
theorem dX1_shareByLevel_5 : decode cX1_shareByLevel 5 = .ok (.invokevirtual 164, 3) := dk_182 0 164 (dk_at dksX1_shareByLevel_0 5 rfl rfl)
theorem dX1_shareByLevel_8 : decode cX1_shareByLevel 8 = .ok (.pop, 1) := dk_87 (dk_at dksX1_shareByLevel_0 8 rfl rfl)
theorem dX1_shareByLevel_9 : decode cX1_shareByLevel 9 = .ok (.aload_n 0, 1) := dk_42 (dk_at dksX1_shareByLevel_0 9 rfl rfl)
theorem dX1_shareByLevel_10 : decode cX1_shareByLevel 10 = .ok (.getfield 16, 3) := dk_180 0 16 (dk_at dksX1_shareByLevel_0 10 rfl rfl)
theorem dX1_shareByLevel_13 : decode cX1_shareByLevel 13 = .ok (.iload_n 1, 1) := dk_27 (dk_at dksX1_shareByLevel_0 13 rfl rfl)
theorem dX1_shareByLevel_14 : decode cX1_shareByLevel 14 = .ok (.invokevirtual 221, 3) := dk_182 0 221 (dk_at dksX1_shareByLevel_0 14 rfl rfl)
theorem dX1_shareByLevel_17 : decode cX1_shareByLevel 17 = .ok (.ireturn, 1) := dk_172 (dk_at dksX1_shareByLevel_0 17 rfl rfl)
abbrev cX1_editionByMissing : ByteArray := prog_1_method_41_code
def yX1_editionByMissing : MethodName := ⟨RX1, "editionByMissing", "(I)I"⟩
def dkwX1_editionByMissing_0 : List UInt8 := [42, 180, 0, 16, 27, 182, 0, 224, 184, 0, 227, 172]
abbrev dktX1_editionByMissing_0 : List UInt8 := dkwX1_editionByMissing_0 ++ []
theorem dksX1_editionByMissing_0 : cX1_editionByMissing.data.toList.drop 0 = dktX1_editionByMissing_0 := by decide +kernel
theorem dX1_editionByMissing_0 : decode cX1_editionByMissing 0 = .ok (.aload_n 0, 1) := dk_42 (dk_at dksX1_editionByMissing_0 0 rfl rfl)
theorem dX1_editionByMissing_1 : decode cX1_editionByMissing 1 = .ok (.getfield 16, 3) := dk_180 0 16 (dk_at dksX1_editionByMissing_0 1 rfl rfl)
theorem dX1_editionByMissing_4 : decode cX1_editionByMissing 4 = .ok (.iload_n 1, 1) := dk_27 (dk_at dksX1_editionByMissing_0 4 rfl rfl)
theorem dX1_editionByMissing_5 : decode cX1_editionByMissing 5 = .ok (.invokevirtual 224, 3) := dk_182 0 224 (dk_at dksX1_editionByMissing_0 5 rfl rfl)
theorem dX1_editionByMissing_8 : decode cX1_editionByMissing 8 = .ok (.invokestatic 227, 3) := dk_184 0 227 (dk_at dksX1_editionByMissing_0 8 rfl rfl)
theorem dX1_editionByMissing_11 : decode cX1_editionByMissing 11 = .ok (.ireturn, 1) := dk_172 (dk_at dksX1_editionByMissing_0 11 rfl rfl)
abbrev cX1_found : ByteArray := prog_1_method_10_code
def yX1_found : MethodName := ⟨RX1, "found", "(I)I"⟩
def dkwX1_found_0 : List UInt8 := [26, 2, 159, 0, 7, 4, 167, 0, 4, 3, 184, 0, 81, 26, 172]
abbrev dktX1_found_0 : List UInt8 := dkwX1_found_0 ++ []
theorem dksX1_found_0 : cX1_found.data.toList.drop 0 = dktX1_found_0 := by decide +kernel
theorem dX1_found_0 : decode cX1_found 0 = .ok (.iload_n 0, 1) := dk_26 (dk_at dksX1_found_0 0 rfl rfl)
theorem dX1_found_1 : decode cX1_found 1 = .ok (.iconst (-1), 1) := dk_2 (dk_at dksX1_found_0 1 rfl rfl)
theorem dX1_found_2 : decode cX1_found 2 = .ok (.if_icmp .eq 7, 3) := dk_159 0 7 (dk_at dksX1_found_0 2 rfl rfl)
theorem dX1_found_5 : decode cX1_found 5 = .ok (.iconst 1, 1) := dk_4 (dk_at dksX1_found_0 5 rfl rfl)
theorem dX1_found_6 : decode cX1_found 6 = .ok (.goto 4, 3) := dk_167 0 4 (dk_at dksX1_found_0 6 rfl rfl)
theorem dX1_found_9 : decode cX1_found 9 = .ok (.iconst 0, 1) := dk_3 (dk_at dksX1_found_0 9 rfl rfl)
theorem dX1_found_10 : decode cX1_found 10 = .ok (.invokestatic 81, 3) := dk_184 0 81 (dk_at dksX1_found_0 10 rfl rfl)
theorem dX1_found_13 : decode cX1_found 13 = .ok (.iload_n 0, 1) := dk_26 (dk_at dksX1_found_0 13 rfl rfl)
theorem dX1_found_14 : decode cX1_found 14 = .ok (.ireturn, 1) := dk_172 (dk_at dksX1_found_0 14 rfl rfl)
abbrev cX1_addProof : ByteArray := prog_1_method_42_code
def yX1_addProof : MethodName := ⟨RX1, "addProof", "(I)I"⟩
def dkwX1_addProof_0 : List UInt8 := [42, 42, 182, 0, 100, 27, 182, 0, 230, 182, 0, 108, 172]
abbrev dktX1_addProof_0 : List UInt8 := dkwX1_addProof_0 ++ []
theorem dksX1_addProof_0 : cX1_addProof.data.toList.drop 0 = dktX1_addProof_0 := by decide +kernel
theorem dX1_addProof_0 : decode cX1_addProof 0 = .ok (.aload_n 0, 1) := dk_42 (dk_at dksX1_addProof_0 0 rfl rfl)
theorem dX1_addProof_1 : decode cX1_addProof 1 = .ok (.aload_n 0, 1) := dk_42 (dk_at dksX1_addProof_0 1 rfl rfl)
theorem dX1_addProof_2 : decode cX1_addProof 2 = .ok (.invokevirtual 100, 3) := dk_182 0 100 (dk_at dksX1_addProof_0 2 rfl rfl)
theorem dX1_addProof_5 : decode cX1_addProof 5 = .ok (.iload_n 1, 1) := dk_27 (dk_at dksX1_addProof_0 5 rfl rfl)
theorem dX1_addProof_6 : decode cX1_addProof 6 = .ok (.invokevirtual 230, 3) := dk_182 0 230 (dk_at dksX1_addProof_0 6 rfl rfl)
theorem dX1_addProof_9 : decode cX1_addProof 9 = .ok (.invokevirtual 108, 3) := dk_182 0 108 (dk_at dksX1_addProof_0 9 rfl rfl)
theorem dX1_addProof_12 : decode cX1_addProof 12 = .ok (.ireturn, 1) := dk_172 (dk_at dksX1_addProof_0 12 rfl rfl)
abbrev cX1_dropProof : ByteArray := prog_1_method_43_code
def yX1_dropProof : MethodName := ⟨RX1, "dropProof", "(I)I"⟩
def dkwX1_dropProof_0 : List UInt8 := [42, 42, 182, 0, 100, 27, 182, 0, 233, 182, 0, 108, 172]
abbrev dktX1_dropProof_0 : List UInt8 := dkwX1_dropProof_0 ++ []
theorem dksX1_dropProof_0 : cX1_dropProof.data.toList.drop 0 = dktX1_dropProof_0 := by decide +kernel
theorem dX1_dropProof_0 : decode cX1_dropProof 0 = .ok (.aload_n 0, 1) := dk_42 (dk_at dksX1_dropProof_0 0 rfl rfl)
theorem dX1_dropProof_1 : decode cX1_dropProof 1 = .ok (.aload_n 0, 1) := dk_42 (dk_at dksX1_dropProof_0 1 rfl rfl)
theorem dX1_dropProof_2 : decode cX1_dropProof 2 = .ok (.invokevirtual 100, 3) := dk_182 0 100 (dk_at dksX1_dropProof_0 2 rfl rfl)
theorem dX1_dropProof_5 : decode cX1_dropProof 5 = .ok (.iload_n 1, 1) := dk_27 (dk_at dksX1_dropProof_0 5 rfl rfl)
theorem dX1_dropProof_6 : decode cX1_dropProof 6 = .ok (.invokevirtual 233, 3) := dk_182 0 233 (dk_at dksX1_dropProof_0 6 rfl rfl)
theorem dX1_dropProof_9 : decode cX1_dropProof 9 = .ok (.invokevirtual 108, 3) := dk_182 0 108 (dk_at dksX1_dropProof_0 9 rfl rfl)
theorem dX1_dropProof_12 : decode cX1_dropProof 12 = .ok (.ireturn, 1) := dk_172 (dk_at dksX1_dropProof_0 12 rfl rfl)
abbrev cX1_marksOf : ByteArray := prog_1_method_45_code
def yX1_marksOf : MethodName := ⟨RX1, "marksOf", "(I)I"⟩
def dkwX1_marksOf_0 : List UInt8 := [42, 180, 0, 16, 27, 182, 0, 239, 42, 180, 0, 16, 180, 0, 243, 27, 46, 172]
abbrev dktX1_marksOf_0 : List UInt8 := dkwX1_marksOf_0 ++ []
theorem dksX1_marksOf_0 : cX1_marksOf.data.toList.drop 0 = dktX1_marksOf_0 := by decide +kernel
theorem dX1_marksOf_0 : decode cX1_marksOf 0 = .ok (.aload_n 0, 1) := dk_42 (dk_at dksX1_marksOf_0 0 rfl rfl)
theorem dX1_marksOf_1 : decode cX1_marksOf 1 = .ok (.getfield 16, 3) := dk_180 0 16 (dk_at dksX1_marksOf_0 1 rfl rfl)
theorem dX1_marksOf_4 : decode cX1_marksOf 4 = .ok (.iload_n 1, 1) := dk_27 (dk_at dksX1_marksOf_0 4 rfl rfl)
theorem dX1_marksOf_5 : decode cX1_marksOf 5 = .ok (.invokevirtual 239, 3) := dk_182 0 239 (dk_at dksX1_marksOf_0 5 rfl rfl)
theorem dX1_marksOf_8 : decode cX1_marksOf 8 = .ok (.aload_n 0, 1) := dk_42 (dk_at dksX1_marksOf_0 8 rfl rfl)
theorem dX1_marksOf_9 : decode cX1_marksOf 9 = .ok (.getfield 16, 3) := dk_180 0 16 (dk_at dksX1_marksOf_0 9 rfl rfl)
theorem dX1_marksOf_12 : decode cX1_marksOf 12 = .ok (.getfield 243, 3) := dk_180 0 243 (dk_at dksX1_marksOf_0 12 rfl rfl)
theorem dX1_marksOf_15 : decode cX1_marksOf 15 = .ok (.iload_n 1, 1) := dk_27 (dk_at dksX1_marksOf_0 15 rfl rfl)
theorem dX1_marksOf_16 : decode cX1_marksOf 16 = .ok (.iaload, 1) := dk_46 (dk_at dksX1_marksOf_0 16 rfl rfl)
theorem dX1_marksOf_17 : decode cX1_marksOf 17 = .ok (.ireturn, 1) := dk_172 (dk_at dksX1_marksOf_0 17 rfl rfl)
abbrev cX1_hourOf : ByteArray := prog_1_method_46_code
def yX1_hourOf : MethodName := ⟨RX1, "hourOf", "(I)I"⟩
def dkwX1_hourOf_0 : List UInt8 := [42, 180, 0, 16, 27, 182, 0, 239, 42, 180, 0, 16, 180, 0, 246, 27, 46, 172]
abbrev dktX1_hourOf_0 : List UInt8 := dkwX1_hourOf_0 ++ []
theorem dksX1_hourOf_0 : cX1_hourOf.data.toList.drop 0 = dktX1_hourOf_0 := by decide +kernel
theorem dX1_hourOf_0 : decode cX1_hourOf 0 = .ok (.aload_n 0, 1) := dk_42 (dk_at dksX1_hourOf_0 0 rfl rfl)
theorem dX1_hourOf_1 : decode cX1_hourOf 1 = .ok (.getfield 16, 3) := dk_180 0 16 (dk_at dksX1_hourOf_0 1 rfl rfl)
theorem dX1_hourOf_4 : decode cX1_hourOf 4 = .ok (.iload_n 1, 1) := dk_27 (dk_at dksX1_hourOf_0 4 rfl rfl)
theorem dX1_hourOf_5 : decode cX1_hourOf 5 = .ok (.invokevirtual 239, 3) := dk_182 0 239 (dk_at dksX1_hourOf_0 5 rfl rfl)
theorem dX1_hourOf_8 : decode cX1_hourOf 8 = .ok (.aload_n 0, 1) := dk_42 (dk_at dksX1_hourOf_0 8 rfl rfl)
theorem dX1_hourOf_9 : decode cX1_hourOf 9 = .ok (.getfield 16, 3) := dk_180 0 16 (dk_at dksX1_hourOf_0 9 rfl rfl)
theorem dX1_hourOf_12 : decode cX1_hourOf 12 = .ok (.getfield 246, 3) := dk_180 0 246 (dk_at dksX1_hourOf_0 12 rfl rfl)
theorem dX1_hourOf_15 : decode cX1_hourOf 15 = .ok (.iload_n 1, 1) := dk_27 (dk_at dksX1_hourOf_0 15 rfl rfl)
theorem dX1_hourOf_16 : decode cX1_hourOf 16 = .ok (.iaload, 1) := dk_46 (dk_at dksX1_hourOf_0 16 rfl rfl)
theorem dX1_hourOf_17 : decode cX1_hourOf 17 = .ok (.ireturn, 1) := dk_172 (dk_at dksX1_hourOf_0 17 rfl rfl)
abbrev cX1_meanRun : ByteArray := prog_1_method_55_code
def yX1_meanRun : MethodName := ⟨RX1, "meanRun", "()D"⟩
def dkwX1_meanRun_1 : List UInt8 := [180, 0, 161, 135, 111, 175]
abbrev dktX1_meanRun_1 : List UInt8 := dkwX1_meanRun_1 ++ []
def dkwX1_meanRun_0 : List UInt8 := [42, 180, 0, 16, 180, 0, 161, 184, 1, 18, 42, 180, 0, 16, 182, 1, 21, 135, 42, 180, 0, 16]
abbrev dktX1_meanRun_0 : List UInt8 := dkwX1_meanRun_0 ++ dktX1_meanRun_1
theorem dksX1_meanRun_0 : cX1_meanRun.data.toList.drop 0 = dktX1_meanRun_0 := by decide +kernel
theorem dksX1_meanRun_1 : cX1_meanRun.data.toList.drop 22 = dktX1_meanRun_1 := dk_seg dksX1_meanRun_0 22 rfl rfl
theorem dX1_meanRun_0 : decode cX1_meanRun 0 = .ok (.aload_n 0, 1) := dk_42 (dk_at dksX1_meanRun_0 0 rfl rfl)
theorem dX1_meanRun_1 : decode cX1_meanRun 1 = .ok (.getfield 16, 3) := dk_180 0 16 (dk_at dksX1_meanRun_0 1 rfl rfl)
theorem dX1_meanRun_4 : decode cX1_meanRun 4 = .ok (.getfield 161, 3) := dk_180 0 161 (dk_at dksX1_meanRun_0 4 rfl rfl)
theorem dX1_meanRun_7 : decode cX1_meanRun 7 = .ok (.invokestatic 274, 3) := dk_184 1 18 (dk_at dksX1_meanRun_0 7 rfl rfl)
theorem dX1_meanRun_10 : decode cX1_meanRun 10 = .ok (.aload_n 0, 1) := dk_42 (dk_at dksX1_meanRun_0 10 rfl rfl)
theorem dX1_meanRun_11 : decode cX1_meanRun 11 = .ok (.getfield 16, 3) := dk_180 0 16 (dk_at dksX1_meanRun_0 11 rfl rfl)
theorem dX1_meanRun_14 : decode cX1_meanRun 14 = .ok (.invokevirtual 277, 3) := dk_182 1 21 (dk_at dksX1_meanRun_0 14 rfl rfl)
theorem dX1_meanRun_17 : decode cX1_meanRun 17 = .ok (.i2d, 1) := dk_135 (dk_at dksX1_meanRun_0 17 rfl rfl)
theorem dX1_meanRun_18 : decode cX1_meanRun 18 = .ok (.aload_n 0, 1) := dk_42 (dk_at dksX1_meanRun_0 18 rfl rfl)
theorem dX1_meanRun_19 : decode cX1_meanRun 19 = .ok (.getfield 16, 3) := dk_180 0 16 (dk_at dksX1_meanRun_0 19 rfl rfl)
theorem dX1_meanRun_22 : decode cX1_meanRun 22 = .ok (.getfield 161, 3) := dk_180 0 161 (dk_at dksX1_meanRun_1 0 rfl rfl)
theorem dX1_meanRun_25 : decode cX1_meanRun 25 = .ok (.i2d, 1) := dk_135 (dk_at dksX1_meanRun_1 3 rfl rfl)
theorem dX1_meanRun_26 : decode cX1_meanRun 26 = .ok (.ddiv, 1) := dk_111 (dk_at dksX1_meanRun_1 4 rfl rfl)
theorem dX1_meanRun_27 : decode cX1_meanRun 27 = .ok (.dreturn, 1) := dk_175 (dk_at dksX1_meanRun_1 5 rfl rfl)
abbrev cX1_checkAny : ByteArray := prog_1_method_11_code
def yX1_checkAny : MethodName := ⟨RX1, "checkAny", "(I)V"⟩
def dkwX1_checkAny_0 : List UInt8 := [26, 154, 0, 11, 187, 0, 85, 89, 183, 0, 87, 191, 177]
abbrev dktX1_checkAny_0 : List UInt8 := dkwX1_checkAny_0 ++ []
theorem dksX1_checkAny_0 : cX1_checkAny.data.toList.drop 0 = dktX1_checkAny_0 := by decide +kernel
theorem dX1_checkAny_0 : decode cX1_checkAny 0 = .ok (.iload_n 0, 1) := dk_26 (dk_at dksX1_checkAny_0 0 rfl rfl)
theorem dX1_checkAny_1 : decode cX1_checkAny 1 = .ok (.ifCond .ne 11, 3) := dk_154 0 11 (dk_at dksX1_checkAny_0 1 rfl rfl)
theorem dX1_checkAny_4 : decode cX1_checkAny 4 = .ok (.new 85, 3) := dk_187 0 85 (dk_at dksX1_checkAny_0 4 rfl rfl)
theorem dX1_checkAny_7 : decode cX1_checkAny 7 = .ok (.dup, 1) := dk_89 (dk_at dksX1_checkAny_0 7 rfl rfl)
theorem dX1_checkAny_8 : decode cX1_checkAny 8 = .ok (.invokespecial 87, 3) := dk_183 0 87 (dk_at dksX1_checkAny_0 8 rfl rfl)
theorem dX1_checkAny_11 : decode cX1_checkAny 11 = .ok (.athrow, 1) := dk_191 (dk_at dksX1_checkAny_0 11 rfl rfl)
theorem dX1_checkAny_12 : decode cX1_checkAny 12 = .ok (.return_, 1) := dk_177 (dk_at dksX1_checkAny_0 12 rfl rfl)
abbrev cX1_fadedShare : ByteArray := prog_1_method_56_code
def yX1_fadedShare : MethodName := ⟨RX1, "fadedShare", "()F"⟩
def dkwX1_fadedShare_1 : List UInt8 := [180, 1, 5, 134, 110, 174]
abbrev dktX1_fadedShare_1 : List UInt8 := dkwX1_fadedShare_1 ++ []
def dkwX1_fadedShare_0 : List UInt8 := [42, 180, 0, 16, 180, 1, 5, 184, 1, 18, 42, 180, 0, 16, 180, 1, 11, 137, 42, 180, 0, 16]
abbrev dktX1_fadedShare_0 : List UInt8 := dkwX1_fadedShare_0 ++ dktX1_fadedShare_1
theorem dksX1_fadedShare_0 : cX1_fadedShare.data.toList.drop 0 = dktX1_fadedShare_0 := by decide +kernel
theorem dksX1_fadedShare_1 : cX1_fadedShare.data.toList.drop 22 = dktX1_fadedShare_1 := dk_seg dksX1_fadedShare_0 22 rfl rfl
theorem dX1_fadedShare_0 : decode cX1_fadedShare 0 = .ok (.aload_n 0, 1) := dk_42 (dk_at dksX1_fadedShare_0 0 rfl rfl)
theorem dX1_fadedShare_1 : decode cX1_fadedShare 1 = .ok (.getfield 16, 3) := dk_180 0 16 (dk_at dksX1_fadedShare_0 1 rfl rfl)
theorem dX1_fadedShare_4 : decode cX1_fadedShare 4 = .ok (.getfield 261, 3) := dk_180 1 5 (dk_at dksX1_fadedShare_0 4 rfl rfl)
theorem dX1_fadedShare_7 : decode cX1_fadedShare 7 = .ok (.invokestatic 274, 3) := dk_184 1 18 (dk_at dksX1_fadedShare_0 7 rfl rfl)
theorem dX1_fadedShare_10 : decode cX1_fadedShare 10 = .ok (.aload_n 0, 1) := dk_42 (dk_at dksX1_fadedShare_0 10 rfl rfl)
theorem dX1_fadedShare_11 : decode cX1_fadedShare 11 = .ok (.getfield 16, 3) := dk_180 0 16 (dk_at dksX1_fadedShare_0 11 rfl rfl)
theorem dX1_fadedShare_14 : decode cX1_fadedShare 14 = .ok (.getfield 267, 3) := dk_180 1 11 (dk_at dksX1_fadedShare_0 14 rfl rfl)
theorem dX1_fadedShare_17 : decode cX1_fadedShare 17 = .ok (.l2f, 1) := dk_137 (dk_at dksX1_fadedShare_0 17 rfl rfl)
theorem dX1_fadedShare_18 : decode cX1_fadedShare 18 = .ok (.aload_n 0, 1) := dk_42 (dk_at dksX1_fadedShare_0 18 rfl rfl)
theorem dX1_fadedShare_19 : decode cX1_fadedShare 19 = .ok (.getfield 16, 3) := dk_180 0 16 (dk_at dksX1_fadedShare_0 19 rfl rfl)
theorem dX1_fadedShare_22 : decode cX1_fadedShare 22 = .ok (.getfield 261, 3) := dk_180 1 5 (dk_at dksX1_fadedShare_1 0 rfl rfl)
theorem dX1_fadedShare_25 : decode cX1_fadedShare 25 = .ok (.i2f, 1) := dk_134 (dk_at dksX1_fadedShare_1 3 rfl rfl)
theorem dX1_fadedShare_26 : decode cX1_fadedShare 26 = .ok (.fdiv, 1) := dk_110 (dk_at dksX1_fadedShare_1 4 rfl rfl)
theorem dX1_fadedShare_27 : decode cX1_fadedShare 27 = .ok (.freturn, 1) := dk_174 (dk_at dksX1_fadedShare_1 5 rfl rfl)
abbrev cX1_writeEdition : ByteArray := prog_1_method_57_code
def yX1_writeEdition : MethodName := ⟨RX1, "writeEdition", "(I)I"⟩
def dkwX1_writeEdition_1 : List UInt8 := [182, 1, 27, 44, 182, 1, 31, 182, 1, 35, 87, 42, 180, 0, 43, 182, 1, 38, 172]
abbrev dktX1_writeEdition_1 : List UInt8 := dkwX1_writeEdition_1 ++ []
def dkwX1_writeEdition_0 : List UInt8 := [42, 180, 0, 16, 27, 182, 0, 164, 77, 42, 180, 0, 43, 3, 182, 1, 24, 42, 180, 0, 43, 27]
abbrev dktX1_writeEdition_0 : List UInt8 := dkwX1_writeEdition_0 ++ dktX1_writeEdition_1
theorem dksX1_writeEdition_0 : cX1_writeEdition.data.toList.drop 0 = dktX1_writeEdition_0 := by decide +kernel
theorem dksX1_writeEdition_1 : cX1_writeEdition.data.toList.drop 22 = dktX1_writeEdition_1 := dk_seg dksX1_writeEdition_0 22 rfl rfl
theorem dX1_writeEdition_0 : decode cX1_writeEdition 0 = .ok (.aload_n 0, 1) := dk_42 (dk_at dksX1_writeEdition_0 0 rfl rfl)
theorem dX1_writeEdition_1 : decode cX1_writeEdition 1 = .ok (.getfield 16, 3) := dk_180 0 16 (dk_at dksX1_writeEdition_0 1 rfl rfl)
theorem dX1_writeEdition_4 : decode cX1_writeEdition 4 = .ok (.iload_n 1, 1) := dk_27 (dk_at dksX1_writeEdition_0 4 rfl rfl)
theorem dX1_writeEdition_5 : decode cX1_writeEdition 5 = .ok (.invokevirtual 164, 3) := dk_182 0 164 (dk_at dksX1_writeEdition_0 5 rfl rfl)
theorem dX1_writeEdition_8 : decode cX1_writeEdition 8 = .ok (.astore_n 2, 1) := dk_77 (dk_at dksX1_writeEdition_0 8 rfl rfl)
theorem dX1_writeEdition_9 : decode cX1_writeEdition 9 = .ok (.aload_n 0, 1) := dk_42 (dk_at dksX1_writeEdition_0 9 rfl rfl)
theorem dX1_writeEdition_10 : decode cX1_writeEdition 10 = .ok (.getfield 43, 3) := dk_180 0 43 (dk_at dksX1_writeEdition_0 10 rfl rfl)
theorem dX1_writeEdition_13 : decode cX1_writeEdition 13 = .ok (.iconst 0, 1) := dk_3 (dk_at dksX1_writeEdition_0 13 rfl rfl)
theorem dX1_writeEdition_14 : decode cX1_writeEdition 14 = .ok (.invokevirtual 280, 3) := dk_182 1 24 (dk_at dksX1_writeEdition_0 14 rfl rfl)
theorem dX1_writeEdition_17 : decode cX1_writeEdition 17 = .ok (.aload_n 0, 1) := dk_42 (dk_at dksX1_writeEdition_0 17 rfl rfl)
theorem dX1_writeEdition_18 : decode cX1_writeEdition 18 = .ok (.getfield 43, 3) := dk_180 0 43 (dk_at dksX1_writeEdition_0 18 rfl rfl)
theorem dX1_writeEdition_21 : decode cX1_writeEdition 21 = .ok (.iload_n 1, 1) := dk_27 (dk_at dksX1_writeEdition_0 21 rfl rfl)
theorem dX1_writeEdition_22 : decode cX1_writeEdition 22 = .ok (.invokevirtual 283, 3) := dk_182 1 27 (dk_at dksX1_writeEdition_1 0 rfl rfl)
theorem dX1_writeEdition_25 : decode cX1_writeEdition 25 = .ok (.aload_n 2, 1) := dk_44 (dk_at dksX1_writeEdition_1 3 rfl rfl)
theorem dX1_writeEdition_26 : decode cX1_writeEdition 26 = .ok (.invokevirtual 287, 3) := dk_182 1 31 (dk_at dksX1_writeEdition_1 4 rfl rfl)
theorem dX1_writeEdition_29 : decode cX1_writeEdition 29 = .ok (.invokevirtual 291, 3) := dk_182 1 35 (dk_at dksX1_writeEdition_1 7 rfl rfl)
theorem dX1_writeEdition_32 : decode cX1_writeEdition 32 = .ok (.pop, 1) := dk_87 (dk_at dksX1_writeEdition_1 10 rfl rfl)
theorem dX1_writeEdition_33 : decode cX1_writeEdition 33 = .ok (.aload_n 0, 1) := dk_42 (dk_at dksX1_writeEdition_1 11 rfl rfl)
theorem dX1_writeEdition_34 : decode cX1_writeEdition 34 = .ok (.getfield 43, 3) := dk_180 0 43 (dk_at dksX1_writeEdition_1 12 rfl rfl)
theorem dX1_writeEdition_37 : decode cX1_writeEdition 37 = .ok (.invokevirtual 294, 3) := dk_182 1 38 (dk_at dksX1_writeEdition_1 15 rfl rfl)
theorem dX1_writeEdition_40 : decode cX1_writeEdition 40 = .ok (.ireturn, 1) := dk_172 (dk_at dksX1_writeEdition_1 18 rfl rfl)
abbrev cX1_lineAt : ByteArray := prog_1_method_59_code
def yX1_lineAt : MethodName := ⟨RX1, "lineAt", "(I)C"⟩
def dkwX1_lineAt_1 : List UInt8 := [182, 1, 47, 172]
abbrev dktX1_lineAt_1 : List UInt8 := dkwX1_lineAt_1 ++ []
def dkwX1_lineAt_0 : List UInt8 := [27, 3, 42, 180, 0, 43, 182, 1, 38, 4, 100, 184, 0, 3, 184, 1, 44, 42, 180, 0, 43, 27]
abbrev dktX1_lineAt_0 : List UInt8 := dkwX1_lineAt_0 ++ dktX1_lineAt_1
theorem dksX1_lineAt_0 : cX1_lineAt.data.toList.drop 0 = dktX1_lineAt_0 := by decide +kernel
theorem dksX1_lineAt_1 : cX1_lineAt.data.toList.drop 22 = dktX1_lineAt_1 := dk_seg dksX1_lineAt_0 22 rfl rfl
theorem dX1_lineAt_0 : decode cX1_lineAt 0 = .ok (.iload_n 1, 1) := dk_27 (dk_at dksX1_lineAt_0 0 rfl rfl)
theorem dX1_lineAt_1 : decode cX1_lineAt 1 = .ok (.iconst 0, 1) := dk_3 (dk_at dksX1_lineAt_0 1 rfl rfl)
theorem dX1_lineAt_2 : decode cX1_lineAt 2 = .ok (.aload_n 0, 1) := dk_42 (dk_at dksX1_lineAt_0 2 rfl rfl)
theorem dX1_lineAt_3 : decode cX1_lineAt 3 = .ok (.getfield 43, 3) := dk_180 0 43 (dk_at dksX1_lineAt_0 3 rfl rfl)
theorem dX1_lineAt_6 : decode cX1_lineAt 6 = .ok (.invokevirtual 294, 3) := dk_182 1 38 (dk_at dksX1_lineAt_0 6 rfl rfl)
theorem dX1_lineAt_9 : decode cX1_lineAt 9 = .ok (.iconst 1, 1) := dk_4 (dk_at dksX1_lineAt_0 9 rfl rfl)
theorem dX1_lineAt_10 : decode cX1_lineAt 10 = .ok (.isub, 1) := dk_100 (dk_at dksX1_lineAt_0 10 rfl rfl)
theorem dX1_lineAt_11 : decode cX1_lineAt 11 = .ok (.invokestatic 3, 3) := dk_184 0 3 (dk_at dksX1_lineAt_0 11 rfl rfl)
theorem dX1_lineAt_14 : decode cX1_lineAt 14 = .ok (.invokestatic 300, 3) := dk_184 1 44 (dk_at dksX1_lineAt_0 14 rfl rfl)
theorem dX1_lineAt_17 : decode cX1_lineAt 17 = .ok (.aload_n 0, 1) := dk_42 (dk_at dksX1_lineAt_0 17 rfl rfl)
theorem dX1_lineAt_18 : decode cX1_lineAt 18 = .ok (.getfield 43, 3) := dk_180 0 43 (dk_at dksX1_lineAt_0 18 rfl rfl)
theorem dX1_lineAt_21 : decode cX1_lineAt 21 = .ok (.iload_n 1, 1) := dk_27 (dk_at dksX1_lineAt_0 21 rfl rfl)
theorem dX1_lineAt_22 : decode cX1_lineAt 22 = .ok (.invokevirtual 303, 3) := dk_182 1 47 (dk_at dksX1_lineAt_1 0 rfl rfl)
theorem dX1_lineAt_25 : decode cX1_lineAt 25 = .ok (.ireturn, 1) := dk_172 (dk_at dksX1_lineAt_1 3 rfl rfl)
abbrev cX1_type : ByteArray := prog_1_method_61_code
def yX1_type : MethodName := ⟨RX1, "type", "(C)I"⟩
def dkwX1_type_1 : List UInt8 := [167, 0, 4, 3, 184, 1, 54, 42, 180, 0, 39, 27, 182, 1, 57, 87, 42, 180, 0, 39, 182, 1, 38, 172]
abbrev dktX1_type_1 : List UInt8 := dkwX1_type_1 ++ []
def dkwX1_type_0 : List UInt8 := [27, 16, 32, 16, 126, 184, 0, 3, 184, 0, 122, 42, 180, 0, 39, 182, 1, 38, 16, 60, 162, 0, 7, 4]
abbrev dktX1_type_0 : List UInt8 := dkwX1_type_0 ++ dktX1_type_1
theorem dksX1_type_0 : cX1_type.data.toList.drop 0 = dktX1_type_0 := by decide +kernel
theorem dksX1_type_1 : cX1_type.data.toList.drop 24 = dktX1_type_1 := dk_seg dksX1_type_0 24 rfl rfl
theorem dX1_type_0 : decode cX1_type 0 = .ok (.iload_n 1, 1) := dk_27 (dk_at dksX1_type_0 0 rfl rfl)
theorem dX1_type_1 : decode cX1_type 1 = .ok (.bipush 32, 2) := dk_16 32 (dk_at dksX1_type_0 1 rfl rfl)
theorem dX1_type_3 : decode cX1_type 3 = .ok (.bipush 126, 2) := dk_16 126 (dk_at dksX1_type_0 3 rfl rfl)
theorem dX1_type_5 : decode cX1_type 5 = .ok (.invokestatic 3, 3) := dk_184 0 3 (dk_at dksX1_type_0 5 rfl rfl)
theorem dX1_type_8 : decode cX1_type 8 = .ok (.invokestatic 122, 3) := dk_184 0 122 (dk_at dksX1_type_0 8 rfl rfl)
theorem dX1_type_11 : decode cX1_type 11 = .ok (.aload_n 0, 1) := dk_42 (dk_at dksX1_type_0 11 rfl rfl)
theorem dX1_type_12 : decode cX1_type 12 = .ok (.getfield 39, 3) := dk_180 0 39 (dk_at dksX1_type_0 12 rfl rfl)
theorem dX1_type_15 : decode cX1_type 15 = .ok (.invokevirtual 294, 3) := dk_182 1 38 (dk_at dksX1_type_0 15 rfl rfl)
theorem dX1_type_18 : decode cX1_type 18 = .ok (.bipush 60, 2) := dk_16 60 (dk_at dksX1_type_0 18 rfl rfl)
theorem dX1_type_20 : decode cX1_type 20 = .ok (.if_icmp .ge 7, 3) := dk_162 0 7 (dk_at dksX1_type_0 20 rfl rfl)
theorem dX1_type_23 : decode cX1_type 23 = .ok (.iconst 1, 1) := dk_4 (dk_at dksX1_type_0 23 rfl rfl)
theorem dX1_type_24 : decode cX1_type 24 = .ok (.goto 4, 3) := dk_167 0 4 (dk_at dksX1_type_1 0 rfl rfl)
theorem dX1_type_27 : decode cX1_type 27 = .ok (.iconst 0, 1) := dk_3 (dk_at dksX1_type_1 3 rfl rfl)
theorem dX1_type_28 : decode cX1_type 28 = .ok (.invokestatic 310, 3) := dk_184 1 54 (dk_at dksX1_type_1 4 rfl rfl)
theorem dX1_type_31 : decode cX1_type 31 = .ok (.aload_n 0, 1) := dk_42 (dk_at dksX1_type_1 7 rfl rfl)
theorem dX1_type_32 : decode cX1_type 32 = .ok (.getfield 39, 3) := dk_180 0 39 (dk_at dksX1_type_1 8 rfl rfl)
theorem dX1_type_35 : decode cX1_type 35 = .ok (.iload_n 1, 1) := dk_27 (dk_at dksX1_type_1 11 rfl rfl)
theorem dX1_type_36 : decode cX1_type 36 = .ok (.invokevirtual 313, 3) := dk_182 1 57 (dk_at dksX1_type_1 12 rfl rfl)
theorem dX1_type_39 : decode cX1_type 39 = .ok (.pop, 1) := dk_87 (dk_at dksX1_type_1 15 rfl rfl)
theorem dX1_type_40 : decode cX1_type 40 = .ok (.aload_n 0, 1) := dk_42 (dk_at dksX1_type_1 16 rfl rfl)
theorem dX1_type_41 : decode cX1_type 41 = .ok (.getfield 39, 3) := dk_180 0 39 (dk_at dksX1_type_1 17 rfl rfl)
theorem dX1_type_44 : decode cX1_type 44 = .ok (.invokevirtual 294, 3) := dk_182 1 38 (dk_at dksX1_type_1 20 rfl rfl)
theorem dX1_type_47 : decode cX1_type 47 = .ok (.ireturn, 1) := dk_172 (dk_at dksX1_type_1 23 rfl rfl)
abbrev cX1_execute : ByteArray := prog_1_method_63_code
def yX1_execute : MethodName := ⟨RX1, "execute", "()I"⟩
def dkwX1_execute_3 : List UInt8 := [183, 0, 74, 191, 42, 42, 180, 0, 51, 180, 1, 69, 182, 1, 94, 182, 0, 108, 172]
abbrev dktX1_execute_3 : List UInt8 := dkwX1_execute_3 ++ []
def dkwX1_execute_2 : List UInt8 := [182, 1, 89, 132, 2, 1, 167, 255, 227, 167, 0, 17, 78, 42, 28, 181, 0, 59, 187, 0, 72, 89]
abbrev dktX1_execute_2 : List UInt8 := dkwX1_execute_2 ++ dktX1_execute_3
def dkwX1_execute_1 : List UInt8 := [185, 1, 79, 1, 0, 153, 0, 26, 45, 185, 1, 84, 1, 0, 192, 1, 87, 58, 4, 25, 4, 43]
abbrev dktX1_execute_1 : List UInt8 := dkwX1_execute_1 ++ dktX1_execute_2
def dkwX1_execute_0 : List UInt8 := [42, 182, 1, 68, 42, 182, 0, 100, 76, 3, 61, 42, 180, 0, 51, 180, 1, 69, 182, 1, 73, 78, 45]
abbrev dktX1_execute_0 : List UInt8 := dkwX1_execute_0 ++ dktX1_execute_1
theorem dksX1_execute_0 : cX1_execute.data.toList.drop 0 = dktX1_execute_0 := by decide +kernel
theorem dksX1_execute_1 : cX1_execute.data.toList.drop 23 = dktX1_execute_1 := dk_seg dksX1_execute_0 23 rfl rfl
theorem dksX1_execute_2 : cX1_execute.data.toList.drop 45 = dktX1_execute_2 := dk_seg dksX1_execute_1 22 rfl rfl
theorem dksX1_execute_3 : cX1_execute.data.toList.drop 67 = dktX1_execute_3 := dk_seg dksX1_execute_2 22 rfl rfl
theorem dX1_execute_0 : decode cX1_execute 0 = .ok (.aload_n 0, 1) := dk_42 (dk_at dksX1_execute_0 0 rfl rfl)
theorem dX1_execute_1 : decode cX1_execute 1 = .ok (.invokevirtual 324, 3) := dk_182 1 68 (dk_at dksX1_execute_0 1 rfl rfl)
theorem dX1_execute_4 : decode cX1_execute 4 = .ok (.aload_n 0, 1) := dk_42 (dk_at dksX1_execute_0 4 rfl rfl)
theorem dX1_execute_5 : decode cX1_execute 5 = .ok (.invokevirtual 100, 3) := dk_182 0 100 (dk_at dksX1_execute_0 5 rfl rfl)
theorem dX1_execute_8 : decode cX1_execute 8 = .ok (.astore_n 1, 1) := dk_76 (dk_at dksX1_execute_0 8 rfl rfl)
theorem dX1_execute_9 : decode cX1_execute 9 = .ok (.iconst 0, 1) := dk_3 (dk_at dksX1_execute_0 9 rfl rfl)
theorem dX1_execute_10 : decode cX1_execute 10 = .ok (.istore_n 2, 1) := dk_61 (dk_at dksX1_execute_0 10 rfl rfl)
theorem dX1_execute_11 : decode cX1_execute 11 = .ok (.aload_n 0, 1) := dk_42 (dk_at dksX1_execute_0 11 rfl rfl)
theorem dX1_execute_12 : decode cX1_execute 12 = .ok (.getfield 51, 3) := dk_180 0 51 (dk_at dksX1_execute_0 12 rfl rfl)
theorem dX1_execute_15 : decode cX1_execute 15 = .ok (.getfield 325, 3) := dk_180 1 69 (dk_at dksX1_execute_0 15 rfl rfl)
theorem dX1_execute_18 : decode cX1_execute 18 = .ok (.invokevirtual 329, 3) := dk_182 1 73 (dk_at dksX1_execute_0 18 rfl rfl)
theorem dX1_execute_21 : decode cX1_execute 21 = .ok (.astore_n 3, 1) := dk_78 (dk_at dksX1_execute_0 21 rfl rfl)
theorem dX1_execute_22 : decode cX1_execute 22 = .ok (.aload_n 3, 1) := dk_45 (dk_at dksX1_execute_0 22 rfl rfl)
theorem dX1_execute_23 : decode cX1_execute 23 = .ok (.invokeinterface 335 1, 5) := by decide +kernel
theorem dX1_execute_28 : decode cX1_execute 28 = .ok (.ifCond .eq 26, 3) := dk_153 0 26 (dk_at dksX1_execute_1 5 rfl rfl)
theorem dX1_execute_31 : decode cX1_execute 31 = .ok (.aload_n 3, 1) := dk_45 (dk_at dksX1_execute_1 8 rfl rfl)
theorem dX1_execute_32 : decode cX1_execute 32 = .ok (.invokeinterface 340 1, 5) := by decide +kernel
theorem dX1_execute_37 : decode cX1_execute 37 = .ok (.checkcast 343, 3) := dk_192 1 87 (dk_at dksX1_execute_1 14 rfl rfl)
theorem dX1_execute_40 : decode cX1_execute 40 = .ok (.astore 4, 2) := dk_58 4 (dk_at dksX1_execute_1 17 rfl rfl)
theorem dX1_execute_42 : decode cX1_execute 42 = .ok (.aload 4, 2) := dk_25 4 (dk_at dksX1_execute_1 19 rfl rfl)
theorem dX1_execute_44 : decode cX1_execute 44 = .ok (.aload_n 1, 1) := dk_43 (dk_at dksX1_execute_1 21 rfl rfl)
theorem dX1_execute_45 : decode cX1_execute 45 = .ok (.invokevirtual 345, 3) := dk_182 1 89 (dk_at dksX1_execute_2 0 rfl rfl)
theorem dX1_execute_48 : decode cX1_execute 48 = .ok (.iinc 2 1, 3) := dk_132 2 1 (dk_at dksX1_execute_2 3 rfl rfl)
theorem dX1_execute_51 : decode cX1_execute 51 = .ok (.goto (-29), 3) := dk_167 255 227 (dk_at dksX1_execute_2 6 rfl rfl)
theorem dX1_execute_54 : decode cX1_execute 54 = .ok (.goto 17, 3) := dk_167 0 17 (dk_at dksX1_execute_2 9 rfl rfl)
theorem dX1_execute_57 : decode cX1_execute 57 = .ok (.astore_n 3, 1) := dk_78 (dk_at dksX1_execute_2 12 rfl rfl)
theorem dX1_execute_58 : decode cX1_execute 58 = .ok (.aload_n 0, 1) := dk_42 (dk_at dksX1_execute_2 13 rfl rfl)
theorem dX1_execute_59 : decode cX1_execute 59 = .ok (.iload_n 2, 1) := dk_28 (dk_at dksX1_execute_2 14 rfl rfl)
theorem dX1_execute_60 : decode cX1_execute 60 = .ok (.putfield 59, 3) := dk_181 0 59 (dk_at dksX1_execute_2 15 rfl rfl)
theorem dX1_execute_63 : decode cX1_execute 63 = .ok (.new 72, 3) := dk_187 0 72 (dk_at dksX1_execute_2 18 rfl rfl)
theorem dX1_execute_66 : decode cX1_execute 66 = .ok (.dup, 1) := dk_89 (dk_at dksX1_execute_2 21 rfl rfl)
theorem dX1_execute_67 : decode cX1_execute 67 = .ok (.invokespecial 74, 3) := dk_183 0 74 (dk_at dksX1_execute_3 0 rfl rfl)
theorem dX1_execute_70 : decode cX1_execute 70 = .ok (.athrow, 1) := dk_191 (dk_at dksX1_execute_3 3 rfl rfl)
theorem dX1_execute_71 : decode cX1_execute 71 = .ok (.aload_n 0, 1) := dk_42 (dk_at dksX1_execute_3 4 rfl rfl)
theorem dX1_execute_72 : decode cX1_execute 72 = .ok (.aload_n 0, 1) := dk_42 (dk_at dksX1_execute_3 5 rfl rfl)
theorem dX1_execute_73 : decode cX1_execute 73 = .ok (.getfield 51, 3) := dk_180 0 51 (dk_at dksX1_execute_3 6 rfl rfl)
theorem dX1_execute_76 : decode cX1_execute 76 = .ok (.getfield 325, 3) := dk_180 1 69 (dk_at dksX1_execute_3 9 rfl rfl)
theorem dX1_execute_79 : decode cX1_execute 79 = .ok (.invokevirtual 350, 3) := dk_182 1 94 (dk_at dksX1_execute_3 12 rfl rfl)
theorem dX1_execute_82 : decode cX1_execute 82 = .ok (.invokevirtual 108, 3) := dk_182 0 108 (dk_at dksX1_execute_3 15 rfl rfl)
theorem dX1_execute_85 : decode cX1_execute 85 = .ok (.ireturn, 1) := dk_172 (dk_at dksX1_execute_3 18 rfl rfl)
abbrev cX1_parse : ByteArray := prog_1_method_62_code
def yX1_parse : MethodName := ⟨RX1, "parse", "()V"⟩
def dkwX1_parse_1 : List UInt8 := [181, 0, 55, 187, 0, 66, 89, 183, 0, 68, 191, 77, 42, 180, 0, 39, 3, 182, 1, 24, 44, 191, 177]
abbrev dktX1_parse_1 : List UInt8 := dkwX1_parse_1 ++ []
def dkwX1_parse_0 : List UInt8 := [42, 180, 0, 51, 182, 1, 60, 42, 180, 0, 39, 3, 182, 1, 24, 167, 0, 31, 76, 42, 43, 180, 1, 65]
abbrev dktX1_parse_0 : List UInt8 := dkwX1_parse_0 ++ dktX1_parse_1
theorem dksX1_parse_0 : cX1_parse.data.toList.drop 0 = dktX1_parse_0 := by decide +kernel
theorem dksX1_parse_1 : cX1_parse.data.toList.drop 24 = dktX1_parse_1 := dk_seg dksX1_parse_0 24 rfl rfl
theorem dX1_parse_0 : decode cX1_parse 0 = .ok (.aload_n 0, 1) := dk_42 (dk_at dksX1_parse_0 0 rfl rfl)
theorem dX1_parse_1 : decode cX1_parse 1 = .ok (.getfield 51, 3) := dk_180 0 51 (dk_at dksX1_parse_0 1 rfl rfl)
theorem dX1_parse_4 : decode cX1_parse 4 = .ok (.invokevirtual 316, 3) := dk_182 1 60 (dk_at dksX1_parse_0 4 rfl rfl)
theorem dX1_parse_7 : decode cX1_parse 7 = .ok (.aload_n 0, 1) := dk_42 (dk_at dksX1_parse_0 7 rfl rfl)
theorem dX1_parse_8 : decode cX1_parse 8 = .ok (.getfield 39, 3) := dk_180 0 39 (dk_at dksX1_parse_0 8 rfl rfl)
theorem dX1_parse_11 : decode cX1_parse 11 = .ok (.iconst 0, 1) := dk_3 (dk_at dksX1_parse_0 11 rfl rfl)
theorem dX1_parse_12 : decode cX1_parse 12 = .ok (.invokevirtual 280, 3) := dk_182 1 24 (dk_at dksX1_parse_0 12 rfl rfl)
theorem dX1_parse_15 : decode cX1_parse 15 = .ok (.goto 31, 3) := dk_167 0 31 (dk_at dksX1_parse_0 15 rfl rfl)
theorem dX1_parse_18 : decode cX1_parse 18 = .ok (.astore_n 1, 1) := dk_76 (dk_at dksX1_parse_0 18 rfl rfl)
theorem dX1_parse_19 : decode cX1_parse 19 = .ok (.aload_n 0, 1) := dk_42 (dk_at dksX1_parse_0 19 rfl rfl)
theorem dX1_parse_20 : decode cX1_parse 20 = .ok (.aload_n 1, 1) := dk_43 (dk_at dksX1_parse_0 20 rfl rfl)
theorem dX1_parse_21 : decode cX1_parse 21 = .ok (.getfield 321, 3) := dk_180 1 65 (dk_at dksX1_parse_0 21 rfl rfl)
theorem dX1_parse_24 : decode cX1_parse 24 = .ok (.putfield 55, 3) := dk_181 0 55 (dk_at dksX1_parse_1 0 rfl rfl)
theorem dX1_parse_27 : decode cX1_parse 27 = .ok (.new 66, 3) := dk_187 0 66 (dk_at dksX1_parse_1 3 rfl rfl)
theorem dX1_parse_30 : decode cX1_parse 30 = .ok (.dup, 1) := dk_89 (dk_at dksX1_parse_1 6 rfl rfl)
theorem dX1_parse_31 : decode cX1_parse 31 = .ok (.invokespecial 68, 3) := dk_183 0 68 (dk_at dksX1_parse_1 7 rfl rfl)
theorem dX1_parse_34 : decode cX1_parse 34 = .ok (.athrow, 1) := dk_191 (dk_at dksX1_parse_1 10 rfl rfl)
theorem dX1_parse_35 : decode cX1_parse 35 = .ok (.astore_n 2, 1) := dk_77 (dk_at dksX1_parse_1 11 rfl rfl)
theorem dX1_parse_36 : decode cX1_parse 36 = .ok (.aload_n 0, 1) := dk_42 (dk_at dksX1_parse_1 12 rfl rfl)
theorem dX1_parse_37 : decode cX1_parse 37 = .ok (.getfield 39, 3) := dk_180 0 39 (dk_at dksX1_parse_1 13 rfl rfl)
theorem dX1_parse_40 : decode cX1_parse 40 = .ok (.iconst 0, 1) := dk_3 (dk_at dksX1_parse_1 16 rfl rfl)
theorem dX1_parse_41 : decode cX1_parse 41 = .ok (.invokevirtual 280, 3) := dk_182 1 24 (dk_at dksX1_parse_1 17 rfl rfl)
theorem dX1_parse_44 : decode cX1_parse 44 = .ok (.aload_n 2, 1) := dk_44 (dk_at dksX1_parse_1 20 rfl rfl)
theorem dX1_parse_45 : decode cX1_parse 45 = .ok (.athrow, 1) := dk_191 (dk_at dksX1_parse_1 21 rfl rfl)
theorem dX1_parse_46 : decode cX1_parse 46 = .ok (.return_, 1) := dk_177 (dk_at dksX1_parse_1 22 rfl rfl)
abbrev cX1_errorPosition : ByteArray := prog_1_method_64_code
def yX1_errorPosition : MethodName := ⟨RX1, "errorPosition", "()I"⟩
def dkwX1_errorPosition_0 : List UInt8 := [42, 180, 0, 55, 184, 0, 227, 172]
abbrev dktX1_errorPosition_0 : List UInt8 := dkwX1_errorPosition_0 ++ []
theorem dksX1_errorPosition_0 : cX1_errorPosition.data.toList.drop 0 = dktX1_errorPosition_0 := by decide +kernel
theorem dX1_errorPosition_0 : decode cX1_errorPosition 0 = .ok (.aload_n 0, 1) := dk_42 (dk_at dksX1_errorPosition_0 0 rfl rfl)
theorem dX1_errorPosition_1 : decode cX1_errorPosition 1 = .ok (.getfield 55, 3) := dk_180 0 55 (dk_at dksX1_errorPosition_0 1 rfl rfl)
theorem dX1_errorPosition_4 : decode cX1_errorPosition 4 = .ok (.invokestatic 227, 3) := dk_184 0 227 (dk_at dksX1_errorPosition_0 4 rfl rfl)
theorem dX1_errorPosition_7 : decode cX1_errorPosition 7 = .ok (.ireturn, 1) := dk_172 (dk_at dksX1_errorPosition_0 7 rfl rfl)
abbrev cX1_failedCommand : ByteArray := prog_1_method_65_code
def yX1_failedCommand : MethodName := ⟨RX1, "failedCommand", "()I"⟩
def dkwX1_failedCommand_0 : List UInt8 := [42, 180, 0, 59, 184, 0, 227, 172]
abbrev dktX1_failedCommand_0 : List UInt8 := dkwX1_failedCommand_0 ++ []
theorem dksX1_failedCommand_0 : cX1_failedCommand.data.toList.drop 0 = dktX1_failedCommand_0 := by decide +kernel
theorem dX1_failedCommand_0 : decode cX1_failedCommand 0 = .ok (.aload_n 0, 1) := dk_42 (dk_at dksX1_failedCommand_0 0 rfl rfl)
theorem dX1_failedCommand_1 : decode cX1_failedCommand 1 = .ok (.getfield 59, 3) := dk_180 0 59 (dk_at dksX1_failedCommand_0 1 rfl rfl)
theorem dX1_failedCommand_4 : decode cX1_failedCommand 4 = .ok (.invokestatic 227, 3) := dk_184 0 227 (dk_at dksX1_failedCommand_0 4 rfl rfl)
theorem dX1_failedCommand_7 : decode cX1_failedCommand 7 = .ok (.ireturn, 1) := dk_172 (dk_at dksX1_failedCommand_0 7 rfl rfl)
abbrev cX1_undo : ByteArray := prog_1_method_66_code
def yX1_undo : MethodName := ⟨RX1, "undo", "()I"⟩
def dkwX1_undo_2 : List UInt8 := [180, 0, 29, 182, 1, 100, 172]
abbrev dktX1_undo_2 : List UInt8 := dkwX1_undo_2 ++ []
def dkwX1_undo_1 : List UInt8 := [182, 1, 97, 192, 0, 13, 76, 42, 180, 0, 16, 43, 182, 0, 88, 42, 180, 0, 33, 43, 182, 0, 62, 42]
abbrev dktX1_undo_1 : List UInt8 := dkwX1_undo_1 ++ dktX1_undo_2
def dkwX1_undo_0 : List UInt8 := [42, 180, 0, 29, 182, 0, 92, 154, 0, 7, 4, 167, 0, 4, 3, 184, 1, 54, 42, 180, 0, 29]
abbrev dktX1_undo_0 : List UInt8 := dkwX1_undo_0 ++ dktX1_undo_1
theorem dksX1_undo_0 : cX1_undo.data.toList.drop 0 = dktX1_undo_0 := by decide +kernel
theorem dksX1_undo_1 : cX1_undo.data.toList.drop 22 = dktX1_undo_1 := dk_seg dksX1_undo_0 22 rfl rfl
theorem dksX1_undo_2 : cX1_undo.data.toList.drop 46 = dktX1_undo_2 := dk_seg dksX1_undo_1 24 rfl rfl
theorem dX1_undo_0 : decode cX1_undo 0 = .ok (.aload_n 0, 1) := dk_42 (dk_at dksX1_undo_0 0 rfl rfl)
theorem dX1_undo_1 : decode cX1_undo 1 = .ok (.getfield 29, 3) := dk_180 0 29 (dk_at dksX1_undo_0 1 rfl rfl)
theorem dX1_undo_4 : decode cX1_undo 4 = .ok (.invokevirtual 92, 3) := dk_182 0 92 (dk_at dksX1_undo_0 4 rfl rfl)
theorem dX1_undo_7 : decode cX1_undo 7 = .ok (.ifCond .ne 7, 3) := dk_154 0 7 (dk_at dksX1_undo_0 7 rfl rfl)
theorem dX1_undo_10 : decode cX1_undo 10 = .ok (.iconst 1, 1) := dk_4 (dk_at dksX1_undo_0 10 rfl rfl)
theorem dX1_undo_11 : decode cX1_undo 11 = .ok (.goto 4, 3) := dk_167 0 4 (dk_at dksX1_undo_0 11 rfl rfl)
theorem dX1_undo_14 : decode cX1_undo 14 = .ok (.iconst 0, 1) := dk_3 (dk_at dksX1_undo_0 14 rfl rfl)
theorem dX1_undo_15 : decode cX1_undo 15 = .ok (.invokestatic 310, 3) := dk_184 1 54 (dk_at dksX1_undo_0 15 rfl rfl)
theorem dX1_undo_18 : decode cX1_undo 18 = .ok (.aload_n 0, 1) := dk_42 (dk_at dksX1_undo_0 18 rfl rfl)
theorem dX1_undo_19 : decode cX1_undo 19 = .ok (.getfield 29, 3) := dk_180 0 29 (dk_at dksX1_undo_0 19 rfl rfl)
theorem dX1_undo_22 : decode cX1_undo 22 = .ok (.invokevirtual 353, 3) := dk_182 1 97 (dk_at dksX1_undo_1 0 rfl rfl)
theorem dX1_undo_25 : decode cX1_undo 25 = .ok (.checkcast 13, 3) := dk_192 0 13 (dk_at dksX1_undo_1 3 rfl rfl)
theorem dX1_undo_28 : decode cX1_undo 28 = .ok (.astore_n 1, 1) := dk_76 (dk_at dksX1_undo_1 6 rfl rfl)
theorem dX1_undo_29 : decode cX1_undo 29 = .ok (.aload_n 0, 1) := dk_42 (dk_at dksX1_undo_1 7 rfl rfl)
theorem dX1_undo_30 : decode cX1_undo 30 = .ok (.getfield 16, 3) := dk_180 0 16 (dk_at dksX1_undo_1 8 rfl rfl)
theorem dX1_undo_33 : decode cX1_undo 33 = .ok (.aload_n 1, 1) := dk_43 (dk_at dksX1_undo_1 11 rfl rfl)
theorem dX1_undo_34 : decode cX1_undo 34 = .ok (.invokevirtual 88, 3) := dk_182 0 88 (dk_at dksX1_undo_1 12 rfl rfl)
theorem dX1_undo_37 : decode cX1_undo 37 = .ok (.aload_n 0, 1) := dk_42 (dk_at dksX1_undo_1 15 rfl rfl)
theorem dX1_undo_38 : decode cX1_undo 38 = .ok (.getfield 33, 3) := dk_180 0 33 (dk_at dksX1_undo_1 16 rfl rfl)
theorem dX1_undo_41 : decode cX1_undo 41 = .ok (.aload_n 1, 1) := dk_43 (dk_at dksX1_undo_1 19 rfl rfl)
theorem dX1_undo_42 : decode cX1_undo 42 = .ok (.invokevirtual 62, 3) := dk_182 0 62 (dk_at dksX1_undo_1 20 rfl rfl)
theorem dX1_undo_45 : decode cX1_undo 45 = .ok (.aload_n 0, 1) := dk_42 (dk_at dksX1_undo_1 23 rfl rfl)
theorem dX1_undo_46 : decode cX1_undo 46 = .ok (.getfield 29, 3) := dk_180 0 29 (dk_at dksX1_undo_2 0 rfl rfl)
theorem dX1_undo_49 : decode cX1_undo 49 = .ok (.invokevirtual 356, 3) := dk_182 1 100 (dk_at dksX1_undo_2 3 rfl rfl)
theorem dX1_undo_52 : decode cX1_undo 52 = .ok (.ireturn, 1) := dk_172 (dk_at dksX1_undo_2 6 rfl rfl)
abbrev cX1_restore : ByteArray := prog_1_method_68_code
def yX1_restore : MethodName := ⟨RX1, "restore", "()I"⟩
def dkwX1_restore_2 : List UInt8 := [167, 255, 229, 42, 180, 0, 16, 180, 0, 161, 172]
abbrev dktX1_restore_2 : List UInt8 := dkwX1_restore_2 ++ []
def dkwX1_restore_1 : List UInt8 := [182, 0, 92, 154, 0, 23, 42, 180, 0, 33, 42, 180, 0, 29, 182, 1, 97, 192, 0, 13, 182, 0, 62]
abbrev dktX1_restore_1 : List UInt8 := dkwX1_restore_1 ++ dktX1_restore_2
def dkwX1_restore_0 : List UInt8 := [42, 180, 1, 101, 184, 1, 54, 42, 180, 0, 16, 42, 180, 0, 23, 182, 0, 88, 42, 180, 0, 29]
abbrev dktX1_restore_0 : List UInt8 := dkwX1_restore_0 ++ dktX1_restore_1
theorem dksX1_restore_0 : cX1_restore.data.toList.drop 0 = dktX1_restore_0 := by decide +kernel
theorem dksX1_restore_1 : cX1_restore.data.toList.drop 22 = dktX1_restore_1 := dk_seg dksX1_restore_0 22 rfl rfl
theorem dksX1_restore_2 : cX1_restore.data.toList.drop 45 = dktX1_restore_2 := dk_seg dksX1_restore_1 23 rfl rfl
theorem dX1_restore_0 : decode cX1_restore 0 = .ok (.aload_n 0, 1) := dk_42 (dk_at dksX1_restore_0 0 rfl rfl)
theorem dX1_restore_1 : decode cX1_restore 1 = .ok (.getfield 357, 3) := dk_180 1 101 (dk_at dksX1_restore_0 1 rfl rfl)
theorem dX1_restore_4 : decode cX1_restore 4 = .ok (.invokestatic 310, 3) := dk_184 1 54 (dk_at dksX1_restore_0 4 rfl rfl)
theorem dX1_restore_7 : decode cX1_restore 7 = .ok (.aload_n 0, 1) := dk_42 (dk_at dksX1_restore_0 7 rfl rfl)
theorem dX1_restore_8 : decode cX1_restore 8 = .ok (.getfield 16, 3) := dk_180 0 16 (dk_at dksX1_restore_0 8 rfl rfl)
theorem dX1_restore_11 : decode cX1_restore 11 = .ok (.aload_n 0, 1) := dk_42 (dk_at dksX1_restore_0 11 rfl rfl)
theorem dX1_restore_12 : decode cX1_restore 12 = .ok (.getfield 23, 3) := dk_180 0 23 (dk_at dksX1_restore_0 12 rfl rfl)
theorem dX1_restore_15 : decode cX1_restore 15 = .ok (.invokevirtual 88, 3) := dk_182 0 88 (dk_at dksX1_restore_0 15 rfl rfl)
theorem dX1_restore_18 : decode cX1_restore 18 = .ok (.aload_n 0, 1) := dk_42 (dk_at dksX1_restore_0 18 rfl rfl)
theorem dX1_restore_19 : decode cX1_restore 19 = .ok (.getfield 29, 3) := dk_180 0 29 (dk_at dksX1_restore_0 19 rfl rfl)
theorem dX1_restore_22 : decode cX1_restore 22 = .ok (.invokevirtual 92, 3) := dk_182 0 92 (dk_at dksX1_restore_1 0 rfl rfl)
theorem dX1_restore_25 : decode cX1_restore 25 = .ok (.ifCond .ne 23, 3) := dk_154 0 23 (dk_at dksX1_restore_1 3 rfl rfl)
theorem dX1_restore_28 : decode cX1_restore 28 = .ok (.aload_n 0, 1) := dk_42 (dk_at dksX1_restore_1 6 rfl rfl)
theorem dX1_restore_29 : decode cX1_restore 29 = .ok (.getfield 33, 3) := dk_180 0 33 (dk_at dksX1_restore_1 7 rfl rfl)
theorem dX1_restore_32 : decode cX1_restore 32 = .ok (.aload_n 0, 1) := dk_42 (dk_at dksX1_restore_1 10 rfl rfl)
theorem dX1_restore_33 : decode cX1_restore 33 = .ok (.getfield 29, 3) := dk_180 0 29 (dk_at dksX1_restore_1 11 rfl rfl)
theorem dX1_restore_36 : decode cX1_restore 36 = .ok (.invokevirtual 353, 3) := dk_182 1 97 (dk_at dksX1_restore_1 14 rfl rfl)
theorem dX1_restore_39 : decode cX1_restore 39 = .ok (.checkcast 13, 3) := dk_192 0 13 (dk_at dksX1_restore_1 17 rfl rfl)
theorem dX1_restore_42 : decode cX1_restore 42 = .ok (.invokevirtual 62, 3) := dk_182 0 62 (dk_at dksX1_restore_1 20 rfl rfl)
theorem dX1_restore_45 : decode cX1_restore 45 = .ok (.goto (-27), 3) := dk_167 255 229 (dk_at dksX1_restore_2 0 rfl rfl)
theorem dX1_restore_48 : decode cX1_restore 48 = .ok (.aload_n 0, 1) := dk_42 (dk_at dksX1_restore_2 3 rfl rfl)
theorem dX1_restore_49 : decode cX1_restore 49 = .ok (.getfield 16, 3) := dk_180 0 16 (dk_at dksX1_restore_2 4 rfl rfl)
theorem dX1_restore_52 : decode cX1_restore 52 = .ok (.getfield 161, 3) := dk_180 0 161 (dk_at dksX1_restore_2 7 rfl rfl)
theorem dX1_restore_55 : decode cX1_restore 55 = .ok (.ireturn, 1) := dk_172 (dk_at dksX1_restore_2 10 rfl rfl)
theorem q84 : (Jvm.Cond.initialized "InkPrintery") ∈ lw_all := lw_g (lw_at lw_m1 1 rfl) rfl
theorem q141 : (Jvm.Cond.instantiable "InkPrintery" (11 : Nat)) ∈ lw_all := lw_g (lw_at lw_m1 58 rfl) rfl
theorem q143 : (Jvm.Cond.instanceMethod ({ cls := "InkPrintery", name := "<init>", desc := "()V" } : Jvm.MethodName)) ∈ lw_all := lw_g (lw_at lw_m1 60 rfl) rfl
theorem q144 : (Jvm.Cond.code ({ cls := "InkPrintery", name := "<init>", desc := "()V" } : Jvm.MethodName) prog_1_method_4_code (2 : Nat) (Option.none : Option Jvm.ClassFile.FieldType)) ∈ lw_all := lw_g (lw_at lw_m1 61 rfl) rfl
theorem q145 : (Jvm.Cond.methodLink "InkPrintery" (7 : Nat) ({ cls := "java/lang/Object", name := "<init>", desc := "()V" } : Jvm.MethodName)) ∈ lw_all := lw_g (lw_at lw_m1 62 rfl) rfl
theorem q148 : (Jvm.Cond.classLink "InkPrintery" (13 : Nat) "InkPrintery$State") ∈ lw_all := lw_g (lw_at lw_m1 65 rfl) rfl
theorem q150 : (Jvm.Cond.methodLink "InkPrintery" (15 : Nat) ({ cls := "InkPrintery$State", name := "<init>", desc := "()V" } : Jvm.MethodName)) ∈ lw_all := lw_g (lw_at lw_m1 67 rfl) rfl
theorem q179 : (Jvm.Cond.fieldLinkNest "InkPrintery" (125 : Nat) "InkPrintery$State" "wells" "[I" "InkPrintery") ∈ lw_tbl := lw_at lw_m1 96 rfl
theorem q182 : (Jvm.Cond.fieldLinkNest "InkPrintery" (132 : Nat) "InkPrintery$State" "hour" "I" "InkPrintery") ∈ lw_tbl := lw_at lw_m1 99 rfl
theorem q184 : (Jvm.Cond.fieldLinkNest "InkPrintery" (129 : Nat) "InkPrintery$State" "paper" "I" "InkPrintery") ∈ lw_tbl := lw_at lw_m1 101 rfl
theorem q189 : (Jvm.Cond.fieldLinkNest "InkPrintery" (161 : Nat) "InkPrintery$State" "editionCount" "I" "InkPrintery") ∈ lw_tbl := lw_at lw_m1 106 rfl
theorem q192 : (Jvm.Cond.fieldLinkNest "InkPrintery" (191 : Nat) "InkPrintery$State" "pressColour" "I" "InkPrintery") ∈ lw_tbl := lw_at lw_m1 109 rfl
theorem q194 : (Jvm.Cond.fieldLinkNest "InkPrintery" (258 : Nat) "InkPrintery$State" "minutes" "I" "InkPrintery") ∈ lw_tbl := lw_at lw_m1 111 rfl
theorem q196 : (Jvm.Cond.fieldLinkNest "InkPrintery" (261 : Nat) "InkPrintery$State" "poured" "I" "InkPrintery") ∈ lw_tbl := lw_at lw_m1 113 rfl
theorem q198 : (Jvm.Cond.fieldLinkNest "InkPrintery" (264 : Nat) "InkPrintery$State" "used" "I" "InkPrintery") ∈ lw_tbl := lw_at lw_m1 115 rfl
theorem q200 : (Jvm.Cond.fieldLinkNest "InkPrintery" (267 : Nat) "InkPrintery$State" "faded" "J" "InkPrintery") ∈ lw_tbl := lw_at lw_m1 117 rfl
theorem q202 : (Jvm.Cond.fieldLinkNest "InkPrintery" (243 : Nat) "InkPrintery$State" "marks" "[I" "InkPrintery") ∈ lw_tbl := lw_at lw_m1 119 rfl
theorem q204 : (Jvm.Cond.fieldLinkNest "InkPrintery" (246 : Nat) "InkPrintery$State" "hours" "[I" "InkPrintery") ∈ lw_tbl := lw_at lw_m1 121 rfl
theorem q206 : (Jvm.Cond.fieldLinkNest "InkPrintery" (236 : Nat) "InkPrintery$State" "proofCount" "I" "InkPrintery") ∈ lw_tbl := lw_at lw_m1 123 rfl
theorem q209 : (Jvm.Cond.fieldLinkNest "InkPrintery" (182 : Nat) "InkPrintery$State" "cost" "LInkPrintery$Cost;" "InkPrintery") ∈ lw_tbl := lw_at lw_m1 126 rfl
theorem q241 : (Jvm.Cond.classLink "InkPrintery" (26 : Nat) "java/util/ArrayDeque") ∈ lw_all := lw_g (lw_at lw_m1 158 rfl) rfl
theorem q243 : (Jvm.Cond.methodLink "InkPrintery" (28 : Nat) ({ cls := "java/util/ArrayDeque", name := "<init>", desc := "()V" } : Jvm.MethodName)) ∈ lw_all := lw_g (lw_at lw_m1 160 rfl) rfl
theorem q262 : (Jvm.Cond.classLink "InkPrintery" (36 : Nat) "java/lang/StringBuilder") ∈ lw_all := lw_g (lw_at lw_m1 179 rfl) rfl
theorem q264 : (Jvm.Cond.methodLink "InkPrintery" (38 : Nat) ({ cls := "java/lang/StringBuilder", name := "<init>", desc := "()V" } : Jvm.MethodName)) ∈ lw_all := lw_g (lw_at lw_m1 181 rfl) rfl
theorem q383 : (Jvm.Cond.classLink "InkPrintery" (46 : Nat) "InkPrintery$Parser") ∈ lw_all := lw_g (lw_at lw_m2 60 rfl) rfl
theorem q385 : (Jvm.Cond.methodLink "InkPrintery" (48 : Nat) ({ cls := "InkPrintery$Parser", name := "<init>", desc := "(Ljava/lang/StringBuilder;)V" } : Jvm.MethodName)) ∈ lw_all := lw_g (lw_at lw_m2 62 rfl) rfl
theorem q422 : (Jvm.Cond.fieldLinkNest "InkPrintery" (325 : Nat) "InkPrintery$Parser" "commands" "Ljava/util/LinkedList;" "InkPrintery") ∈ lw_tbl := lw_at lw_m2 99 rfl
theorem q430 : (Jvm.Cond.methodLink "InkPrintery" (62 : Nat) ({ cls := "java/util/ArrayDeque", name := "addLast", desc := "(Ljava/lang/Object;)V" } : Jvm.MethodName)) ∈ lw_all := lw_g (lw_at lw_m2 107 rfl) rfl
theorem q496 : (Jvm.Cond.selects "InkPrintery" ({ cls := "java/lang/Object", name := "getClass", desc := "()Ljava/lang/Class;" } : Jvm.MethodName) ({ cls := "java/lang/Object", name := "getClass", desc := "()Ljava/lang/Class;" } : Jvm.MethodName)) ∈ lw_all := lw_g (lw_at lw_m2 173 rfl) rfl
theorem q543 : (Jvm.Cond.fieldLink "InkPrintery" (16 : Nat) "InkPrintery" "state" "LInkPrintery$State;") ∈ lw_all := lw_g (lw_at lw_m2 220 rfl) rfl
theorem q544 : (Jvm.Cond.fieldLink "InkPrintery" (20 : Nat) "InkPrintery" "attempt" "LInkPrintery$State;") ∈ lw_all := lw_g (lw_at lw_m2 221 rfl) rfl
theorem q545 : (Jvm.Cond.fieldLink "InkPrintery" (23 : Nat) "InkPrintery" "snapshot" "LInkPrintery$State;") ∈ lw_all := lw_g (lw_at lw_m2 222 rfl) rfl
theorem q546 : (Jvm.Cond.fieldLink "InkPrintery" (357 : Nat) "InkPrintery" "hasSnapshot" "Z") ∈ lw_all := lw_g (lw_at lw_m2 223 rfl) rfl
theorem q547 : (Jvm.Cond.fieldLink "InkPrintery" (29 : Nat) "InkPrintery" "history" "Ljava/util/ArrayDeque;") ∈ lw_all := lw_g (lw_at lw_m2 224 rfl) rfl
theorem q548 : (Jvm.Cond.fieldLink "InkPrintery" (33 : Nat) "InkPrintery" "spare" "Ljava/util/ArrayDeque;") ∈ lw_all := lw_g (lw_at lw_m2 225 rfl) rfl
theorem q549 : (Jvm.Cond.fieldLink "InkPrintery" (39 : Nat) "InkPrintery" "buffer" "Ljava/lang/StringBuilder;") ∈ lw_all := lw_g (lw_at lw_m2 226 rfl) rfl
theorem q550 : (Jvm.Cond.fieldLink "InkPrintery" (43 : Nat) "InkPrintery" "line" "Ljava/lang/StringBuilder;") ∈ lw_all := lw_g (lw_at lw_m2 227 rfl) rfl
theorem q551 : (Jvm.Cond.fieldLink "InkPrintery" (51 : Nat) "InkPrintery" "parser" "LInkPrintery$Parser;") ∈ lw_all := lw_g (lw_at lw_m2 228 rfl) rfl
theorem q552 : (Jvm.Cond.fieldLink "InkPrintery" (55 : Nat) "InkPrintery" "errorPosition" "I") ∈ lw_all := lw_g (lw_at lw_m2 229 rfl) rfl
theorem q553 : (Jvm.Cond.fieldLink "InkPrintery" (59 : Nat) "InkPrintery" "failedCommand" "I") ∈ lw_all := lw_g (lw_at lw_m2 230 rfl) rfl
theorem q554 : (Jvm.Cond.laysFinal "InkPrintery" "InkPrintery" "state" "LInkPrintery$State;") ∈ lw_all := lw_g (lw_at lw_m2 231 rfl) rfl
theorem q555 : (Jvm.Cond.soleField "InkPrintery" "state") ∈ lw_all := lw_g (lw_at lw_m2 232 rfl) rfl
theorem q556 : (Jvm.Cond.laysFinal "InkPrintery" "InkPrintery" "attempt" "LInkPrintery$State;") ∈ lw_all := lw_g (lw_at lw_m2 233 rfl) rfl
theorem q557 : (Jvm.Cond.soleField "InkPrintery" "attempt") ∈ lw_all := lw_g (lw_at lw_m2 234 rfl) rfl
theorem q558 : (Jvm.Cond.laysFinal "InkPrintery" "InkPrintery" "snapshot" "LInkPrintery$State;") ∈ lw_all := lw_g (lw_at lw_m2 235 rfl) rfl
theorem q559 : (Jvm.Cond.soleField "InkPrintery" "snapshot") ∈ lw_all := lw_g (lw_at lw_m2 236 rfl) rfl
theorem q560 : (Jvm.Cond.lays "InkPrintery" "InkPrintery" "hasSnapshot" "Z") ∈ lw_all := lw_g (lw_at lw_m2 237 rfl) rfl
theorem q561 : (Jvm.Cond.soleField "InkPrintery" "hasSnapshot") ∈ lw_all := lw_g (lw_at lw_m2 238 rfl) rfl
theorem q562 : (Jvm.Cond.laysFinal "InkPrintery" "InkPrintery" "history" "Ljava/util/ArrayDeque;") ∈ lw_all := lw_g (lw_at lw_m2 239 rfl) rfl
theorem q563 : (Jvm.Cond.soleField "InkPrintery" "history") ∈ lw_all := lw_g (lw_at lw_m3 0 rfl) rfl
theorem q564 : (Jvm.Cond.laysFinal "InkPrintery" "InkPrintery" "spare" "Ljava/util/ArrayDeque;") ∈ lw_all := lw_g (lw_at lw_m3 1 rfl) rfl
theorem q565 : (Jvm.Cond.soleField "InkPrintery" "spare") ∈ lw_all := lw_g (lw_at lw_m3 2 rfl) rfl
theorem q566 : (Jvm.Cond.laysFinal "InkPrintery" "InkPrintery" "buffer" "Ljava/lang/StringBuilder;") ∈ lw_all := lw_g (lw_at lw_m3 3 rfl) rfl
theorem q567 : (Jvm.Cond.soleField "InkPrintery" "buffer") ∈ lw_all := lw_g (lw_at lw_m3 4 rfl) rfl
theorem q568 : (Jvm.Cond.laysFinal "InkPrintery" "InkPrintery" "line" "Ljava/lang/StringBuilder;") ∈ lw_all := lw_g (lw_at lw_m3 5 rfl) rfl
theorem q569 : (Jvm.Cond.soleField "InkPrintery" "line") ∈ lw_all := lw_g (lw_at lw_m3 6 rfl) rfl
theorem q570 : (Jvm.Cond.laysFinal "InkPrintery" "InkPrintery" "parser" "LInkPrintery$Parser;") ∈ lw_all := lw_g (lw_at lw_m3 7 rfl) rfl
theorem q571 : (Jvm.Cond.soleField "InkPrintery" "parser") ∈ lw_all := lw_g (lw_at lw_m3 8 rfl) rfl
theorem q572 : (Jvm.Cond.lays "InkPrintery" "InkPrintery" "errorPosition" "I") ∈ lw_all := lw_g (lw_at lw_m3 9 rfl) rfl
theorem q573 : (Jvm.Cond.soleField "InkPrintery" "errorPosition") ∈ lw_all := lw_g (lw_at lw_m3 10 rfl) rfl
theorem q574 : (Jvm.Cond.lays "InkPrintery" "InkPrintery" "failedCommand" "I") ∈ lw_all := lw_g (lw_at lw_m3 11 rfl) rfl
theorem q575 : (Jvm.Cond.soleField "InkPrintery" "failedCommand") ∈ lw_all := lw_g (lw_at lw_m3 12 rfl) rfl
theorem q576 : (Jvm.Cond.superclass "InkPrintery" "java/lang/Object") ∈ lw_all := lw_g (lw_at lw_m3 13 rfl) rfl
theorem q578 : (Jvm.Cond.instanceMethod ({ cls := "InkPrintery", name := "paper", desc := "()I" } : Jvm.MethodName)) ∈ lw_all := lw_g (lw_at lw_m3 15 rfl) rfl
theorem q579 : (Jvm.Cond.selects "InkPrintery" ({ cls := "InkPrintery", name := "paper", desc := "()I" } : Jvm.MethodName) ({ cls := "InkPrintery", name := "paper", desc := "()I" } : Jvm.MethodName)) ∈ lw_all := lw_g (lw_at lw_m3 16 rfl) rfl
theorem q580 : (Jvm.Cond.code ({ cls := "InkPrintery", name := "paper", desc := "()I" } : Jvm.MethodName) prog_1_method_18_code (1 : Nat) (Option.some Jvm.ClassFile.FieldType.int)) ∈ lw_all := lw_g (lw_at lw_m3 17 rfl) rfl
theorem q582 : (Jvm.Cond.instanceMethod ({ cls := "InkPrintery", name := "hour", desc := "()I" } : Jvm.MethodName)) ∈ lw_all := lw_g (lw_at lw_m3 19 rfl) rfl
theorem q583 : (Jvm.Cond.selects "InkPrintery" ({ cls := "InkPrintery", name := "hour", desc := "()I" } : Jvm.MethodName) ({ cls := "InkPrintery", name := "hour", desc := "()I" } : Jvm.MethodName)) ∈ lw_all := lw_g (lw_at lw_m3 20 rfl) rfl
theorem q584 : (Jvm.Cond.code ({ cls := "InkPrintery", name := "hour", desc := "()I" } : Jvm.MethodName) prog_1_method_19_code (1 : Nat) (Option.some Jvm.ClassFile.FieldType.int)) ∈ lw_all := lw_g (lw_at lw_m3 21 rfl) rfl
theorem q586 : (Jvm.Cond.instanceMethod ({ cls := "InkPrintery", name := "printAll", desc := "()I" } : Jvm.MethodName)) ∈ lw_all := lw_g (lw_at lw_m3 23 rfl) rfl
theorem q587 : (Jvm.Cond.selects "InkPrintery" ({ cls := "InkPrintery", name := "printAll", desc := "()I" } : Jvm.MethodName) ({ cls := "InkPrintery", name := "printAll", desc := "()I" } : Jvm.MethodName)) ∈ lw_all := lw_g (lw_at lw_m3 24 rfl) rfl
theorem q588 : (Jvm.Cond.code ({ cls := "InkPrintery", name := "printAll", desc := "()I" } : Jvm.MethodName) prog_1_method_27_code (1 : Nat) (Option.some Jvm.ClassFile.FieldType.int)) ∈ lw_all := lw_g (lw_at lw_m3 25 rfl) rfl
theorem q589 : (Jvm.Cond.methodLink "InkPrintery" (100 : Nat) ({ cls := "InkPrintery", name := "begin", desc := "()LInkPrintery$State;" } : Jvm.MethodName)) ∈ lw_all := lw_g (lw_at lw_m3 26 rfl) rfl
theorem q590 : (Jvm.Cond.privateMethod ({ cls := "InkPrintery", name := "begin", desc := "()LInkPrintery$State;" } : Jvm.MethodName)) ∈ lw_tbl := lw_at lw_m3 27 rfl
theorem q591 : (Jvm.Cond.instanceMethod ({ cls := "InkPrintery", name := "begin", desc := "()LInkPrintery$State;" } : Jvm.MethodName)) ∈ lw_all := lw_g (lw_at lw_m3 28 rfl) rfl
theorem q592 : (Jvm.Cond.code ({ cls := "InkPrintery", name := "begin", desc := "()LInkPrintery$State;" } : Jvm.MethodName) prog_1_method_12_code (1 : Nat) (Option.some (Jvm.ClassFile.FieldType.object "InkPrintery$State"))) ∈ lw_all := lw_g (lw_at lw_m3 29 rfl) rfl
theorem q593 : (Jvm.Cond.methodLink "InkPrintery" (88 : Nat) ({ cls := "InkPrintery$State", name := "copyFrom", desc := "(LInkPrintery$State;)V" } : Jvm.MethodName)) ∈ lw_all := lw_g (lw_at lw_m3 30 rfl) rfl
theorem q609 : (Jvm.Cond.fieldLinkNest "InkPrintery" (168 : Nat) "InkPrintery$Edition" "colour" "I" "InkPrintery") ∈ lw_tbl := lw_at lw_m3 46 rfl
theorem q611 : (Jvm.Cond.fieldLinkNest "InkPrintery" (173 : Nat) "InkPrintery$Edition" "copies" "I" "InkPrintery") ∈ lw_tbl := lw_at lw_m3 48 rfl
theorem q615 : (Jvm.Cond.fieldLinkNest "InkPrintery" (176 : Nat) "InkPrintery$Edition" "printed" "I" "InkPrintery") ∈ lw_tbl := lw_at lw_m3 52 rfl
theorem q623 : (Jvm.Cond.methodLink "InkPrintery" (157 : Nat) ({ cls := "InkPrintery$State", name := "printAll", desc := "()I" } : Jvm.MethodName)) ∈ lw_all := lw_g (lw_at lw_m3 60 rfl) rfl
theorem q644 : (Jvm.Cond.static ({ cls := "InkPrintery", name := "isIn", desc := "(II)Z" } : Jvm.MethodName)) ∈ lw_all := lw_g (lw_at lw_m3 81 rfl) rfl
theorem q645 : (Jvm.Cond.code ({ cls := "InkPrintery", name := "isIn", desc := "(II)Z" } : Jvm.MethodName) prog_1_method_3_code (2 : Nat) (Option.some Jvm.ClassFile.FieldType.boolean)) ∈ lw_all := lw_g (lw_at lw_m3 82 rfl) rfl
theorem q706 : (Jvm.Cond.methodLink "InkPrintery" (108 : Nat) ({ cls := "InkPrintery", name := "commit", desc := "(I)I" } : Jvm.MethodName)) ∈ lw_all := lw_g (lw_at lw_m3 143 rfl) rfl
theorem q707 : (Jvm.Cond.privateMethod ({ cls := "InkPrintery", name := "commit", desc := "(I)I" } : Jvm.MethodName)) ∈ lw_tbl := lw_at lw_m3 144 rfl
theorem q708 : (Jvm.Cond.instanceMethod ({ cls := "InkPrintery", name := "commit", desc := "(I)I" } : Jvm.MethodName)) ∈ lw_all := lw_g (lw_at lw_m3 145 rfl) rfl
theorem q709 : (Jvm.Cond.code ({ cls := "InkPrintery", name := "commit", desc := "(I)I" } : Jvm.MethodName) prog_1_method_13_code (3 : Nat) (Option.some Jvm.ClassFile.FieldType.int)) ∈ lw_all := lw_g (lw_at lw_m3 146 rfl) rfl
theorem q710 : (Jvm.Cond.methodLink "InkPrintery" (92 : Nat) ({ cls := "java/util/ArrayDeque", name := "isEmpty", desc := "()Z" } : Jvm.MethodName)) ∈ lw_all := lw_g (lw_at lw_m3 147 rfl) rfl
theorem q714 : (Jvm.Cond.methodLink "InkPrintery" (96 : Nat) ({ cls := "java/util/ArrayDeque", name := "pollFirst", desc := "()Ljava/lang/Object;" } : Jvm.MethodName)) ∈ lw_all := lw_g (lw_at lw_m3 151 rfl) rfl
theorem q722 : (Jvm.Cond.instanceMethod ({ cls := "InkPrintery", name := "editionCount", desc := "()I" } : Jvm.MethodName)) ∈ lw_all := lw_g (lw_at lw_m3 159 rfl) rfl
theorem q723 : (Jvm.Cond.selects "InkPrintery" ({ cls := "InkPrintery", name := "editionCount", desc := "()I" } : Jvm.MethodName) ({ cls := "InkPrintery", name := "editionCount", desc := "()I" } : Jvm.MethodName)) ∈ lw_all := lw_g (lw_at lw_m3 160 rfl) rfl
theorem q724 : (Jvm.Cond.code ({ cls := "InkPrintery", name := "editionCount", desc := "()I" } : Jvm.MethodName) prog_1_method_28_code (1 : Nat) (Option.some Jvm.ClassFile.FieldType.int)) ∈ lw_all := lw_g (lw_at lw_m3 161 rfl) rfl
theorem q726 : (Jvm.Cond.instanceMethod ({ cls := "InkPrintery", name := "pressColour", desc := "()I" } : Jvm.MethodName)) ∈ lw_all := lw_g (lw_at lw_m3 163 rfl) rfl
theorem q727 : (Jvm.Cond.selects "InkPrintery" ({ cls := "InkPrintery", name := "pressColour", desc := "()I" } : Jvm.MethodName) ({ cls := "InkPrintery", name := "pressColour", desc := "()I" } : Jvm.MethodName)) ∈ lw_all := lw_g (lw_at lw_m3 164 rfl) rfl
theorem q728 : (Jvm.Cond.code ({ cls := "InkPrintery", name := "pressColour", desc := "()I" } : Jvm.MethodName) prog_1_method_34_code (1 : Nat) (Option.some Jvm.ClassFile.FieldType.int)) ∈ lw_all := lw_g (lw_at lw_m3 165 rfl) rfl
theorem q730 : (Jvm.Cond.instanceMethod ({ cls := "InkPrintery", name := "fewestMinutes", desc := "()I" } : Jvm.MethodName)) ∈ lw_all := lw_g (lw_at lw_m3 167 rfl) rfl
theorem q731 : (Jvm.Cond.selects "InkPrintery" ({ cls := "InkPrintery", name := "fewestMinutes", desc := "()I" } : Jvm.MethodName) ({ cls := "InkPrintery", name := "fewestMinutes", desc := "()I" } : Jvm.MethodName)) ∈ lw_all := lw_g (lw_at lw_m3 168 rfl) rfl
theorem q732 : (Jvm.Cond.code ({ cls := "InkPrintery", name := "fewestMinutes", desc := "()I" } : Jvm.MethodName) prog_1_method_36_code (1 : Nat) (Option.some Jvm.ClassFile.FieldType.int)) ∈ lw_all := lw_g (lw_at lw_m3 169 rfl) rfl
theorem q733 : (Jvm.Cond.methodLink "InkPrintery" (204 : Nat) ({ cls := "InkPrintery", name := "search", desc := "()LInkPrintery$State$OrderSearch;" } : Jvm.MethodName)) ∈ lw_all := lw_g (lw_at lw_m3 170 rfl) rfl
theorem q734 : (Jvm.Cond.privateMethod ({ cls := "InkPrintery", name := "search", desc := "()LInkPrintery$State$OrderSearch;" } : Jvm.MethodName)) ∈ lw_tbl := lw_at lw_m3 171 rfl
theorem q735 : (Jvm.Cond.instanceMethod ({ cls := "InkPrintery", name := "search", desc := "()LInkPrintery$State$OrderSearch;" } : Jvm.MethodName)) ∈ lw_all := lw_g (lw_at lw_m3 172 rfl) rfl
theorem q736 : (Jvm.Cond.code ({ cls := "InkPrintery", name := "search", desc := "()LInkPrintery$State$OrderSearch;" } : Jvm.MethodName) prog_1_method_35_code (1 : Nat) (Option.some (Jvm.ClassFile.FieldType.object "InkPrintery$State$OrderSearch"))) ∈ lw_all := lw_g (lw_at lw_m3 173 rfl) rfl
theorem q737 : (Jvm.Cond.classLink "InkPrintery" (194 : Nat) "InkPrintery$State$OrderSearch") ∈ lw_all := lw_g (lw_at lw_m3 174 rfl) rfl
theorem q738 : (Jvm.Cond.methodLink "InkPrintery" (196 : Nat) ({ cls := "java/util/Objects", name := "requireNonNull", desc := "(Ljava/lang/Object;)Ljava/lang/Object;" } : Jvm.MethodName)) ∈ lw_all := lw_g (lw_at lw_m3 175 rfl) rfl
theorem q743 : (Jvm.Cond.methodLink "InkPrintery" (202 : Nat) ({ cls := "InkPrintery$State$OrderSearch", name := "<init>", desc := "(LInkPrintery$State;)V" } : Jvm.MethodName)) ∈ lw_all := lw_g (lw_at lw_m3 180 rfl) rfl
theorem q744 : (Jvm.Cond.methodLink "InkPrintery" (208 : Nat) ({ cls := "InkPrintery$State$OrderSearch", name := "fewestMinutes", desc := "()I" } : Jvm.MethodName)) ∈ lw_all := lw_g (lw_at lw_m3 181 rfl) rfl
theorem q749 : (Jvm.Cond.instanceMethod ({ cls := "InkPrintery", name := "minutesByOrders", desc := "()I" } : Jvm.MethodName)) ∈ lw_all := lw_g (lw_at lw_m3 186 rfl) rfl
theorem q750 : (Jvm.Cond.selects "InkPrintery" ({ cls := "InkPrintery", name := "minutesByOrders", desc := "()I" } : Jvm.MethodName) ({ cls := "InkPrintery", name := "minutesByOrders", desc := "()I" } : Jvm.MethodName)) ∈ lw_all := lw_g (lw_at lw_m3 187 rfl) rfl
theorem q751 : (Jvm.Cond.code ({ cls := "InkPrintery", name := "minutesByOrders", desc := "()I" } : Jvm.MethodName) prog_1_method_37_code (1 : Nat) (Option.some Jvm.ClassFile.FieldType.int)) ∈ lw_all := lw_g (lw_at lw_m3 188 rfl) rfl
theorem q752 : (Jvm.Cond.methodLink "InkPrintery" (211 : Nat) ({ cls := "InkPrintery$State$OrderSearch", name := "minutesByOrders", desc := "()I" } : Jvm.MethodName)) ∈ lw_all := lw_g (lw_at lw_m3 189 rfl) rfl
theorem q771 : (Jvm.Cond.instanceMethod ({ cls := "InkPrintery", name := "proofCount", desc := "()I" } : Jvm.MethodName)) ∈ lw_all := lw_g (lw_at lw_m3 208 rfl) rfl
theorem q772 : (Jvm.Cond.selects "InkPrintery" ({ cls := "InkPrintery", name := "proofCount", desc := "()I" } : Jvm.MethodName) ({ cls := "InkPrintery", name := "proofCount", desc := "()I" } : Jvm.MethodName)) ∈ lw_all := lw_g (lw_at lw_m3 209 rfl) rfl
theorem q773 : (Jvm.Cond.code ({ cls := "InkPrintery", name := "proofCount", desc := "()I" } : Jvm.MethodName) prog_1_method_44_code (1 : Nat) (Option.some Jvm.ClassFile.FieldType.int)) ∈ lw_all := lw_g (lw_at lw_m3 210 rfl) rfl
theorem q775 : (Jvm.Cond.instanceMethod ({ cls := "InkPrintery", name := "longestRise", desc := "()I" } : Jvm.MethodName)) ∈ lw_all := lw_g (lw_at lw_m3 212 rfl) rfl
theorem q776 : (Jvm.Cond.selects "InkPrintery" ({ cls := "InkPrintery", name := "longestRise", desc := "()I" } : Jvm.MethodName) ({ cls := "InkPrintery", name := "longestRise", desc := "()I" } : Jvm.MethodName)) ∈ lw_all := lw_g (lw_at lw_m3 213 rfl) rfl
theorem q777 : (Jvm.Cond.code ({ cls := "InkPrintery", name := "longestRise", desc := "()I" } : Jvm.MethodName) prog_1_method_47_code (1 : Nat) (Option.some Jvm.ClassFile.FieldType.int)) ∈ lw_all := lw_g (lw_at lw_m3 214 rfl) rfl
theorem q778 : (Jvm.Cond.methodLink "InkPrintery" (249 : Nat) ({ cls := "InkPrintery$State", name := "longestRise", desc := "()I" } : Jvm.MethodName)) ∈ lw_all := lw_g (lw_at lw_m3 215 rfl) rfl
theorem q790 : (Jvm.Cond.instanceMethod ({ cls := "InkPrintery", name := "riseByEnds", desc := "()I" } : Jvm.MethodName)) ∈ lw_all := lw_g (lw_at lw_m3 227 rfl) rfl
theorem q791 : (Jvm.Cond.selects "InkPrintery" ({ cls := "InkPrintery", name := "riseByEnds", desc := "()I" } : Jvm.MethodName) ({ cls := "InkPrintery", name := "riseByEnds", desc := "()I" } : Jvm.MethodName)) ∈ lw_all := lw_g (lw_at lw_m3 228 rfl) rfl
theorem q792 : (Jvm.Cond.code ({ cls := "InkPrintery", name := "riseByEnds", desc := "()I" } : Jvm.MethodName) prog_1_method_48_code (1 : Nat) (Option.some Jvm.ClassFile.FieldType.int)) ∈ lw_all := lw_g (lw_at lw_m3 229 rfl) rfl
theorem q793 : (Jvm.Cond.methodLink "InkPrintery" (252 : Nat) ({ cls := "InkPrintery$State", name := "riseByEnds", desc := "()I" } : Jvm.MethodName)) ∈ lw_all := lw_g (lw_at lw_m3 230 rfl) rfl
theorem q798 : (Jvm.Cond.instanceMethod ({ cls := "InkPrintery", name := "riseCount", desc := "()I" } : Jvm.MethodName)) ∈ lw_all := lw_g (lw_at lw_m3 235 rfl) rfl
theorem q799 : (Jvm.Cond.selects "InkPrintery" ({ cls := "InkPrintery", name := "riseCount", desc := "()I" } : Jvm.MethodName) ({ cls := "InkPrintery", name := "riseCount", desc := "()I" } : Jvm.MethodName)) ∈ lw_all := lw_g (lw_at lw_m3 236 rfl) rfl
theorem q800 : (Jvm.Cond.code ({ cls := "InkPrintery", name := "riseCount", desc := "()I" } : Jvm.MethodName) prog_1_method_49_code (1 : Nat) (Option.some Jvm.ClassFile.FieldType.int)) ∈ lw_all := lw_g (lw_at lw_m3 237 rfl) rfl
theorem q801 : (Jvm.Cond.methodLink "InkPrintery" (255 : Nat) ({ cls := "InkPrintery$State", name := "riseCount", desc := "()I" } : Jvm.MethodName)) ∈ lw_all := lw_g (lw_at lw_m3 238 rfl) rfl
theorem q807 : (Jvm.Cond.instanceMethod ({ cls := "InkPrintery", name := "minutes", desc := "()I" } : Jvm.MethodName)) ∈ lw_all := lw_g (lw_at lw_m4 4 rfl) rfl
theorem q808 : (Jvm.Cond.selects "InkPrintery" ({ cls := "InkPrintery", name := "minutes", desc := "()I" } : Jvm.MethodName) ({ cls := "InkPrintery", name := "minutes", desc := "()I" } : Jvm.MethodName)) ∈ lw_all := lw_g (lw_at lw_m4 5 rfl) rfl
theorem q809 : (Jvm.Cond.code ({ cls := "InkPrintery", name := "minutes", desc := "()I" } : Jvm.MethodName) prog_1_method_50_code (1 : Nat) (Option.some Jvm.ClassFile.FieldType.int)) ∈ lw_all := lw_g (lw_at lw_m4 6 rfl) rfl
theorem q811 : (Jvm.Cond.instanceMethod ({ cls := "InkPrintery", name := "poured", desc := "()I" } : Jvm.MethodName)) ∈ lw_all := lw_g (lw_at lw_m4 8 rfl) rfl
theorem q812 : (Jvm.Cond.selects "InkPrintery" ({ cls := "InkPrintery", name := "poured", desc := "()I" } : Jvm.MethodName) ({ cls := "InkPrintery", name := "poured", desc := "()I" } : Jvm.MethodName)) ∈ lw_all := lw_g (lw_at lw_m4 9 rfl) rfl
theorem q813 : (Jvm.Cond.code ({ cls := "InkPrintery", name := "poured", desc := "()I" } : Jvm.MethodName) prog_1_method_51_code (1 : Nat) (Option.some Jvm.ClassFile.FieldType.int)) ∈ lw_all := lw_g (lw_at lw_m4 10 rfl) rfl
theorem q815 : (Jvm.Cond.instanceMethod ({ cls := "InkPrintery", name := "used", desc := "()I" } : Jvm.MethodName)) ∈ lw_all := lw_g (lw_at lw_m4 12 rfl) rfl
theorem q816 : (Jvm.Cond.selects "InkPrintery" ({ cls := "InkPrintery", name := "used", desc := "()I" } : Jvm.MethodName) ({ cls := "InkPrintery", name := "used", desc := "()I" } : Jvm.MethodName)) ∈ lw_all := lw_g (lw_at lw_m4 13 rfl) rfl
theorem q817 : (Jvm.Cond.code ({ cls := "InkPrintery", name := "used", desc := "()I" } : Jvm.MethodName) prog_1_method_52_code (1 : Nat) (Option.some Jvm.ClassFile.FieldType.int)) ∈ lw_all := lw_g (lw_at lw_m4 14 rfl) rfl
theorem q819 : (Jvm.Cond.instanceMethod ({ cls := "InkPrintery", name := "faded", desc := "()J" } : Jvm.MethodName)) ∈ lw_all := lw_g (lw_at lw_m4 16 rfl) rfl
theorem q820 : (Jvm.Cond.selects "InkPrintery" ({ cls := "InkPrintery", name := "faded", desc := "()J" } : Jvm.MethodName) ({ cls := "InkPrintery", name := "faded", desc := "()J" } : Jvm.MethodName)) ∈ lw_all := lw_g (lw_at lw_m4 17 rfl) rfl
theorem q821 : (Jvm.Cond.code ({ cls := "InkPrintery", name := "faded", desc := "()J" } : Jvm.MethodName) prog_1_method_53_code (1 : Nat) (Option.some Jvm.ClassFile.FieldType.long)) ∈ lw_all := lw_g (lw_at lw_m4 18 rfl) rfl
theorem q823 : (Jvm.Cond.instanceMethod ({ cls := "InkPrintery", name := "inkInWells", desc := "()I" } : Jvm.MethodName)) ∈ lw_all := lw_g (lw_at lw_m4 20 rfl) rfl
theorem q824 : (Jvm.Cond.selects "InkPrintery" ({ cls := "InkPrintery", name := "inkInWells", desc := "()I" } : Jvm.MethodName) ({ cls := "InkPrintery", name := "inkInWells", desc := "()I" } : Jvm.MethodName)) ∈ lw_all := lw_g (lw_at lw_m4 21 rfl) rfl
theorem q825 : (Jvm.Cond.code ({ cls := "InkPrintery", name := "inkInWells", desc := "()I" } : Jvm.MethodName) prog_1_method_54_code (1 : Nat) (Option.some Jvm.ClassFile.FieldType.int)) ∈ lw_all := lw_g (lw_at lw_m4 22 rfl) rfl
theorem q826 : (Jvm.Cond.methodLink "InkPrintery" (271 : Nat) ({ cls := "InkPrintery$State", name := "inkInWells", desc := "()I" } : Jvm.MethodName)) ∈ lw_all := lw_g (lw_at lw_m4 23 rfl) rfl
theorem q831 : (Jvm.Cond.instanceMethod ({ cls := "InkPrintery", name := "writeWells", desc := "()I" } : Jvm.MethodName)) ∈ lw_all := lw_g (lw_at lw_m4 28 rfl) rfl
theorem q832 : (Jvm.Cond.selects "InkPrintery" ({ cls := "InkPrintery", name := "writeWells", desc := "()I" } : Jvm.MethodName) ({ cls := "InkPrintery", name := "writeWells", desc := "()I" } : Jvm.MethodName)) ∈ lw_all := lw_g (lw_at lw_m4 29 rfl) rfl
theorem q833 : (Jvm.Cond.code ({ cls := "InkPrintery", name := "writeWells", desc := "()I" } : Jvm.MethodName) prog_1_method_58_code (1 : Nat) (Option.some Jvm.ClassFile.FieldType.int)) ∈ lw_all := lw_g (lw_at lw_m4 30 rfl) rfl
theorem q834 : (Jvm.Cond.methodLink "InkPrintery" (280 : Nat) ({ cls := "java/lang/StringBuilder", name := "setLength", desc := "(I)V" } : Jvm.MethodName)) ∈ lw_all := lw_g (lw_at lw_m4 31 rfl) rfl
theorem q1220 : (Jvm.Cond.methodLink "InkPrintery" (297 : Nat) ({ cls := "InkPrintery$State", name := "writeWells", desc := "(Ljava/lang/StringBuilder;)V" } : Jvm.MethodName)) ∈ lw_all := lw_g (lw_at lw_m5 177 rfl) rfl
theorem q1228 : (Jvm.Cond.methodLink "InkPrintery" (294 : Nat) ({ cls := "java/lang/StringBuilder", name := "length", desc := "()I" } : Jvm.MethodName)) ∈ lw_all := lw_g (lw_at lw_m5 185 rfl) rfl
theorem q1230 : (Jvm.Cond.instanceMethod ({ cls := "InkPrintery", name := "isConsistent", desc := "()Z" } : Jvm.MethodName)) ∈ lw_all := lw_g (lw_at lw_m5 187 rfl) rfl
theorem q1231 : (Jvm.Cond.selects "InkPrintery" ({ cls := "InkPrintery", name := "isConsistent", desc := "()Z" } : Jvm.MethodName) ({ cls := "InkPrintery", name := "isConsistent", desc := "()Z" } : Jvm.MethodName)) ∈ lw_all := lw_g (lw_at lw_m5 188 rfl) rfl
theorem q1232 : (Jvm.Cond.code ({ cls := "InkPrintery", name := "isConsistent", desc := "()Z" } : Jvm.MethodName) prog_1_method_60_code (1 : Nat) (Option.some Jvm.ClassFile.FieldType.boolean)) ∈ lw_all := lw_g (lw_at lw_m5 189 rfl) rfl
theorem q1233 : (Jvm.Cond.methodLink "InkPrintery" (307 : Nat) ({ cls := "InkPrintery$State", name := "isConsistent", desc := "()Z" } : Jvm.MethodName)) ∈ lw_all := lw_g (lw_at lw_m5 190 rfl) rfl
theorem q1278 : (Jvm.Cond.instanceMethod ({ cls := "InkPrintery", name := "save", desc := "()I" } : Jvm.MethodName)) ∈ lw_all := lw_g (lw_at lw_m5 235 rfl) rfl
theorem q1279 : (Jvm.Cond.selects "InkPrintery" ({ cls := "InkPrintery", name := "save", desc := "()I" } : Jvm.MethodName) ({ cls := "InkPrintery", name := "save", desc := "()I" } : Jvm.MethodName)) ∈ lw_all := lw_g (lw_at lw_m5 236 rfl) rfl
theorem q1280 : (Jvm.Cond.code ({ cls := "InkPrintery", name := "save", desc := "()I" } : Jvm.MethodName) prog_1_method_67_code (1 : Nat) (Option.some Jvm.ClassFile.FieldType.int)) ∈ lw_all := lw_g (lw_at lw_m5 237 rfl) rfl
theorem q1287 : (Jvm.Cond.instanceMethod ({ cls := "InkPrintery", name := "addInk", desc := "(II)I" } : Jvm.MethodName)) ∈ lw_all := lw_g (lw_at lw_m6 4 rfl) rfl
theorem q1288 : (Jvm.Cond.selects "InkPrintery" ({ cls := "InkPrintery", name := "addInk", desc := "(II)I" } : Jvm.MethodName) ({ cls := "InkPrintery", name := "addInk", desc := "(II)I" } : Jvm.MethodName)) ∈ lw_all := lw_g (lw_at lw_m6 5 rfl) rfl
theorem q1289 : (Jvm.Cond.code ({ cls := "InkPrintery", name := "addInk", desc := "(II)I" } : Jvm.MethodName) prog_1_method_14_code (3 : Nat) (Option.some Jvm.ClassFile.FieldType.int)) ∈ lw_all := lw_g (lw_at lw_m6 6 rfl) rfl
theorem q1290 : (Jvm.Cond.methodLink "InkPrintery" (104 : Nat) ({ cls := "InkPrintery$State", name := "addInk", desc := "(II)I" } : Jvm.MethodName)) ∈ lw_all := lw_g (lw_at lw_m6 7 rfl) rfl
theorem q1295 : (Jvm.Cond.static ({ cls := "InkPrintery", name := "isColour", desc := "(I)Z" } : Jvm.MethodName)) ∈ lw_all := lw_g (lw_at lw_m6 12 rfl) rfl
theorem q1296 : (Jvm.Cond.code ({ cls := "InkPrintery", name := "isColour", desc := "(I)Z" } : Jvm.MethodName) prog_1_method_2_code (1 : Nat) (Option.some Jvm.ClassFile.FieldType.boolean)) ∈ lw_all := lw_g (lw_at lw_m6 13 rfl) rfl
theorem q1297 : (Jvm.Cond.methodLink "InkPrintery" (3 : Nat) ({ cls := "InkPrintery", name := "inRange", desc := "(III)Z" } : Jvm.MethodName)) ∈ lw_all := lw_g (lw_at lw_m6 14 rfl) rfl
theorem q1298 : (Jvm.Cond.static ({ cls := "InkPrintery", name := "inRange", desc := "(III)Z" } : Jvm.MethodName)) ∈ lw_all := lw_g (lw_at lw_m6 15 rfl) rfl
theorem q1299 : (Jvm.Cond.code ({ cls := "InkPrintery", name := "inRange", desc := "(III)Z" } : Jvm.MethodName) prog_1_method_1_code (3 : Nat) (Option.some Jvm.ClassFile.FieldType.boolean)) ∈ lw_all := lw_g (lw_at lw_m6 16 rfl) rfl
theorem q1302 : (Jvm.Cond.static ({ cls := "InkPrintery", name := "checkArgument", desc := "(Z)V" } : Jvm.MethodName)) ∈ lw_all := lw_g (lw_at lw_m6 19 rfl) rfl
theorem q1303 : (Jvm.Cond.code ({ cls := "InkPrintery", name := "checkArgument", desc := "(Z)V" } : Jvm.MethodName) prog_1_method_5_code (1 : Nat) (Option.none : Option Jvm.ClassFile.FieldType)) ∈ lw_all := lw_g (lw_at lw_m6 20 rfl) rfl
theorem q1304 : (Jvm.Cond.classLink "InkPrintery" (66 : Nat) "java/lang/IllegalArgumentException") ∈ lw_all := lw_g (lw_at lw_m6 21 rfl) rfl
theorem q1305 : (Jvm.Cond.methodLink "InkPrintery" (68 : Nat) ({ cls := "java/lang/IllegalArgumentException", name := "<init>", desc := "()V" } : Jvm.MethodName)) ∈ lw_all := lw_g (lw_at lw_m6 22 rfl) rfl
theorem q1310 : (Jvm.Cond.static ({ cls := "InkPrintery", name := "checkState", desc := "(Z)V" } : Jvm.MethodName)) ∈ lw_all := lw_g (lw_at lw_m6 27 rfl) rfl
theorem q1311 : (Jvm.Cond.code ({ cls := "InkPrintery", name := "checkState", desc := "(Z)V" } : Jvm.MethodName) prog_1_method_7_code (1 : Nat) (Option.none : Option Jvm.ClassFile.FieldType)) ∈ lw_all := lw_g (lw_at lw_m6 28 rfl) rfl
theorem q1312 : (Jvm.Cond.classLink "InkPrintery" (72 : Nat) "java/lang/IllegalStateException") ∈ lw_all := lw_g (lw_at lw_m6 29 rfl) rfl
theorem q1313 : (Jvm.Cond.methodLink "InkPrintery" (74 : Nat) ({ cls := "java/lang/IllegalStateException", name := "<init>", desc := "()V" } : Jvm.MethodName)) ∈ lw_all := lw_g (lw_at lw_m6 30 rfl) rfl
theorem q1321 : (Jvm.Cond.instanceMethod ({ cls := "InkPrintery", name := "addPaper", desc := "(I)I" } : Jvm.MethodName)) ∈ lw_all := lw_g (lw_at lw_m6 38 rfl) rfl
theorem q1322 : (Jvm.Cond.selects "InkPrintery" ({ cls := "InkPrintery", name := "addPaper", desc := "(I)I" } : Jvm.MethodName) ({ cls := "InkPrintery", name := "addPaper", desc := "(I)I" } : Jvm.MethodName)) ∈ lw_all := lw_g (lw_at lw_m6 39 rfl) rfl
theorem q1323 : (Jvm.Cond.code ({ cls := "InkPrintery", name := "addPaper", desc := "(I)I" } : Jvm.MethodName) prog_1_method_15_code (2 : Nat) (Option.some Jvm.ClassFile.FieldType.int)) ∈ lw_all := lw_g (lw_at lw_m6 40 rfl) rfl
theorem q1324 : (Jvm.Cond.methodLink "InkPrintery" (112 : Nat) ({ cls := "InkPrintery$State", name := "addPaper", desc := "(I)I" } : Jvm.MethodName)) ∈ lw_all := lw_g (lw_at lw_m6 41 rfl) rfl
theorem q1332 : (Jvm.Cond.instanceMethod ({ cls := "InkPrintery", name := "pass", desc := "(I)I" } : Jvm.MethodName)) ∈ lw_all := lw_g (lw_at lw_m6 49 rfl) rfl
theorem q1333 : (Jvm.Cond.selects "InkPrintery" ({ cls := "InkPrintery", name := "pass", desc := "(I)I" } : Jvm.MethodName) ({ cls := "InkPrintery", name := "pass", desc := "(I)I" } : Jvm.MethodName)) ∈ lw_all := lw_g (lw_at lw_m6 50 rfl) rfl
theorem q1334 : (Jvm.Cond.code ({ cls := "InkPrintery", name := "pass", desc := "(I)I" } : Jvm.MethodName) prog_1_method_16_code (2 : Nat) (Option.some Jvm.ClassFile.FieldType.int)) ∈ lw_all := lw_g (lw_at lw_m6 51 rfl) rfl
theorem q1335 : (Jvm.Cond.methodLink "InkPrintery" (115 : Nat) ({ cls := "InkPrintery$State", name := "pass", desc := "(I)I" } : Jvm.MethodName)) ∈ lw_all := lw_g (lw_at lw_m6 52 rfl) rfl
theorem q1347 : (Jvm.Cond.instanceMethod ({ cls := "InkPrintery", name := "ink", desc := "(I)I" } : Jvm.MethodName)) ∈ lw_all := lw_g (lw_at lw_m6 64 rfl) rfl
theorem q1348 : (Jvm.Cond.selects "InkPrintery" ({ cls := "InkPrintery", name := "ink", desc := "(I)I" } : Jvm.MethodName) ({ cls := "InkPrintery", name := "ink", desc := "(I)I" } : Jvm.MethodName)) ∈ lw_all := lw_g (lw_at lw_m6 65 rfl) rfl
theorem q1349 : (Jvm.Cond.code ({ cls := "InkPrintery", name := "ink", desc := "(I)I" } : Jvm.MethodName) prog_1_method_17_code (2 : Nat) (Option.some Jvm.ClassFile.FieldType.int)) ∈ lw_all := lw_g (lw_at lw_m6 66 rfl) rfl
theorem q1350 : (Jvm.Cond.methodLink "InkPrintery" (118 : Nat) ({ cls := "InkPrintery", name := "isColour", desc := "(I)Z" } : Jvm.MethodName)) ∈ lw_all := lw_g (lw_at lw_m6 67 rfl) rfl
theorem q1351 : (Jvm.Cond.methodLink "InkPrintery" (122 : Nat) ({ cls := "InkPrintery", name := "checkArgument", desc := "(Z)V" } : Jvm.MethodName)) ∈ lw_all := lw_g (lw_at lw_m6 68 rfl) rfl
theorem q1356 : (Jvm.Cond.instanceMethod ({ cls := "InkPrintery", name := "inkAfter", desc := "(II)I" } : Jvm.MethodName)) ∈ lw_all := lw_g (lw_at lw_m6 73 rfl) rfl
theorem q1357 : (Jvm.Cond.selects "InkPrintery" ({ cls := "InkPrintery", name := "inkAfter", desc := "(II)I" } : Jvm.MethodName) ({ cls := "InkPrintery", name := "inkAfter", desc := "(II)I" } : Jvm.MethodName)) ∈ lw_all := lw_g (lw_at lw_m6 74 rfl) rfl
theorem q1358 : (Jvm.Cond.code ({ cls := "InkPrintery", name := "inkAfter", desc := "(II)I" } : Jvm.MethodName) prog_1_method_21_code (3 : Nat) (Option.some Jvm.ClassFile.FieldType.int)) ∈ lw_all := lw_g (lw_at lw_m6 75 rfl) rfl
theorem q1359 : (Jvm.Cond.methodLink "InkPrintery" (135 : Nat) ({ cls := "InkPrintery", name := "checkAhead", desc := "(II)V" } : Jvm.MethodName)) ∈ lw_all := lw_g (lw_at lw_m6 76 rfl) rfl
theorem q1360 : (Jvm.Cond.static ({ cls := "InkPrintery", name := "checkAhead", desc := "(II)V" } : Jvm.MethodName)) ∈ lw_all := lw_g (lw_at lw_m6 77 rfl) rfl
theorem q1361 : (Jvm.Cond.code ({ cls := "InkPrintery", name := "checkAhead", desc := "(II)V" } : Jvm.MethodName) prog_1_method_20_code (2 : Nat) (Option.none : Option Jvm.ClassFile.FieldType)) ∈ lw_all := lw_g (lw_at lw_m6 78 rfl) rfl
theorem q1362 : (Jvm.Cond.methodLink "InkPrintery" (139 : Nat) ({ cls := "InkPrintery$State", name := "inkAfter", desc := "(II)I" } : Jvm.MethodName)) ∈ lw_all := lw_g (lw_at lw_m6 79 rfl) rfl
theorem q1367 : (Jvm.Cond.instanceMethod ({ cls := "InkPrintery", name := "inkByHalvings", desc := "(II)I" } : Jvm.MethodName)) ∈ lw_all := lw_g (lw_at lw_m6 84 rfl) rfl
theorem q1368 : (Jvm.Cond.selects "InkPrintery" ({ cls := "InkPrintery", name := "inkByHalvings", desc := "(II)I" } : Jvm.MethodName) ({ cls := "InkPrintery", name := "inkByHalvings", desc := "(II)I" } : Jvm.MethodName)) ∈ lw_all := lw_g (lw_at lw_m6 85 rfl) rfl
theorem q1369 : (Jvm.Cond.code ({ cls := "InkPrintery", name := "inkByHalvings", desc := "(II)I" } : Jvm.MethodName) prog_1_method_22_code (3 : Nat) (Option.some Jvm.ClassFile.FieldType.int)) ∈ lw_all := lw_g (lw_at lw_m6 86 rfl) rfl
theorem q1370 : (Jvm.Cond.methodLink "InkPrintery" (142 : Nat) ({ cls := "InkPrintery$State", name := "inkByHalvings", desc := "(II)I" } : Jvm.MethodName)) ∈ lw_all := lw_g (lw_at lw_m6 87 rfl) rfl
theorem q1375 : (Jvm.Cond.instanceMethod ({ cls := "InkPrintery", name := "hoursUntilLess", desc := "(II)I" } : Jvm.MethodName)) ∈ lw_all := lw_g (lw_at lw_m6 92 rfl) rfl
theorem q1376 : (Jvm.Cond.selects "InkPrintery" ({ cls := "InkPrintery", name := "hoursUntilLess", desc := "(II)I" } : Jvm.MethodName) ({ cls := "InkPrintery", name := "hoursUntilLess", desc := "(II)I" } : Jvm.MethodName)) ∈ lw_all := lw_g (lw_at lw_m6 93 rfl) rfl
theorem q1377 : (Jvm.Cond.code ({ cls := "InkPrintery", name := "hoursUntilLess", desc := "(II)I" } : Jvm.MethodName) prog_1_method_23_code (3 : Nat) (Option.some Jvm.ClassFile.FieldType.int)) ∈ lw_all := lw_g (lw_at lw_m6 94 rfl) rfl
theorem q1378 : (Jvm.Cond.methodLink "InkPrintery" (145 : Nat) ({ cls := "InkPrintery$State", name := "hoursUntilLess", desc := "(II)I" } : Jvm.MethodName)) ∈ lw_all := lw_g (lw_at lw_m6 95 rfl) rfl
theorem q1386 : (Jvm.Cond.instanceMethod ({ cls := "InkPrintery", name := "addEdition", desc := "(II)I" } : Jvm.MethodName)) ∈ lw_all := lw_g (lw_at lw_m6 103 rfl) rfl
theorem q1387 : (Jvm.Cond.selects "InkPrintery" ({ cls := "InkPrintery", name := "addEdition", desc := "(II)I" } : Jvm.MethodName) ({ cls := "InkPrintery", name := "addEdition", desc := "(II)I" } : Jvm.MethodName)) ∈ lw_all := lw_g (lw_at lw_m6 104 rfl) rfl
theorem q1388 : (Jvm.Cond.code ({ cls := "InkPrintery", name := "addEdition", desc := "(II)I" } : Jvm.MethodName) prog_1_method_24_code (3 : Nat) (Option.some Jvm.ClassFile.FieldType.int)) ∈ lw_all := lw_g (lw_at lw_m6 105 rfl) rfl
theorem q1389 : (Jvm.Cond.methodLink "InkPrintery" (148 : Nat) ({ cls := "InkPrintery$State", name := "addEdition", desc := "(II)I" } : Jvm.MethodName)) ∈ lw_all := lw_g (lw_at lw_m6 106 rfl) rfl
theorem q1401 : (Jvm.Cond.instanceMethod ({ cls := "InkPrintery", name := "removeEdition", desc := "(I)I" } : Jvm.MethodName)) ∈ lw_all := lw_g (lw_at lw_m6 118 rfl) rfl
theorem q1402 : (Jvm.Cond.selects "InkPrintery" ({ cls := "InkPrintery", name := "removeEdition", desc := "(I)I" } : Jvm.MethodName) ({ cls := "InkPrintery", name := "removeEdition", desc := "(I)I" } : Jvm.MethodName)) ∈ lw_all := lw_g (lw_at lw_m6 119 rfl) rfl
theorem q1403 : (Jvm.Cond.code ({ cls := "InkPrintery", name := "removeEdition", desc := "(I)I" } : Jvm.MethodName) prog_1_method_25_code (2 : Nat) (Option.some Jvm.ClassFile.FieldType.int)) ∈ lw_all := lw_g (lw_at lw_m6 120 rfl) rfl
theorem q1404 : (Jvm.Cond.methodLink "InkPrintery" (151 : Nat) ({ cls := "InkPrintery$State", name := "removeEdition", desc := "(I)I" } : Jvm.MethodName)) ∈ lw_all := lw_g (lw_at lw_m6 121 rfl) rfl
theorem q1413 : (Jvm.Cond.static ({ cls := "InkPrintery", name := "checkIndex", desc := "(Z)V" } : Jvm.MethodName)) ∈ lw_all := lw_g (lw_at lw_m6 130 rfl) rfl
theorem q1414 : (Jvm.Cond.code ({ cls := "InkPrintery", name := "checkIndex", desc := "(Z)V" } : Jvm.MethodName) prog_1_method_8_code (1 : Nat) (Option.none : Option Jvm.ClassFile.FieldType)) ∈ lw_all := lw_g (lw_at lw_m6 131 rfl) rfl
theorem q1415 : (Jvm.Cond.classLink "InkPrintery" (75 : Nat) "java/lang/IndexOutOfBoundsException") ∈ lw_all := lw_g (lw_at lw_m6 132 rfl) rfl
theorem q1416 : (Jvm.Cond.methodLink "InkPrintery" (77 : Nat) ({ cls := "java/lang/IndexOutOfBoundsException", name := "<init>", desc := "()V" } : Jvm.MethodName)) ∈ lw_all := lw_g (lw_at lw_m6 133 rfl) rfl
theorem q1425 : (Jvm.Cond.instanceMethod ({ cls := "InkPrintery", name := "print", desc := "(I)I" } : Jvm.MethodName)) ∈ lw_all := lw_g (lw_at lw_m6 142 rfl) rfl
theorem q1426 : (Jvm.Cond.selects "InkPrintery" ({ cls := "InkPrintery", name := "print", desc := "(I)I" } : Jvm.MethodName) ({ cls := "InkPrintery", name := "print", desc := "(I)I" } : Jvm.MethodName)) ∈ lw_all := lw_g (lw_at lw_m6 143 rfl) rfl
theorem q1427 : (Jvm.Cond.code ({ cls := "InkPrintery", name := "print", desc := "(I)I" } : Jvm.MethodName) prog_1_method_26_code (2 : Nat) (Option.some Jvm.ClassFile.FieldType.int)) ∈ lw_all := lw_g (lw_at lw_m6 144 rfl) rfl
theorem q1428 : (Jvm.Cond.methodLink "InkPrintery" (154 : Nat) ({ cls := "InkPrintery$State", name := "print", desc := "(I)I" } : Jvm.MethodName)) ∈ lw_all := lw_g (lw_at lw_m6 145 rfl) rfl
theorem q1434 : (Jvm.Cond.static ({ cls := "InkPrintery", name := "checkSupported", desc := "(Z)V" } : Jvm.MethodName)) ∈ lw_all := lw_g (lw_at lw_m6 151 rfl) rfl
theorem q1435 : (Jvm.Cond.code ({ cls := "InkPrintery", name := "checkSupported", desc := "(Z)V" } : Jvm.MethodName) prog_1_method_9_code (1 : Nat) (Option.none : Option Jvm.ClassFile.FieldType)) ∈ lw_all := lw_g (lw_at lw_m6 152 rfl) rfl
theorem q1436 : (Jvm.Cond.classLink "InkPrintery" (78 : Nat) "java/lang/UnsupportedOperationException") ∈ lw_all := lw_g (lw_at lw_m6 153 rfl) rfl
theorem q1445 : (Jvm.Cond.methodLink "InkPrintery" (80 : Nat) ({ cls := "java/lang/UnsupportedOperationException", name := "<init>", desc := "()V" } : Jvm.MethodName)) ∈ lw_all := lw_g (lw_at lw_m6 162 rfl) rfl
theorem q1455 : (Jvm.Cond.instanceMethod ({ cls := "InkPrintery", name := "colourOf", desc := "(I)I" } : Jvm.MethodName)) ∈ lw_all := lw_g (lw_at lw_m6 172 rfl) rfl
theorem q1456 : (Jvm.Cond.selects "InkPrintery" ({ cls := "InkPrintery", name := "colourOf", desc := "(I)I" } : Jvm.MethodName) ({ cls := "InkPrintery", name := "colourOf", desc := "(I)I" } : Jvm.MethodName)) ∈ lw_all := lw_g (lw_at lw_m6 173 rfl) rfl
theorem q1457 : (Jvm.Cond.code ({ cls := "InkPrintery", name := "colourOf", desc := "(I)I" } : Jvm.MethodName) prog_1_method_29_code (2 : Nat) (Option.some Jvm.ClassFile.FieldType.int)) ∈ lw_all := lw_g (lw_at lw_m6 174 rfl) rfl
theorem q1458 : (Jvm.Cond.methodLink "InkPrintery" (164 : Nat) ({ cls := "InkPrintery$State", name := "checkedEdition", desc := "(I)LInkPrintery$Edition;" } : Jvm.MethodName)) ∈ lw_all := lw_g (lw_at lw_m6 175 rfl) rfl
theorem q1463 : (Jvm.Cond.instanceMethod ({ cls := "InkPrintery", name := "runOf", desc := "(I)I" } : Jvm.MethodName)) ∈ lw_all := lw_g (lw_at lw_m6 180 rfl) rfl
theorem q1464 : (Jvm.Cond.selects "InkPrintery" ({ cls := "InkPrintery", name := "runOf", desc := "(I)I" } : Jvm.MethodName) ({ cls := "InkPrintery", name := "runOf", desc := "(I)I" } : Jvm.MethodName)) ∈ lw_all := lw_g (lw_at lw_m6 181 rfl) rfl
theorem q1465 : (Jvm.Cond.code ({ cls := "InkPrintery", name := "runOf", desc := "(I)I" } : Jvm.MethodName) prog_1_method_30_code (2 : Nat) (Option.some Jvm.ClassFile.FieldType.int)) ∈ lw_all := lw_g (lw_at lw_m6 182 rfl) rfl
theorem q1470 : (Jvm.Cond.instanceMethod ({ cls := "InkPrintery", name := "printedOf", desc := "(I)I" } : Jvm.MethodName)) ∈ lw_all := lw_g (lw_at lw_m6 187 rfl) rfl
theorem q1471 : (Jvm.Cond.selects "InkPrintery" ({ cls := "InkPrintery", name := "printedOf", desc := "(I)I" } : Jvm.MethodName) ({ cls := "InkPrintery", name := "printedOf", desc := "(I)I" } : Jvm.MethodName)) ∈ lw_all := lw_g (lw_at lw_m6 188 rfl) rfl
theorem q1472 : (Jvm.Cond.code ({ cls := "InkPrintery", name := "printedOf", desc := "(I)I" } : Jvm.MethodName) prog_1_method_31_code (2 : Nat) (Option.some Jvm.ClassFile.FieldType.int)) ∈ lw_all := lw_g (lw_at lw_m6 189 rfl) rfl
theorem q1477 : (Jvm.Cond.instanceMethod ({ cls := "InkPrintery", name := "isComplete", desc := "(I)Z" } : Jvm.MethodName)) ∈ lw_all := lw_g (lw_at lw_m6 194 rfl) rfl
theorem q1478 : (Jvm.Cond.selects "InkPrintery" ({ cls := "InkPrintery", name := "isComplete", desc := "(I)Z" } : Jvm.MethodName) ({ cls := "InkPrintery", name := "isComplete", desc := "(I)Z" } : Jvm.MethodName)) ∈ lw_all := lw_g (lw_at lw_m6 195 rfl) rfl
theorem q1479 : (Jvm.Cond.code ({ cls := "InkPrintery", name := "isComplete", desc := "(I)Z" } : Jvm.MethodName) prog_1_method_32_code (2 : Nat) (Option.some Jvm.ClassFile.FieldType.boolean)) ∈ lw_all := lw_g (lw_at lw_m6 196 rfl) rfl
theorem q1480 : (Jvm.Cond.methodLink "InkPrintery" (179 : Nat) ({ cls := "InkPrintery$Edition", name := "isComplete", desc := "()Z" } : Jvm.MethodName)) ∈ lw_all := lw_g (lw_at lw_m6 197 rfl) rfl
theorem q1485 : (Jvm.Cond.instanceMethod ({ cls := "InkPrintery", name := "changeMinutes", desc := "(II)I" } : Jvm.MethodName)) ∈ lw_all := lw_g (lw_at lw_m6 202 rfl) rfl
theorem q1486 : (Jvm.Cond.selects "InkPrintery" ({ cls := "InkPrintery", name := "changeMinutes", desc := "(II)I" } : Jvm.MethodName) ({ cls := "InkPrintery", name := "changeMinutes", desc := "(II)I" } : Jvm.MethodName)) ∈ lw_all := lw_g (lw_at lw_m6 203 rfl) rfl
theorem q1487 : (Jvm.Cond.code ({ cls := "InkPrintery", name := "changeMinutes", desc := "(II)I" } : Jvm.MethodName) prog_1_method_33_code (3 : Nat) (Option.some Jvm.ClassFile.FieldType.int)) ∈ lw_all := lw_g (lw_at lw_m6 204 rfl) rfl
theorem q1488 : (Jvm.Cond.interfaceEntry "InkPrintery" (186 : Nat)) ∈ lw_tbl := lw_at lw_m6 205 rfl
theorem q1489 : (Jvm.Cond.methodLink "InkPrintery" (186 : Nat) ({ cls := "InkPrintery$Cost", name := "of", desc := "(II)I" } : Jvm.MethodName)) ∈ lw_all := lw_g (lw_at lw_m6 206 rfl) rfl
theorem q1495 : (Jvm.Cond.instanceMethod ({ cls := "InkPrintery", name := "editionAt", desc := "(I)I" } : Jvm.MethodName)) ∈ lw_all := lw_g (lw_at lw_m6 212 rfl) rfl
theorem q1496 : (Jvm.Cond.selects "InkPrintery" ({ cls := "InkPrintery", name := "editionAt", desc := "(I)I" } : Jvm.MethodName) ({ cls := "InkPrintery", name := "editionAt", desc := "(I)I" } : Jvm.MethodName)) ∈ lw_all := lw_g (lw_at lw_m6 213 rfl) rfl
theorem q1497 : (Jvm.Cond.code ({ cls := "InkPrintery", name := "editionAt", desc := "(I)I" } : Jvm.MethodName) prog_1_method_38_code (3 : Nat) (Option.some Jvm.ClassFile.FieldType.int)) ∈ lw_all := lw_g (lw_at lw_m6 214 rfl) rfl
theorem q1498 : (Jvm.Cond.methodLink "InkPrintery" (214 : Nat) ({ cls := "InkPrintery$State", name := "bestOrder", desc := "()[I" } : Jvm.MethodName)) ∈ lw_all := lw_g (lw_at lw_m6 215 rfl) rfl
theorem q1499 : (Jvm.Cond.methodLink "InkPrintery" (81 : Nat) ({ cls := "InkPrintery", name := "checkElement", desc := "(Z)V" } : Jvm.MethodName)) ∈ lw_all := lw_g (lw_at lw_m6 216 rfl) rfl
theorem q1500 : (Jvm.Cond.static ({ cls := "InkPrintery", name := "checkElement", desc := "(Z)V" } : Jvm.MethodName)) ∈ lw_all := lw_g (lw_at lw_m6 217 rfl) rfl
theorem q1501 : (Jvm.Cond.code ({ cls := "InkPrintery", name := "checkElement", desc := "(Z)V" } : Jvm.MethodName) prog_1_method_6_code (1 : Nat) (Option.none : Option Jvm.ClassFile.FieldType)) ∈ lw_all := lw_g (lw_at lw_m6 218 rfl) rfl
theorem q1502 : (Jvm.Cond.classLink "InkPrintery" (69 : Nat) "java/util/NoSuchElementException") ∈ lw_all := lw_g (lw_at lw_m6 219 rfl) rfl
theorem q1511 : (Jvm.Cond.methodLink "InkPrintery" (71 : Nat) ({ cls := "java/util/NoSuchElementException", name := "<init>", desc := "()V" } : Jvm.MethodName)) ∈ lw_all := lw_g (lw_at lw_m6 228 rfl) rfl
theorem q1521 : (Jvm.Cond.instanceMethod ({ cls := "InkPrintery", name := "shareOf", desc := "(I)I" } : Jvm.MethodName)) ∈ lw_all := lw_g (lw_at lw_m6 238 rfl) rfl
theorem q1522 : (Jvm.Cond.selects "InkPrintery" ({ cls := "InkPrintery", name := "shareOf", desc := "(I)I" } : Jvm.MethodName) ({ cls := "InkPrintery", name := "shareOf", desc := "(I)I" } : Jvm.MethodName)) ∈ lw_all := lw_g (lw_at lw_m6 239 rfl) rfl
theorem q1523 : (Jvm.Cond.code ({ cls := "InkPrintery", name := "shareOf", desc := "(I)I" } : Jvm.MethodName) prog_1_method_39_code (2 : Nat) (Option.some Jvm.ClassFile.FieldType.int)) ∈ lw_all := lw_g (lw_at lw_m7 0 rfl) rfl
theorem q1524 : (Jvm.Cond.methodLink "InkPrintery" (218 : Nat) ({ cls := "InkPrintery$State", name := "shares", desc := "()[I" } : Jvm.MethodName)) ∈ lw_all := lw_g (lw_at lw_m7 1 rfl) rfl
theorem q1529 : (Jvm.Cond.instanceMethod ({ cls := "InkPrintery", name := "shareByLevel", desc := "(I)I" } : Jvm.MethodName)) ∈ lw_all := lw_g (lw_at lw_m7 6 rfl) rfl
theorem q1530 : (Jvm.Cond.selects "InkPrintery" ({ cls := "InkPrintery", name := "shareByLevel", desc := "(I)I" } : Jvm.MethodName) ({ cls := "InkPrintery", name := "shareByLevel", desc := "(I)I" } : Jvm.MethodName)) ∈ lw_all := lw_g (lw_at lw_m7 7 rfl) rfl
theorem q1531 : (Jvm.Cond.code ({ cls := "InkPrintery", name := "shareByLevel", desc := "(I)I" } : Jvm.MethodName) prog_1_method_40_code (2 : Nat) (Option.some Jvm.ClassFile.FieldType.int)) ∈ lw_all := lw_g (lw_at lw_m7 8 rfl) rfl
theorem q1532 : (Jvm.Cond.methodLink "InkPrintery" (221 : Nat) ({ cls := "InkPrintery$State", name := "shareByLevel", desc := "(I)I" } : Jvm.MethodName)) ∈ lw_all := lw_g (lw_at lw_m7 9 rfl) rfl
theorem q1537 : (Jvm.Cond.instanceMethod ({ cls := "InkPrintery", name := "editionByMissing", desc := "(I)I" } : Jvm.MethodName)) ∈ lw_all := lw_g (lw_at lw_m7 14 rfl) rfl
theorem q1538 : (Jvm.Cond.selects "InkPrintery" ({ cls := "InkPrintery", name := "editionByMissing", desc := "(I)I" } : Jvm.MethodName) ({ cls := "InkPrintery", name := "editionByMissing", desc := "(I)I" } : Jvm.MethodName)) ∈ lw_all := lw_g (lw_at lw_m7 15 rfl) rfl
theorem q1539 : (Jvm.Cond.code ({ cls := "InkPrintery", name := "editionByMissing", desc := "(I)I" } : Jvm.MethodName) prog_1_method_41_code (2 : Nat) (Option.some Jvm.ClassFile.FieldType.int)) ∈ lw_all := lw_g (lw_at lw_m7 16 rfl) rfl
theorem q1540 : (Jvm.Cond.methodLink "InkPrintery" (224 : Nat) ({ cls := "InkPrintery$State", name := "editionByMissing", desc := "(I)I" } : Jvm.MethodName)) ∈ lw_all := lw_g (lw_at lw_m7 17 rfl) rfl
theorem q1544 : (Jvm.Cond.methodLink "InkPrintery" (227 : Nat) ({ cls := "InkPrintery", name := "found", desc := "(I)I" } : Jvm.MethodName)) ∈ lw_all := lw_g (lw_at lw_m7 21 rfl) rfl
theorem q1545 : (Jvm.Cond.static ({ cls := "InkPrintery", name := "found", desc := "(I)I" } : Jvm.MethodName)) ∈ lw_all := lw_g (lw_at lw_m7 22 rfl) rfl
theorem q1546 : (Jvm.Cond.code ({ cls := "InkPrintery", name := "found", desc := "(I)I" } : Jvm.MethodName) prog_1_method_10_code (1 : Nat) (Option.some Jvm.ClassFile.FieldType.int)) ∈ lw_all := lw_g (lw_at lw_m7 23 rfl) rfl
theorem q1551 : (Jvm.Cond.instanceMethod ({ cls := "InkPrintery", name := "addProof", desc := "(I)I" } : Jvm.MethodName)) ∈ lw_all := lw_g (lw_at lw_m7 28 rfl) rfl
theorem q1552 : (Jvm.Cond.selects "InkPrintery" ({ cls := "InkPrintery", name := "addProof", desc := "(I)I" } : Jvm.MethodName) ({ cls := "InkPrintery", name := "addProof", desc := "(I)I" } : Jvm.MethodName)) ∈ lw_all := lw_g (lw_at lw_m7 29 rfl) rfl
theorem q1553 : (Jvm.Cond.code ({ cls := "InkPrintery", name := "addProof", desc := "(I)I" } : Jvm.MethodName) prog_1_method_42_code (2 : Nat) (Option.some Jvm.ClassFile.FieldType.int)) ∈ lw_all := lw_g (lw_at lw_m7 30 rfl) rfl
theorem q1554 : (Jvm.Cond.methodLink "InkPrintery" (230 : Nat) ({ cls := "InkPrintery$State", name := "addProof", desc := "(I)I" } : Jvm.MethodName)) ∈ lw_all := lw_g (lw_at lw_m7 31 rfl) rfl
theorem q1562 : (Jvm.Cond.instanceMethod ({ cls := "InkPrintery", name := "dropProof", desc := "(I)I" } : Jvm.MethodName)) ∈ lw_all := lw_g (lw_at lw_m7 39 rfl) rfl
theorem q1563 : (Jvm.Cond.selects "InkPrintery" ({ cls := "InkPrintery", name := "dropProof", desc := "(I)I" } : Jvm.MethodName) ({ cls := "InkPrintery", name := "dropProof", desc := "(I)I" } : Jvm.MethodName)) ∈ lw_all := lw_g (lw_at lw_m7 40 rfl) rfl
theorem q1564 : (Jvm.Cond.code ({ cls := "InkPrintery", name := "dropProof", desc := "(I)I" } : Jvm.MethodName) prog_1_method_43_code (2 : Nat) (Option.some Jvm.ClassFile.FieldType.int)) ∈ lw_all := lw_g (lw_at lw_m7 41 rfl) rfl
theorem q1565 : (Jvm.Cond.methodLink "InkPrintery" (233 : Nat) ({ cls := "InkPrintery$State", name := "dropProof", desc := "(I)I" } : Jvm.MethodName)) ∈ lw_all := lw_g (lw_at lw_m7 42 rfl) rfl
theorem q1577 : (Jvm.Cond.instanceMethod ({ cls := "InkPrintery", name := "marksOf", desc := "(I)I" } : Jvm.MethodName)) ∈ lw_all := lw_g (lw_at lw_m7 54 rfl) rfl
theorem q1578 : (Jvm.Cond.selects "InkPrintery" ({ cls := "InkPrintery", name := "marksOf", desc := "(I)I" } : Jvm.MethodName) ({ cls := "InkPrintery", name := "marksOf", desc := "(I)I" } : Jvm.MethodName)) ∈ lw_all := lw_g (lw_at lw_m7 55 rfl) rfl
theorem q1579 : (Jvm.Cond.code ({ cls := "InkPrintery", name := "marksOf", desc := "(I)I" } : Jvm.MethodName) prog_1_method_45_code (2 : Nat) (Option.some Jvm.ClassFile.FieldType.int)) ∈ lw_all := lw_g (lw_at lw_m7 56 rfl) rfl
theorem q1580 : (Jvm.Cond.methodLink "InkPrintery" (239 : Nat) ({ cls := "InkPrintery$State", name := "checkProof", desc := "(I)V" } : Jvm.MethodName)) ∈ lw_all := lw_g (lw_at lw_m7 57 rfl) rfl
theorem q1585 : (Jvm.Cond.instanceMethod ({ cls := "InkPrintery", name := "hourOf", desc := "(I)I" } : Jvm.MethodName)) ∈ lw_all := lw_g (lw_at lw_m7 62 rfl) rfl
theorem q1586 : (Jvm.Cond.selects "InkPrintery" ({ cls := "InkPrintery", name := "hourOf", desc := "(I)I" } : Jvm.MethodName) ({ cls := "InkPrintery", name := "hourOf", desc := "(I)I" } : Jvm.MethodName)) ∈ lw_all := lw_g (lw_at lw_m7 63 rfl) rfl
theorem q1587 : (Jvm.Cond.code ({ cls := "InkPrintery", name := "hourOf", desc := "(I)I" } : Jvm.MethodName) prog_1_method_46_code (2 : Nat) (Option.some Jvm.ClassFile.FieldType.int)) ∈ lw_all := lw_g (lw_at lw_m7 64 rfl) rfl
theorem q1606 : (Jvm.Cond.instanceMethod ({ cls := "InkPrintery", name := "meanRun", desc := "()D" } : Jvm.MethodName)) ∈ lw_all := lw_g (lw_at lw_m7 83 rfl) rfl
theorem q1607 : (Jvm.Cond.selects "InkPrintery" ({ cls := "InkPrintery", name := "meanRun", desc := "()D" } : Jvm.MethodName) ({ cls := "InkPrintery", name := "meanRun", desc := "()D" } : Jvm.MethodName)) ∈ lw_all := lw_g (lw_at lw_m7 84 rfl) rfl
theorem q1608 : (Jvm.Cond.code ({ cls := "InkPrintery", name := "meanRun", desc := "()D" } : Jvm.MethodName) prog_1_method_55_code (1 : Nat) (Option.some Jvm.ClassFile.FieldType.double)) ∈ lw_all := lw_g (lw_at lw_m7 85 rfl) rfl
theorem q1609 : (Jvm.Cond.methodLink "InkPrintery" (274 : Nat) ({ cls := "InkPrintery", name := "checkAny", desc := "(I)V" } : Jvm.MethodName)) ∈ lw_all := lw_g (lw_at lw_m7 86 rfl) rfl
theorem q1610 : (Jvm.Cond.static ({ cls := "InkPrintery", name := "checkAny", desc := "(I)V" } : Jvm.MethodName)) ∈ lw_all := lw_g (lw_at lw_m7 87 rfl) rfl
theorem q1611 : (Jvm.Cond.code ({ cls := "InkPrintery", name := "checkAny", desc := "(I)V" } : Jvm.MethodName) prog_1_method_11_code (1 : Nat) (Option.none : Option Jvm.ClassFile.FieldType)) ∈ lw_all := lw_g (lw_at lw_m7 88 rfl) rfl
theorem q1612 : (Jvm.Cond.classLink "InkPrintery" (85 : Nat) "java/lang/ArithmeticException") ∈ lw_all := lw_g (lw_at lw_m7 89 rfl) rfl
theorem q1613 : (Jvm.Cond.methodLink "InkPrintery" (87 : Nat) ({ cls := "java/lang/ArithmeticException", name := "<init>", desc := "()V" } : Jvm.MethodName)) ∈ lw_all := lw_g (lw_at lw_m7 90 rfl) rfl
theorem q1617 : (Jvm.Cond.methodLink "InkPrintery" (277 : Nat) ({ cls := "InkPrintery$State", name := "sumOfRuns", desc := "()I" } : Jvm.MethodName)) ∈ lw_all := lw_g (lw_at lw_m7 94 rfl) rfl
theorem q1625 : (Jvm.Cond.instanceMethod ({ cls := "InkPrintery", name := "fadedShare", desc := "()F" } : Jvm.MethodName)) ∈ lw_all := lw_g (lw_at lw_m7 102 rfl) rfl
theorem q1626 : (Jvm.Cond.selects "InkPrintery" ({ cls := "InkPrintery", name := "fadedShare", desc := "()F" } : Jvm.MethodName) ({ cls := "InkPrintery", name := "fadedShare", desc := "()F" } : Jvm.MethodName)) ∈ lw_all := lw_g (lw_at lw_m7 103 rfl) rfl
theorem q1627 : (Jvm.Cond.code ({ cls := "InkPrintery", name := "fadedShare", desc := "()F" } : Jvm.MethodName) prog_1_method_56_code (1 : Nat) (Option.some Jvm.ClassFile.FieldType.float)) ∈ lw_all := lw_g (lw_at lw_m7 104 rfl) rfl
theorem q1632 : (Jvm.Cond.instanceMethod ({ cls := "InkPrintery", name := "writeEdition", desc := "(I)I" } : Jvm.MethodName)) ∈ lw_all := lw_g (lw_at lw_m7 109 rfl) rfl
theorem q1633 : (Jvm.Cond.selects "InkPrintery" ({ cls := "InkPrintery", name := "writeEdition", desc := "(I)I" } : Jvm.MethodName) ({ cls := "InkPrintery", name := "writeEdition", desc := "(I)I" } : Jvm.MethodName)) ∈ lw_all := lw_g (lw_at lw_m7 110 rfl) rfl
theorem q1634 : (Jvm.Cond.code ({ cls := "InkPrintery", name := "writeEdition", desc := "(I)I" } : Jvm.MethodName) prog_1_method_57_code (3 : Nat) (Option.some Jvm.ClassFile.FieldType.int)) ∈ lw_all := lw_g (lw_at lw_m7 111 rfl) rfl
theorem q1635 : (Jvm.Cond.methodLink "InkPrintery" (283 : Nat) ({ cls := "java/lang/StringBuilder", name := "append", desc := "(I)Ljava/lang/StringBuilder;" } : Jvm.MethodName)) ∈ lw_all := lw_g (lw_at lw_m7 112 rfl) rfl
theorem q1636 : (Jvm.Cond.methodLink "InkPrintery" (287 : Nat) ({ cls := "InkPrintery$Edition", name := "toString", desc := "()Ljava/lang/String;" } : Jvm.MethodName)) ∈ lw_all := lw_g (lw_at lw_m7 113 rfl) rfl
theorem q1670 : (Jvm.Cond.methodLink "InkPrintery" (291 : Nat) ({ cls := "java/lang/StringBuilder", name := "append", desc := "(Ljava/lang/String;)Ljava/lang/StringBuilder;" } : Jvm.MethodName)) ∈ lw_all := lw_g (lw_at lw_m7 147 rfl) rfl
theorem q1675 : (Jvm.Cond.instanceMethod ({ cls := "InkPrintery", name := "lineAt", desc := "(I)C" } : Jvm.MethodName)) ∈ lw_all := lw_g (lw_at lw_m7 152 rfl) rfl
theorem q1676 : (Jvm.Cond.selects "InkPrintery" ({ cls := "InkPrintery", name := "lineAt", desc := "(I)C" } : Jvm.MethodName) ({ cls := "InkPrintery", name := "lineAt", desc := "(I)C" } : Jvm.MethodName)) ∈ lw_all := lw_g (lw_at lw_m7 153 rfl) rfl
theorem q1677 : (Jvm.Cond.code ({ cls := "InkPrintery", name := "lineAt", desc := "(I)C" } : Jvm.MethodName) prog_1_method_59_code (2 : Nat) (Option.some Jvm.ClassFile.FieldType.char)) ∈ lw_all := lw_g (lw_at lw_m7 154 rfl) rfl
theorem q1678 : (Jvm.Cond.methodLink "InkPrintery" (300 : Nat) ({ cls := "InkPrintery", name := "checkIndex", desc := "(Z)V" } : Jvm.MethodName)) ∈ lw_all := lw_g (lw_at lw_m7 155 rfl) rfl
theorem q1679 : (Jvm.Cond.methodLink "InkPrintery" (303 : Nat) ({ cls := "java/lang/StringBuilder", name := "charAt", desc := "(I)C" } : Jvm.MethodName)) ∈ lw_all := lw_g (lw_at lw_m7 156 rfl) rfl
theorem q1693 : (Jvm.Cond.instanceMethod ({ cls := "InkPrintery", name := "type", desc := "(C)I" } : Jvm.MethodName)) ∈ lw_all := lw_g (lw_at lw_m7 170 rfl) rfl
theorem q1694 : (Jvm.Cond.selects "InkPrintery" ({ cls := "InkPrintery", name := "type", desc := "(C)I" } : Jvm.MethodName) ({ cls := "InkPrintery", name := "type", desc := "(C)I" } : Jvm.MethodName)) ∈ lw_all := lw_g (lw_at lw_m7 171 rfl) rfl
theorem q1695 : (Jvm.Cond.code ({ cls := "InkPrintery", name := "type", desc := "(C)I" } : Jvm.MethodName) prog_1_method_61_code (2 : Nat) (Option.some Jvm.ClassFile.FieldType.int)) ∈ lw_all := lw_g (lw_at lw_m7 172 rfl) rfl
theorem q1696 : (Jvm.Cond.methodLink "InkPrintery" (310 : Nat) ({ cls := "InkPrintery", name := "checkState", desc := "(Z)V" } : Jvm.MethodName)) ∈ lw_all := lw_g (lw_at lw_m7 173 rfl) rfl
theorem q1697 : (Jvm.Cond.methodLink "InkPrintery" (313 : Nat) ({ cls := "java/lang/StringBuilder", name := "append", desc := "(C)Ljava/lang/StringBuilder;" } : Jvm.MethodName)) ∈ lw_all := lw_g (lw_at lw_m7 174 rfl) rfl
theorem q1702 : (Jvm.Cond.instanceMethod ({ cls := "InkPrintery", name := "execute", desc := "()I" } : Jvm.MethodName)) ∈ lw_all := lw_g (lw_at lw_m7 179 rfl) rfl
theorem q1703 : (Jvm.Cond.selects "InkPrintery" ({ cls := "InkPrintery", name := "execute", desc := "()I" } : Jvm.MethodName) ({ cls := "InkPrintery", name := "execute", desc := "()I" } : Jvm.MethodName)) ∈ lw_all := lw_g (lw_at lw_m7 180 rfl) rfl
theorem q1704 : (Jvm.Cond.codeWith ({ cls := "InkPrintery", name := "execute", desc := "()I" } : Jvm.MethodName) prog_1_method_63_code (5 : Nat) (Option.some Jvm.ClassFile.FieldType.int) [((11 : Nat), (54 : Nat), (57 : Nat), (348 : Nat))]) ∈ lw_all := lw_g (lw_at lw_m7 181 rfl) rfl
theorem q1705 : (Jvm.Cond.classLink "InkPrintery" (348 : Nat) "java/lang/RuntimeException") ∈ lw_all := lw_g (lw_at lw_m7 182 rfl) rfl
theorem q1736 : (Jvm.Cond.methodLink "InkPrintery" (324 : Nat) ({ cls := "InkPrintery", name := "parse", desc := "()V" } : Jvm.MethodName)) ∈ lw_all := lw_g (lw_at lw_m7 213 rfl) rfl
theorem q1737 : (Jvm.Cond.privateMethod ({ cls := "InkPrintery", name := "parse", desc := "()V" } : Jvm.MethodName)) ∈ lw_tbl := lw_at lw_m7 214 rfl
theorem q1738 : (Jvm.Cond.instanceMethod ({ cls := "InkPrintery", name := "parse", desc := "()V" } : Jvm.MethodName)) ∈ lw_all := lw_g (lw_at lw_m7 215 rfl) rfl
theorem q1739 : (Jvm.Cond.codeWith ({ cls := "InkPrintery", name := "parse", desc := "()V" } : Jvm.MethodName) prog_1_method_62_code (3 : Nat) (Option.none : Option Jvm.ClassFile.FieldType) [((0 : Nat), (7 : Nat), (18 : Nat), (319 : Nat)), ((0 : Nat), (7 : Nat), (35 : Nat), (0 : Nat)), ((18 : Nat), (36 : Nat), (35 : Nat), (0 : Nat))]) ∈ lw_all := lw_g (lw_at lw_m7 216 rfl) rfl
theorem q1740 : (Jvm.Cond.classLink "InkPrintery" (319 : Nat) "InkPrintery$SyntaxError") ∈ lw_all := lw_g (lw_at lw_m7 217 rfl) rfl
theorem q1741 : (Jvm.Cond.methodLink "InkPrintery" (316 : Nat) ({ cls := "InkPrintery$Parser", name := "parse", desc := "()V" } : Jvm.MethodName)) ∈ lw_all := lw_g (lw_at lw_m7 218 rfl) rfl
theorem q1806 : (Jvm.Cond.fieldLinkNest "InkPrintery" (321 : Nat) "InkPrintery$SyntaxError" "position" "I" "InkPrintery") ∈ lw_tbl := lw_at lw_m8 43 rfl
theorem q1881 : (Jvm.Cond.methodLink "InkPrintery" (329 : Nat) ({ cls := "java/util/LinkedList", name := "iterator", desc := "()Ljava/util/Iterator;" } : Jvm.MethodName)) ∈ lw_all := lw_g (lw_at lw_m8 118 rfl) rfl
theorem q1947 : (Jvm.Cond.interfaceEntry "InkPrintery" (335 : Nat)) ∈ lw_tbl := lw_at lw_m8 184 rfl
theorem q1948 : (Jvm.Cond.methodLink "InkPrintery" (335 : Nat) ({ cls := "java/util/Iterator", name := "hasNext", desc := "()Z" } : Jvm.MethodName)) ∈ lw_all := lw_g (lw_at lw_m8 185 rfl) rfl
theorem q1969 : (Jvm.Cond.interfaceEntry "InkPrintery" (340 : Nat)) ∈ lw_tbl := lw_at lw_m8 206 rfl
theorem q1970 : (Jvm.Cond.methodLink "InkPrintery" (340 : Nat) ({ cls := "java/util/Iterator", name := "next", desc := "()Ljava/lang/Object;" } : Jvm.MethodName)) ∈ lw_all := lw_g (lw_at lw_m8 207 rfl) rfl
theorem q2105 : (Jvm.Cond.classLink "InkPrintery" (343 : Nat) "InkPrintery$Command") ∈ lw_all := lw_g (lw_at lw_m9 102 rfl) rfl
theorem q2106 : (Jvm.Cond.methodLink "InkPrintery" (345 : Nat) ({ cls := "InkPrintery$Command", name := "applyTo", desc := "(LInkPrintery$State;)V" } : Jvm.MethodName)) ∈ lw_all := lw_g (lw_at lw_m9 103 rfl) rfl
theorem q2192 : (Jvm.Cond.methodLink "InkPrintery" (350 : Nat) ({ cls := "java/util/LinkedList", name := "size", desc := "()I" } : Jvm.MethodName)) ∈ lw_all := lw_g (lw_at lw_m9 189 rfl) rfl
theorem q2197 : (Jvm.Cond.instanceMethod ({ cls := "InkPrintery", name := "errorPosition", desc := "()I" } : Jvm.MethodName)) ∈ lw_all := lw_g (lw_at lw_m9 194 rfl) rfl
theorem q2198 : (Jvm.Cond.selects "InkPrintery" ({ cls := "InkPrintery", name := "errorPosition", desc := "()I" } : Jvm.MethodName) ({ cls := "InkPrintery", name := "errorPosition", desc := "()I" } : Jvm.MethodName)) ∈ lw_all := lw_g (lw_at lw_m9 195 rfl) rfl
theorem q2199 : (Jvm.Cond.code ({ cls := "InkPrintery", name := "errorPosition", desc := "()I" } : Jvm.MethodName) prog_1_method_64_code (1 : Nat) (Option.some Jvm.ClassFile.FieldType.int)) ∈ lw_all := lw_g (lw_at lw_m9 196 rfl) rfl
theorem q2204 : (Jvm.Cond.instanceMethod ({ cls := "InkPrintery", name := "failedCommand", desc := "()I" } : Jvm.MethodName)) ∈ lw_all := lw_g (lw_at lw_m9 201 rfl) rfl
theorem q2205 : (Jvm.Cond.selects "InkPrintery" ({ cls := "InkPrintery", name := "failedCommand", desc := "()I" } : Jvm.MethodName) ({ cls := "InkPrintery", name := "failedCommand", desc := "()I" } : Jvm.MethodName)) ∈ lw_all := lw_g (lw_at lw_m9 202 rfl) rfl
theorem q2206 : (Jvm.Cond.code ({ cls := "InkPrintery", name := "failedCommand", desc := "()I" } : Jvm.MethodName) prog_1_method_65_code (1 : Nat) (Option.some Jvm.ClassFile.FieldType.int)) ∈ lw_all := lw_g (lw_at lw_m9 203 rfl) rfl
theorem q2211 : (Jvm.Cond.instanceMethod ({ cls := "InkPrintery", name := "undo", desc := "()I" } : Jvm.MethodName)) ∈ lw_all := lw_g (lw_at lw_m9 208 rfl) rfl
theorem q2212 : (Jvm.Cond.selects "InkPrintery" ({ cls := "InkPrintery", name := "undo", desc := "()I" } : Jvm.MethodName) ({ cls := "InkPrintery", name := "undo", desc := "()I" } : Jvm.MethodName)) ∈ lw_all := lw_g (lw_at lw_m9 209 rfl) rfl
theorem q2213 : (Jvm.Cond.code ({ cls := "InkPrintery", name := "undo", desc := "()I" } : Jvm.MethodName) prog_1_method_66_code (2 : Nat) (Option.some Jvm.ClassFile.FieldType.int)) ∈ lw_all := lw_g (lw_at lw_m9 210 rfl) rfl
theorem q2214 : (Jvm.Cond.methodLink "InkPrintery" (353 : Nat) ({ cls := "java/util/ArrayDeque", name := "pollLast", desc := "()Ljava/lang/Object;" } : Jvm.MethodName)) ∈ lw_all := lw_g (lw_at lw_m9 211 rfl) rfl
theorem q2221 : (Jvm.Cond.methodLink "InkPrintery" (356 : Nat) ({ cls := "java/util/ArrayDeque", name := "size", desc := "()I" } : Jvm.MethodName)) ∈ lw_all := lw_g (lw_at lw_m9 218 rfl) rfl
theorem q2232 : (Jvm.Cond.instanceMethod ({ cls := "InkPrintery", name := "restore", desc := "()I" } : Jvm.MethodName)) ∈ lw_all := lw_g (lw_at lw_m9 229 rfl) rfl
theorem q2233 : (Jvm.Cond.selects "InkPrintery" ({ cls := "InkPrintery", name := "restore", desc := "()I" } : Jvm.MethodName) ({ cls := "InkPrintery", name := "restore", desc := "()I" } : Jvm.MethodName)) ∈ lw_all := lw_g (lw_at lw_m9 230 rfl) rfl
theorem q2234 : (Jvm.Cond.code ({ cls := "InkPrintery", name := "restore", desc := "()I" } : Jvm.MethodName) prog_1_method_68_code (1 : Nat) (Option.some Jvm.ClassFile.FieldType.int)) ∈ lw_all := lw_g (lw_at lw_m9 231 rfl) rfl
theorem q2787 : (Jvm.Cond.castable "InkPrintery" "java/lang/Object") ∈ lw_tbl := lw_at lw_m12 64 rfl
theorem in_X1 : ∀ w ∈ wsX10, w ∈ lw_all := lw_in wsX10 [554, 556, 558, 560, 562, 564, 566, 568, 570, 572, 574] (by decide +kernel) (by decide +kernel)
/-! InkPrintery$State -/
set_option maxRecDepth 100000
def RX2 : String := "InkPrintery$State"
def TX2 : u_T := fun k => match k with
  | 0 => ("InkPrintery$State", "wells", "[I", true)
  | 1 => ("InkPrintery$State", "fadings", "[LInkPrintery$Fading;", true)
  | 2 => ("InkPrintery$State", "hour", "I", false)
  | 3 => ("InkPrintery$State", "paper", "I", false)
  | 4 => ("InkPrintery$State", "editions", "[LInkPrintery$Edition;", true)
  | 5 => ("InkPrintery$State", "editionCount", "I", false)
  | 6 => ("InkPrintery$State", "pressColour", "I", false)
  | 7 => ("InkPrintery$State", "minutes", "I", false)
  | 8 => ("InkPrintery$State", "poured", "I", false)
  | 9 => ("InkPrintery$State", "used", "I", false)
  | 10 => ("InkPrintery$State", "faded", "J", false)
  | 11 => ("InkPrintery$State", "marks", "[I", true)
  | 12 => ("InkPrintery$State", "hours", "[I", true)
  | 13 => ("InkPrintery$State", "proofCount", "I", false)
  | _ => ("InkPrintery$State", "cost", "LInkPrintery$Cost;", true)
def tyX2 : Nat → FieldType := fun k => match k with
  | 0 => .array .int
  | 1 => .array (.object "InkPrintery$Fading")
  | 2 => .int
  | 3 => .int
  | 4 => .array (.object "InkPrintery$Edition")
  | 5 => .int
  | 6 => .int
  | 7 => .int
  | 8 => .int
  | 9 => .int
  | 10 => .long
  | 11 => .array .int
  | 12 => .array .int
  | 13 => .int
  | _ => .object "InkPrintery$Cost"
abbrev wsX20 : List Cond := u_ws RX2 TX2 15
set_option maxRecDepth 100000 in
theorem nmX2 : ∀ a, a < 15 → ∀ b, b < 15 → a ≠ b → (TX2 a).2.1 ≠ (TX2 b).2.1 := by decide +kernel
set_option maxRecDepth 100000 in
theorem tyX2_ok : ∀ k, k < 15 → parseFieldDescriptor (TX2 k).2.2.1 = some (tyX2 k) := by decide +kernel
abbrev cX2_init : ByteArray := prog_8_method_1_code
def yX2_init : MethodName := ⟨RX2, "<init>", "()V"⟩
def dkwX2_init_3 : List UInt8 := [183, 0, 43, 83, 132, 1, 1, 167, 255, 233, 177]
abbrev dktX2_init_3 : List UInt8 := dkwX2_init_3 ++ []
def dkwX2_init_2 : List UInt8 := [184, 0, 33, 181, 0, 39, 3, 60, 27, 16, 10, 162, 0, 23, 42, 180, 0, 17, 27, 187, 0, 15, 89, 27]
abbrev dktX2_init_2 : List UInt8 := dkwX2_init_2 ++ dktX2_init_3
def dkwX2_init_1 : List UInt8 := [189, 0, 21, 181, 0, 23, 42, 16, 12, 188, 10, 181, 0, 27, 42, 16, 12, 188, 10, 181, 0, 30, 42]
abbrev dktX2_init_1 : List UInt8 := dkwX2_init_1 ++ dktX2_init_2
def dkwX2_init_0 : List UInt8 := [42, 183, 0, 3, 42, 16, 10, 188, 10, 181, 0, 9, 42, 16, 10, 189, 0, 15, 181, 0, 17, 42, 16, 7]
abbrev dktX2_init_0 : List UInt8 := dkwX2_init_0 ++ dktX2_init_1
theorem dksX2_init_0 : cX2_init.data.toList.drop 0 = dktX2_init_0 := by decide +kernel
theorem dksX2_init_1 : cX2_init.data.toList.drop 24 = dktX2_init_1 := dk_seg dksX2_init_0 24 rfl rfl
theorem dksX2_init_2 : cX2_init.data.toList.drop 47 = dktX2_init_2 := dk_seg dksX2_init_1 23 rfl rfl
theorem dksX2_init_3 : cX2_init.data.toList.drop 71 = dktX2_init_3 := dk_seg dksX2_init_2 24 rfl rfl
theorem dX2_init_0 : decode cX2_init 0 = .ok (.aload_n 0, 1) := dk_42 (dk_at dksX2_init_0 0 rfl rfl)
theorem dX2_init_1 : decode cX2_init 1 = .ok (.invokespecial 3, 3) := dk_183 0 3 (dk_at dksX2_init_0 1 rfl rfl)
theorem dX2_init_4 : decode cX2_init 4 = .ok (.aload_n 0, 1) := dk_42 (dk_at dksX2_init_0 4 rfl rfl)
theorem dX2_init_5 : decode cX2_init 5 = .ok (.bipush 10, 2) := dk_16 10 (dk_at dksX2_init_0 5 rfl rfl)
theorem dX2_init_7 : decode cX2_init 7 = .ok (.newarray .int, 2) := dk_188_10 (dk_at dksX2_init_0 7 rfl rfl)
theorem dX2_init_9 : decode cX2_init 9 = .ok (.putfield 9, 3) := dk_181 0 9 (dk_at dksX2_init_0 9 rfl rfl)
theorem dX2_init_12 : decode cX2_init 12 = .ok (.aload_n 0, 1) := dk_42 (dk_at dksX2_init_0 12 rfl rfl)
theorem dX2_init_13 : decode cX2_init 13 = .ok (.bipush 10, 2) := dk_16 10 (dk_at dksX2_init_0 13 rfl rfl)
theorem dX2_init_15 : decode cX2_init 15 = .ok (.anewarray 15, 3) := dk_189 0 15 (dk_at dksX2_init_0 15 rfl rfl)
theorem dX2_init_18 : decode cX2_init 18 = .ok (.putfield 17, 3) := dk_181 0 17 (dk_at dksX2_init_0 18 rfl rfl)
theorem dX2_init_21 : decode cX2_init 21 = .ok (.aload_n 0, 1) := dk_42 (dk_at dksX2_init_0 21 rfl rfl)
theorem dX2_init_22 : decode cX2_init 22 = .ok (.bipush 7, 2) := dk_16 7 (dk_at dksX2_init_0 22 rfl rfl)
theorem dX2_init_24 : decode cX2_init 24 = .ok (.anewarray 21, 3) := dk_189 0 21 (dk_at dksX2_init_1 0 rfl rfl)
theorem dX2_init_27 : decode cX2_init 27 = .ok (.putfield 23, 3) := dk_181 0 23 (dk_at dksX2_init_1 3 rfl rfl)
theorem dX2_init_30 : decode cX2_init 30 = .ok (.aload_n 0, 1) := dk_42 (dk_at dksX2_init_1 6 rfl rfl)
theorem dX2_init_31 : decode cX2_init 31 = .ok (.bipush 12, 2) := dk_16 12 (dk_at dksX2_init_1 7 rfl rfl)
theorem dX2_init_33 : decode cX2_init 33 = .ok (.newarray .int, 2) := dk_188_10 (dk_at dksX2_init_1 9 rfl rfl)
theorem dX2_init_35 : decode cX2_init 35 = .ok (.putfield 27, 3) := dk_181 0 27 (dk_at dksX2_init_1 11 rfl rfl)
theorem dX2_init_38 : decode cX2_init 38 = .ok (.aload_n 0, 1) := dk_42 (dk_at dksX2_init_1 14 rfl rfl)
theorem dX2_init_39 : decode cX2_init 39 = .ok (.bipush 12, 2) := dk_16 12 (dk_at dksX2_init_1 15 rfl rfl)
theorem dX2_init_41 : decode cX2_init 41 = .ok (.newarray .int, 2) := dk_188_10 (dk_at dksX2_init_1 17 rfl rfl)
theorem dX2_init_43 : decode cX2_init 43 = .ok (.putfield 30, 3) := dk_181 0 30 (dk_at dksX2_init_1 19 rfl rfl)
theorem dX2_init_46 : decode cX2_init 46 = .ok (.aload_n 0, 1) := dk_42 (dk_at dksX2_init_1 22 rfl rfl)
theorem dX2_init_47 : decode cX2_init 47 = .ok (.invokestatic 33, 3) := dk_184 0 33 (dk_at dksX2_init_2 0 rfl rfl)
theorem dX2_init_50 : decode cX2_init 50 = .ok (.putfield 39, 3) := dk_181 0 39 (dk_at dksX2_init_2 3 rfl rfl)
theorem dX2_init_53 : decode cX2_init 53 = .ok (.iconst 0, 1) := dk_3 (dk_at dksX2_init_2 6 rfl rfl)
theorem dX2_init_54 : decode cX2_init 54 = .ok (.istore_n 1, 1) := dk_60 (dk_at dksX2_init_2 7 rfl rfl)
theorem dX2_init_55 : decode cX2_init 55 = .ok (.iload_n 1, 1) := dk_27 (dk_at dksX2_init_2 8 rfl rfl)
theorem dX2_init_56 : decode cX2_init 56 = .ok (.bipush 10, 2) := dk_16 10 (dk_at dksX2_init_2 9 rfl rfl)
theorem dX2_init_58 : decode cX2_init 58 = .ok (.if_icmp .ge 23, 3) := dk_162 0 23 (dk_at dksX2_init_2 11 rfl rfl)
theorem dX2_init_61 : decode cX2_init 61 = .ok (.aload_n 0, 1) := dk_42 (dk_at dksX2_init_2 14 rfl rfl)
theorem dX2_init_62 : decode cX2_init 62 = .ok (.getfield 17, 3) := dk_180 0 17 (dk_at dksX2_init_2 15 rfl rfl)
theorem dX2_init_65 : decode cX2_init 65 = .ok (.iload_n 1, 1) := dk_27 (dk_at dksX2_init_2 18 rfl rfl)
theorem dX2_init_66 : decode cX2_init 66 = .ok (.new 15, 3) := dk_187 0 15 (dk_at dksX2_init_2 19 rfl rfl)
theorem dX2_init_69 : decode cX2_init 69 = .ok (.dup, 1) := dk_89 (dk_at dksX2_init_2 22 rfl rfl)
theorem dX2_init_70 : decode cX2_init 70 = .ok (.iload_n 1, 1) := dk_27 (dk_at dksX2_init_2 23 rfl rfl)
theorem dX2_init_71 : decode cX2_init 71 = .ok (.invokespecial 43, 3) := dk_183 0 43 (dk_at dksX2_init_3 0 rfl rfl)
theorem dX2_init_74 : decode cX2_init 74 = .ok (.aastore, 1) := dk_83 (dk_at dksX2_init_3 3 rfl rfl)
theorem dX2_init_75 : decode cX2_init 75 = .ok (.iinc 1 1, 3) := dk_132 1 1 (dk_at dksX2_init_3 4 rfl rfl)
theorem dX2_init_78 : decode cX2_init 78 = .ok (.goto (-23), 3) := dk_167 255 233 (dk_at dksX2_init_3 7 rfl rfl)
theorem dX2_init_81 : decode cX2_init 81 = .ok (.return_, 1) := dk_177 (dk_at dksX2_init_3 10 rfl rfl)
abbrev cX2_copyFrom : ByteArray := prog_8_method_2_code
def yX2_copyFrom : MethodName := ⟨RX2, "copyFrom", "(LInkPrintery$State;)V"⟩
def dkwX2_copyFrom_6 : List UInt8 := [16, 12, 184, 0, 46, 42, 43, 180, 0, 81, 181, 0, 81, 177]
abbrev dktX2_copyFrom_6 : List UInt8 := dkwX2_copyFrom_6 ++ []
def dkwX2_copyFrom_5 : List UInt8 := [180, 0, 27, 3, 42, 180, 0, 27, 3, 16, 12, 184, 0, 46, 43, 180, 0, 30, 3, 42, 180, 0, 30, 3]
abbrev dktX2_copyFrom_5 : List UInt8 := dkwX2_copyFrom_5 ++ dktX2_copyFrom_6
def dkwX2_copyFrom_4 : List UInt8 := [180, 0, 71, 181, 0, 71, 42, 43, 180, 0, 74, 181, 0, 74, 42, 43, 180, 0, 77, 181, 0, 77, 43]
abbrev dktX2_copyFrom_4 : List UInt8 := dkwX2_copyFrom_4 ++ dktX2_copyFrom_5
def dkwX2_copyFrom_3 : List UInt8 := [132, 2, 1, 167, 255, 226, 42, 43, 180, 0, 65, 181, 0, 65, 42, 43, 180, 0, 68, 181, 0, 68, 42, 43]
abbrev dktX2_copyFrom_3 : List UInt8 := dkwX2_copyFrom_3 ++ dktX2_copyFrom_4
def dkwX2_copyFrom_2 : List UInt8 := [162, 0, 28, 42, 180, 0, 23, 28, 187, 0, 21, 89, 43, 180, 0, 23, 28, 50, 183, 0, 62, 83]
abbrev dktX2_copyFrom_2 : List UInt8 := dkwX2_copyFrom_2 ++ dktX2_copyFrom_3
def dkwX2_copyFrom_1 : List UInt8 := [43, 180, 0, 56, 181, 0, 56, 42, 43, 180, 0, 59, 181, 0, 59, 3, 61, 28, 42, 180, 0, 59]
abbrev dktX2_copyFrom_1 : List UInt8 := dkwX2_copyFrom_1 ++ dktX2_copyFrom_2
def dkwX2_copyFrom_0 : List UInt8 := [43, 180, 0, 9, 3, 42, 180, 0, 9, 3, 16, 10, 184, 0, 46, 42, 43, 180, 0, 52, 181, 0, 52, 42]
abbrev dktX2_copyFrom_0 : List UInt8 := dkwX2_copyFrom_0 ++ dktX2_copyFrom_1
theorem dksX2_copyFrom_0 : cX2_copyFrom.data.toList.drop 0 = dktX2_copyFrom_0 := by decide +kernel
theorem dksX2_copyFrom_1 : cX2_copyFrom.data.toList.drop 24 = dktX2_copyFrom_1 := dk_seg dksX2_copyFrom_0 24 rfl rfl
theorem dksX2_copyFrom_2 : cX2_copyFrom.data.toList.drop 46 = dktX2_copyFrom_2 := dk_seg dksX2_copyFrom_1 22 rfl rfl
theorem dksX2_copyFrom_3 : cX2_copyFrom.data.toList.drop 68 = dktX2_copyFrom_3 := dk_seg dksX2_copyFrom_2 22 rfl rfl
theorem dksX2_copyFrom_4 : cX2_copyFrom.data.toList.drop 92 = dktX2_copyFrom_4 := dk_seg dksX2_copyFrom_3 24 rfl rfl
theorem dksX2_copyFrom_5 : cX2_copyFrom.data.toList.drop 115 = dktX2_copyFrom_5 := dk_seg dksX2_copyFrom_4 23 rfl rfl
theorem dksX2_copyFrom_6 : cX2_copyFrom.data.toList.drop 139 = dktX2_copyFrom_6 := dk_seg dksX2_copyFrom_5 24 rfl rfl
theorem dX2_copyFrom_0 : decode cX2_copyFrom 0 = .ok (.aload_n 1, 1) := dk_43 (dk_at dksX2_copyFrom_0 0 rfl rfl)
theorem dX2_copyFrom_1 : decode cX2_copyFrom 1 = .ok (.getfield 9, 3) := dk_180 0 9 (dk_at dksX2_copyFrom_0 1 rfl rfl)
theorem dX2_copyFrom_4 : decode cX2_copyFrom 4 = .ok (.iconst 0, 1) := dk_3 (dk_at dksX2_copyFrom_0 4 rfl rfl)
theorem dX2_copyFrom_5 : decode cX2_copyFrom 5 = .ok (.aload_n 0, 1) := dk_42 (dk_at dksX2_copyFrom_0 5 rfl rfl)
theorem dX2_copyFrom_6 : decode cX2_copyFrom 6 = .ok (.getfield 9, 3) := dk_180 0 9 (dk_at dksX2_copyFrom_0 6 rfl rfl)
theorem dX2_copyFrom_9 : decode cX2_copyFrom 9 = .ok (.iconst 0, 1) := dk_3 (dk_at dksX2_copyFrom_0 9 rfl rfl)
theorem dX2_copyFrom_10 : decode cX2_copyFrom 10 = .ok (.bipush 10, 2) := dk_16 10 (dk_at dksX2_copyFrom_0 10 rfl rfl)
theorem dX2_copyFrom_12 : decode cX2_copyFrom 12 = .ok (.invokestatic 46, 3) := dk_184 0 46 (dk_at dksX2_copyFrom_0 12 rfl rfl)
theorem dX2_copyFrom_15 : decode cX2_copyFrom 15 = .ok (.aload_n 0, 1) := dk_42 (dk_at dksX2_copyFrom_0 15 rfl rfl)
theorem dX2_copyFrom_16 : decode cX2_copyFrom 16 = .ok (.aload_n 1, 1) := dk_43 (dk_at dksX2_copyFrom_0 16 rfl rfl)
theorem dX2_copyFrom_17 : decode cX2_copyFrom 17 = .ok (.getfield 52, 3) := dk_180 0 52 (dk_at dksX2_copyFrom_0 17 rfl rfl)
theorem dX2_copyFrom_20 : decode cX2_copyFrom 20 = .ok (.putfield 52, 3) := dk_181 0 52 (dk_at dksX2_copyFrom_0 20 rfl rfl)
theorem dX2_copyFrom_23 : decode cX2_copyFrom 23 = .ok (.aload_n 0, 1) := dk_42 (dk_at dksX2_copyFrom_0 23 rfl rfl)
theorem dX2_copyFrom_24 : decode cX2_copyFrom 24 = .ok (.aload_n 1, 1) := dk_43 (dk_at dksX2_copyFrom_1 0 rfl rfl)
theorem dX2_copyFrom_25 : decode cX2_copyFrom 25 = .ok (.getfield 56, 3) := dk_180 0 56 (dk_at dksX2_copyFrom_1 1 rfl rfl)
theorem dX2_copyFrom_28 : decode cX2_copyFrom 28 = .ok (.putfield 56, 3) := dk_181 0 56 (dk_at dksX2_copyFrom_1 4 rfl rfl)
theorem dX2_copyFrom_31 : decode cX2_copyFrom 31 = .ok (.aload_n 0, 1) := dk_42 (dk_at dksX2_copyFrom_1 7 rfl rfl)
theorem dX2_copyFrom_32 : decode cX2_copyFrom 32 = .ok (.aload_n 1, 1) := dk_43 (dk_at dksX2_copyFrom_1 8 rfl rfl)
theorem dX2_copyFrom_33 : decode cX2_copyFrom 33 = .ok (.getfield 59, 3) := dk_180 0 59 (dk_at dksX2_copyFrom_1 9 rfl rfl)
theorem dX2_copyFrom_36 : decode cX2_copyFrom 36 = .ok (.putfield 59, 3) := dk_181 0 59 (dk_at dksX2_copyFrom_1 12 rfl rfl)
theorem dX2_copyFrom_39 : decode cX2_copyFrom 39 = .ok (.iconst 0, 1) := dk_3 (dk_at dksX2_copyFrom_1 15 rfl rfl)
theorem dX2_copyFrom_40 : decode cX2_copyFrom 40 = .ok (.istore_n 2, 1) := dk_61 (dk_at dksX2_copyFrom_1 16 rfl rfl)
theorem dX2_copyFrom_41 : decode cX2_copyFrom 41 = .ok (.iload_n 2, 1) := dk_28 (dk_at dksX2_copyFrom_1 17 rfl rfl)
theorem dX2_copyFrom_42 : decode cX2_copyFrom 42 = .ok (.aload_n 0, 1) := dk_42 (dk_at dksX2_copyFrom_1 18 rfl rfl)
theorem dX2_copyFrom_43 : decode cX2_copyFrom 43 = .ok (.getfield 59, 3) := dk_180 0 59 (dk_at dksX2_copyFrom_1 19 rfl rfl)
theorem dX2_copyFrom_46 : decode cX2_copyFrom 46 = .ok (.if_icmp .ge 28, 3) := dk_162 0 28 (dk_at dksX2_copyFrom_2 0 rfl rfl)
theorem dX2_copyFrom_49 : decode cX2_copyFrom 49 = .ok (.aload_n 0, 1) := dk_42 (dk_at dksX2_copyFrom_2 3 rfl rfl)
theorem dX2_copyFrom_50 : decode cX2_copyFrom 50 = .ok (.getfield 23, 3) := dk_180 0 23 (dk_at dksX2_copyFrom_2 4 rfl rfl)
theorem dX2_copyFrom_53 : decode cX2_copyFrom 53 = .ok (.iload_n 2, 1) := dk_28 (dk_at dksX2_copyFrom_2 7 rfl rfl)
theorem dX2_copyFrom_54 : decode cX2_copyFrom 54 = .ok (.new 21, 3) := dk_187 0 21 (dk_at dksX2_copyFrom_2 8 rfl rfl)
theorem dX2_copyFrom_57 : decode cX2_copyFrom 57 = .ok (.dup, 1) := dk_89 (dk_at dksX2_copyFrom_2 11 rfl rfl)
theorem dX2_copyFrom_58 : decode cX2_copyFrom 58 = .ok (.aload_n 1, 1) := dk_43 (dk_at dksX2_copyFrom_2 12 rfl rfl)
theorem dX2_copyFrom_59 : decode cX2_copyFrom 59 = .ok (.getfield 23, 3) := dk_180 0 23 (dk_at dksX2_copyFrom_2 13 rfl rfl)
theorem dX2_copyFrom_62 : decode cX2_copyFrom 62 = .ok (.iload_n 2, 1) := dk_28 (dk_at dksX2_copyFrom_2 16 rfl rfl)
theorem dX2_copyFrom_63 : decode cX2_copyFrom 63 = .ok (.aaload, 1) := dk_50 (dk_at dksX2_copyFrom_2 17 rfl rfl)
theorem dX2_copyFrom_64 : decode cX2_copyFrom 64 = .ok (.invokespecial 62, 3) := dk_183 0 62 (dk_at dksX2_copyFrom_2 18 rfl rfl)
theorem dX2_copyFrom_67 : decode cX2_copyFrom 67 = .ok (.aastore, 1) := dk_83 (dk_at dksX2_copyFrom_2 21 rfl rfl)
theorem dX2_copyFrom_68 : decode cX2_copyFrom 68 = .ok (.iinc 2 1, 3) := dk_132 2 1 (dk_at dksX2_copyFrom_3 0 rfl rfl)
theorem dX2_copyFrom_71 : decode cX2_copyFrom 71 = .ok (.goto (-30), 3) := dk_167 255 226 (dk_at dksX2_copyFrom_3 3 rfl rfl)
theorem dX2_copyFrom_74 : decode cX2_copyFrom 74 = .ok (.aload_n 0, 1) := dk_42 (dk_at dksX2_copyFrom_3 6 rfl rfl)
theorem dX2_copyFrom_75 : decode cX2_copyFrom 75 = .ok (.aload_n 1, 1) := dk_43 (dk_at dksX2_copyFrom_3 7 rfl rfl)
theorem dX2_copyFrom_76 : decode cX2_copyFrom 76 = .ok (.getfield 65, 3) := dk_180 0 65 (dk_at dksX2_copyFrom_3 8 rfl rfl)
theorem dX2_copyFrom_79 : decode cX2_copyFrom 79 = .ok (.putfield 65, 3) := dk_181 0 65 (dk_at dksX2_copyFrom_3 11 rfl rfl)
theorem dX2_copyFrom_82 : decode cX2_copyFrom 82 = .ok (.aload_n 0, 1) := dk_42 (dk_at dksX2_copyFrom_3 14 rfl rfl)
theorem dX2_copyFrom_83 : decode cX2_copyFrom 83 = .ok (.aload_n 1, 1) := dk_43 (dk_at dksX2_copyFrom_3 15 rfl rfl)
theorem dX2_copyFrom_84 : decode cX2_copyFrom 84 = .ok (.getfield 68, 3) := dk_180 0 68 (dk_at dksX2_copyFrom_3 16 rfl rfl)
theorem dX2_copyFrom_87 : decode cX2_copyFrom 87 = .ok (.putfield 68, 3) := dk_181 0 68 (dk_at dksX2_copyFrom_3 19 rfl rfl)
theorem dX2_copyFrom_90 : decode cX2_copyFrom 90 = .ok (.aload_n 0, 1) := dk_42 (dk_at dksX2_copyFrom_3 22 rfl rfl)
theorem dX2_copyFrom_91 : decode cX2_copyFrom 91 = .ok (.aload_n 1, 1) := dk_43 (dk_at dksX2_copyFrom_3 23 rfl rfl)
theorem dX2_copyFrom_92 : decode cX2_copyFrom 92 = .ok (.getfield 71, 3) := dk_180 0 71 (dk_at dksX2_copyFrom_4 0 rfl rfl)
theorem dX2_copyFrom_95 : decode cX2_copyFrom 95 = .ok (.putfield 71, 3) := dk_181 0 71 (dk_at dksX2_copyFrom_4 3 rfl rfl)
theorem dX2_copyFrom_98 : decode cX2_copyFrom 98 = .ok (.aload_n 0, 1) := dk_42 (dk_at dksX2_copyFrom_4 6 rfl rfl)
theorem dX2_copyFrom_99 : decode cX2_copyFrom 99 = .ok (.aload_n 1, 1) := dk_43 (dk_at dksX2_copyFrom_4 7 rfl rfl)
theorem dX2_copyFrom_100 : decode cX2_copyFrom 100 = .ok (.getfield 74, 3) := dk_180 0 74 (dk_at dksX2_copyFrom_4 8 rfl rfl)
theorem dX2_copyFrom_103 : decode cX2_copyFrom 103 = .ok (.putfield 74, 3) := dk_181 0 74 (dk_at dksX2_copyFrom_4 11 rfl rfl)
theorem dX2_copyFrom_106 : decode cX2_copyFrom 106 = .ok (.aload_n 0, 1) := dk_42 (dk_at dksX2_copyFrom_4 14 rfl rfl)
theorem dX2_copyFrom_107 : decode cX2_copyFrom 107 = .ok (.aload_n 1, 1) := dk_43 (dk_at dksX2_copyFrom_4 15 rfl rfl)
theorem dX2_copyFrom_108 : decode cX2_copyFrom 108 = .ok (.getfield 77, 3) := dk_180 0 77 (dk_at dksX2_copyFrom_4 16 rfl rfl)
theorem dX2_copyFrom_111 : decode cX2_copyFrom 111 = .ok (.putfield 77, 3) := dk_181 0 77 (dk_at dksX2_copyFrom_4 19 rfl rfl)
theorem dX2_copyFrom_114 : decode cX2_copyFrom 114 = .ok (.aload_n 1, 1) := dk_43 (dk_at dksX2_copyFrom_4 22 rfl rfl)
theorem dX2_copyFrom_115 : decode cX2_copyFrom 115 = .ok (.getfield 27, 3) := dk_180 0 27 (dk_at dksX2_copyFrom_5 0 rfl rfl)
theorem dX2_copyFrom_118 : decode cX2_copyFrom 118 = .ok (.iconst 0, 1) := dk_3 (dk_at dksX2_copyFrom_5 3 rfl rfl)
theorem dX2_copyFrom_119 : decode cX2_copyFrom 119 = .ok (.aload_n 0, 1) := dk_42 (dk_at dksX2_copyFrom_5 4 rfl rfl)
theorem dX2_copyFrom_120 : decode cX2_copyFrom 120 = .ok (.getfield 27, 3) := dk_180 0 27 (dk_at dksX2_copyFrom_5 5 rfl rfl)
theorem dX2_copyFrom_123 : decode cX2_copyFrom 123 = .ok (.iconst 0, 1) := dk_3 (dk_at dksX2_copyFrom_5 8 rfl rfl)
theorem dX2_copyFrom_124 : decode cX2_copyFrom 124 = .ok (.bipush 12, 2) := dk_16 12 (dk_at dksX2_copyFrom_5 9 rfl rfl)
theorem dX2_copyFrom_126 : decode cX2_copyFrom 126 = .ok (.invokestatic 46, 3) := dk_184 0 46 (dk_at dksX2_copyFrom_5 11 rfl rfl)
theorem dX2_copyFrom_129 : decode cX2_copyFrom 129 = .ok (.aload_n 1, 1) := dk_43 (dk_at dksX2_copyFrom_5 14 rfl rfl)
theorem dX2_copyFrom_130 : decode cX2_copyFrom 130 = .ok (.getfield 30, 3) := dk_180 0 30 (dk_at dksX2_copyFrom_5 15 rfl rfl)
theorem dX2_copyFrom_133 : decode cX2_copyFrom 133 = .ok (.iconst 0, 1) := dk_3 (dk_at dksX2_copyFrom_5 18 rfl rfl)
theorem dX2_copyFrom_134 : decode cX2_copyFrom 134 = .ok (.aload_n 0, 1) := dk_42 (dk_at dksX2_copyFrom_5 19 rfl rfl)
theorem dX2_copyFrom_135 : decode cX2_copyFrom 135 = .ok (.getfield 30, 3) := dk_180 0 30 (dk_at dksX2_copyFrom_5 20 rfl rfl)
theorem dX2_copyFrom_138 : decode cX2_copyFrom 138 = .ok (.iconst 0, 1) := dk_3 (dk_at dksX2_copyFrom_5 23 rfl rfl)
theorem dX2_copyFrom_139 : decode cX2_copyFrom 139 = .ok (.bipush 12, 2) := dk_16 12 (dk_at dksX2_copyFrom_6 0 rfl rfl)
theorem dX2_copyFrom_141 : decode cX2_copyFrom 141 = .ok (.invokestatic 46, 3) := dk_184 0 46 (dk_at dksX2_copyFrom_6 2 rfl rfl)
theorem dX2_copyFrom_144 : decode cX2_copyFrom 144 = .ok (.aload_n 0, 1) := dk_42 (dk_at dksX2_copyFrom_6 5 rfl rfl)
theorem dX2_copyFrom_145 : decode cX2_copyFrom 145 = .ok (.aload_n 1, 1) := dk_43 (dk_at dksX2_copyFrom_6 6 rfl rfl)
theorem dX2_copyFrom_146 : decode cX2_copyFrom 146 = .ok (.getfield 81, 3) := dk_180 0 81 (dk_at dksX2_copyFrom_6 7 rfl rfl)
theorem dX2_copyFrom_149 : decode cX2_copyFrom 149 = .ok (.putfield 81, 3) := dk_181 0 81 (dk_at dksX2_copyFrom_6 10 rfl rfl)
theorem dX2_copyFrom_152 : decode cX2_copyFrom 152 = .ok (.return_, 1) := dk_177 (dk_at dksX2_copyFrom_6 13 rfl rfl)
abbrev cX2_printAll : ByteArray := prog_8_method_23_code
def yX2_printAll : MethodName := ⟨RX2, "printAll", "()I"⟩
def dkwX2_printAll_3 : List UInt8 := [180, 0, 23, 21, 7, 50, 21, 8, 182, 0, 164, 29, 21, 8, 96, 62, 132, 6, 1, 167, 255, 192, 29, 172]
abbrev dktX2_printAll_3 : List UInt8 := dkwX2_printAll_3 ++ []
def dkwX2_printAll_2 : List UInt8 := [180, 0, 23, 21, 7, 50, 180, 0, 148, 46, 184, 0, 129, 54, 8, 21, 8, 158, 0, 21, 42, 42]
abbrev dktX2_printAll_2 : List UInt8 := dkwX2_printAll_2 ++ dktX2_printAll_3
def dkwX2_printAll_1 : List UInt8 := [21, 6, 21, 5, 162, 0, 63, 25, 4, 21, 6, 46, 54, 7, 44, 21, 7, 46, 42, 180, 0, 9, 42]
abbrev dktX2_printAll_1 : List UInt8 := dkwX2_printAll_1 ++ dktX2_printAll_2
def dkwX2_printAll_0 : List UInt8 := [42, 182, 0, 168, 76, 42, 182, 0, 171, 77, 3, 62, 43, 58, 4, 25, 4, 190, 54, 5, 3, 54, 6]
abbrev dktX2_printAll_0 : List UInt8 := dkwX2_printAll_0 ++ dktX2_printAll_1
theorem dksX2_printAll_0 : cX2_printAll.data.toList.drop 0 = dktX2_printAll_0 := by decide +kernel
theorem dksX2_printAll_1 : cX2_printAll.data.toList.drop 23 = dktX2_printAll_1 := dk_seg dksX2_printAll_0 23 rfl rfl
theorem dksX2_printAll_2 : cX2_printAll.data.toList.drop 46 = dktX2_printAll_2 := dk_seg dksX2_printAll_1 23 rfl rfl
theorem dksX2_printAll_3 : cX2_printAll.data.toList.drop 68 = dktX2_printAll_3 := dk_seg dksX2_printAll_2 22 rfl rfl
theorem dX2_printAll_0 : decode cX2_printAll 0 = .ok (.aload_n 0, 1) := dk_42 (dk_at dksX2_printAll_0 0 rfl rfl)
theorem dX2_printAll_1 : decode cX2_printAll 1 = .ok (.invokevirtual 168, 3) := dk_182 0 168 (dk_at dksX2_printAll_0 1 rfl rfl)
theorem dX2_printAll_4 : decode cX2_printAll 4 = .ok (.astore_n 1, 1) := dk_76 (dk_at dksX2_printAll_0 4 rfl rfl)
theorem dX2_printAll_5 : decode cX2_printAll 5 = .ok (.aload_n 0, 1) := dk_42 (dk_at dksX2_printAll_0 5 rfl rfl)
theorem dX2_printAll_6 : decode cX2_printAll 6 = .ok (.invokevirtual 171, 3) := dk_182 0 171 (dk_at dksX2_printAll_0 6 rfl rfl)
theorem dX2_printAll_9 : decode cX2_printAll 9 = .ok (.astore_n 2, 1) := dk_77 (dk_at dksX2_printAll_0 9 rfl rfl)
theorem dX2_printAll_10 : decode cX2_printAll 10 = .ok (.iconst 0, 1) := dk_3 (dk_at dksX2_printAll_0 10 rfl rfl)
theorem dX2_printAll_11 : decode cX2_printAll 11 = .ok (.istore_n 3, 1) := dk_62 (dk_at dksX2_printAll_0 11 rfl rfl)
theorem dX2_printAll_12 : decode cX2_printAll 12 = .ok (.aload_n 1, 1) := dk_43 (dk_at dksX2_printAll_0 12 rfl rfl)
theorem dX2_printAll_13 : decode cX2_printAll 13 = .ok (.astore 4, 2) := dk_58 4 (dk_at dksX2_printAll_0 13 rfl rfl)
theorem dX2_printAll_15 : decode cX2_printAll 15 = .ok (.aload 4, 2) := dk_25 4 (dk_at dksX2_printAll_0 15 rfl rfl)
theorem dX2_printAll_17 : decode cX2_printAll 17 = .ok (.arraylength, 1) := dk_190 (dk_at dksX2_printAll_0 17 rfl rfl)
theorem dX2_printAll_18 : decode cX2_printAll 18 = .ok (.istore 5, 2) := dk_54 5 (dk_at dksX2_printAll_0 18 rfl rfl)
theorem dX2_printAll_20 : decode cX2_printAll 20 = .ok (.iconst 0, 1) := dk_3 (dk_at dksX2_printAll_0 20 rfl rfl)
theorem dX2_printAll_21 : decode cX2_printAll 21 = .ok (.istore 6, 2) := dk_54 6 (dk_at dksX2_printAll_0 21 rfl rfl)
theorem dX2_printAll_23 : decode cX2_printAll 23 = .ok (.iload 6, 2) := dk_21 6 (dk_at dksX2_printAll_1 0 rfl rfl)
theorem dX2_printAll_25 : decode cX2_printAll 25 = .ok (.iload 5, 2) := dk_21 5 (dk_at dksX2_printAll_1 2 rfl rfl)
theorem dX2_printAll_27 : decode cX2_printAll 27 = .ok (.if_icmp .ge 63, 3) := dk_162 0 63 (dk_at dksX2_printAll_1 4 rfl rfl)
theorem dX2_printAll_30 : decode cX2_printAll 30 = .ok (.aload 4, 2) := dk_25 4 (dk_at dksX2_printAll_1 7 rfl rfl)
theorem dX2_printAll_32 : decode cX2_printAll 32 = .ok (.iload 6, 2) := dk_21 6 (dk_at dksX2_printAll_1 9 rfl rfl)
theorem dX2_printAll_34 : decode cX2_printAll 34 = .ok (.iaload, 1) := dk_46 (dk_at dksX2_printAll_1 11 rfl rfl)
theorem dX2_printAll_35 : decode cX2_printAll 35 = .ok (.istore 7, 2) := dk_54 7 (dk_at dksX2_printAll_1 12 rfl rfl)
theorem dX2_printAll_37 : decode cX2_printAll 37 = .ok (.aload_n 2, 1) := dk_44 (dk_at dksX2_printAll_1 14 rfl rfl)
theorem dX2_printAll_38 : decode cX2_printAll 38 = .ok (.iload 7, 2) := dk_21 7 (dk_at dksX2_printAll_1 15 rfl rfl)
theorem dX2_printAll_40 : decode cX2_printAll 40 = .ok (.iaload, 1) := dk_46 (dk_at dksX2_printAll_1 17 rfl rfl)
theorem dX2_printAll_41 : decode cX2_printAll 41 = .ok (.aload_n 0, 1) := dk_42 (dk_at dksX2_printAll_1 18 rfl rfl)
theorem dX2_printAll_42 : decode cX2_printAll 42 = .ok (.getfield 9, 3) := dk_180 0 9 (dk_at dksX2_printAll_1 19 rfl rfl)
theorem dX2_printAll_45 : decode cX2_printAll 45 = .ok (.aload_n 0, 1) := dk_42 (dk_at dksX2_printAll_1 22 rfl rfl)
theorem dX2_printAll_46 : decode cX2_printAll 46 = .ok (.getfield 23, 3) := dk_180 0 23 (dk_at dksX2_printAll_2 0 rfl rfl)
theorem dX2_printAll_49 : decode cX2_printAll 49 = .ok (.iload 7, 2) := dk_21 7 (dk_at dksX2_printAll_2 3 rfl rfl)
theorem dX2_printAll_51 : decode cX2_printAll 51 = .ok (.aaload, 1) := dk_50 (dk_at dksX2_printAll_2 5 rfl rfl)
theorem dX2_printAll_52 : decode cX2_printAll 52 = .ok (.getfield 148, 3) := dk_180 0 148 (dk_at dksX2_printAll_2 6 rfl rfl)
theorem dX2_printAll_55 : decode cX2_printAll 55 = .ok (.iaload, 1) := dk_46 (dk_at dksX2_printAll_2 9 rfl rfl)
theorem dX2_printAll_56 : decode cX2_printAll 56 = .ok (.invokestatic 129, 3) := dk_184 0 129 (dk_at dksX2_printAll_2 10 rfl rfl)
theorem dX2_printAll_59 : decode cX2_printAll 59 = .ok (.istore 8, 2) := dk_54 8 (dk_at dksX2_printAll_2 13 rfl rfl)
theorem dX2_printAll_61 : decode cX2_printAll 61 = .ok (.iload 8, 2) := dk_21 8 (dk_at dksX2_printAll_2 15 rfl rfl)
theorem dX2_printAll_63 : decode cX2_printAll 63 = .ok (.ifCond .le 21, 3) := dk_158 0 21 (dk_at dksX2_printAll_2 17 rfl rfl)
theorem dX2_printAll_66 : decode cX2_printAll 66 = .ok (.aload_n 0, 1) := dk_42 (dk_at dksX2_printAll_2 20 rfl rfl)
theorem dX2_printAll_67 : decode cX2_printAll 67 = .ok (.aload_n 0, 1) := dk_42 (dk_at dksX2_printAll_2 21 rfl rfl)
theorem dX2_printAll_68 : decode cX2_printAll 68 = .ok (.getfield 23, 3) := dk_180 0 23 (dk_at dksX2_printAll_3 0 rfl rfl)
theorem dX2_printAll_71 : decode cX2_printAll 71 = .ok (.iload 7, 2) := dk_21 7 (dk_at dksX2_printAll_3 3 rfl rfl)
theorem dX2_printAll_73 : decode cX2_printAll 73 = .ok (.aaload, 1) := dk_50 (dk_at dksX2_printAll_3 5 rfl rfl)
theorem dX2_printAll_74 : decode cX2_printAll 74 = .ok (.iload 8, 2) := dk_21 8 (dk_at dksX2_printAll_3 6 rfl rfl)
theorem dX2_printAll_76 : decode cX2_printAll 76 = .ok (.invokevirtual 164, 3) := dk_182 0 164 (dk_at dksX2_printAll_3 8 rfl rfl)
theorem dX2_printAll_79 : decode cX2_printAll 79 = .ok (.iload_n 3, 1) := dk_29 (dk_at dksX2_printAll_3 11 rfl rfl)
theorem dX2_printAll_80 : decode cX2_printAll 80 = .ok (.iload 8, 2) := dk_21 8 (dk_at dksX2_printAll_3 12 rfl rfl)
theorem dX2_printAll_82 : decode cX2_printAll 82 = .ok (.iadd, 1) := dk_96 (dk_at dksX2_printAll_3 14 rfl rfl)
theorem dX2_printAll_83 : decode cX2_printAll 83 = .ok (.istore_n 3, 1) := dk_62 (dk_at dksX2_printAll_3 15 rfl rfl)
theorem dX2_printAll_84 : decode cX2_printAll 84 = .ok (.iinc 6 1, 3) := dk_132 6 1 (dk_at dksX2_printAll_3 16 rfl rfl)
theorem dX2_printAll_87 : decode cX2_printAll 87 = .ok (.goto (-64), 3) := dk_167 255 192 (dk_at dksX2_printAll_3 19 rfl rfl)
theorem dX2_printAll_90 : decode cX2_printAll 90 = .ok (.iload_n 3, 1) := dk_29 (dk_at dksX2_printAll_3 22 rfl rfl)
theorem dX2_printAll_91 : decode cX2_printAll 91 = .ok (.ireturn, 1) := dk_172 (dk_at dksX2_printAll_3 23 rfl rfl)
abbrev cX2_bestOrder : ByteArray := prog_8_method_13_code
def yX2_bestOrder : MethodName := ⟨RX2, "bestOrder", "()[I"⟩
def dkwX2_bestOrder_0 : List UInt8 := [187, 0, 113, 89, 42, 183, 0, 115, 182, 0, 118, 176]
abbrev dktX2_bestOrder_0 : List UInt8 := dkwX2_bestOrder_0 ++ []
theorem dksX2_bestOrder_0 : cX2_bestOrder.data.toList.drop 0 = dktX2_bestOrder_0 := by decide +kernel
theorem dX2_bestOrder_0 : decode cX2_bestOrder 0 = .ok (.new 113, 3) := dk_187 0 113 (dk_at dksX2_bestOrder_0 0 rfl rfl)
theorem dX2_bestOrder_3 : decode cX2_bestOrder 3 = .ok (.dup, 1) := dk_89 (dk_at dksX2_bestOrder_0 3 rfl rfl)
theorem dX2_bestOrder_4 : decode cX2_bestOrder 4 = .ok (.aload_n 0, 1) := dk_42 (dk_at dksX2_bestOrder_0 4 rfl rfl)
theorem dX2_bestOrder_5 : decode cX2_bestOrder 5 = .ok (.invokespecial 115, 3) := dk_183 0 115 (dk_at dksX2_bestOrder_0 5 rfl rfl)
theorem dX2_bestOrder_8 : decode cX2_bestOrder 8 = .ok (.invokevirtual 118, 3) := dk_182 0 118 (dk_at dksX2_bestOrder_0 8 rfl rfl)
theorem dX2_bestOrder_11 : decode cX2_bestOrder 11 = .ok (.areturn, 1) := dk_176 (dk_at dksX2_bestOrder_0 11 rfl rfl)
abbrev cX2_shares : ByteArray := prog_8_method_15_code
def yX2_shares : MethodName := ⟨RX2, "shares", "()[I"⟩
def dkwX2_shares_1 : List UInt8 := [159, 0, 22, 43, 29, 92, 46, 4, 96, 79, 132, 2, 255, 42, 43, 182, 0, 125, 62, 167, 255, 231, 43, 176]
abbrev dktX2_shares_1 : List UInt8 := dkwX2_shares_1 ++ []
def dkwX2_shares_0 : List UInt8 := [42, 180, 0, 59, 188, 10, 76, 42, 180, 0, 56, 61, 42, 43, 182, 0, 125, 62, 28, 158, 0, 27, 29, 2]
abbrev dktX2_shares_0 : List UInt8 := dkwX2_shares_0 ++ dktX2_shares_1
theorem dksX2_shares_0 : cX2_shares.data.toList.drop 0 = dktX2_shares_0 := by decide +kernel
theorem dksX2_shares_1 : cX2_shares.data.toList.drop 24 = dktX2_shares_1 := dk_seg dksX2_shares_0 24 rfl rfl
theorem dX2_shares_0 : decode cX2_shares 0 = .ok (.aload_n 0, 1) := dk_42 (dk_at dksX2_shares_0 0 rfl rfl)
theorem dX2_shares_1 : decode cX2_shares 1 = .ok (.getfield 59, 3) := dk_180 0 59 (dk_at dksX2_shares_0 1 rfl rfl)
theorem dX2_shares_4 : decode cX2_shares 4 = .ok (.newarray .int, 2) := dk_188_10 (dk_at dksX2_shares_0 4 rfl rfl)
theorem dX2_shares_6 : decode cX2_shares 6 = .ok (.astore_n 1, 1) := dk_76 (dk_at dksX2_shares_0 6 rfl rfl)
theorem dX2_shares_7 : decode cX2_shares 7 = .ok (.aload_n 0, 1) := dk_42 (dk_at dksX2_shares_0 7 rfl rfl)
theorem dX2_shares_8 : decode cX2_shares 8 = .ok (.getfield 56, 3) := dk_180 0 56 (dk_at dksX2_shares_0 8 rfl rfl)
theorem dX2_shares_11 : decode cX2_shares 11 = .ok (.istore_n 2, 1) := dk_61 (dk_at dksX2_shares_0 11 rfl rfl)
theorem dX2_shares_12 : decode cX2_shares 12 = .ok (.aload_n 0, 1) := dk_42 (dk_at dksX2_shares_0 12 rfl rfl)
theorem dX2_shares_13 : decode cX2_shares 13 = .ok (.aload_n 1, 1) := dk_43 (dk_at dksX2_shares_0 13 rfl rfl)
theorem dX2_shares_14 : decode cX2_shares 14 = .ok (.invokevirtual 125, 3) := dk_182 0 125 (dk_at dksX2_shares_0 14 rfl rfl)
theorem dX2_shares_17 : decode cX2_shares 17 = .ok (.istore_n 3, 1) := dk_62 (dk_at dksX2_shares_0 17 rfl rfl)
theorem dX2_shares_18 : decode cX2_shares 18 = .ok (.iload_n 2, 1) := dk_28 (dk_at dksX2_shares_0 18 rfl rfl)
theorem dX2_shares_19 : decode cX2_shares 19 = .ok (.ifCond .le 27, 3) := dk_158 0 27 (dk_at dksX2_shares_0 19 rfl rfl)
theorem dX2_shares_22 : decode cX2_shares 22 = .ok (.iload_n 3, 1) := dk_29 (dk_at dksX2_shares_0 22 rfl rfl)
theorem dX2_shares_23 : decode cX2_shares 23 = .ok (.iconst (-1), 1) := dk_2 (dk_at dksX2_shares_0 23 rfl rfl)
theorem dX2_shares_24 : decode cX2_shares 24 = .ok (.if_icmp .eq 22, 3) := dk_159 0 22 (dk_at dksX2_shares_1 0 rfl rfl)
theorem dX2_shares_27 : decode cX2_shares 27 = .ok (.aload_n 1, 1) := dk_43 (dk_at dksX2_shares_1 3 rfl rfl)
theorem dX2_shares_28 : decode cX2_shares 28 = .ok (.iload_n 3, 1) := dk_29 (dk_at dksX2_shares_1 4 rfl rfl)
theorem dX2_shares_29 : decode cX2_shares 29 = .ok (.dup2, 1) := dk_92 (dk_at dksX2_shares_1 5 rfl rfl)
theorem dX2_shares_30 : decode cX2_shares 30 = .ok (.iaload, 1) := dk_46 (dk_at dksX2_shares_1 6 rfl rfl)
theorem dX2_shares_31 : decode cX2_shares 31 = .ok (.iconst 1, 1) := dk_4 (dk_at dksX2_shares_1 7 rfl rfl)
theorem dX2_shares_32 : decode cX2_shares 32 = .ok (.iadd, 1) := dk_96 (dk_at dksX2_shares_1 8 rfl rfl)
theorem dX2_shares_33 : decode cX2_shares 33 = .ok (.iastore, 1) := dk_79 (dk_at dksX2_shares_1 9 rfl rfl)
theorem dX2_shares_34 : decode cX2_shares 34 = .ok (.iinc 2 (-1), 3) := dk_132 2 255 (dk_at dksX2_shares_1 10 rfl rfl)
theorem dX2_shares_37 : decode cX2_shares 37 = .ok (.aload_n 0, 1) := dk_42 (dk_at dksX2_shares_1 13 rfl rfl)
theorem dX2_shares_38 : decode cX2_shares 38 = .ok (.aload_n 1, 1) := dk_43 (dk_at dksX2_shares_1 14 rfl rfl)
theorem dX2_shares_39 : decode cX2_shares 39 = .ok (.invokevirtual 125, 3) := dk_182 0 125 (dk_at dksX2_shares_1 15 rfl rfl)
theorem dX2_shares_42 : decode cX2_shares 42 = .ok (.istore_n 3, 1) := dk_62 (dk_at dksX2_shares_1 18 rfl rfl)
theorem dX2_shares_43 : decode cX2_shares 43 = .ok (.goto (-25), 3) := dk_167 255 231 (dk_at dksX2_shares_1 19 rfl rfl)
theorem dX2_shares_46 : decode cX2_shares 46 = .ok (.aload_n 1, 1) := dk_43 (dk_at dksX2_shares_1 22 rfl rfl)
theorem dX2_shares_47 : decode cX2_shares 47 = .ok (.areturn, 1) := dk_176 (dk_at dksX2_shares_1 23 rfl rfl)
abbrev cX2_nextToGet : ByteArray := prog_8_method_14_code
def yX2_nextToGet : MethodName := ⟨RX2, "nextToGet", "([I)I"⟩
def dkwX2_nextToGet_2 : List UInt8 := [167, 255, 214, 28, 172]
abbrev dktX2_nextToGet_2 : List UInt8 := dkwX2_nextToGet_2 ++ []
def dkwX2_nextToGet_1 : List UInt8 := [162, 0, 19, 28, 2, 159, 0, 12, 43, 29, 46, 43, 28, 46, 162, 0, 5, 29, 61, 132, 3, 1]
abbrev dktX2_nextToGet_1 : List UInt8 := dkwX2_nextToGet_1 ++ dktX2_nextToGet_2
def dkwX2_nextToGet_0 : List UInt8 := [2, 61, 3, 62, 29, 42, 180, 0, 59, 162, 0, 40, 43, 29, 46, 42, 180, 0, 23, 29, 50, 182, 0, 122]
abbrev dktX2_nextToGet_0 : List UInt8 := dkwX2_nextToGet_0 ++ dktX2_nextToGet_1
theorem dksX2_nextToGet_0 : cX2_nextToGet.data.toList.drop 0 = dktX2_nextToGet_0 := by decide +kernel
theorem dksX2_nextToGet_1 : cX2_nextToGet.data.toList.drop 24 = dktX2_nextToGet_1 := dk_seg dksX2_nextToGet_0 24 rfl rfl
theorem dksX2_nextToGet_2 : cX2_nextToGet.data.toList.drop 46 = dktX2_nextToGet_2 := dk_seg dksX2_nextToGet_1 22 rfl rfl
theorem dX2_nextToGet_0 : decode cX2_nextToGet 0 = .ok (.iconst (-1), 1) := dk_2 (dk_at dksX2_nextToGet_0 0 rfl rfl)
theorem dX2_nextToGet_1 : decode cX2_nextToGet 1 = .ok (.istore_n 2, 1) := dk_61 (dk_at dksX2_nextToGet_0 1 rfl rfl)
theorem dX2_nextToGet_2 : decode cX2_nextToGet 2 = .ok (.iconst 0, 1) := dk_3 (dk_at dksX2_nextToGet_0 2 rfl rfl)
theorem dX2_nextToGet_3 : decode cX2_nextToGet 3 = .ok (.istore_n 3, 1) := dk_62 (dk_at dksX2_nextToGet_0 3 rfl rfl)
theorem dX2_nextToGet_4 : decode cX2_nextToGet 4 = .ok (.iload_n 3, 1) := dk_29 (dk_at dksX2_nextToGet_0 4 rfl rfl)
theorem dX2_nextToGet_5 : decode cX2_nextToGet 5 = .ok (.aload_n 0, 1) := dk_42 (dk_at dksX2_nextToGet_0 5 rfl rfl)
theorem dX2_nextToGet_6 : decode cX2_nextToGet 6 = .ok (.getfield 59, 3) := dk_180 0 59 (dk_at dksX2_nextToGet_0 6 rfl rfl)
theorem dX2_nextToGet_9 : decode cX2_nextToGet 9 = .ok (.if_icmp .ge 40, 3) := dk_162 0 40 (dk_at dksX2_nextToGet_0 9 rfl rfl)
theorem dX2_nextToGet_12 : decode cX2_nextToGet 12 = .ok (.aload_n 1, 1) := dk_43 (dk_at dksX2_nextToGet_0 12 rfl rfl)
theorem dX2_nextToGet_13 : decode cX2_nextToGet 13 = .ok (.iload_n 3, 1) := dk_29 (dk_at dksX2_nextToGet_0 13 rfl rfl)
theorem dX2_nextToGet_14 : decode cX2_nextToGet 14 = .ok (.iaload, 1) := dk_46 (dk_at dksX2_nextToGet_0 14 rfl rfl)
theorem dX2_nextToGet_15 : decode cX2_nextToGet 15 = .ok (.aload_n 0, 1) := dk_42 (dk_at dksX2_nextToGet_0 15 rfl rfl)
theorem dX2_nextToGet_16 : decode cX2_nextToGet 16 = .ok (.getfield 23, 3) := dk_180 0 23 (dk_at dksX2_nextToGet_0 16 rfl rfl)
theorem dX2_nextToGet_19 : decode cX2_nextToGet 19 = .ok (.iload_n 3, 1) := dk_29 (dk_at dksX2_nextToGet_0 19 rfl rfl)
theorem dX2_nextToGet_20 : decode cX2_nextToGet 20 = .ok (.aaload, 1) := dk_50 (dk_at dksX2_nextToGet_0 20 rfl rfl)
theorem dX2_nextToGet_21 : decode cX2_nextToGet 21 = .ok (.invokevirtual 122, 3) := dk_182 0 122 (dk_at dksX2_nextToGet_0 21 rfl rfl)
theorem dX2_nextToGet_24 : decode cX2_nextToGet 24 = .ok (.if_icmp .ge 19, 3) := dk_162 0 19 (dk_at dksX2_nextToGet_1 0 rfl rfl)
theorem dX2_nextToGet_27 : decode cX2_nextToGet 27 = .ok (.iload_n 2, 1) := dk_28 (dk_at dksX2_nextToGet_1 3 rfl rfl)
theorem dX2_nextToGet_28 : decode cX2_nextToGet 28 = .ok (.iconst (-1), 1) := dk_2 (dk_at dksX2_nextToGet_1 4 rfl rfl)
theorem dX2_nextToGet_29 : decode cX2_nextToGet 29 = .ok (.if_icmp .eq 12, 3) := dk_159 0 12 (dk_at dksX2_nextToGet_1 5 rfl rfl)
theorem dX2_nextToGet_32 : decode cX2_nextToGet 32 = .ok (.aload_n 1, 1) := dk_43 (dk_at dksX2_nextToGet_1 8 rfl rfl)
theorem dX2_nextToGet_33 : decode cX2_nextToGet 33 = .ok (.iload_n 3, 1) := dk_29 (dk_at dksX2_nextToGet_1 9 rfl rfl)
theorem dX2_nextToGet_34 : decode cX2_nextToGet 34 = .ok (.iaload, 1) := dk_46 (dk_at dksX2_nextToGet_1 10 rfl rfl)
theorem dX2_nextToGet_35 : decode cX2_nextToGet 35 = .ok (.aload_n 1, 1) := dk_43 (dk_at dksX2_nextToGet_1 11 rfl rfl)
theorem dX2_nextToGet_36 : decode cX2_nextToGet 36 = .ok (.iload_n 2, 1) := dk_28 (dk_at dksX2_nextToGet_1 12 rfl rfl)
theorem dX2_nextToGet_37 : decode cX2_nextToGet 37 = .ok (.iaload, 1) := dk_46 (dk_at dksX2_nextToGet_1 13 rfl rfl)
theorem dX2_nextToGet_38 : decode cX2_nextToGet 38 = .ok (.if_icmp .ge 5, 3) := dk_162 0 5 (dk_at dksX2_nextToGet_1 14 rfl rfl)
theorem dX2_nextToGet_41 : decode cX2_nextToGet 41 = .ok (.iload_n 3, 1) := dk_29 (dk_at dksX2_nextToGet_1 17 rfl rfl)
theorem dX2_nextToGet_42 : decode cX2_nextToGet 42 = .ok (.istore_n 2, 1) := dk_61 (dk_at dksX2_nextToGet_1 18 rfl rfl)
theorem dX2_nextToGet_43 : decode cX2_nextToGet 43 = .ok (.iinc 3 1, 3) := dk_132 3 1 (dk_at dksX2_nextToGet_1 19 rfl rfl)
theorem dX2_nextToGet_46 : decode cX2_nextToGet 46 = .ok (.goto (-42), 3) := dk_167 255 214 (dk_at dksX2_nextToGet_2 0 rfl rfl)
theorem dX2_nextToGet_49 : decode cX2_nextToGet 49 = .ok (.iload_n 2, 1) := dk_28 (dk_at dksX2_nextToGet_2 3 rfl rfl)
theorem dX2_nextToGet_50 : decode cX2_nextToGet 50 = .ok (.ireturn, 1) := dk_172 (dk_at dksX2_nextToGet_2 4 rfl rfl)
abbrev cX2_printCopies : ByteArray := prog_8_method_21_code
def yX2_printCopies : MethodName := ⟨RX2, "printCopies", "(LInkPrintery$Edition;I)V"⟩
def dkwX2_printCopies_3 : List UInt8 := [180, 0, 74, 28, 96, 181, 0, 74, 177]
abbrev dktX2_printCopies_3 : List UInt8 := dkwX2_printCopies_3 ++ []
def dkwX2_printCopies_2 : List UInt8 := [180, 0, 56, 28, 100, 181, 0, 56, 42, 180, 0, 9, 43, 180, 0, 148, 92, 46, 28, 100, 79, 42, 89]
abbrev dktX2_printCopies_2 : List UInt8 := dkwX2_printCopies_2 ++ dktX2_printCopies_3
def dkwX2_printCopies_1 : List UInt8 := [96, 181, 0, 68, 42, 43, 180, 0, 148, 181, 0, 65, 43, 89, 180, 0, 154, 28, 96, 181, 0, 154, 42, 89]
abbrev dktX2_printCopies_1 : List UInt8 := dkwX2_printCopies_1 ++ dktX2_printCopies_2
def dkwX2_printCopies_0 : List UInt8 := [42, 89, 180, 0, 68, 42, 180, 0, 39, 42, 180, 0, 65, 43, 180, 0, 148, 185, 0, 151, 3, 0, 28, 96]
abbrev dktX2_printCopies_0 : List UInt8 := dkwX2_printCopies_0 ++ dktX2_printCopies_1
theorem dksX2_printCopies_0 : cX2_printCopies.data.toList.drop 0 = dktX2_printCopies_0 := by decide +kernel
theorem dksX2_printCopies_1 : cX2_printCopies.data.toList.drop 24 = dktX2_printCopies_1 := dk_seg dksX2_printCopies_0 24 rfl rfl
theorem dksX2_printCopies_2 : cX2_printCopies.data.toList.drop 48 = dktX2_printCopies_2 := dk_seg dksX2_printCopies_1 24 rfl rfl
theorem dksX2_printCopies_3 : cX2_printCopies.data.toList.drop 71 = dktX2_printCopies_3 := dk_seg dksX2_printCopies_2 23 rfl rfl
theorem dX2_printCopies_0 : decode cX2_printCopies 0 = .ok (.aload_n 0, 1) := dk_42 (dk_at dksX2_printCopies_0 0 rfl rfl)
theorem dX2_printCopies_1 : decode cX2_printCopies 1 = .ok (.dup, 1) := dk_89 (dk_at dksX2_printCopies_0 1 rfl rfl)
theorem dX2_printCopies_2 : decode cX2_printCopies 2 = .ok (.getfield 68, 3) := dk_180 0 68 (dk_at dksX2_printCopies_0 2 rfl rfl)
theorem dX2_printCopies_5 : decode cX2_printCopies 5 = .ok (.aload_n 0, 1) := dk_42 (dk_at dksX2_printCopies_0 5 rfl rfl)
theorem dX2_printCopies_6 : decode cX2_printCopies 6 = .ok (.getfield 39, 3) := dk_180 0 39 (dk_at dksX2_printCopies_0 6 rfl rfl)
theorem dX2_printCopies_9 : decode cX2_printCopies 9 = .ok (.aload_n 0, 1) := dk_42 (dk_at dksX2_printCopies_0 9 rfl rfl)
theorem dX2_printCopies_10 : decode cX2_printCopies 10 = .ok (.getfield 65, 3) := dk_180 0 65 (dk_at dksX2_printCopies_0 10 rfl rfl)
theorem dX2_printCopies_13 : decode cX2_printCopies 13 = .ok (.aload_n 1, 1) := dk_43 (dk_at dksX2_printCopies_0 13 rfl rfl)
theorem dX2_printCopies_14 : decode cX2_printCopies 14 = .ok (.getfield 148, 3) := dk_180 0 148 (dk_at dksX2_printCopies_0 14 rfl rfl)
theorem dX2_printCopies_17 : decode cX2_printCopies 17 = .ok (.invokeinterface 151 3, 5) := by decide +kernel
theorem dX2_printCopies_22 : decode cX2_printCopies 22 = .ok (.iload_n 2, 1) := dk_28 (dk_at dksX2_printCopies_0 22 rfl rfl)
theorem dX2_printCopies_23 : decode cX2_printCopies 23 = .ok (.iadd, 1) := dk_96 (dk_at dksX2_printCopies_0 23 rfl rfl)
theorem dX2_printCopies_24 : decode cX2_printCopies 24 = .ok (.iadd, 1) := dk_96 (dk_at dksX2_printCopies_1 0 rfl rfl)
theorem dX2_printCopies_25 : decode cX2_printCopies 25 = .ok (.putfield 68, 3) := dk_181 0 68 (dk_at dksX2_printCopies_1 1 rfl rfl)
theorem dX2_printCopies_28 : decode cX2_printCopies 28 = .ok (.aload_n 0, 1) := dk_42 (dk_at dksX2_printCopies_1 4 rfl rfl)
theorem dX2_printCopies_29 : decode cX2_printCopies 29 = .ok (.aload_n 1, 1) := dk_43 (dk_at dksX2_printCopies_1 5 rfl rfl)
theorem dX2_printCopies_30 : decode cX2_printCopies 30 = .ok (.getfield 148, 3) := dk_180 0 148 (dk_at dksX2_printCopies_1 6 rfl rfl)
theorem dX2_printCopies_33 : decode cX2_printCopies 33 = .ok (.putfield 65, 3) := dk_181 0 65 (dk_at dksX2_printCopies_1 9 rfl rfl)
theorem dX2_printCopies_36 : decode cX2_printCopies 36 = .ok (.aload_n 1, 1) := dk_43 (dk_at dksX2_printCopies_1 12 rfl rfl)
theorem dX2_printCopies_37 : decode cX2_printCopies 37 = .ok (.dup, 1) := dk_89 (dk_at dksX2_printCopies_1 13 rfl rfl)
theorem dX2_printCopies_38 : decode cX2_printCopies 38 = .ok (.getfield 154, 3) := dk_180 0 154 (dk_at dksX2_printCopies_1 14 rfl rfl)
theorem dX2_printCopies_41 : decode cX2_printCopies 41 = .ok (.iload_n 2, 1) := dk_28 (dk_at dksX2_printCopies_1 17 rfl rfl)
theorem dX2_printCopies_42 : decode cX2_printCopies 42 = .ok (.iadd, 1) := dk_96 (dk_at dksX2_printCopies_1 18 rfl rfl)
theorem dX2_printCopies_43 : decode cX2_printCopies 43 = .ok (.putfield 154, 3) := dk_181 0 154 (dk_at dksX2_printCopies_1 19 rfl rfl)
theorem dX2_printCopies_46 : decode cX2_printCopies 46 = .ok (.aload_n 0, 1) := dk_42 (dk_at dksX2_printCopies_1 22 rfl rfl)
theorem dX2_printCopies_47 : decode cX2_printCopies 47 = .ok (.dup, 1) := dk_89 (dk_at dksX2_printCopies_1 23 rfl rfl)
theorem dX2_printCopies_48 : decode cX2_printCopies 48 = .ok (.getfield 56, 3) := dk_180 0 56 (dk_at dksX2_printCopies_2 0 rfl rfl)
theorem dX2_printCopies_51 : decode cX2_printCopies 51 = .ok (.iload_n 2, 1) := dk_28 (dk_at dksX2_printCopies_2 3 rfl rfl)
theorem dX2_printCopies_52 : decode cX2_printCopies 52 = .ok (.isub, 1) := dk_100 (dk_at dksX2_printCopies_2 4 rfl rfl)
theorem dX2_printCopies_53 : decode cX2_printCopies 53 = .ok (.putfield 56, 3) := dk_181 0 56 (dk_at dksX2_printCopies_2 5 rfl rfl)
theorem dX2_printCopies_56 : decode cX2_printCopies 56 = .ok (.aload_n 0, 1) := dk_42 (dk_at dksX2_printCopies_2 8 rfl rfl)
theorem dX2_printCopies_57 : decode cX2_printCopies 57 = .ok (.getfield 9, 3) := dk_180 0 9 (dk_at dksX2_printCopies_2 9 rfl rfl)
theorem dX2_printCopies_60 : decode cX2_printCopies 60 = .ok (.aload_n 1, 1) := dk_43 (dk_at dksX2_printCopies_2 12 rfl rfl)
theorem dX2_printCopies_61 : decode cX2_printCopies 61 = .ok (.getfield 148, 3) := dk_180 0 148 (dk_at dksX2_printCopies_2 13 rfl rfl)
theorem dX2_printCopies_64 : decode cX2_printCopies 64 = .ok (.dup2, 1) := dk_92 (dk_at dksX2_printCopies_2 16 rfl rfl)
theorem dX2_printCopies_65 : decode cX2_printCopies 65 = .ok (.iaload, 1) := dk_46 (dk_at dksX2_printCopies_2 17 rfl rfl)
theorem dX2_printCopies_66 : decode cX2_printCopies 66 = .ok (.iload_n 2, 1) := dk_28 (dk_at dksX2_printCopies_2 18 rfl rfl)
theorem dX2_printCopies_67 : decode cX2_printCopies 67 = .ok (.isub, 1) := dk_100 (dk_at dksX2_printCopies_2 19 rfl rfl)
theorem dX2_printCopies_68 : decode cX2_printCopies 68 = .ok (.iastore, 1) := dk_79 (dk_at dksX2_printCopies_2 20 rfl rfl)
theorem dX2_printCopies_69 : decode cX2_printCopies 69 = .ok (.aload_n 0, 1) := dk_42 (dk_at dksX2_printCopies_2 21 rfl rfl)
theorem dX2_printCopies_70 : decode cX2_printCopies 70 = .ok (.dup, 1) := dk_89 (dk_at dksX2_printCopies_2 22 rfl rfl)
theorem dX2_printCopies_71 : decode cX2_printCopies 71 = .ok (.getfield 74, 3) := dk_180 0 74 (dk_at dksX2_printCopies_3 0 rfl rfl)
theorem dX2_printCopies_74 : decode cX2_printCopies 74 = .ok (.iload_n 2, 1) := dk_28 (dk_at dksX2_printCopies_3 3 rfl rfl)
theorem dX2_printCopies_75 : decode cX2_printCopies 75 = .ok (.iadd, 1) := dk_96 (dk_at dksX2_printCopies_3 4 rfl rfl)
theorem dX2_printCopies_76 : decode cX2_printCopies 76 = .ok (.putfield 74, 3) := dk_181 0 74 (dk_at dksX2_printCopies_3 5 rfl rfl)
theorem dX2_printCopies_79 : decode cX2_printCopies 79 = .ok (.return_, 1) := dk_177 (dk_at dksX2_printCopies_3 8 rfl rfl)
abbrev cX2_longestRise : ByteArray := prog_8_method_28_code
def yX2_longestRise : MethodName := ⟨RX2, "longestRise", "()I"⟩
def dkwX2_longestRise_1 : List UInt8 := [54, 5, 27, 21, 5, 184, 0, 177, 60, 132, 4, 1, 167, 255, 234, 27, 172]
abbrev dktX2_longestRise_1 : List UInt8 := dkwX2_longestRise_1 ++ []
def dkwX2_longestRise_0 : List UInt8 := [3, 60, 42, 182, 0, 180, 77, 44, 190, 62, 3, 54, 4, 21, 4, 29, 162, 0, 22, 44, 21, 4, 46]
abbrev dktX2_longestRise_0 : List UInt8 := dkwX2_longestRise_0 ++ dktX2_longestRise_1
theorem dksX2_longestRise_0 : cX2_longestRise.data.toList.drop 0 = dktX2_longestRise_0 := by decide +kernel
theorem dksX2_longestRise_1 : cX2_longestRise.data.toList.drop 23 = dktX2_longestRise_1 := dk_seg dksX2_longestRise_0 23 rfl rfl
theorem dX2_longestRise_0 : decode cX2_longestRise 0 = .ok (.iconst 0, 1) := dk_3 (dk_at dksX2_longestRise_0 0 rfl rfl)
theorem dX2_longestRise_1 : decode cX2_longestRise 1 = .ok (.istore_n 1, 1) := dk_60 (dk_at dksX2_longestRise_0 1 rfl rfl)
theorem dX2_longestRise_2 : decode cX2_longestRise 2 = .ok (.aload_n 0, 1) := dk_42 (dk_at dksX2_longestRise_0 2 rfl rfl)
theorem dX2_longestRise_3 : decode cX2_longestRise 3 = .ok (.invokevirtual 180, 3) := dk_182 0 180 (dk_at dksX2_longestRise_0 3 rfl rfl)
theorem dX2_longestRise_6 : decode cX2_longestRise 6 = .ok (.astore_n 2, 1) := dk_77 (dk_at dksX2_longestRise_0 6 rfl rfl)
theorem dX2_longestRise_7 : decode cX2_longestRise 7 = .ok (.aload_n 2, 1) := dk_44 (dk_at dksX2_longestRise_0 7 rfl rfl)
theorem dX2_longestRise_8 : decode cX2_longestRise 8 = .ok (.arraylength, 1) := dk_190 (dk_at dksX2_longestRise_0 8 rfl rfl)
theorem dX2_longestRise_9 : decode cX2_longestRise 9 = .ok (.istore_n 3, 1) := dk_62 (dk_at dksX2_longestRise_0 9 rfl rfl)
theorem dX2_longestRise_10 : decode cX2_longestRise 10 = .ok (.iconst 0, 1) := dk_3 (dk_at dksX2_longestRise_0 10 rfl rfl)
theorem dX2_longestRise_11 : decode cX2_longestRise 11 = .ok (.istore 4, 2) := dk_54 4 (dk_at dksX2_longestRise_0 11 rfl rfl)
theorem dX2_longestRise_13 : decode cX2_longestRise 13 = .ok (.iload 4, 2) := dk_21 4 (dk_at dksX2_longestRise_0 13 rfl rfl)
theorem dX2_longestRise_15 : decode cX2_longestRise 15 = .ok (.iload_n 3, 1) := dk_29 (dk_at dksX2_longestRise_0 15 rfl rfl)
theorem dX2_longestRise_16 : decode cX2_longestRise 16 = .ok (.if_icmp .ge 22, 3) := dk_162 0 22 (dk_at dksX2_longestRise_0 16 rfl rfl)
theorem dX2_longestRise_19 : decode cX2_longestRise 19 = .ok (.aload_n 2, 1) := dk_44 (dk_at dksX2_longestRise_0 19 rfl rfl)
theorem dX2_longestRise_20 : decode cX2_longestRise 20 = .ok (.iload 4, 2) := dk_21 4 (dk_at dksX2_longestRise_0 20 rfl rfl)
theorem dX2_longestRise_22 : decode cX2_longestRise 22 = .ok (.iaload, 1) := dk_46 (dk_at dksX2_longestRise_0 22 rfl rfl)
theorem dX2_longestRise_23 : decode cX2_longestRise 23 = .ok (.istore 5, 2) := dk_54 5 (dk_at dksX2_longestRise_1 0 rfl rfl)
theorem dX2_longestRise_25 : decode cX2_longestRise 25 = .ok (.iload_n 1, 1) := dk_27 (dk_at dksX2_longestRise_1 2 rfl rfl)
theorem dX2_longestRise_26 : decode cX2_longestRise 26 = .ok (.iload 5, 2) := dk_21 5 (dk_at dksX2_longestRise_1 3 rfl rfl)
theorem dX2_longestRise_28 : decode cX2_longestRise 28 = .ok (.invokestatic 177, 3) := dk_184 0 177 (dk_at dksX2_longestRise_1 5 rfl rfl)
theorem dX2_longestRise_31 : decode cX2_longestRise 31 = .ok (.istore_n 1, 1) := dk_60 (dk_at dksX2_longestRise_1 8 rfl rfl)
theorem dX2_longestRise_32 : decode cX2_longestRise 32 = .ok (.iinc 4 1, 3) := dk_132 4 1 (dk_at dksX2_longestRise_1 9 rfl rfl)
theorem dX2_longestRise_35 : decode cX2_longestRise 35 = .ok (.goto (-22), 3) := dk_167 255 234 (dk_at dksX2_longestRise_1 12 rfl rfl)
theorem dX2_longestRise_38 : decode cX2_longestRise 38 = .ok (.iload_n 1, 1) := dk_27 (dk_at dksX2_longestRise_1 15 rfl rfl)
theorem dX2_longestRise_39 : decode cX2_longestRise 39 = .ok (.ireturn, 1) := dk_172 (dk_at dksX2_longestRise_1 16 rfl rfl)
abbrev cX2_lengths : ByteArray := prog_8_method_27_code
def yX2_lengths : MethodName := ⟨RX2, "lengths", "()[I"⟩
def dkwX2_lengths_3 : List UInt8 := [167, 255, 193, 43, 176]
abbrev dktX2_lengths_3 : List UInt8 := dkwX2_lengths_3 ++ []
def dkwX2_lengths_2 : List UInt8 := [43, 29, 46, 4, 96, 184, 0, 177, 167, 0, 6, 43, 28, 46, 79, 132, 3, 1, 167, 255, 213, 132, 2, 1]
abbrev dktX2_lengths_2 : List UInt8 := dkwX2_lengths_2 ++ dktX2_lengths_3
def dkwX2_lengths_1 : List UInt8 := [28, 162, 0, 44, 43, 28, 42, 180, 0, 27, 29, 46, 42, 180, 0, 27, 28, 46, 162, 0, 17, 43, 28, 46]
abbrev dktX2_lengths_1 : List UInt8 := dkwX2_lengths_1 ++ dktX2_lengths_2
def dkwX2_lengths_0 : List UInt8 := [42, 180, 0, 81, 188, 10, 76, 3, 61, 28, 42, 180, 0, 81, 162, 0, 61, 43, 28, 4, 79, 3, 62, 29]
abbrev dktX2_lengths_0 : List UInt8 := dkwX2_lengths_0 ++ dktX2_lengths_1
theorem dksX2_lengths_0 : cX2_lengths.data.toList.drop 0 = dktX2_lengths_0 := by decide +kernel
theorem dksX2_lengths_1 : cX2_lengths.data.toList.drop 24 = dktX2_lengths_1 := dk_seg dksX2_lengths_0 24 rfl rfl
theorem dksX2_lengths_2 : cX2_lengths.data.toList.drop 48 = dktX2_lengths_2 := dk_seg dksX2_lengths_1 24 rfl rfl
theorem dksX2_lengths_3 : cX2_lengths.data.toList.drop 72 = dktX2_lengths_3 := dk_seg dksX2_lengths_2 24 rfl rfl
theorem dX2_lengths_0 : decode cX2_lengths 0 = .ok (.aload_n 0, 1) := dk_42 (dk_at dksX2_lengths_0 0 rfl rfl)
theorem dX2_lengths_1 : decode cX2_lengths 1 = .ok (.getfield 81, 3) := dk_180 0 81 (dk_at dksX2_lengths_0 1 rfl rfl)
theorem dX2_lengths_4 : decode cX2_lengths 4 = .ok (.newarray .int, 2) := dk_188_10 (dk_at dksX2_lengths_0 4 rfl rfl)
theorem dX2_lengths_6 : decode cX2_lengths 6 = .ok (.astore_n 1, 1) := dk_76 (dk_at dksX2_lengths_0 6 rfl rfl)
theorem dX2_lengths_7 : decode cX2_lengths 7 = .ok (.iconst 0, 1) := dk_3 (dk_at dksX2_lengths_0 7 rfl rfl)
theorem dX2_lengths_8 : decode cX2_lengths 8 = .ok (.istore_n 2, 1) := dk_61 (dk_at dksX2_lengths_0 8 rfl rfl)
theorem dX2_lengths_9 : decode cX2_lengths 9 = .ok (.iload_n 2, 1) := dk_28 (dk_at dksX2_lengths_0 9 rfl rfl)
theorem dX2_lengths_10 : decode cX2_lengths 10 = .ok (.aload_n 0, 1) := dk_42 (dk_at dksX2_lengths_0 10 rfl rfl)
theorem dX2_lengths_11 : decode cX2_lengths 11 = .ok (.getfield 81, 3) := dk_180 0 81 (dk_at dksX2_lengths_0 11 rfl rfl)
theorem dX2_lengths_14 : decode cX2_lengths 14 = .ok (.if_icmp .ge 61, 3) := dk_162 0 61 (dk_at dksX2_lengths_0 14 rfl rfl)
theorem dX2_lengths_17 : decode cX2_lengths 17 = .ok (.aload_n 1, 1) := dk_43 (dk_at dksX2_lengths_0 17 rfl rfl)
theorem dX2_lengths_18 : decode cX2_lengths 18 = .ok (.iload_n 2, 1) := dk_28 (dk_at dksX2_lengths_0 18 rfl rfl)
theorem dX2_lengths_19 : decode cX2_lengths 19 = .ok (.iconst 1, 1) := dk_4 (dk_at dksX2_lengths_0 19 rfl rfl)
theorem dX2_lengths_20 : decode cX2_lengths 20 = .ok (.iastore, 1) := dk_79 (dk_at dksX2_lengths_0 20 rfl rfl)
theorem dX2_lengths_21 : decode cX2_lengths 21 = .ok (.iconst 0, 1) := dk_3 (dk_at dksX2_lengths_0 21 rfl rfl)
theorem dX2_lengths_22 : decode cX2_lengths 22 = .ok (.istore_n 3, 1) := dk_62 (dk_at dksX2_lengths_0 22 rfl rfl)
theorem dX2_lengths_23 : decode cX2_lengths 23 = .ok (.iload_n 3, 1) := dk_29 (dk_at dksX2_lengths_0 23 rfl rfl)
theorem dX2_lengths_24 : decode cX2_lengths 24 = .ok (.iload_n 2, 1) := dk_28 (dk_at dksX2_lengths_1 0 rfl rfl)
theorem dX2_lengths_25 : decode cX2_lengths 25 = .ok (.if_icmp .ge 44, 3) := dk_162 0 44 (dk_at dksX2_lengths_1 1 rfl rfl)
theorem dX2_lengths_28 : decode cX2_lengths 28 = .ok (.aload_n 1, 1) := dk_43 (dk_at dksX2_lengths_1 4 rfl rfl)
theorem dX2_lengths_29 : decode cX2_lengths 29 = .ok (.iload_n 2, 1) := dk_28 (dk_at dksX2_lengths_1 5 rfl rfl)
theorem dX2_lengths_30 : decode cX2_lengths 30 = .ok (.aload_n 0, 1) := dk_42 (dk_at dksX2_lengths_1 6 rfl rfl)
theorem dX2_lengths_31 : decode cX2_lengths 31 = .ok (.getfield 27, 3) := dk_180 0 27 (dk_at dksX2_lengths_1 7 rfl rfl)
theorem dX2_lengths_34 : decode cX2_lengths 34 = .ok (.iload_n 3, 1) := dk_29 (dk_at dksX2_lengths_1 10 rfl rfl)
theorem dX2_lengths_35 : decode cX2_lengths 35 = .ok (.iaload, 1) := dk_46 (dk_at dksX2_lengths_1 11 rfl rfl)
theorem dX2_lengths_36 : decode cX2_lengths 36 = .ok (.aload_n 0, 1) := dk_42 (dk_at dksX2_lengths_1 12 rfl rfl)
theorem dX2_lengths_37 : decode cX2_lengths 37 = .ok (.getfield 27, 3) := dk_180 0 27 (dk_at dksX2_lengths_1 13 rfl rfl)
theorem dX2_lengths_40 : decode cX2_lengths 40 = .ok (.iload_n 2, 1) := dk_28 (dk_at dksX2_lengths_1 16 rfl rfl)
theorem dX2_lengths_41 : decode cX2_lengths 41 = .ok (.iaload, 1) := dk_46 (dk_at dksX2_lengths_1 17 rfl rfl)
theorem dX2_lengths_42 : decode cX2_lengths 42 = .ok (.if_icmp .ge 17, 3) := dk_162 0 17 (dk_at dksX2_lengths_1 18 rfl rfl)
theorem dX2_lengths_45 : decode cX2_lengths 45 = .ok (.aload_n 1, 1) := dk_43 (dk_at dksX2_lengths_1 21 rfl rfl)
theorem dX2_lengths_46 : decode cX2_lengths 46 = .ok (.iload_n 2, 1) := dk_28 (dk_at dksX2_lengths_1 22 rfl rfl)
theorem dX2_lengths_47 : decode cX2_lengths 47 = .ok (.iaload, 1) := dk_46 (dk_at dksX2_lengths_1 23 rfl rfl)
theorem dX2_lengths_48 : decode cX2_lengths 48 = .ok (.aload_n 1, 1) := dk_43 (dk_at dksX2_lengths_2 0 rfl rfl)
theorem dX2_lengths_49 : decode cX2_lengths 49 = .ok (.iload_n 3, 1) := dk_29 (dk_at dksX2_lengths_2 1 rfl rfl)
theorem dX2_lengths_50 : decode cX2_lengths 50 = .ok (.iaload, 1) := dk_46 (dk_at dksX2_lengths_2 2 rfl rfl)
theorem dX2_lengths_51 : decode cX2_lengths 51 = .ok (.iconst 1, 1) := dk_4 (dk_at dksX2_lengths_2 3 rfl rfl)
theorem dX2_lengths_52 : decode cX2_lengths 52 = .ok (.iadd, 1) := dk_96 (dk_at dksX2_lengths_2 4 rfl rfl)
theorem dX2_lengths_53 : decode cX2_lengths 53 = .ok (.invokestatic 177, 3) := dk_184 0 177 (dk_at dksX2_lengths_2 5 rfl rfl)
theorem dX2_lengths_56 : decode cX2_lengths 56 = .ok (.goto 6, 3) := dk_167 0 6 (dk_at dksX2_lengths_2 8 rfl rfl)
theorem dX2_lengths_59 : decode cX2_lengths 59 = .ok (.aload_n 1, 1) := dk_43 (dk_at dksX2_lengths_2 11 rfl rfl)
theorem dX2_lengths_60 : decode cX2_lengths 60 = .ok (.iload_n 2, 1) := dk_28 (dk_at dksX2_lengths_2 12 rfl rfl)
theorem dX2_lengths_61 : decode cX2_lengths 61 = .ok (.iaload, 1) := dk_46 (dk_at dksX2_lengths_2 13 rfl rfl)
theorem dX2_lengths_62 : decode cX2_lengths 62 = .ok (.iastore, 1) := dk_79 (dk_at dksX2_lengths_2 14 rfl rfl)
theorem dX2_lengths_63 : decode cX2_lengths 63 = .ok (.iinc 3 1, 3) := dk_132 3 1 (dk_at dksX2_lengths_2 15 rfl rfl)
theorem dX2_lengths_66 : decode cX2_lengths 66 = .ok (.goto (-43), 3) := dk_167 255 213 (dk_at dksX2_lengths_2 18 rfl rfl)
theorem dX2_lengths_69 : decode cX2_lengths 69 = .ok (.iinc 2 1, 3) := dk_132 2 1 (dk_at dksX2_lengths_2 21 rfl rfl)
theorem dX2_lengths_72 : decode cX2_lengths 72 = .ok (.goto (-63), 3) := dk_167 255 193 (dk_at dksX2_lengths_3 0 rfl rfl)
theorem dX2_lengths_75 : decode cX2_lengths 75 = .ok (.aload_n 1, 1) := dk_43 (dk_at dksX2_lengths_3 3 rfl rfl)
theorem dX2_lengths_76 : decode cX2_lengths 76 = .ok (.areturn, 1) := dk_176 (dk_at dksX2_lengths_3 4 rfl rfl)
abbrev cX2_riseByEnds : ByteArray := prog_8_method_29_code
def yX2_riseByEnds : MethodName := ⟨RX2, "riseByEnds", "()I"⟩
def dkwX2_riseByEnds_4 : List UInt8 := [167, 255, 175, 28, 172]
abbrev dktX2_riseByEnds_4 : List UInt8 := dkwX2_riseByEnds_4 ++ []
def dkwX2_riseByEnds_3 : List UInt8 := [43, 21, 4, 42, 180, 0, 27, 29, 46, 79, 28, 21, 4, 4, 96, 184, 0, 177, 61, 132, 3, 1]
abbrev dktX2_riseByEnds_3 : List UInt8 := dkwX2_riseByEnds_3 ++ dktX2_riseByEnds_4
def dkwX2_riseByEnds_2 : List UInt8 := [180, 0, 27, 29, 46, 162, 0, 12, 21, 6, 4, 96, 54, 4, 167, 0, 7, 21, 6, 54, 5, 167, 255, 214]
abbrev dktX2_riseByEnds_2 : List UInt8 := dkwX2_riseByEnds_2 ++ dktX2_riseByEnds_3
def dkwX2_riseByEnds_1 : List UInt8 := [54, 5, 21, 4, 21, 5, 162, 0, 41, 21, 4, 21, 5, 96, 5, 108, 54, 6, 43, 21, 6, 46, 42]
abbrev dktX2_riseByEnds_1 : List UInt8 := dkwX2_riseByEnds_1 ++ dktX2_riseByEnds_2
def dkwX2_riseByEnds_0 : List UInt8 := [42, 180, 0, 81, 188, 10, 76, 3, 61, 3, 62, 29, 42, 180, 0, 81, 162, 0, 79, 3, 54, 4, 28]
abbrev dktX2_riseByEnds_0 : List UInt8 := dkwX2_riseByEnds_0 ++ dktX2_riseByEnds_1
theorem dksX2_riseByEnds_0 : cX2_riseByEnds.data.toList.drop 0 = dktX2_riseByEnds_0 := by decide +kernel
theorem dksX2_riseByEnds_1 : cX2_riseByEnds.data.toList.drop 23 = dktX2_riseByEnds_1 := dk_seg dksX2_riseByEnds_0 23 rfl rfl
theorem dksX2_riseByEnds_2 : cX2_riseByEnds.data.toList.drop 46 = dktX2_riseByEnds_2 := dk_seg dksX2_riseByEnds_1 23 rfl rfl
theorem dksX2_riseByEnds_3 : cX2_riseByEnds.data.toList.drop 70 = dktX2_riseByEnds_3 := dk_seg dksX2_riseByEnds_2 24 rfl rfl
theorem dksX2_riseByEnds_4 : cX2_riseByEnds.data.toList.drop 92 = dktX2_riseByEnds_4 := dk_seg dksX2_riseByEnds_3 22 rfl rfl
theorem dX2_riseByEnds_0 : decode cX2_riseByEnds 0 = .ok (.aload_n 0, 1) := dk_42 (dk_at dksX2_riseByEnds_0 0 rfl rfl)
theorem dX2_riseByEnds_1 : decode cX2_riseByEnds 1 = .ok (.getfield 81, 3) := dk_180 0 81 (dk_at dksX2_riseByEnds_0 1 rfl rfl)
theorem dX2_riseByEnds_4 : decode cX2_riseByEnds 4 = .ok (.newarray .int, 2) := dk_188_10 (dk_at dksX2_riseByEnds_0 4 rfl rfl)
theorem dX2_riseByEnds_6 : decode cX2_riseByEnds 6 = .ok (.astore_n 1, 1) := dk_76 (dk_at dksX2_riseByEnds_0 6 rfl rfl)
theorem dX2_riseByEnds_7 : decode cX2_riseByEnds 7 = .ok (.iconst 0, 1) := dk_3 (dk_at dksX2_riseByEnds_0 7 rfl rfl)
theorem dX2_riseByEnds_8 : decode cX2_riseByEnds 8 = .ok (.istore_n 2, 1) := dk_61 (dk_at dksX2_riseByEnds_0 8 rfl rfl)
theorem dX2_riseByEnds_9 : decode cX2_riseByEnds 9 = .ok (.iconst 0, 1) := dk_3 (dk_at dksX2_riseByEnds_0 9 rfl rfl)
theorem dX2_riseByEnds_10 : decode cX2_riseByEnds 10 = .ok (.istore_n 3, 1) := dk_62 (dk_at dksX2_riseByEnds_0 10 rfl rfl)
theorem dX2_riseByEnds_11 : decode cX2_riseByEnds 11 = .ok (.iload_n 3, 1) := dk_29 (dk_at dksX2_riseByEnds_0 11 rfl rfl)
theorem dX2_riseByEnds_12 : decode cX2_riseByEnds 12 = .ok (.aload_n 0, 1) := dk_42 (dk_at dksX2_riseByEnds_0 12 rfl rfl)
theorem dX2_riseByEnds_13 : decode cX2_riseByEnds 13 = .ok (.getfield 81, 3) := dk_180 0 81 (dk_at dksX2_riseByEnds_0 13 rfl rfl)
theorem dX2_riseByEnds_16 : decode cX2_riseByEnds 16 = .ok (.if_icmp .ge 79, 3) := dk_162 0 79 (dk_at dksX2_riseByEnds_0 16 rfl rfl)
theorem dX2_riseByEnds_19 : decode cX2_riseByEnds 19 = .ok (.iconst 0, 1) := dk_3 (dk_at dksX2_riseByEnds_0 19 rfl rfl)
theorem dX2_riseByEnds_20 : decode cX2_riseByEnds 20 = .ok (.istore 4, 2) := dk_54 4 (dk_at dksX2_riseByEnds_0 20 rfl rfl)
theorem dX2_riseByEnds_22 : decode cX2_riseByEnds 22 = .ok (.iload_n 2, 1) := dk_28 (dk_at dksX2_riseByEnds_0 22 rfl rfl)
theorem dX2_riseByEnds_23 : decode cX2_riseByEnds 23 = .ok (.istore 5, 2) := dk_54 5 (dk_at dksX2_riseByEnds_1 0 rfl rfl)
theorem dX2_riseByEnds_25 : decode cX2_riseByEnds 25 = .ok (.iload 4, 2) := dk_21 4 (dk_at dksX2_riseByEnds_1 2 rfl rfl)
theorem dX2_riseByEnds_27 : decode cX2_riseByEnds 27 = .ok (.iload 5, 2) := dk_21 5 (dk_at dksX2_riseByEnds_1 4 rfl rfl)
theorem dX2_riseByEnds_29 : decode cX2_riseByEnds 29 = .ok (.if_icmp .ge 41, 3) := dk_162 0 41 (dk_at dksX2_riseByEnds_1 6 rfl rfl)
theorem dX2_riseByEnds_32 : decode cX2_riseByEnds 32 = .ok (.iload 4, 2) := dk_21 4 (dk_at dksX2_riseByEnds_1 9 rfl rfl)
theorem dX2_riseByEnds_34 : decode cX2_riseByEnds 34 = .ok (.iload 5, 2) := dk_21 5 (dk_at dksX2_riseByEnds_1 11 rfl rfl)
theorem dX2_riseByEnds_36 : decode cX2_riseByEnds 36 = .ok (.iadd, 1) := dk_96 (dk_at dksX2_riseByEnds_1 13 rfl rfl)
theorem dX2_riseByEnds_37 : decode cX2_riseByEnds 37 = .ok (.iconst 2, 1) := dk_5 (dk_at dksX2_riseByEnds_1 14 rfl rfl)
theorem dX2_riseByEnds_38 : decode cX2_riseByEnds 38 = .ok (.idiv, 1) := dk_108 (dk_at dksX2_riseByEnds_1 15 rfl rfl)
theorem dX2_riseByEnds_39 : decode cX2_riseByEnds 39 = .ok (.istore 6, 2) := dk_54 6 (dk_at dksX2_riseByEnds_1 16 rfl rfl)
theorem dX2_riseByEnds_41 : decode cX2_riseByEnds 41 = .ok (.aload_n 1, 1) := dk_43 (dk_at dksX2_riseByEnds_1 18 rfl rfl)
theorem dX2_riseByEnds_42 : decode cX2_riseByEnds 42 = .ok (.iload 6, 2) := dk_21 6 (dk_at dksX2_riseByEnds_1 19 rfl rfl)
theorem dX2_riseByEnds_44 : decode cX2_riseByEnds 44 = .ok (.iaload, 1) := dk_46 (dk_at dksX2_riseByEnds_1 21 rfl rfl)
theorem dX2_riseByEnds_45 : decode cX2_riseByEnds 45 = .ok (.aload_n 0, 1) := dk_42 (dk_at dksX2_riseByEnds_1 22 rfl rfl)
theorem dX2_riseByEnds_46 : decode cX2_riseByEnds 46 = .ok (.getfield 27, 3) := dk_180 0 27 (dk_at dksX2_riseByEnds_2 0 rfl rfl)
theorem dX2_riseByEnds_49 : decode cX2_riseByEnds 49 = .ok (.iload_n 3, 1) := dk_29 (dk_at dksX2_riseByEnds_2 3 rfl rfl)
theorem dX2_riseByEnds_50 : decode cX2_riseByEnds 50 = .ok (.iaload, 1) := dk_46 (dk_at dksX2_riseByEnds_2 4 rfl rfl)
theorem dX2_riseByEnds_51 : decode cX2_riseByEnds 51 = .ok (.if_icmp .ge 12, 3) := dk_162 0 12 (dk_at dksX2_riseByEnds_2 5 rfl rfl)
theorem dX2_riseByEnds_54 : decode cX2_riseByEnds 54 = .ok (.iload 6, 2) := dk_21 6 (dk_at dksX2_riseByEnds_2 8 rfl rfl)
theorem dX2_riseByEnds_56 : decode cX2_riseByEnds 56 = .ok (.iconst 1, 1) := dk_4 (dk_at dksX2_riseByEnds_2 10 rfl rfl)
theorem dX2_riseByEnds_57 : decode cX2_riseByEnds 57 = .ok (.iadd, 1) := dk_96 (dk_at dksX2_riseByEnds_2 11 rfl rfl)
theorem dX2_riseByEnds_58 : decode cX2_riseByEnds 58 = .ok (.istore 4, 2) := dk_54 4 (dk_at dksX2_riseByEnds_2 12 rfl rfl)
theorem dX2_riseByEnds_60 : decode cX2_riseByEnds 60 = .ok (.goto 7, 3) := dk_167 0 7 (dk_at dksX2_riseByEnds_2 14 rfl rfl)
theorem dX2_riseByEnds_63 : decode cX2_riseByEnds 63 = .ok (.iload 6, 2) := dk_21 6 (dk_at dksX2_riseByEnds_2 17 rfl rfl)
theorem dX2_riseByEnds_65 : decode cX2_riseByEnds 65 = .ok (.istore 5, 2) := dk_54 5 (dk_at dksX2_riseByEnds_2 19 rfl rfl)
theorem dX2_riseByEnds_67 : decode cX2_riseByEnds 67 = .ok (.goto (-42), 3) := dk_167 255 214 (dk_at dksX2_riseByEnds_2 21 rfl rfl)
theorem dX2_riseByEnds_70 : decode cX2_riseByEnds 70 = .ok (.aload_n 1, 1) := dk_43 (dk_at dksX2_riseByEnds_3 0 rfl rfl)
theorem dX2_riseByEnds_71 : decode cX2_riseByEnds 71 = .ok (.iload 4, 2) := dk_21 4 (dk_at dksX2_riseByEnds_3 1 rfl rfl)
theorem dX2_riseByEnds_73 : decode cX2_riseByEnds 73 = .ok (.aload_n 0, 1) := dk_42 (dk_at dksX2_riseByEnds_3 3 rfl rfl)
theorem dX2_riseByEnds_74 : decode cX2_riseByEnds 74 = .ok (.getfield 27, 3) := dk_180 0 27 (dk_at dksX2_riseByEnds_3 4 rfl rfl)
theorem dX2_riseByEnds_77 : decode cX2_riseByEnds 77 = .ok (.iload_n 3, 1) := dk_29 (dk_at dksX2_riseByEnds_3 7 rfl rfl)
theorem dX2_riseByEnds_78 : decode cX2_riseByEnds 78 = .ok (.iaload, 1) := dk_46 (dk_at dksX2_riseByEnds_3 8 rfl rfl)
theorem dX2_riseByEnds_79 : decode cX2_riseByEnds 79 = .ok (.iastore, 1) := dk_79 (dk_at dksX2_riseByEnds_3 9 rfl rfl)
theorem dX2_riseByEnds_80 : decode cX2_riseByEnds 80 = .ok (.iload_n 2, 1) := dk_28 (dk_at dksX2_riseByEnds_3 10 rfl rfl)
theorem dX2_riseByEnds_81 : decode cX2_riseByEnds 81 = .ok (.iload 4, 2) := dk_21 4 (dk_at dksX2_riseByEnds_3 11 rfl rfl)
theorem dX2_riseByEnds_83 : decode cX2_riseByEnds 83 = .ok (.iconst 1, 1) := dk_4 (dk_at dksX2_riseByEnds_3 13 rfl rfl)
theorem dX2_riseByEnds_84 : decode cX2_riseByEnds 84 = .ok (.iadd, 1) := dk_96 (dk_at dksX2_riseByEnds_3 14 rfl rfl)
theorem dX2_riseByEnds_85 : decode cX2_riseByEnds 85 = .ok (.invokestatic 177, 3) := dk_184 0 177 (dk_at dksX2_riseByEnds_3 15 rfl rfl)
theorem dX2_riseByEnds_88 : decode cX2_riseByEnds 88 = .ok (.istore_n 2, 1) := dk_61 (dk_at dksX2_riseByEnds_3 18 rfl rfl)
theorem dX2_riseByEnds_89 : decode cX2_riseByEnds 89 = .ok (.iinc 3 1, 3) := dk_132 3 1 (dk_at dksX2_riseByEnds_3 19 rfl rfl)
theorem dX2_riseByEnds_92 : decode cX2_riseByEnds 92 = .ok (.goto (-81), 3) := dk_167 255 175 (dk_at dksX2_riseByEnds_4 0 rfl rfl)
theorem dX2_riseByEnds_95 : decode cX2_riseByEnds 95 = .ok (.iload_n 2, 1) := dk_28 (dk_at dksX2_riseByEnds_4 3 rfl rfl)
theorem dX2_riseByEnds_96 : decode cX2_riseByEnds 96 = .ok (.ireturn, 1) := dk_172 (dk_at dksX2_riseByEnds_4 4 rfl rfl)
abbrev cX2_riseCount : ByteArray := prog_8_method_30_code
def yX2_riseCount : MethodName := ⟨RX2, "riseCount", "()I"⟩
def dkwX2_riseCount_6 : List UInt8 := [96, 54, 4, 132, 5, 1, 167, 255, 133, 42, 180, 0, 81, 154, 0, 7, 4, 167, 0, 5, 21, 4, 172]
abbrev dktX2_riseCount_6 : List UInt8 := dkwX2_riseCount_6 ++ []
def dkwX2_riseCount_5 : List UInt8 := [132, 6, 1, 167, 255, 189, 21, 4, 43, 21, 5, 46, 29, 160, 0, 10, 44, 21, 5, 46, 167, 0, 4, 3]
abbrev dktX2_riseCount_5 : List UInt8 := dkwX2_riseCount_5 ++ dktX2_riseCount_6
def dkwX2_riseCount_4 : List UInt8 := [54, 7, 44, 21, 5, 92, 46, 21, 7, 153, 0, 10, 44, 21, 6, 46, 167, 0, 4, 3, 96, 79]
abbrev dktX2_riseCount_4 : List UInt8 := dkwX2_riseCount_4 ++ dktX2_riseCount_5
def dkwX2_riseCount_3 : List UInt8 := [21, 5, 46, 162, 0, 20, 43, 21, 6, 46, 43, 21, 5, 46, 4, 100, 160, 0, 7, 4, 167, 0, 4, 3]
abbrev dktX2_riseCount_3 : List UInt8 := dkwX2_riseCount_3 ++ dktX2_riseCount_4
def dkwX2_riseCount_2 : List UInt8 := [3, 79, 3, 54, 6, 21, 6, 21, 5, 162, 0, 66, 42, 180, 0, 27, 21, 6, 46, 42, 180, 0, 27]
abbrev dktX2_riseCount_2 : List UInt8 := dkwX2_riseCount_2 ++ dktX2_riseCount_3
def dkwX2_riseCount_1 : List UInt8 := [21, 5, 42, 180, 0, 81, 162, 0, 120, 44, 21, 5, 43, 21, 5, 46, 4, 160, 0, 7, 4, 167, 0, 4]
abbrev dktX2_riseCount_1 : List UInt8 := dkwX2_riseCount_1 ++ dktX2_riseCount_2
def dkwX2_riseCount_0 : List UInt8 := [42, 182, 0, 180, 76, 42, 180, 0, 81, 188, 10, 77, 42, 182, 0, 183, 62, 3, 54, 4, 3, 54, 5]
abbrev dktX2_riseCount_0 : List UInt8 := dkwX2_riseCount_0 ++ dktX2_riseCount_1
theorem dksX2_riseCount_0 : cX2_riseCount.data.toList.drop 0 = dktX2_riseCount_0 := by decide +kernel
theorem dksX2_riseCount_1 : cX2_riseCount.data.toList.drop 23 = dktX2_riseCount_1 := dk_seg dksX2_riseCount_0 23 rfl rfl
theorem dksX2_riseCount_2 : cX2_riseCount.data.toList.drop 47 = dktX2_riseCount_2 := dk_seg dksX2_riseCount_1 24 rfl rfl
theorem dksX2_riseCount_3 : cX2_riseCount.data.toList.drop 70 = dktX2_riseCount_3 := dk_seg dksX2_riseCount_2 23 rfl rfl
theorem dksX2_riseCount_4 : cX2_riseCount.data.toList.drop 94 = dktX2_riseCount_4 := dk_seg dksX2_riseCount_3 24 rfl rfl
theorem dksX2_riseCount_5 : cX2_riseCount.data.toList.drop 116 = dktX2_riseCount_5 := dk_seg dksX2_riseCount_4 22 rfl rfl
theorem dksX2_riseCount_6 : cX2_riseCount.data.toList.drop 140 = dktX2_riseCount_6 := dk_seg dksX2_riseCount_5 24 rfl rfl
theorem dX2_riseCount_0 : decode cX2_riseCount 0 = .ok (.aload_n 0, 1) := dk_42 (dk_at dksX2_riseCount_0 0 rfl rfl)
theorem dX2_riseCount_1 : decode cX2_riseCount 1 = .ok (.invokevirtual 180, 3) := dk_182 0 180 (dk_at dksX2_riseCount_0 1 rfl rfl)
theorem dX2_riseCount_4 : decode cX2_riseCount 4 = .ok (.astore_n 1, 1) := dk_76 (dk_at dksX2_riseCount_0 4 rfl rfl)
theorem dX2_riseCount_5 : decode cX2_riseCount 5 = .ok (.aload_n 0, 1) := dk_42 (dk_at dksX2_riseCount_0 5 rfl rfl)
theorem dX2_riseCount_6 : decode cX2_riseCount 6 = .ok (.getfield 81, 3) := dk_180 0 81 (dk_at dksX2_riseCount_0 6 rfl rfl)
theorem dX2_riseCount_9 : decode cX2_riseCount 9 = .ok (.newarray .int, 2) := dk_188_10 (dk_at dksX2_riseCount_0 9 rfl rfl)
theorem dX2_riseCount_11 : decode cX2_riseCount 11 = .ok (.astore_n 2, 1) := dk_77 (dk_at dksX2_riseCount_0 11 rfl rfl)
theorem dX2_riseCount_12 : decode cX2_riseCount 12 = .ok (.aload_n 0, 1) := dk_42 (dk_at dksX2_riseCount_0 12 rfl rfl)
theorem dX2_riseCount_13 : decode cX2_riseCount 13 = .ok (.invokevirtual 183, 3) := dk_182 0 183 (dk_at dksX2_riseCount_0 13 rfl rfl)
theorem dX2_riseCount_16 : decode cX2_riseCount 16 = .ok (.istore_n 3, 1) := dk_62 (dk_at dksX2_riseCount_0 16 rfl rfl)
theorem dX2_riseCount_17 : decode cX2_riseCount 17 = .ok (.iconst 0, 1) := dk_3 (dk_at dksX2_riseCount_0 17 rfl rfl)
theorem dX2_riseCount_18 : decode cX2_riseCount 18 = .ok (.istore 4, 2) := dk_54 4 (dk_at dksX2_riseCount_0 18 rfl rfl)
theorem dX2_riseCount_20 : decode cX2_riseCount 20 = .ok (.iconst 0, 1) := dk_3 (dk_at dksX2_riseCount_0 20 rfl rfl)
theorem dX2_riseCount_21 : decode cX2_riseCount 21 = .ok (.istore 5, 2) := dk_54 5 (dk_at dksX2_riseCount_0 21 rfl rfl)
theorem dX2_riseCount_23 : decode cX2_riseCount 23 = .ok (.iload 5, 2) := dk_21 5 (dk_at dksX2_riseCount_1 0 rfl rfl)
theorem dX2_riseCount_25 : decode cX2_riseCount 25 = .ok (.aload_n 0, 1) := dk_42 (dk_at dksX2_riseCount_1 2 rfl rfl)
theorem dX2_riseCount_26 : decode cX2_riseCount 26 = .ok (.getfield 81, 3) := dk_180 0 81 (dk_at dksX2_riseCount_1 3 rfl rfl)
theorem dX2_riseCount_29 : decode cX2_riseCount 29 = .ok (.if_icmp .ge 120, 3) := dk_162 0 120 (dk_at dksX2_riseCount_1 6 rfl rfl)
theorem dX2_riseCount_32 : decode cX2_riseCount 32 = .ok (.aload_n 2, 1) := dk_44 (dk_at dksX2_riseCount_1 9 rfl rfl)
theorem dX2_riseCount_33 : decode cX2_riseCount 33 = .ok (.iload 5, 2) := dk_21 5 (dk_at dksX2_riseCount_1 10 rfl rfl)
theorem dX2_riseCount_35 : decode cX2_riseCount 35 = .ok (.aload_n 1, 1) := dk_43 (dk_at dksX2_riseCount_1 12 rfl rfl)
theorem dX2_riseCount_36 : decode cX2_riseCount 36 = .ok (.iload 5, 2) := dk_21 5 (dk_at dksX2_riseCount_1 13 rfl rfl)
theorem dX2_riseCount_38 : decode cX2_riseCount 38 = .ok (.iaload, 1) := dk_46 (dk_at dksX2_riseCount_1 15 rfl rfl)
theorem dX2_riseCount_39 : decode cX2_riseCount 39 = .ok (.iconst 1, 1) := dk_4 (dk_at dksX2_riseCount_1 16 rfl rfl)
theorem dX2_riseCount_40 : decode cX2_riseCount 40 = .ok (.if_icmp .ne 7, 3) := dk_160 0 7 (dk_at dksX2_riseCount_1 17 rfl rfl)
theorem dX2_riseCount_43 : decode cX2_riseCount 43 = .ok (.iconst 1, 1) := dk_4 (dk_at dksX2_riseCount_1 20 rfl rfl)
theorem dX2_riseCount_44 : decode cX2_riseCount 44 = .ok (.goto 4, 3) := dk_167 0 4 (dk_at dksX2_riseCount_1 21 rfl rfl)
theorem dX2_riseCount_47 : decode cX2_riseCount 47 = .ok (.iconst 0, 1) := dk_3 (dk_at dksX2_riseCount_2 0 rfl rfl)
theorem dX2_riseCount_48 : decode cX2_riseCount 48 = .ok (.iastore, 1) := dk_79 (dk_at dksX2_riseCount_2 1 rfl rfl)
theorem dX2_riseCount_49 : decode cX2_riseCount 49 = .ok (.iconst 0, 1) := dk_3 (dk_at dksX2_riseCount_2 2 rfl rfl)
theorem dX2_riseCount_50 : decode cX2_riseCount 50 = .ok (.istore 6, 2) := dk_54 6 (dk_at dksX2_riseCount_2 3 rfl rfl)
theorem dX2_riseCount_52 : decode cX2_riseCount 52 = .ok (.iload 6, 2) := dk_21 6 (dk_at dksX2_riseCount_2 5 rfl rfl)
theorem dX2_riseCount_54 : decode cX2_riseCount 54 = .ok (.iload 5, 2) := dk_21 5 (dk_at dksX2_riseCount_2 7 rfl rfl)
theorem dX2_riseCount_56 : decode cX2_riseCount 56 = .ok (.if_icmp .ge 66, 3) := dk_162 0 66 (dk_at dksX2_riseCount_2 9 rfl rfl)
theorem dX2_riseCount_59 : decode cX2_riseCount 59 = .ok (.aload_n 0, 1) := dk_42 (dk_at dksX2_riseCount_2 12 rfl rfl)
theorem dX2_riseCount_60 : decode cX2_riseCount 60 = .ok (.getfield 27, 3) := dk_180 0 27 (dk_at dksX2_riseCount_2 13 rfl rfl)
theorem dX2_riseCount_63 : decode cX2_riseCount 63 = .ok (.iload 6, 2) := dk_21 6 (dk_at dksX2_riseCount_2 16 rfl rfl)
theorem dX2_riseCount_65 : decode cX2_riseCount 65 = .ok (.iaload, 1) := dk_46 (dk_at dksX2_riseCount_2 18 rfl rfl)
theorem dX2_riseCount_66 : decode cX2_riseCount 66 = .ok (.aload_n 0, 1) := dk_42 (dk_at dksX2_riseCount_2 19 rfl rfl)
theorem dX2_riseCount_67 : decode cX2_riseCount 67 = .ok (.getfield 27, 3) := dk_180 0 27 (dk_at dksX2_riseCount_2 20 rfl rfl)
theorem dX2_riseCount_70 : decode cX2_riseCount 70 = .ok (.iload 5, 2) := dk_21 5 (dk_at dksX2_riseCount_3 0 rfl rfl)
theorem dX2_riseCount_72 : decode cX2_riseCount 72 = .ok (.iaload, 1) := dk_46 (dk_at dksX2_riseCount_3 2 rfl rfl)
theorem dX2_riseCount_73 : decode cX2_riseCount 73 = .ok (.if_icmp .ge 20, 3) := dk_162 0 20 (dk_at dksX2_riseCount_3 3 rfl rfl)
theorem dX2_riseCount_76 : decode cX2_riseCount 76 = .ok (.aload_n 1, 1) := dk_43 (dk_at dksX2_riseCount_3 6 rfl rfl)
theorem dX2_riseCount_77 : decode cX2_riseCount 77 = .ok (.iload 6, 2) := dk_21 6 (dk_at dksX2_riseCount_3 7 rfl rfl)
theorem dX2_riseCount_79 : decode cX2_riseCount 79 = .ok (.iaload, 1) := dk_46 (dk_at dksX2_riseCount_3 9 rfl rfl)
theorem dX2_riseCount_80 : decode cX2_riseCount 80 = .ok (.aload_n 1, 1) := dk_43 (dk_at dksX2_riseCount_3 10 rfl rfl)
theorem dX2_riseCount_81 : decode cX2_riseCount 81 = .ok (.iload 5, 2) := dk_21 5 (dk_at dksX2_riseCount_3 11 rfl rfl)
theorem dX2_riseCount_83 : decode cX2_riseCount 83 = .ok (.iaload, 1) := dk_46 (dk_at dksX2_riseCount_3 13 rfl rfl)
theorem dX2_riseCount_84 : decode cX2_riseCount 84 = .ok (.iconst 1, 1) := dk_4 (dk_at dksX2_riseCount_3 14 rfl rfl)
theorem dX2_riseCount_85 : decode cX2_riseCount 85 = .ok (.isub, 1) := dk_100 (dk_at dksX2_riseCount_3 15 rfl rfl)
theorem dX2_riseCount_86 : decode cX2_riseCount 86 = .ok (.if_icmp .ne 7, 3) := dk_160 0 7 (dk_at dksX2_riseCount_3 16 rfl rfl)
theorem dX2_riseCount_89 : decode cX2_riseCount 89 = .ok (.iconst 1, 1) := dk_4 (dk_at dksX2_riseCount_3 19 rfl rfl)
theorem dX2_riseCount_90 : decode cX2_riseCount 90 = .ok (.goto 4, 3) := dk_167 0 4 (dk_at dksX2_riseCount_3 20 rfl rfl)
theorem dX2_riseCount_93 : decode cX2_riseCount 93 = .ok (.iconst 0, 1) := dk_3 (dk_at dksX2_riseCount_3 23 rfl rfl)
theorem dX2_riseCount_94 : decode cX2_riseCount 94 = .ok (.istore 7, 2) := dk_54 7 (dk_at dksX2_riseCount_4 0 rfl rfl)
theorem dX2_riseCount_96 : decode cX2_riseCount 96 = .ok (.aload_n 2, 1) := dk_44 (dk_at dksX2_riseCount_4 2 rfl rfl)
theorem dX2_riseCount_97 : decode cX2_riseCount 97 = .ok (.iload 5, 2) := dk_21 5 (dk_at dksX2_riseCount_4 3 rfl rfl)
theorem dX2_riseCount_99 : decode cX2_riseCount 99 = .ok (.dup2, 1) := dk_92 (dk_at dksX2_riseCount_4 5 rfl rfl)
theorem dX2_riseCount_100 : decode cX2_riseCount 100 = .ok (.iaload, 1) := dk_46 (dk_at dksX2_riseCount_4 6 rfl rfl)
theorem dX2_riseCount_101 : decode cX2_riseCount 101 = .ok (.iload 7, 2) := dk_21 7 (dk_at dksX2_riseCount_4 7 rfl rfl)
theorem dX2_riseCount_103 : decode cX2_riseCount 103 = .ok (.ifCond .eq 10, 3) := dk_153 0 10 (dk_at dksX2_riseCount_4 9 rfl rfl)
theorem dX2_riseCount_106 : decode cX2_riseCount 106 = .ok (.aload_n 2, 1) := dk_44 (dk_at dksX2_riseCount_4 12 rfl rfl)
theorem dX2_riseCount_107 : decode cX2_riseCount 107 = .ok (.iload 6, 2) := dk_21 6 (dk_at dksX2_riseCount_4 13 rfl rfl)
theorem dX2_riseCount_109 : decode cX2_riseCount 109 = .ok (.iaload, 1) := dk_46 (dk_at dksX2_riseCount_4 15 rfl rfl)
theorem dX2_riseCount_110 : decode cX2_riseCount 110 = .ok (.goto 4, 3) := dk_167 0 4 (dk_at dksX2_riseCount_4 16 rfl rfl)
theorem dX2_riseCount_113 : decode cX2_riseCount 113 = .ok (.iconst 0, 1) := dk_3 (dk_at dksX2_riseCount_4 19 rfl rfl)
theorem dX2_riseCount_114 : decode cX2_riseCount 114 = .ok (.iadd, 1) := dk_96 (dk_at dksX2_riseCount_4 20 rfl rfl)
theorem dX2_riseCount_115 : decode cX2_riseCount 115 = .ok (.iastore, 1) := dk_79 (dk_at dksX2_riseCount_4 21 rfl rfl)
theorem dX2_riseCount_116 : decode cX2_riseCount 116 = .ok (.iinc 6 1, 3) := dk_132 6 1 (dk_at dksX2_riseCount_5 0 rfl rfl)
theorem dX2_riseCount_119 : decode cX2_riseCount 119 = .ok (.goto (-67), 3) := dk_167 255 189 (dk_at dksX2_riseCount_5 3 rfl rfl)
theorem dX2_riseCount_122 : decode cX2_riseCount 122 = .ok (.iload 4, 2) := dk_21 4 (dk_at dksX2_riseCount_5 6 rfl rfl)
theorem dX2_riseCount_124 : decode cX2_riseCount 124 = .ok (.aload_n 1, 1) := dk_43 (dk_at dksX2_riseCount_5 8 rfl rfl)
theorem dX2_riseCount_125 : decode cX2_riseCount 125 = .ok (.iload 5, 2) := dk_21 5 (dk_at dksX2_riseCount_5 9 rfl rfl)
theorem dX2_riseCount_127 : decode cX2_riseCount 127 = .ok (.iaload, 1) := dk_46 (dk_at dksX2_riseCount_5 11 rfl rfl)
theorem dX2_riseCount_128 : decode cX2_riseCount 128 = .ok (.iload_n 3, 1) := dk_29 (dk_at dksX2_riseCount_5 12 rfl rfl)
theorem dX2_riseCount_129 : decode cX2_riseCount 129 = .ok (.if_icmp .ne 10, 3) := dk_160 0 10 (dk_at dksX2_riseCount_5 13 rfl rfl)
theorem dX2_riseCount_132 : decode cX2_riseCount 132 = .ok (.aload_n 2, 1) := dk_44 (dk_at dksX2_riseCount_5 16 rfl rfl)
theorem dX2_riseCount_133 : decode cX2_riseCount 133 = .ok (.iload 5, 2) := dk_21 5 (dk_at dksX2_riseCount_5 17 rfl rfl)
theorem dX2_riseCount_135 : decode cX2_riseCount 135 = .ok (.iaload, 1) := dk_46 (dk_at dksX2_riseCount_5 19 rfl rfl)
theorem dX2_riseCount_136 : decode cX2_riseCount 136 = .ok (.goto 4, 3) := dk_167 0 4 (dk_at dksX2_riseCount_5 20 rfl rfl)
theorem dX2_riseCount_139 : decode cX2_riseCount 139 = .ok (.iconst 0, 1) := dk_3 (dk_at dksX2_riseCount_5 23 rfl rfl)
theorem dX2_riseCount_140 : decode cX2_riseCount 140 = .ok (.iadd, 1) := dk_96 (dk_at dksX2_riseCount_6 0 rfl rfl)
theorem dX2_riseCount_141 : decode cX2_riseCount 141 = .ok (.istore 4, 2) := dk_54 4 (dk_at dksX2_riseCount_6 1 rfl rfl)
theorem dX2_riseCount_143 : decode cX2_riseCount 143 = .ok (.iinc 5 1, 3) := dk_132 5 1 (dk_at dksX2_riseCount_6 3 rfl rfl)
theorem dX2_riseCount_146 : decode cX2_riseCount 146 = .ok (.goto (-123), 3) := dk_167 255 133 (dk_at dksX2_riseCount_6 6 rfl rfl)
theorem dX2_riseCount_149 : decode cX2_riseCount 149 = .ok (.aload_n 0, 1) := dk_42 (dk_at dksX2_riseCount_6 9 rfl rfl)
theorem dX2_riseCount_150 : decode cX2_riseCount 150 = .ok (.getfield 81, 3) := dk_180 0 81 (dk_at dksX2_riseCount_6 10 rfl rfl)
theorem dX2_riseCount_153 : decode cX2_riseCount 153 = .ok (.ifCond .ne 7, 3) := dk_154 0 7 (dk_at dksX2_riseCount_6 13 rfl rfl)
theorem dX2_riseCount_156 : decode cX2_riseCount 156 = .ok (.iconst 1, 1) := dk_4 (dk_at dksX2_riseCount_6 16 rfl rfl)
theorem dX2_riseCount_157 : decode cX2_riseCount 157 = .ok (.goto 5, 3) := dk_167 0 5 (dk_at dksX2_riseCount_6 17 rfl rfl)
theorem dX2_riseCount_160 : decode cX2_riseCount 160 = .ok (.iload 4, 2) := dk_21 4 (dk_at dksX2_riseCount_6 20 rfl rfl)
theorem dX2_riseCount_162 : decode cX2_riseCount 162 = .ok (.ireturn, 1) := dk_172 (dk_at dksX2_riseCount_6 22 rfl rfl)
abbrev cX2_inkInWells : ByteArray := prog_8_method_12_code
def yX2_inkInWells : MethodName := ⟨RX2, "inkInWells", "()I"⟩
def dkwX2_inkInWells_1 : List UInt8 := [54, 5, 27, 21, 5, 96, 60, 132, 4, 1, 167, 255, 236, 27, 172]
abbrev dktX2_inkInWells_1 : List UInt8 := dkwX2_inkInWells_1 ++ []
def dkwX2_inkInWells_0 : List UInt8 := [3, 60, 42, 180, 0, 9, 77, 44, 190, 62, 3, 54, 4, 21, 4, 29, 162, 0, 20, 44, 21, 4, 46]
abbrev dktX2_inkInWells_0 : List UInt8 := dkwX2_inkInWells_0 ++ dktX2_inkInWells_1
theorem dksX2_inkInWells_0 : cX2_inkInWells.data.toList.drop 0 = dktX2_inkInWells_0 := by decide +kernel
theorem dksX2_inkInWells_1 : cX2_inkInWells.data.toList.drop 23 = dktX2_inkInWells_1 := dk_seg dksX2_inkInWells_0 23 rfl rfl
theorem dX2_inkInWells_0 : decode cX2_inkInWells 0 = .ok (.iconst 0, 1) := dk_3 (dk_at dksX2_inkInWells_0 0 rfl rfl)
theorem dX2_inkInWells_1 : decode cX2_inkInWells 1 = .ok (.istore_n 1, 1) := dk_60 (dk_at dksX2_inkInWells_0 1 rfl rfl)
theorem dX2_inkInWells_2 : decode cX2_inkInWells 2 = .ok (.aload_n 0, 1) := dk_42 (dk_at dksX2_inkInWells_0 2 rfl rfl)
theorem dX2_inkInWells_3 : decode cX2_inkInWells 3 = .ok (.getfield 9, 3) := dk_180 0 9 (dk_at dksX2_inkInWells_0 3 rfl rfl)
theorem dX2_inkInWells_6 : decode cX2_inkInWells 6 = .ok (.astore_n 2, 1) := dk_77 (dk_at dksX2_inkInWells_0 6 rfl rfl)
theorem dX2_inkInWells_7 : decode cX2_inkInWells 7 = .ok (.aload_n 2, 1) := dk_44 (dk_at dksX2_inkInWells_0 7 rfl rfl)
theorem dX2_inkInWells_8 : decode cX2_inkInWells 8 = .ok (.arraylength, 1) := dk_190 (dk_at dksX2_inkInWells_0 8 rfl rfl)
theorem dX2_inkInWells_9 : decode cX2_inkInWells 9 = .ok (.istore_n 3, 1) := dk_62 (dk_at dksX2_inkInWells_0 9 rfl rfl)
theorem dX2_inkInWells_10 : decode cX2_inkInWells 10 = .ok (.iconst 0, 1) := dk_3 (dk_at dksX2_inkInWells_0 10 rfl rfl)
theorem dX2_inkInWells_11 : decode cX2_inkInWells 11 = .ok (.istore 4, 2) := dk_54 4 (dk_at dksX2_inkInWells_0 11 rfl rfl)
theorem dX2_inkInWells_13 : decode cX2_inkInWells 13 = .ok (.iload 4, 2) := dk_21 4 (dk_at dksX2_inkInWells_0 13 rfl rfl)
theorem dX2_inkInWells_15 : decode cX2_inkInWells 15 = .ok (.iload_n 3, 1) := dk_29 (dk_at dksX2_inkInWells_0 15 rfl rfl)
theorem dX2_inkInWells_16 : decode cX2_inkInWells 16 = .ok (.if_icmp .ge 20, 3) := dk_162 0 20 (dk_at dksX2_inkInWells_0 16 rfl rfl)
theorem dX2_inkInWells_19 : decode cX2_inkInWells 19 = .ok (.aload_n 2, 1) := dk_44 (dk_at dksX2_inkInWells_0 19 rfl rfl)
theorem dX2_inkInWells_20 : decode cX2_inkInWells 20 = .ok (.iload 4, 2) := dk_21 4 (dk_at dksX2_inkInWells_0 20 rfl rfl)
theorem dX2_inkInWells_22 : decode cX2_inkInWells 22 = .ok (.iaload, 1) := dk_46 (dk_at dksX2_inkInWells_0 22 rfl rfl)
theorem dX2_inkInWells_23 : decode cX2_inkInWells 23 = .ok (.istore 5, 2) := dk_54 5 (dk_at dksX2_inkInWells_1 0 rfl rfl)
theorem dX2_inkInWells_25 : decode cX2_inkInWells 25 = .ok (.iload_n 1, 1) := dk_27 (dk_at dksX2_inkInWells_1 2 rfl rfl)
theorem dX2_inkInWells_26 : decode cX2_inkInWells 26 = .ok (.iload 5, 2) := dk_21 5 (dk_at dksX2_inkInWells_1 3 rfl rfl)
theorem dX2_inkInWells_28 : decode cX2_inkInWells 28 = .ok (.iadd, 1) := dk_96 (dk_at dksX2_inkInWells_1 5 rfl rfl)
theorem dX2_inkInWells_29 : decode cX2_inkInWells 29 = .ok (.istore_n 1, 1) := dk_60 (dk_at dksX2_inkInWells_1 6 rfl rfl)
theorem dX2_inkInWells_30 : decode cX2_inkInWells 30 = .ok (.iinc 4 1, 3) := dk_132 4 1 (dk_at dksX2_inkInWells_1 7 rfl rfl)
theorem dX2_inkInWells_33 : decode cX2_inkInWells 33 = .ok (.goto (-20), 3) := dk_167 255 236 (dk_at dksX2_inkInWells_1 10 rfl rfl)
theorem dX2_inkInWells_36 : decode cX2_inkInWells 36 = .ok (.iload_n 1, 1) := dk_27 (dk_at dksX2_inkInWells_1 13 rfl rfl)
theorem dX2_inkInWells_37 : decode cX2_inkInWells 37 = .ok (.ireturn, 1) := dk_172 (dk_at dksX2_inkInWells_1 14 rfl rfl)
abbrev cX2_writeWells : ByteArray := prog_8_method_35_code
def yX2_writeWells : MethodName := ⟨RX2, "writeWells", "(Ljava/lang/StringBuilder;)V"⟩
def dkwX2_writeWells_1 : List UInt8 := [180, 0, 9, 28, 46, 182, 0, 226, 87, 132, 2, 1, 167, 255, 222, 177]
abbrev dktX2_writeWells_1 : List UInt8 := dkwX2_writeWells_1 ++ []
def dkwX2_writeWells_0 : List UInt8 := [3, 61, 28, 16, 10, 162, 0, 34, 43, 28, 154, 0, 8, 18, 216, 167, 0, 5, 18, 218, 182, 0, 220, 42]
abbrev dktX2_writeWells_0 : List UInt8 := dkwX2_writeWells_0 ++ dktX2_writeWells_1
theorem dksX2_writeWells_0 : cX2_writeWells.data.toList.drop 0 = dktX2_writeWells_0 := by decide +kernel
theorem dksX2_writeWells_1 : cX2_writeWells.data.toList.drop 24 = dktX2_writeWells_1 := dk_seg dksX2_writeWells_0 24 rfl rfl
theorem dX2_writeWells_0 : decode cX2_writeWells 0 = .ok (.iconst 0, 1) := dk_3 (dk_at dksX2_writeWells_0 0 rfl rfl)
theorem dX2_writeWells_1 : decode cX2_writeWells 1 = .ok (.istore_n 2, 1) := dk_61 (dk_at dksX2_writeWells_0 1 rfl rfl)
theorem dX2_writeWells_2 : decode cX2_writeWells 2 = .ok (.iload_n 2, 1) := dk_28 (dk_at dksX2_writeWells_0 2 rfl rfl)
theorem dX2_writeWells_3 : decode cX2_writeWells 3 = .ok (.bipush 10, 2) := dk_16 10 (dk_at dksX2_writeWells_0 3 rfl rfl)
theorem dX2_writeWells_5 : decode cX2_writeWells 5 = .ok (.if_icmp .ge 34, 3) := dk_162 0 34 (dk_at dksX2_writeWells_0 5 rfl rfl)
theorem dX2_writeWells_8 : decode cX2_writeWells 8 = .ok (.aload_n 1, 1) := dk_43 (dk_at dksX2_writeWells_0 8 rfl rfl)
theorem dX2_writeWells_9 : decode cX2_writeWells 9 = .ok (.iload_n 2, 1) := dk_28 (dk_at dksX2_writeWells_0 9 rfl rfl)
theorem dX2_writeWells_10 : decode cX2_writeWells 10 = .ok (.ifCond .ne 8, 3) := dk_154 0 8 (dk_at dksX2_writeWells_0 10 rfl rfl)
theorem dX2_writeWells_13 : decode cX2_writeWells 13 = .ok (.ldc 216, 2) := dk_18 216 (dk_at dksX2_writeWells_0 13 rfl rfl)
theorem dX2_writeWells_15 : decode cX2_writeWells 15 = .ok (.goto 5, 3) := dk_167 0 5 (dk_at dksX2_writeWells_0 15 rfl rfl)
theorem dX2_writeWells_18 : decode cX2_writeWells 18 = .ok (.ldc 218, 2) := dk_18 218 (dk_at dksX2_writeWells_0 18 rfl rfl)
theorem dX2_writeWells_20 : decode cX2_writeWells 20 = .ok (.invokevirtual 220, 3) := dk_182 0 220 (dk_at dksX2_writeWells_0 20 rfl rfl)
theorem dX2_writeWells_23 : decode cX2_writeWells 23 = .ok (.aload_n 0, 1) := dk_42 (dk_at dksX2_writeWells_0 23 rfl rfl)
theorem dX2_writeWells_24 : decode cX2_writeWells 24 = .ok (.getfield 9, 3) := dk_180 0 9 (dk_at dksX2_writeWells_1 0 rfl rfl)
theorem dX2_writeWells_27 : decode cX2_writeWells 27 = .ok (.iload_n 2, 1) := dk_28 (dk_at dksX2_writeWells_1 3 rfl rfl)
theorem dX2_writeWells_28 : decode cX2_writeWells 28 = .ok (.iaload, 1) := dk_46 (dk_at dksX2_writeWells_1 4 rfl rfl)
theorem dX2_writeWells_29 : decode cX2_writeWells 29 = .ok (.invokevirtual 226, 3) := dk_182 0 226 (dk_at dksX2_writeWells_1 5 rfl rfl)
theorem dX2_writeWells_32 : decode cX2_writeWells 32 = .ok (.pop, 1) := dk_87 (dk_at dksX2_writeWells_1 8 rfl rfl)
theorem dX2_writeWells_33 : decode cX2_writeWells 33 = .ok (.iinc 2 1, 3) := dk_132 2 1 (dk_at dksX2_writeWells_1 9 rfl rfl)
theorem dX2_writeWells_36 : decode cX2_writeWells 36 = .ok (.goto (-34), 3) := dk_167 255 222 (dk_at dksX2_writeWells_1 12 rfl rfl)
theorem dX2_writeWells_39 : decode cX2_writeWells 39 = .ok (.return_, 1) := dk_177 (dk_at dksX2_writeWells_1 15 rfl rfl)
abbrev cX2_isConsistent : ByteArray := prog_8_method_34_code
def yX2_isConsistent : MethodName := ⟨RX2, "isConsistent", "()Z"⟩
def dkwX2_isConsistent_2 : List UInt8 := [167, 0, 4, 3, 172]
abbrev dktX2_isConsistent_2 : List UInt8 := dkwX2_isConsistent_2 ++ []
def dkwX2_isConsistent_1 : List UInt8 := [153, 0, 25, 42, 182, 0, 210, 153, 0, 18, 42, 182, 0, 183, 42, 182, 0, 213, 160, 0, 7, 4]
abbrev dktX2_isConsistent_1 : List UInt8 := dkwX2_isConsistent_1 ++ dktX2_isConsistent_2
def dkwX2_isConsistent_0 : List UInt8 := [187, 0, 113, 89, 42, 183, 0, 115, 76, 43, 182, 0, 201, 43, 182, 0, 204, 160, 0, 32, 42, 182, 0, 207]
abbrev dktX2_isConsistent_0 : List UInt8 := dkwX2_isConsistent_0 ++ dktX2_isConsistent_1
theorem dksX2_isConsistent_0 : cX2_isConsistent.data.toList.drop 0 = dktX2_isConsistent_0 := by decide +kernel
theorem dksX2_isConsistent_1 : cX2_isConsistent.data.toList.drop 24 = dktX2_isConsistent_1 := dk_seg dksX2_isConsistent_0 24 rfl rfl
theorem dksX2_isConsistent_2 : cX2_isConsistent.data.toList.drop 46 = dktX2_isConsistent_2 := dk_seg dksX2_isConsistent_1 22 rfl rfl
theorem dX2_isConsistent_0 : decode cX2_isConsistent 0 = .ok (.new 113, 3) := dk_187 0 113 (dk_at dksX2_isConsistent_0 0 rfl rfl)
theorem dX2_isConsistent_3 : decode cX2_isConsistent 3 = .ok (.dup, 1) := dk_89 (dk_at dksX2_isConsistent_0 3 rfl rfl)
theorem dX2_isConsistent_4 : decode cX2_isConsistent 4 = .ok (.aload_n 0, 1) := dk_42 (dk_at dksX2_isConsistent_0 4 rfl rfl)
theorem dX2_isConsistent_5 : decode cX2_isConsistent 5 = .ok (.invokespecial 115, 3) := dk_183 0 115 (dk_at dksX2_isConsistent_0 5 rfl rfl)
theorem dX2_isConsistent_8 : decode cX2_isConsistent 8 = .ok (.astore_n 1, 1) := dk_76 (dk_at dksX2_isConsistent_0 8 rfl rfl)
theorem dX2_isConsistent_9 : decode cX2_isConsistent 9 = .ok (.aload_n 1, 1) := dk_43 (dk_at dksX2_isConsistent_0 9 rfl rfl)
theorem dX2_isConsistent_10 : decode cX2_isConsistent 10 = .ok (.invokevirtual 201, 3) := dk_182 0 201 (dk_at dksX2_isConsistent_0 10 rfl rfl)
theorem dX2_isConsistent_13 : decode cX2_isConsistent 13 = .ok (.aload_n 1, 1) := dk_43 (dk_at dksX2_isConsistent_0 13 rfl rfl)
theorem dX2_isConsistent_14 : decode cX2_isConsistent 14 = .ok (.invokevirtual 204, 3) := dk_182 0 204 (dk_at dksX2_isConsistent_0 14 rfl rfl)
theorem dX2_isConsistent_17 : decode cX2_isConsistent 17 = .ok (.if_icmp .ne 32, 3) := dk_160 0 32 (dk_at dksX2_isConsistent_0 17 rfl rfl)
theorem dX2_isConsistent_20 : decode cX2_isConsistent 20 = .ok (.aload_n 0, 1) := dk_42 (dk_at dksX2_isConsistent_0 20 rfl rfl)
theorem dX2_isConsistent_21 : decode cX2_isConsistent 21 = .ok (.invokevirtual 207, 3) := dk_182 0 207 (dk_at dksX2_isConsistent_0 21 rfl rfl)
theorem dX2_isConsistent_24 : decode cX2_isConsistent 24 = .ok (.ifCond .eq 25, 3) := dk_153 0 25 (dk_at dksX2_isConsistent_1 0 rfl rfl)
theorem dX2_isConsistent_27 : decode cX2_isConsistent 27 = .ok (.aload_n 0, 1) := dk_42 (dk_at dksX2_isConsistent_1 3 rfl rfl)
theorem dX2_isConsistent_28 : decode cX2_isConsistent 28 = .ok (.invokevirtual 210, 3) := dk_182 0 210 (dk_at dksX2_isConsistent_1 4 rfl rfl)
theorem dX2_isConsistent_31 : decode cX2_isConsistent 31 = .ok (.ifCond .eq 18, 3) := dk_153 0 18 (dk_at dksX2_isConsistent_1 7 rfl rfl)
theorem dX2_isConsistent_34 : decode cX2_isConsistent 34 = .ok (.aload_n 0, 1) := dk_42 (dk_at dksX2_isConsistent_1 10 rfl rfl)
theorem dX2_isConsistent_35 : decode cX2_isConsistent 35 = .ok (.invokevirtual 183, 3) := dk_182 0 183 (dk_at dksX2_isConsistent_1 11 rfl rfl)
theorem dX2_isConsistent_38 : decode cX2_isConsistent 38 = .ok (.aload_n 0, 1) := dk_42 (dk_at dksX2_isConsistent_1 14 rfl rfl)
theorem dX2_isConsistent_39 : decode cX2_isConsistent 39 = .ok (.invokevirtual 213, 3) := dk_182 0 213 (dk_at dksX2_isConsistent_1 15 rfl rfl)
theorem dX2_isConsistent_42 : decode cX2_isConsistent 42 = .ok (.if_icmp .ne 7, 3) := dk_160 0 7 (dk_at dksX2_isConsistent_1 18 rfl rfl)
theorem dX2_isConsistent_45 : decode cX2_isConsistent 45 = .ok (.iconst 1, 1) := dk_4 (dk_at dksX2_isConsistent_1 21 rfl rfl)
theorem dX2_isConsistent_46 : decode cX2_isConsistent 46 = .ok (.goto 4, 3) := dk_167 0 4 (dk_at dksX2_isConsistent_2 0 rfl rfl)
theorem dX2_isConsistent_49 : decode cX2_isConsistent 49 = .ok (.iconst 0, 1) := dk_3 (dk_at dksX2_isConsistent_2 3 rfl rfl)
theorem dX2_isConsistent_50 : decode cX2_isConsistent 50 = .ok (.ireturn, 1) := dk_172 (dk_at dksX2_isConsistent_2 4 rfl rfl)
abbrev cX2_isInkConsistent : ByteArray := prog_8_method_32_code
def yX2_isInkConsistent : MethodName := ⟨RX2, "isInkConsistent", "()Z"⟩
def dkwX2_isInkConsistent_2 : List UInt8 := [16, 10, 182, 0, 195, 160, 0, 7, 4, 167, 0, 4, 3, 126, 60, 132, 2, 1, 167, 255, 222, 27, 172]
abbrev dktX2_isInkConsistent_2 : List UInt8 := dkwX2_isInkConsistent_2 ++ []
def dkwX2_isInkConsistent_1 : List UInt8 := [4, 167, 0, 4, 3, 60, 3, 61, 28, 16, 10, 162, 0, 34, 27, 42, 28, 16, 10, 182, 0, 192, 42, 28]
abbrev dktX2_isInkConsistent_1 : List UInt8 := dkwX2_isInkConsistent_1 ++ dktX2_isInkConsistent_2
def dkwX2_isInkConsistent_0 : List UInt8 := [42, 180, 0, 71, 133, 42, 182, 0, 189, 42, 180, 0, 74, 96, 133, 42, 180, 0, 77, 97, 148, 154, 0, 7]
abbrev dktX2_isInkConsistent_0 : List UInt8 := dkwX2_isInkConsistent_0 ++ dktX2_isInkConsistent_1
theorem dksX2_isInkConsistent_0 : cX2_isInkConsistent.data.toList.drop 0 = dktX2_isInkConsistent_0 := by decide +kernel
theorem dksX2_isInkConsistent_1 : cX2_isInkConsistent.data.toList.drop 24 = dktX2_isInkConsistent_1 := dk_seg dksX2_isInkConsistent_0 24 rfl rfl
theorem dksX2_isInkConsistent_2 : cX2_isInkConsistent.data.toList.drop 48 = dktX2_isInkConsistent_2 := dk_seg dksX2_isInkConsistent_1 24 rfl rfl
theorem dX2_isInkConsistent_0 : decode cX2_isInkConsistent 0 = .ok (.aload_n 0, 1) := dk_42 (dk_at dksX2_isInkConsistent_0 0 rfl rfl)
theorem dX2_isInkConsistent_1 : decode cX2_isInkConsistent 1 = .ok (.getfield 71, 3) := dk_180 0 71 (dk_at dksX2_isInkConsistent_0 1 rfl rfl)
theorem dX2_isInkConsistent_4 : decode cX2_isInkConsistent 4 = .ok (.i2l, 1) := dk_133 (dk_at dksX2_isInkConsistent_0 4 rfl rfl)
theorem dX2_isInkConsistent_5 : decode cX2_isInkConsistent 5 = .ok (.aload_n 0, 1) := dk_42 (dk_at dksX2_isInkConsistent_0 5 rfl rfl)
theorem dX2_isInkConsistent_6 : decode cX2_isInkConsistent 6 = .ok (.invokevirtual 189, 3) := dk_182 0 189 (dk_at dksX2_isInkConsistent_0 6 rfl rfl)
theorem dX2_isInkConsistent_9 : decode cX2_isInkConsistent 9 = .ok (.aload_n 0, 1) := dk_42 (dk_at dksX2_isInkConsistent_0 9 rfl rfl)
theorem dX2_isInkConsistent_10 : decode cX2_isInkConsistent 10 = .ok (.getfield 74, 3) := dk_180 0 74 (dk_at dksX2_isInkConsistent_0 10 rfl rfl)
theorem dX2_isInkConsistent_13 : decode cX2_isInkConsistent 13 = .ok (.iadd, 1) := dk_96 (dk_at dksX2_isInkConsistent_0 13 rfl rfl)
theorem dX2_isInkConsistent_14 : decode cX2_isInkConsistent 14 = .ok (.i2l, 1) := dk_133 (dk_at dksX2_isInkConsistent_0 14 rfl rfl)
theorem dX2_isInkConsistent_15 : decode cX2_isInkConsistent 15 = .ok (.aload_n 0, 1) := dk_42 (dk_at dksX2_isInkConsistent_0 15 rfl rfl)
theorem dX2_isInkConsistent_16 : decode cX2_isInkConsistent 16 = .ok (.getfield 77, 3) := dk_180 0 77 (dk_at dksX2_isInkConsistent_0 16 rfl rfl)
theorem dX2_isInkConsistent_19 : decode cX2_isInkConsistent 19 = .ok (.ladd, 1) := dk_97 (dk_at dksX2_isInkConsistent_0 19 rfl rfl)
theorem dX2_isInkConsistent_20 : decode cX2_isInkConsistent 20 = .ok (.lcmp, 1) := dk_148 (dk_at dksX2_isInkConsistent_0 20 rfl rfl)
theorem dX2_isInkConsistent_21 : decode cX2_isInkConsistent 21 = .ok (.ifCond .ne 7, 3) := dk_154 0 7 (dk_at dksX2_isInkConsistent_0 21 rfl rfl)
theorem dX2_isInkConsistent_24 : decode cX2_isInkConsistent 24 = .ok (.iconst 1, 1) := dk_4 (dk_at dksX2_isInkConsistent_1 0 rfl rfl)
theorem dX2_isInkConsistent_25 : decode cX2_isInkConsistent 25 = .ok (.goto 4, 3) := dk_167 0 4 (dk_at dksX2_isInkConsistent_1 1 rfl rfl)
theorem dX2_isInkConsistent_28 : decode cX2_isInkConsistent 28 = .ok (.iconst 0, 1) := dk_3 (dk_at dksX2_isInkConsistent_1 4 rfl rfl)
theorem dX2_isInkConsistent_29 : decode cX2_isInkConsistent 29 = .ok (.istore_n 1, 1) := dk_60 (dk_at dksX2_isInkConsistent_1 5 rfl rfl)
theorem dX2_isInkConsistent_30 : decode cX2_isInkConsistent 30 = .ok (.iconst 0, 1) := dk_3 (dk_at dksX2_isInkConsistent_1 6 rfl rfl)
theorem dX2_isInkConsistent_31 : decode cX2_isInkConsistent 31 = .ok (.istore_n 2, 1) := dk_61 (dk_at dksX2_isInkConsistent_1 7 rfl rfl)
theorem dX2_isInkConsistent_32 : decode cX2_isInkConsistent 32 = .ok (.iload_n 2, 1) := dk_28 (dk_at dksX2_isInkConsistent_1 8 rfl rfl)
theorem dX2_isInkConsistent_33 : decode cX2_isInkConsistent 33 = .ok (.bipush 10, 2) := dk_16 10 (dk_at dksX2_isInkConsistent_1 9 rfl rfl)
theorem dX2_isInkConsistent_35 : decode cX2_isInkConsistent 35 = .ok (.if_icmp .ge 34, 3) := dk_162 0 34 (dk_at dksX2_isInkConsistent_1 11 rfl rfl)
theorem dX2_isInkConsistent_38 : decode cX2_isInkConsistent 38 = .ok (.iload_n 1, 1) := dk_27 (dk_at dksX2_isInkConsistent_1 14 rfl rfl)
theorem dX2_isInkConsistent_39 : decode cX2_isInkConsistent 39 = .ok (.aload_n 0, 1) := dk_42 (dk_at dksX2_isInkConsistent_1 15 rfl rfl)
theorem dX2_isInkConsistent_40 : decode cX2_isInkConsistent 40 = .ok (.iload_n 2, 1) := dk_28 (dk_at dksX2_isInkConsistent_1 16 rfl rfl)
theorem dX2_isInkConsistent_41 : decode cX2_isInkConsistent 41 = .ok (.bipush 10, 2) := dk_16 10 (dk_at dksX2_isInkConsistent_1 17 rfl rfl)
theorem dX2_isInkConsistent_43 : decode cX2_isInkConsistent 43 = .ok (.invokevirtual 192, 3) := dk_182 0 192 (dk_at dksX2_isInkConsistent_1 19 rfl rfl)
theorem dX2_isInkConsistent_46 : decode cX2_isInkConsistent 46 = .ok (.aload_n 0, 1) := dk_42 (dk_at dksX2_isInkConsistent_1 22 rfl rfl)
theorem dX2_isInkConsistent_47 : decode cX2_isInkConsistent 47 = .ok (.iload_n 2, 1) := dk_28 (dk_at dksX2_isInkConsistent_1 23 rfl rfl)
theorem dX2_isInkConsistent_48 : decode cX2_isInkConsistent 48 = .ok (.bipush 10, 2) := dk_16 10 (dk_at dksX2_isInkConsistent_2 0 rfl rfl)
theorem dX2_isInkConsistent_50 : decode cX2_isInkConsistent 50 = .ok (.invokevirtual 195, 3) := dk_182 0 195 (dk_at dksX2_isInkConsistent_2 2 rfl rfl)
theorem dX2_isInkConsistent_53 : decode cX2_isInkConsistent 53 = .ok (.if_icmp .ne 7, 3) := dk_160 0 7 (dk_at dksX2_isInkConsistent_2 5 rfl rfl)
theorem dX2_isInkConsistent_56 : decode cX2_isInkConsistent 56 = .ok (.iconst 1, 1) := dk_4 (dk_at dksX2_isInkConsistent_2 8 rfl rfl)
theorem dX2_isInkConsistent_57 : decode cX2_isInkConsistent 57 = .ok (.goto 4, 3) := dk_167 0 4 (dk_at dksX2_isInkConsistent_2 9 rfl rfl)
theorem dX2_isInkConsistent_60 : decode cX2_isInkConsistent 60 = .ok (.iconst 0, 1) := dk_3 (dk_at dksX2_isInkConsistent_2 12 rfl rfl)
theorem dX2_isInkConsistent_61 : decode cX2_isInkConsistent 61 = .ok (.iand, 1) := dk_126 (dk_at dksX2_isInkConsistent_2 13 rfl rfl)
theorem dX2_isInkConsistent_62 : decode cX2_isInkConsistent 62 = .ok (.istore_n 1, 1) := dk_60 (dk_at dksX2_isInkConsistent_2 14 rfl rfl)
theorem dX2_isInkConsistent_63 : decode cX2_isInkConsistent 63 = .ok (.iinc 2 1, 3) := dk_132 2 1 (dk_at dksX2_isInkConsistent_2 15 rfl rfl)
theorem dX2_isInkConsistent_66 : decode cX2_isInkConsistent 66 = .ok (.goto (-34), 3) := dk_167 255 222 (dk_at dksX2_isInkConsistent_2 18 rfl rfl)
theorem dX2_isInkConsistent_69 : decode cX2_isInkConsistent 69 = .ok (.iload_n 1, 1) := dk_27 (dk_at dksX2_isInkConsistent_2 21 rfl rfl)
theorem dX2_isInkConsistent_70 : decode cX2_isInkConsistent 70 = .ok (.ireturn, 1) := dk_172 (dk_at dksX2_isInkConsistent_2 22 rfl rfl)
abbrev cX2_inkAfter : ByteArray := prog_8_method_9_code
def yX2_inkAfter : MethodName := ⟨RX2, "inkAfter", "(II)I"⟩
def dkwX2_inkAfter_2 : List UInt8 := [167, 255, 220, 29, 172]
abbrev dktX2_inkAfter_2 : List UInt8 := dkwX2_inkAfter_2 ++ []
def dkwX2_inkAfter_1 : List UInt8 := [180, 0, 52, 21, 4, 96, 182, 0, 102, 153, 0, 9, 29, 5, 108, 167, 0, 4, 29, 62, 132, 4, 1]
abbrev dktX2_inkAfter_1 : List UInt8 := dkwX2_inkAfter_1 ++ dktX2_inkAfter_2
def dkwX2_inkAfter_0 : List UInt8 := [42, 180, 0, 9, 27, 46, 62, 4, 54, 4, 21, 4, 28, 163, 0, 36, 42, 180, 0, 17, 27, 50, 42]
abbrev dktX2_inkAfter_0 : List UInt8 := dkwX2_inkAfter_0 ++ dktX2_inkAfter_1
theorem dksX2_inkAfter_0 : cX2_inkAfter.data.toList.drop 0 = dktX2_inkAfter_0 := by decide +kernel
theorem dksX2_inkAfter_1 : cX2_inkAfter.data.toList.drop 23 = dktX2_inkAfter_1 := dk_seg dksX2_inkAfter_0 23 rfl rfl
theorem dksX2_inkAfter_2 : cX2_inkAfter.data.toList.drop 46 = dktX2_inkAfter_2 := dk_seg dksX2_inkAfter_1 23 rfl rfl
theorem dX2_inkAfter_0 : decode cX2_inkAfter 0 = .ok (.aload_n 0, 1) := dk_42 (dk_at dksX2_inkAfter_0 0 rfl rfl)
theorem dX2_inkAfter_1 : decode cX2_inkAfter 1 = .ok (.getfield 9, 3) := dk_180 0 9 (dk_at dksX2_inkAfter_0 1 rfl rfl)
theorem dX2_inkAfter_4 : decode cX2_inkAfter 4 = .ok (.iload_n 1, 1) := dk_27 (dk_at dksX2_inkAfter_0 4 rfl rfl)
theorem dX2_inkAfter_5 : decode cX2_inkAfter 5 = .ok (.iaload, 1) := dk_46 (dk_at dksX2_inkAfter_0 5 rfl rfl)
theorem dX2_inkAfter_6 : decode cX2_inkAfter 6 = .ok (.istore_n 3, 1) := dk_62 (dk_at dksX2_inkAfter_0 6 rfl rfl)
theorem dX2_inkAfter_7 : decode cX2_inkAfter 7 = .ok (.iconst 1, 1) := dk_4 (dk_at dksX2_inkAfter_0 7 rfl rfl)
theorem dX2_inkAfter_8 : decode cX2_inkAfter 8 = .ok (.istore 4, 2) := dk_54 4 (dk_at dksX2_inkAfter_0 8 rfl rfl)
theorem dX2_inkAfter_10 : decode cX2_inkAfter 10 = .ok (.iload 4, 2) := dk_21 4 (dk_at dksX2_inkAfter_0 10 rfl rfl)
theorem dX2_inkAfter_12 : decode cX2_inkAfter 12 = .ok (.iload_n 2, 1) := dk_28 (dk_at dksX2_inkAfter_0 12 rfl rfl)
theorem dX2_inkAfter_13 : decode cX2_inkAfter 13 = .ok (.if_icmp .gt 36, 3) := dk_163 0 36 (dk_at dksX2_inkAfter_0 13 rfl rfl)
theorem dX2_inkAfter_16 : decode cX2_inkAfter 16 = .ok (.aload_n 0, 1) := dk_42 (dk_at dksX2_inkAfter_0 16 rfl rfl)
theorem dX2_inkAfter_17 : decode cX2_inkAfter 17 = .ok (.getfield 17, 3) := dk_180 0 17 (dk_at dksX2_inkAfter_0 17 rfl rfl)
theorem dX2_inkAfter_20 : decode cX2_inkAfter 20 = .ok (.iload_n 1, 1) := dk_27 (dk_at dksX2_inkAfter_0 20 rfl rfl)
theorem dX2_inkAfter_21 : decode cX2_inkAfter 21 = .ok (.aaload, 1) := dk_50 (dk_at dksX2_inkAfter_0 21 rfl rfl)
theorem dX2_inkAfter_22 : decode cX2_inkAfter 22 = .ok (.aload_n 0, 1) := dk_42 (dk_at dksX2_inkAfter_0 22 rfl rfl)
theorem dX2_inkAfter_23 : decode cX2_inkAfter 23 = .ok (.getfield 52, 3) := dk_180 0 52 (dk_at dksX2_inkAfter_1 0 rfl rfl)
theorem dX2_inkAfter_26 : decode cX2_inkAfter 26 = .ok (.iload 4, 2) := dk_21 4 (dk_at dksX2_inkAfter_1 3 rfl rfl)
theorem dX2_inkAfter_28 : decode cX2_inkAfter 28 = .ok (.iadd, 1) := dk_96 (dk_at dksX2_inkAfter_1 5 rfl rfl)
theorem dX2_inkAfter_29 : decode cX2_inkAfter 29 = .ok (.invokevirtual 102, 3) := dk_182 0 102 (dk_at dksX2_inkAfter_1 6 rfl rfl)
theorem dX2_inkAfter_32 : decode cX2_inkAfter 32 = .ok (.ifCond .eq 9, 3) := dk_153 0 9 (dk_at dksX2_inkAfter_1 9 rfl rfl)
theorem dX2_inkAfter_35 : decode cX2_inkAfter 35 = .ok (.iload_n 3, 1) := dk_29 (dk_at dksX2_inkAfter_1 12 rfl rfl)
theorem dX2_inkAfter_36 : decode cX2_inkAfter 36 = .ok (.iconst 2, 1) := dk_5 (dk_at dksX2_inkAfter_1 13 rfl rfl)
theorem dX2_inkAfter_37 : decode cX2_inkAfter 37 = .ok (.idiv, 1) := dk_108 (dk_at dksX2_inkAfter_1 14 rfl rfl)
theorem dX2_inkAfter_38 : decode cX2_inkAfter 38 = .ok (.goto 4, 3) := dk_167 0 4 (dk_at dksX2_inkAfter_1 15 rfl rfl)
theorem dX2_inkAfter_41 : decode cX2_inkAfter 41 = .ok (.iload_n 3, 1) := dk_29 (dk_at dksX2_inkAfter_1 18 rfl rfl)
theorem dX2_inkAfter_42 : decode cX2_inkAfter 42 = .ok (.istore_n 3, 1) := dk_62 (dk_at dksX2_inkAfter_1 19 rfl rfl)
theorem dX2_inkAfter_43 : decode cX2_inkAfter 43 = .ok (.iinc 4 1, 3) := dk_132 4 1 (dk_at dksX2_inkAfter_1 20 rfl rfl)
theorem dX2_inkAfter_46 : decode cX2_inkAfter 46 = .ok (.goto (-36), 3) := dk_167 255 220 (dk_at dksX2_inkAfter_2 0 rfl rfl)
theorem dX2_inkAfter_49 : decode cX2_inkAfter 49 = .ok (.iload_n 3, 1) := dk_29 (dk_at dksX2_inkAfter_2 3 rfl rfl)
theorem dX2_inkAfter_50 : decode cX2_inkAfter 50 = .ok (.ireturn, 1) := dk_172 (dk_at dksX2_inkAfter_2 4 rfl rfl)
abbrev cX2_inkByHalvings : ByteArray := prog_8_method_10_code
def yX2_inkByHalvings : MethodName := ⟨RX2, "inkByHalvings", "(II)I"⟩
def dkwX2_inkByHalvings_1 : List UInt8 := [167, 0, 11, 42, 180, 0, 9, 27, 46, 29, 122, 172]
abbrev dktX2_inkByHalvings_1 : List UInt8 := dkwX2_inkByHalvings_1 ++ []
def dkwX2_inkByHalvings_0 : List UInt8 := [42, 180, 0, 17, 27, 50, 42, 180, 0, 52, 28, 182, 0, 109, 62, 29, 16, 30, 164, 0, 7, 3]
abbrev dktX2_inkByHalvings_0 : List UInt8 := dkwX2_inkByHalvings_0 ++ dktX2_inkByHalvings_1
theorem dksX2_inkByHalvings_0 : cX2_inkByHalvings.data.toList.drop 0 = dktX2_inkByHalvings_0 := by decide +kernel
theorem dksX2_inkByHalvings_1 : cX2_inkByHalvings.data.toList.drop 22 = dktX2_inkByHalvings_1 := dk_seg dksX2_inkByHalvings_0 22 rfl rfl
theorem dX2_inkByHalvings_0 : decode cX2_inkByHalvings 0 = .ok (.aload_n 0, 1) := dk_42 (dk_at dksX2_inkByHalvings_0 0 rfl rfl)
theorem dX2_inkByHalvings_1 : decode cX2_inkByHalvings 1 = .ok (.getfield 17, 3) := dk_180 0 17 (dk_at dksX2_inkByHalvings_0 1 rfl rfl)
theorem dX2_inkByHalvings_4 : decode cX2_inkByHalvings 4 = .ok (.iload_n 1, 1) := dk_27 (dk_at dksX2_inkByHalvings_0 4 rfl rfl)
theorem dX2_inkByHalvings_5 : decode cX2_inkByHalvings 5 = .ok (.aaload, 1) := dk_50 (dk_at dksX2_inkByHalvings_0 5 rfl rfl)
theorem dX2_inkByHalvings_6 : decode cX2_inkByHalvings 6 = .ok (.aload_n 0, 1) := dk_42 (dk_at dksX2_inkByHalvings_0 6 rfl rfl)
theorem dX2_inkByHalvings_7 : decode cX2_inkByHalvings 7 = .ok (.getfield 52, 3) := dk_180 0 52 (dk_at dksX2_inkByHalvings_0 7 rfl rfl)
theorem dX2_inkByHalvings_10 : decode cX2_inkByHalvings 10 = .ok (.iload_n 2, 1) := dk_28 (dk_at dksX2_inkByHalvings_0 10 rfl rfl)
theorem dX2_inkByHalvings_11 : decode cX2_inkByHalvings 11 = .ok (.invokevirtual 109, 3) := dk_182 0 109 (dk_at dksX2_inkByHalvings_0 11 rfl rfl)
theorem dX2_inkByHalvings_14 : decode cX2_inkByHalvings 14 = .ok (.istore_n 3, 1) := dk_62 (dk_at dksX2_inkByHalvings_0 14 rfl rfl)
theorem dX2_inkByHalvings_15 : decode cX2_inkByHalvings 15 = .ok (.iload_n 3, 1) := dk_29 (dk_at dksX2_inkByHalvings_0 15 rfl rfl)
theorem dX2_inkByHalvings_16 : decode cX2_inkByHalvings 16 = .ok (.bipush 30, 2) := dk_16 30 (dk_at dksX2_inkByHalvings_0 16 rfl rfl)
theorem dX2_inkByHalvings_18 : decode cX2_inkByHalvings 18 = .ok (.if_icmp .le 7, 3) := dk_164 0 7 (dk_at dksX2_inkByHalvings_0 18 rfl rfl)
theorem dX2_inkByHalvings_21 : decode cX2_inkByHalvings 21 = .ok (.iconst 0, 1) := dk_3 (dk_at dksX2_inkByHalvings_0 21 rfl rfl)
theorem dX2_inkByHalvings_22 : decode cX2_inkByHalvings 22 = .ok (.goto 11, 3) := dk_167 0 11 (dk_at dksX2_inkByHalvings_1 0 rfl rfl)
theorem dX2_inkByHalvings_25 : decode cX2_inkByHalvings 25 = .ok (.aload_n 0, 1) := dk_42 (dk_at dksX2_inkByHalvings_1 3 rfl rfl)
theorem dX2_inkByHalvings_26 : decode cX2_inkByHalvings 26 = .ok (.getfield 9, 3) := dk_180 0 9 (dk_at dksX2_inkByHalvings_1 4 rfl rfl)
theorem dX2_inkByHalvings_29 : decode cX2_inkByHalvings 29 = .ok (.iload_n 1, 1) := dk_27 (dk_at dksX2_inkByHalvings_1 7 rfl rfl)
theorem dX2_inkByHalvings_30 : decode cX2_inkByHalvings 30 = .ok (.iaload, 1) := dk_46 (dk_at dksX2_inkByHalvings_1 8 rfl rfl)
theorem dX2_inkByHalvings_31 : decode cX2_inkByHalvings 31 = .ok (.iload_n 3, 1) := dk_29 (dk_at dksX2_inkByHalvings_1 9 rfl rfl)
theorem dX2_inkByHalvings_32 : decode cX2_inkByHalvings 32 = .ok (.ishr, 1) := dk_122 (dk_at dksX2_inkByHalvings_1 10 rfl rfl)
theorem dX2_inkByHalvings_33 : decode cX2_inkByHalvings 33 = .ok (.ireturn, 1) := dk_172 (dk_at dksX2_inkByHalvings_1 11 rfl rfl)
abbrev cX2_areSharesConsistent : ByteArray := prog_8_method_33_code
def yX2_areSharesConsistent : MethodName := ⟨RX2, "areSharesConsistent", "()Z"⟩
def dkwX2_areSharesConsistent_1 : List UInt8 := [182, 0, 198, 160, 0, 7, 4, 167, 0, 4, 3, 126, 61, 132, 3, 1, 167, 255, 226, 28, 172]
abbrev dktX2_areSharesConsistent_1 : List UInt8 := dkwX2_areSharesConsistent_1 ++ []
def dkwX2_areSharesConsistent_0 : List UInt8 := [42, 182, 0, 171, 76, 4, 61, 3, 62, 29, 42, 180, 0, 59, 162, 0, 28, 28, 43, 29, 46, 42, 29]
abbrev dktX2_areSharesConsistent_0 : List UInt8 := dkwX2_areSharesConsistent_0 ++ dktX2_areSharesConsistent_1
theorem dksX2_areSharesConsistent_0 : cX2_areSharesConsistent.data.toList.drop 0 = dktX2_areSharesConsistent_0 := by decide +kernel
theorem dksX2_areSharesConsistent_1 : cX2_areSharesConsistent.data.toList.drop 23 = dktX2_areSharesConsistent_1 := dk_seg dksX2_areSharesConsistent_0 23 rfl rfl
theorem dX2_areSharesConsistent_0 : decode cX2_areSharesConsistent 0 = .ok (.aload_n 0, 1) := dk_42 (dk_at dksX2_areSharesConsistent_0 0 rfl rfl)
theorem dX2_areSharesConsistent_1 : decode cX2_areSharesConsistent 1 = .ok (.invokevirtual 171, 3) := dk_182 0 171 (dk_at dksX2_areSharesConsistent_0 1 rfl rfl)
theorem dX2_areSharesConsistent_4 : decode cX2_areSharesConsistent 4 = .ok (.astore_n 1, 1) := dk_76 (dk_at dksX2_areSharesConsistent_0 4 rfl rfl)
theorem dX2_areSharesConsistent_5 : decode cX2_areSharesConsistent 5 = .ok (.iconst 1, 1) := dk_4 (dk_at dksX2_areSharesConsistent_0 5 rfl rfl)
theorem dX2_areSharesConsistent_6 : decode cX2_areSharesConsistent 6 = .ok (.istore_n 2, 1) := dk_61 (dk_at dksX2_areSharesConsistent_0 6 rfl rfl)
theorem dX2_areSharesConsistent_7 : decode cX2_areSharesConsistent 7 = .ok (.iconst 0, 1) := dk_3 (dk_at dksX2_areSharesConsistent_0 7 rfl rfl)
theorem dX2_areSharesConsistent_8 : decode cX2_areSharesConsistent 8 = .ok (.istore_n 3, 1) := dk_62 (dk_at dksX2_areSharesConsistent_0 8 rfl rfl)
theorem dX2_areSharesConsistent_9 : decode cX2_areSharesConsistent 9 = .ok (.iload_n 3, 1) := dk_29 (dk_at dksX2_areSharesConsistent_0 9 rfl rfl)
theorem dX2_areSharesConsistent_10 : decode cX2_areSharesConsistent 10 = .ok (.aload_n 0, 1) := dk_42 (dk_at dksX2_areSharesConsistent_0 10 rfl rfl)
theorem dX2_areSharesConsistent_11 : decode cX2_areSharesConsistent 11 = .ok (.getfield 59, 3) := dk_180 0 59 (dk_at dksX2_areSharesConsistent_0 11 rfl rfl)
theorem dX2_areSharesConsistent_14 : decode cX2_areSharesConsistent 14 = .ok (.if_icmp .ge 28, 3) := dk_162 0 28 (dk_at dksX2_areSharesConsistent_0 14 rfl rfl)
theorem dX2_areSharesConsistent_17 : decode cX2_areSharesConsistent 17 = .ok (.iload_n 2, 1) := dk_28 (dk_at dksX2_areSharesConsistent_0 17 rfl rfl)
theorem dX2_areSharesConsistent_18 : decode cX2_areSharesConsistent 18 = .ok (.aload_n 1, 1) := dk_43 (dk_at dksX2_areSharesConsistent_0 18 rfl rfl)
theorem dX2_areSharesConsistent_19 : decode cX2_areSharesConsistent 19 = .ok (.iload_n 3, 1) := dk_29 (dk_at dksX2_areSharesConsistent_0 19 rfl rfl)
theorem dX2_areSharesConsistent_20 : decode cX2_areSharesConsistent 20 = .ok (.iaload, 1) := dk_46 (dk_at dksX2_areSharesConsistent_0 20 rfl rfl)
theorem dX2_areSharesConsistent_21 : decode cX2_areSharesConsistent 21 = .ok (.aload_n 0, 1) := dk_42 (dk_at dksX2_areSharesConsistent_0 21 rfl rfl)
theorem dX2_areSharesConsistent_22 : decode cX2_areSharesConsistent 22 = .ok (.iload_n 3, 1) := dk_29 (dk_at dksX2_areSharesConsistent_0 22 rfl rfl)
theorem dX2_areSharesConsistent_23 : decode cX2_areSharesConsistent 23 = .ok (.invokevirtual 198, 3) := dk_182 0 198 (dk_at dksX2_areSharesConsistent_1 0 rfl rfl)
theorem dX2_areSharesConsistent_26 : decode cX2_areSharesConsistent 26 = .ok (.if_icmp .ne 7, 3) := dk_160 0 7 (dk_at dksX2_areSharesConsistent_1 3 rfl rfl)
theorem dX2_areSharesConsistent_29 : decode cX2_areSharesConsistent 29 = .ok (.iconst 1, 1) := dk_4 (dk_at dksX2_areSharesConsistent_1 6 rfl rfl)
theorem dX2_areSharesConsistent_30 : decode cX2_areSharesConsistent 30 = .ok (.goto 4, 3) := dk_167 0 4 (dk_at dksX2_areSharesConsistent_1 7 rfl rfl)
theorem dX2_areSharesConsistent_33 : decode cX2_areSharesConsistent 33 = .ok (.iconst 0, 1) := dk_3 (dk_at dksX2_areSharesConsistent_1 10 rfl rfl)
theorem dX2_areSharesConsistent_34 : decode cX2_areSharesConsistent 34 = .ok (.iand, 1) := dk_126 (dk_at dksX2_areSharesConsistent_1 11 rfl rfl)
theorem dX2_areSharesConsistent_35 : decode cX2_areSharesConsistent 35 = .ok (.istore_n 2, 1) := dk_61 (dk_at dksX2_areSharesConsistent_1 12 rfl rfl)
theorem dX2_areSharesConsistent_36 : decode cX2_areSharesConsistent 36 = .ok (.iinc 3 1, 3) := dk_132 3 1 (dk_at dksX2_areSharesConsistent_1 13 rfl rfl)
theorem dX2_areSharesConsistent_39 : decode cX2_areSharesConsistent 39 = .ok (.goto (-30), 3) := dk_167 255 226 (dk_at dksX2_areSharesConsistent_1 16 rfl rfl)
theorem dX2_areSharesConsistent_42 : decode cX2_areSharesConsistent 42 = .ok (.iload_n 2, 1) := dk_28 (dk_at dksX2_areSharesConsistent_1 19 rfl rfl)
theorem dX2_areSharesConsistent_43 : decode cX2_areSharesConsistent 43 = .ok (.ireturn, 1) := dk_172 (dk_at dksX2_areSharesConsistent_1 20 rfl rfl)
abbrev cX2_shareByLevel : ByteArray := prog_8_method_18_code
def yX2_shareByLevel : MethodName := ⟨RX2, "shareByLevel", "(I)I"⟩
def dkwX2_shareByLevel_3 : List UInt8 := [164, 0, 15, 21, 4, 29, 162, 0, 9, 28, 4, 96, 167, 0, 9, 28, 21, 5, 184, 0, 129, 172]
abbrev dktX2_shareByLevel_3 : List UInt8 := dkwX2_shareByLevel_3 ++ []
def dkwX2_shareByLevel_2 : List UInt8 := [3, 96, 54, 4, 132, 5, 1, 167, 255, 223, 42, 180, 0, 23, 27, 50, 182, 0, 122, 54, 5, 21, 5, 28]
abbrev dktX2_shareByLevel_2 : List UInt8 := dkwX2_shareByLevel_2 ++ dktX2_shareByLevel_3
def dkwX2_shareByLevel_1 : List UInt8 := [27, 162, 0, 33, 21, 4, 42, 180, 0, 23, 21, 5, 50, 182, 0, 122, 28, 164, 0, 7, 4, 167, 0, 4]
abbrev dktX2_shareByLevel_1 : List UInt8 := dkwX2_shareByLevel_1 ++ dktX2_shareByLevel_2
def dkwX2_shareByLevel_0 : List UInt8 := [42, 182, 0, 138, 61, 42, 180, 0, 56, 42, 28, 182, 0, 134, 100, 62, 3, 54, 4, 3, 54, 5, 21, 5]
abbrev dktX2_shareByLevel_0 : List UInt8 := dkwX2_shareByLevel_0 ++ dktX2_shareByLevel_1
theorem dksX2_shareByLevel_0 : cX2_shareByLevel.data.toList.drop 0 = dktX2_shareByLevel_0 := by decide +kernel
theorem dksX2_shareByLevel_1 : cX2_shareByLevel.data.toList.drop 24 = dktX2_shareByLevel_1 := dk_seg dksX2_shareByLevel_0 24 rfl rfl
theorem dksX2_shareByLevel_2 : cX2_shareByLevel.data.toList.drop 48 = dktX2_shareByLevel_2 := dk_seg dksX2_shareByLevel_1 24 rfl rfl
theorem dksX2_shareByLevel_3 : cX2_shareByLevel.data.toList.drop 72 = dktX2_shareByLevel_3 := dk_seg dksX2_shareByLevel_2 24 rfl rfl
theorem dX2_shareByLevel_0 : decode cX2_shareByLevel 0 = .ok (.aload_n 0, 1) := dk_42 (dk_at dksX2_shareByLevel_0 0 rfl rfl)
theorem dX2_shareByLevel_1 : decode cX2_shareByLevel 1 = .ok (.invokevirtual 138, 3) := dk_182 0 138 (dk_at dksX2_shareByLevel_0 1 rfl rfl)
theorem dX2_shareByLevel_4 : decode cX2_shareByLevel 4 = .ok (.istore_n 2, 1) := dk_61 (dk_at dksX2_shareByLevel_0 4 rfl rfl)
theorem dX2_shareByLevel_5 : decode cX2_shareByLevel 5 = .ok (.aload_n 0, 1) := dk_42 (dk_at dksX2_shareByLevel_0 5 rfl rfl)
theorem dX2_shareByLevel_6 : decode cX2_shareByLevel 6 = .ok (.getfield 56, 3) := dk_180 0 56 (dk_at dksX2_shareByLevel_0 6 rfl rfl)
theorem dX2_shareByLevel_9 : decode cX2_shareByLevel 9 = .ok (.aload_n 0, 1) := dk_42 (dk_at dksX2_shareByLevel_0 9 rfl rfl)
theorem dX2_shareByLevel_10 : decode cX2_shareByLevel 10 = .ok (.iload_n 2, 1) := dk_28 (dk_at dksX2_shareByLevel_0 10 rfl rfl)
theorem dX2_shareByLevel_11 : decode cX2_shareByLevel 11 = .ok (.invokevirtual 134, 3) := dk_182 0 134 (dk_at dksX2_shareByLevel_0 11 rfl rfl)
theorem dX2_shareByLevel_14 : decode cX2_shareByLevel 14 = .ok (.isub, 1) := dk_100 (dk_at dksX2_shareByLevel_0 14 rfl rfl)
theorem dX2_shareByLevel_15 : decode cX2_shareByLevel 15 = .ok (.istore_n 3, 1) := dk_62 (dk_at dksX2_shareByLevel_0 15 rfl rfl)
theorem dX2_shareByLevel_16 : decode cX2_shareByLevel 16 = .ok (.iconst 0, 1) := dk_3 (dk_at dksX2_shareByLevel_0 16 rfl rfl)
theorem dX2_shareByLevel_17 : decode cX2_shareByLevel 17 = .ok (.istore 4, 2) := dk_54 4 (dk_at dksX2_shareByLevel_0 17 rfl rfl)
theorem dX2_shareByLevel_19 : decode cX2_shareByLevel 19 = .ok (.iconst 0, 1) := dk_3 (dk_at dksX2_shareByLevel_0 19 rfl rfl)
theorem dX2_shareByLevel_20 : decode cX2_shareByLevel 20 = .ok (.istore 5, 2) := dk_54 5 (dk_at dksX2_shareByLevel_0 20 rfl rfl)
theorem dX2_shareByLevel_22 : decode cX2_shareByLevel 22 = .ok (.iload 5, 2) := dk_21 5 (dk_at dksX2_shareByLevel_0 22 rfl rfl)
theorem dX2_shareByLevel_24 : decode cX2_shareByLevel 24 = .ok (.iload_n 1, 1) := dk_27 (dk_at dksX2_shareByLevel_1 0 rfl rfl)
theorem dX2_shareByLevel_25 : decode cX2_shareByLevel 25 = .ok (.if_icmp .ge 33, 3) := dk_162 0 33 (dk_at dksX2_shareByLevel_1 1 rfl rfl)
theorem dX2_shareByLevel_28 : decode cX2_shareByLevel 28 = .ok (.iload 4, 2) := dk_21 4 (dk_at dksX2_shareByLevel_1 4 rfl rfl)
theorem dX2_shareByLevel_30 : decode cX2_shareByLevel 30 = .ok (.aload_n 0, 1) := dk_42 (dk_at dksX2_shareByLevel_1 6 rfl rfl)
theorem dX2_shareByLevel_31 : decode cX2_shareByLevel 31 = .ok (.getfield 23, 3) := dk_180 0 23 (dk_at dksX2_shareByLevel_1 7 rfl rfl)
theorem dX2_shareByLevel_34 : decode cX2_shareByLevel 34 = .ok (.iload 5, 2) := dk_21 5 (dk_at dksX2_shareByLevel_1 10 rfl rfl)
theorem dX2_shareByLevel_36 : decode cX2_shareByLevel 36 = .ok (.aaload, 1) := dk_50 (dk_at dksX2_shareByLevel_1 12 rfl rfl)
theorem dX2_shareByLevel_37 : decode cX2_shareByLevel 37 = .ok (.invokevirtual 122, 3) := dk_182 0 122 (dk_at dksX2_shareByLevel_1 13 rfl rfl)
theorem dX2_shareByLevel_40 : decode cX2_shareByLevel 40 = .ok (.iload_n 2, 1) := dk_28 (dk_at dksX2_shareByLevel_1 16 rfl rfl)
theorem dX2_shareByLevel_41 : decode cX2_shareByLevel 41 = .ok (.if_icmp .le 7, 3) := dk_164 0 7 (dk_at dksX2_shareByLevel_1 17 rfl rfl)
theorem dX2_shareByLevel_44 : decode cX2_shareByLevel 44 = .ok (.iconst 1, 1) := dk_4 (dk_at dksX2_shareByLevel_1 20 rfl rfl)
theorem dX2_shareByLevel_45 : decode cX2_shareByLevel 45 = .ok (.goto 4, 3) := dk_167 0 4 (dk_at dksX2_shareByLevel_1 21 rfl rfl)
theorem dX2_shareByLevel_48 : decode cX2_shareByLevel 48 = .ok (.iconst 0, 1) := dk_3 (dk_at dksX2_shareByLevel_2 0 rfl rfl)
theorem dX2_shareByLevel_49 : decode cX2_shareByLevel 49 = .ok (.iadd, 1) := dk_96 (dk_at dksX2_shareByLevel_2 1 rfl rfl)
theorem dX2_shareByLevel_50 : decode cX2_shareByLevel 50 = .ok (.istore 4, 2) := dk_54 4 (dk_at dksX2_shareByLevel_2 2 rfl rfl)
theorem dX2_shareByLevel_52 : decode cX2_shareByLevel 52 = .ok (.iinc 5 1, 3) := dk_132 5 1 (dk_at dksX2_shareByLevel_2 4 rfl rfl)
theorem dX2_shareByLevel_55 : decode cX2_shareByLevel 55 = .ok (.goto (-33), 3) := dk_167 255 223 (dk_at dksX2_shareByLevel_2 7 rfl rfl)
theorem dX2_shareByLevel_58 : decode cX2_shareByLevel 58 = .ok (.aload_n 0, 1) := dk_42 (dk_at dksX2_shareByLevel_2 10 rfl rfl)
theorem dX2_shareByLevel_59 : decode cX2_shareByLevel 59 = .ok (.getfield 23, 3) := dk_180 0 23 (dk_at dksX2_shareByLevel_2 11 rfl rfl)
theorem dX2_shareByLevel_62 : decode cX2_shareByLevel 62 = .ok (.iload_n 1, 1) := dk_27 (dk_at dksX2_shareByLevel_2 14 rfl rfl)
theorem dX2_shareByLevel_63 : decode cX2_shareByLevel 63 = .ok (.aaload, 1) := dk_50 (dk_at dksX2_shareByLevel_2 15 rfl rfl)
theorem dX2_shareByLevel_64 : decode cX2_shareByLevel 64 = .ok (.invokevirtual 122, 3) := dk_182 0 122 (dk_at dksX2_shareByLevel_2 16 rfl rfl)
theorem dX2_shareByLevel_67 : decode cX2_shareByLevel 67 = .ok (.istore 5, 2) := dk_54 5 (dk_at dksX2_shareByLevel_2 19 rfl rfl)
theorem dX2_shareByLevel_69 : decode cX2_shareByLevel 69 = .ok (.iload 5, 2) := dk_21 5 (dk_at dksX2_shareByLevel_2 21 rfl rfl)
theorem dX2_shareByLevel_71 : decode cX2_shareByLevel 71 = .ok (.iload_n 2, 1) := dk_28 (dk_at dksX2_shareByLevel_2 23 rfl rfl)
theorem dX2_shareByLevel_72 : decode cX2_shareByLevel 72 = .ok (.if_icmp .le 15, 3) := dk_164 0 15 (dk_at dksX2_shareByLevel_3 0 rfl rfl)
theorem dX2_shareByLevel_75 : decode cX2_shareByLevel 75 = .ok (.iload 4, 2) := dk_21 4 (dk_at dksX2_shareByLevel_3 3 rfl rfl)
theorem dX2_shareByLevel_77 : decode cX2_shareByLevel 77 = .ok (.iload_n 3, 1) := dk_29 (dk_at dksX2_shareByLevel_3 5 rfl rfl)
theorem dX2_shareByLevel_78 : decode cX2_shareByLevel 78 = .ok (.if_icmp .ge 9, 3) := dk_162 0 9 (dk_at dksX2_shareByLevel_3 6 rfl rfl)
theorem dX2_shareByLevel_81 : decode cX2_shareByLevel 81 = .ok (.iload_n 2, 1) := dk_28 (dk_at dksX2_shareByLevel_3 9 rfl rfl)
theorem dX2_shareByLevel_82 : decode cX2_shareByLevel 82 = .ok (.iconst 1, 1) := dk_4 (dk_at dksX2_shareByLevel_3 10 rfl rfl)
theorem dX2_shareByLevel_83 : decode cX2_shareByLevel 83 = .ok (.iadd, 1) := dk_96 (dk_at dksX2_shareByLevel_3 11 rfl rfl)
theorem dX2_shareByLevel_84 : decode cX2_shareByLevel 84 = .ok (.goto 9, 3) := dk_167 0 9 (dk_at dksX2_shareByLevel_3 12 rfl rfl)
theorem dX2_shareByLevel_87 : decode cX2_shareByLevel 87 = .ok (.iload_n 2, 1) := dk_28 (dk_at dksX2_shareByLevel_3 15 rfl rfl)
theorem dX2_shareByLevel_88 : decode cX2_shareByLevel 88 = .ok (.iload 5, 2) := dk_21 5 (dk_at dksX2_shareByLevel_3 16 rfl rfl)
theorem dX2_shareByLevel_90 : decode cX2_shareByLevel 90 = .ok (.invokestatic 129, 3) := dk_184 0 129 (dk_at dksX2_shareByLevel_3 18 rfl rfl)
theorem dX2_shareByLevel_93 : decode cX2_shareByLevel 93 = .ok (.ireturn, 1) := dk_172 (dk_at dksX2_shareByLevel_3 21 rfl rfl)
abbrev cX2_level : ByteArray := prog_8_method_17_code
def yX2_level : MethodName := ⟨RX2, "level", "()I"⟩
def dkwX2_level_1 : List UInt8 := [180, 0, 56, 163, 0, 8, 29, 60, 167, 0, 7, 29, 4, 100, 61, 167, 255, 222, 27, 172]
abbrev dktX2_level_1 : List UInt8 := dkwX2_level_1 ++ []
def dkwX2_level_0 : List UInt8 := [3, 60, 16, 50, 61, 27, 28, 162, 0, 35, 27, 28, 96, 4, 96, 5, 108, 62, 42, 29, 182, 0, 134, 42]
abbrev dktX2_level_0 : List UInt8 := dkwX2_level_0 ++ dktX2_level_1
theorem dksX2_level_0 : cX2_level.data.toList.drop 0 = dktX2_level_0 := by decide +kernel
theorem dksX2_level_1 : cX2_level.data.toList.drop 24 = dktX2_level_1 := dk_seg dksX2_level_0 24 rfl rfl
theorem dX2_level_0 : decode cX2_level 0 = .ok (.iconst 0, 1) := dk_3 (dk_at dksX2_level_0 0 rfl rfl)
theorem dX2_level_1 : decode cX2_level 1 = .ok (.istore_n 1, 1) := dk_60 (dk_at dksX2_level_0 1 rfl rfl)
theorem dX2_level_2 : decode cX2_level 2 = .ok (.bipush 50, 2) := dk_16 50 (dk_at dksX2_level_0 2 rfl rfl)
theorem dX2_level_4 : decode cX2_level 4 = .ok (.istore_n 2, 1) := dk_61 (dk_at dksX2_level_0 4 rfl rfl)
theorem dX2_level_5 : decode cX2_level 5 = .ok (.iload_n 1, 1) := dk_27 (dk_at dksX2_level_0 5 rfl rfl)
theorem dX2_level_6 : decode cX2_level 6 = .ok (.iload_n 2, 1) := dk_28 (dk_at dksX2_level_0 6 rfl rfl)
theorem dX2_level_7 : decode cX2_level 7 = .ok (.if_icmp .ge 35, 3) := dk_162 0 35 (dk_at dksX2_level_0 7 rfl rfl)
theorem dX2_level_10 : decode cX2_level 10 = .ok (.iload_n 1, 1) := dk_27 (dk_at dksX2_level_0 10 rfl rfl)
theorem dX2_level_11 : decode cX2_level 11 = .ok (.iload_n 2, 1) := dk_28 (dk_at dksX2_level_0 11 rfl rfl)
theorem dX2_level_12 : decode cX2_level 12 = .ok (.iadd, 1) := dk_96 (dk_at dksX2_level_0 12 rfl rfl)
theorem dX2_level_13 : decode cX2_level 13 = .ok (.iconst 1, 1) := dk_4 (dk_at dksX2_level_0 13 rfl rfl)
theorem dX2_level_14 : decode cX2_level 14 = .ok (.iadd, 1) := dk_96 (dk_at dksX2_level_0 14 rfl rfl)
theorem dX2_level_15 : decode cX2_level 15 = .ok (.iconst 2, 1) := dk_5 (dk_at dksX2_level_0 15 rfl rfl)
theorem dX2_level_16 : decode cX2_level 16 = .ok (.idiv, 1) := dk_108 (dk_at dksX2_level_0 16 rfl rfl)
theorem dX2_level_17 : decode cX2_level 17 = .ok (.istore_n 3, 1) := dk_62 (dk_at dksX2_level_0 17 rfl rfl)
theorem dX2_level_18 : decode cX2_level 18 = .ok (.aload_n 0, 1) := dk_42 (dk_at dksX2_level_0 18 rfl rfl)
theorem dX2_level_19 : decode cX2_level 19 = .ok (.iload_n 3, 1) := dk_29 (dk_at dksX2_level_0 19 rfl rfl)
theorem dX2_level_20 : decode cX2_level 20 = .ok (.invokevirtual 134, 3) := dk_182 0 134 (dk_at dksX2_level_0 20 rfl rfl)
theorem dX2_level_23 : decode cX2_level 23 = .ok (.aload_n 0, 1) := dk_42 (dk_at dksX2_level_0 23 rfl rfl)
theorem dX2_level_24 : decode cX2_level 24 = .ok (.getfield 56, 3) := dk_180 0 56 (dk_at dksX2_level_1 0 rfl rfl)
theorem dX2_level_27 : decode cX2_level 27 = .ok (.if_icmp .gt 8, 3) := dk_163 0 8 (dk_at dksX2_level_1 3 rfl rfl)
theorem dX2_level_30 : decode cX2_level 30 = .ok (.iload_n 3, 1) := dk_29 (dk_at dksX2_level_1 6 rfl rfl)
theorem dX2_level_31 : decode cX2_level 31 = .ok (.istore_n 1, 1) := dk_60 (dk_at dksX2_level_1 7 rfl rfl)
theorem dX2_level_32 : decode cX2_level 32 = .ok (.goto 7, 3) := dk_167 0 7 (dk_at dksX2_level_1 8 rfl rfl)
theorem dX2_level_35 : decode cX2_level 35 = .ok (.iload_n 3, 1) := dk_29 (dk_at dksX2_level_1 11 rfl rfl)
theorem dX2_level_36 : decode cX2_level 36 = .ok (.iconst 1, 1) := dk_4 (dk_at dksX2_level_1 12 rfl rfl)
theorem dX2_level_37 : decode cX2_level 37 = .ok (.isub, 1) := dk_100 (dk_at dksX2_level_1 13 rfl rfl)
theorem dX2_level_38 : decode cX2_level 38 = .ok (.istore_n 2, 1) := dk_61 (dk_at dksX2_level_1 14 rfl rfl)
theorem dX2_level_39 : decode cX2_level 39 = .ok (.goto (-34), 3) := dk_167 255 222 (dk_at dksX2_level_1 15 rfl rfl)
theorem dX2_level_42 : decode cX2_level 42 = .ok (.iload_n 1, 1) := dk_27 (dk_at dksX2_level_1 18 rfl rfl)
theorem dX2_level_43 : decode cX2_level 43 = .ok (.ireturn, 1) := dk_172 (dk_at dksX2_level_1 19 rfl rfl)
abbrev cX2_sheetsFor : ByteArray := prog_8_method_16_code
def yX2_sheetsFor : MethodName := ⟨RX2, "sheetsFor", "(I)I"⟩
def dkwX2_sheetsFor_1 : List UInt8 := [184, 0, 129, 96, 61, 132, 3, 1, 167, 255, 229, 28, 172]
abbrev dktX2_sheetsFor_1 : List UInt8 := dkwX2_sheetsFor_1 ++ []
def dkwX2_sheetsFor_0 : List UInt8 := [3, 61, 3, 62, 29, 42, 180, 0, 59, 162, 0, 25, 28, 27, 42, 180, 0, 23, 29, 50, 182, 0, 122]
abbrev dktX2_sheetsFor_0 : List UInt8 := dkwX2_sheetsFor_0 ++ dktX2_sheetsFor_1
theorem dksX2_sheetsFor_0 : cX2_sheetsFor.data.toList.drop 0 = dktX2_sheetsFor_0 := by decide +kernel
theorem dksX2_sheetsFor_1 : cX2_sheetsFor.data.toList.drop 23 = dktX2_sheetsFor_1 := dk_seg dksX2_sheetsFor_0 23 rfl rfl
theorem dX2_sheetsFor_0 : decode cX2_sheetsFor 0 = .ok (.iconst 0, 1) := dk_3 (dk_at dksX2_sheetsFor_0 0 rfl rfl)
theorem dX2_sheetsFor_1 : decode cX2_sheetsFor 1 = .ok (.istore_n 2, 1) := dk_61 (dk_at dksX2_sheetsFor_0 1 rfl rfl)
theorem dX2_sheetsFor_2 : decode cX2_sheetsFor 2 = .ok (.iconst 0, 1) := dk_3 (dk_at dksX2_sheetsFor_0 2 rfl rfl)
theorem dX2_sheetsFor_3 : decode cX2_sheetsFor 3 = .ok (.istore_n 3, 1) := dk_62 (dk_at dksX2_sheetsFor_0 3 rfl rfl)
theorem dX2_sheetsFor_4 : decode cX2_sheetsFor 4 = .ok (.iload_n 3, 1) := dk_29 (dk_at dksX2_sheetsFor_0 4 rfl rfl)
theorem dX2_sheetsFor_5 : decode cX2_sheetsFor 5 = .ok (.aload_n 0, 1) := dk_42 (dk_at dksX2_sheetsFor_0 5 rfl rfl)
theorem dX2_sheetsFor_6 : decode cX2_sheetsFor 6 = .ok (.getfield 59, 3) := dk_180 0 59 (dk_at dksX2_sheetsFor_0 6 rfl rfl)
theorem dX2_sheetsFor_9 : decode cX2_sheetsFor 9 = .ok (.if_icmp .ge 25, 3) := dk_162 0 25 (dk_at dksX2_sheetsFor_0 9 rfl rfl)
theorem dX2_sheetsFor_12 : decode cX2_sheetsFor 12 = .ok (.iload_n 2, 1) := dk_28 (dk_at dksX2_sheetsFor_0 12 rfl rfl)
theorem dX2_sheetsFor_13 : decode cX2_sheetsFor 13 = .ok (.iload_n 1, 1) := dk_27 (dk_at dksX2_sheetsFor_0 13 rfl rfl)
theorem dX2_sheetsFor_14 : decode cX2_sheetsFor 14 = .ok (.aload_n 0, 1) := dk_42 (dk_at dksX2_sheetsFor_0 14 rfl rfl)
theorem dX2_sheetsFor_15 : decode cX2_sheetsFor 15 = .ok (.getfield 23, 3) := dk_180 0 23 (dk_at dksX2_sheetsFor_0 15 rfl rfl)
theorem dX2_sheetsFor_18 : decode cX2_sheetsFor 18 = .ok (.iload_n 3, 1) := dk_29 (dk_at dksX2_sheetsFor_0 18 rfl rfl)
theorem dX2_sheetsFor_19 : decode cX2_sheetsFor 19 = .ok (.aaload, 1) := dk_50 (dk_at dksX2_sheetsFor_0 19 rfl rfl)
theorem dX2_sheetsFor_20 : decode cX2_sheetsFor 20 = .ok (.invokevirtual 122, 3) := dk_182 0 122 (dk_at dksX2_sheetsFor_0 20 rfl rfl)
theorem dX2_sheetsFor_23 : decode cX2_sheetsFor 23 = .ok (.invokestatic 129, 3) := dk_184 0 129 (dk_at dksX2_sheetsFor_1 0 rfl rfl)
theorem dX2_sheetsFor_26 : decode cX2_sheetsFor 26 = .ok (.iadd, 1) := dk_96 (dk_at dksX2_sheetsFor_1 3 rfl rfl)
theorem dX2_sheetsFor_27 : decode cX2_sheetsFor 27 = .ok (.istore_n 2, 1) := dk_61 (dk_at dksX2_sheetsFor_1 4 rfl rfl)
theorem dX2_sheetsFor_28 : decode cX2_sheetsFor 28 = .ok (.iinc 3 1, 3) := dk_132 3 1 (dk_at dksX2_sheetsFor_1 5 rfl rfl)
theorem dX2_sheetsFor_31 : decode cX2_sheetsFor 31 = .ok (.goto (-27), 3) := dk_167 255 229 (dk_at dksX2_sheetsFor_1 8 rfl rfl)
theorem dX2_sheetsFor_34 : decode cX2_sheetsFor 34 = .ok (.iload_n 2, 1) := dk_28 (dk_at dksX2_sheetsFor_1 11 rfl rfl)
theorem dX2_sheetsFor_35 : decode cX2_sheetsFor 35 = .ok (.ireturn, 1) := dk_172 (dk_at dksX2_sheetsFor_1 12 rfl rfl)
abbrev cX2_addInk : ByteArray := prog_8_method_5_code
def yX2_addInk : MethodName := ⟨RX2, "addInk", "(II)I"⟩
def dkwX2_addInk_3 : List UInt8 := [180, 0, 9, 27, 46, 172]
abbrev dktX2_addInk_3 : List UInt8 := dkwX2_addInk_3 ++ []
def dkwX2_addInk_2 : List UInt8 := [184, 0, 99, 42, 180, 0, 9, 27, 92, 46, 28, 96, 79, 42, 89, 180, 0, 71, 28, 96, 181, 0, 71, 42]
abbrev dktX2_addInk_2 : List UInt8 := dkwX2_addInk_2 ++ dktX2_addInk_3
def dkwX2_addInk_1 : List UInt8 := [184, 0, 96, 42, 180, 0, 9, 27, 46, 28, 96, 17, 3, 231, 163, 0, 7, 4, 167, 0, 4, 3]
abbrev dktX2_addInk_1 : List UInt8 := dkwX2_addInk_1 ++ dktX2_addInk_2
def dkwX2_addInk_0 : List UInt8 := [27, 184, 0, 92, 153, 0, 18, 28, 4, 17, 3, 231, 184, 0, 84, 153, 0, 7, 4, 167, 0, 4, 3]
abbrev dktX2_addInk_0 : List UInt8 := dkwX2_addInk_0 ++ dktX2_addInk_1
theorem dksX2_addInk_0 : cX2_addInk.data.toList.drop 0 = dktX2_addInk_0 := by decide +kernel
theorem dksX2_addInk_1 : cX2_addInk.data.toList.drop 23 = dktX2_addInk_1 := dk_seg dksX2_addInk_0 23 rfl rfl
theorem dksX2_addInk_2 : cX2_addInk.data.toList.drop 45 = dktX2_addInk_2 := dk_seg dksX2_addInk_1 22 rfl rfl
theorem dksX2_addInk_3 : cX2_addInk.data.toList.drop 69 = dktX2_addInk_3 := dk_seg dksX2_addInk_2 24 rfl rfl
theorem dX2_addInk_0 : decode cX2_addInk 0 = .ok (.iload_n 1, 1) := dk_27 (dk_at dksX2_addInk_0 0 rfl rfl)
theorem dX2_addInk_1 : decode cX2_addInk 1 = .ok (.invokestatic 92, 3) := dk_184 0 92 (dk_at dksX2_addInk_0 1 rfl rfl)
theorem dX2_addInk_4 : decode cX2_addInk 4 = .ok (.ifCond .eq 18, 3) := dk_153 0 18 (dk_at dksX2_addInk_0 4 rfl rfl)
theorem dX2_addInk_7 : decode cX2_addInk 7 = .ok (.iload_n 2, 1) := dk_28 (dk_at dksX2_addInk_0 7 rfl rfl)
theorem dX2_addInk_8 : decode cX2_addInk 8 = .ok (.iconst 1, 1) := dk_4 (dk_at dksX2_addInk_0 8 rfl rfl)
theorem dX2_addInk_9 : decode cX2_addInk 9 = .ok (.sipush 999, 3) := dk_17 3 231 (dk_at dksX2_addInk_0 9 rfl rfl)
theorem dX2_addInk_12 : decode cX2_addInk 12 = .ok (.invokestatic 84, 3) := dk_184 0 84 (dk_at dksX2_addInk_0 12 rfl rfl)
theorem dX2_addInk_15 : decode cX2_addInk 15 = .ok (.ifCond .eq 7, 3) := dk_153 0 7 (dk_at dksX2_addInk_0 15 rfl rfl)
theorem dX2_addInk_18 : decode cX2_addInk 18 = .ok (.iconst 1, 1) := dk_4 (dk_at dksX2_addInk_0 18 rfl rfl)
theorem dX2_addInk_19 : decode cX2_addInk 19 = .ok (.goto 4, 3) := dk_167 0 4 (dk_at dksX2_addInk_0 19 rfl rfl)
theorem dX2_addInk_22 : decode cX2_addInk 22 = .ok (.iconst 0, 1) := dk_3 (dk_at dksX2_addInk_0 22 rfl rfl)
theorem dX2_addInk_23 : decode cX2_addInk 23 = .ok (.invokestatic 96, 3) := dk_184 0 96 (dk_at dksX2_addInk_1 0 rfl rfl)
theorem dX2_addInk_26 : decode cX2_addInk 26 = .ok (.aload_n 0, 1) := dk_42 (dk_at dksX2_addInk_1 3 rfl rfl)
theorem dX2_addInk_27 : decode cX2_addInk 27 = .ok (.getfield 9, 3) := dk_180 0 9 (dk_at dksX2_addInk_1 4 rfl rfl)
theorem dX2_addInk_30 : decode cX2_addInk 30 = .ok (.iload_n 1, 1) := dk_27 (dk_at dksX2_addInk_1 7 rfl rfl)
theorem dX2_addInk_31 : decode cX2_addInk 31 = .ok (.iaload, 1) := dk_46 (dk_at dksX2_addInk_1 8 rfl rfl)
theorem dX2_addInk_32 : decode cX2_addInk 32 = .ok (.iload_n 2, 1) := dk_28 (dk_at dksX2_addInk_1 9 rfl rfl)
theorem dX2_addInk_33 : decode cX2_addInk 33 = .ok (.iadd, 1) := dk_96 (dk_at dksX2_addInk_1 10 rfl rfl)
theorem dX2_addInk_34 : decode cX2_addInk 34 = .ok (.sipush 999, 3) := dk_17 3 231 (dk_at dksX2_addInk_1 11 rfl rfl)
theorem dX2_addInk_37 : decode cX2_addInk 37 = .ok (.if_icmp .gt 7, 3) := dk_163 0 7 (dk_at dksX2_addInk_1 14 rfl rfl)
theorem dX2_addInk_40 : decode cX2_addInk 40 = .ok (.iconst 1, 1) := dk_4 (dk_at dksX2_addInk_1 17 rfl rfl)
theorem dX2_addInk_41 : decode cX2_addInk 41 = .ok (.goto 4, 3) := dk_167 0 4 (dk_at dksX2_addInk_1 18 rfl rfl)
theorem dX2_addInk_44 : decode cX2_addInk 44 = .ok (.iconst 0, 1) := dk_3 (dk_at dksX2_addInk_1 21 rfl rfl)
theorem dX2_addInk_45 : decode cX2_addInk 45 = .ok (.invokestatic 99, 3) := dk_184 0 99 (dk_at dksX2_addInk_2 0 rfl rfl)
theorem dX2_addInk_48 : decode cX2_addInk 48 = .ok (.aload_n 0, 1) := dk_42 (dk_at dksX2_addInk_2 3 rfl rfl)
theorem dX2_addInk_49 : decode cX2_addInk 49 = .ok (.getfield 9, 3) := dk_180 0 9 (dk_at dksX2_addInk_2 4 rfl rfl)
theorem dX2_addInk_52 : decode cX2_addInk 52 = .ok (.iload_n 1, 1) := dk_27 (dk_at dksX2_addInk_2 7 rfl rfl)
theorem dX2_addInk_53 : decode cX2_addInk 53 = .ok (.dup2, 1) := dk_92 (dk_at dksX2_addInk_2 8 rfl rfl)
theorem dX2_addInk_54 : decode cX2_addInk 54 = .ok (.iaload, 1) := dk_46 (dk_at dksX2_addInk_2 9 rfl rfl)
theorem dX2_addInk_55 : decode cX2_addInk 55 = .ok (.iload_n 2, 1) := dk_28 (dk_at dksX2_addInk_2 10 rfl rfl)
theorem dX2_addInk_56 : decode cX2_addInk 56 = .ok (.iadd, 1) := dk_96 (dk_at dksX2_addInk_2 11 rfl rfl)
theorem dX2_addInk_57 : decode cX2_addInk 57 = .ok (.iastore, 1) := dk_79 (dk_at dksX2_addInk_2 12 rfl rfl)
theorem dX2_addInk_58 : decode cX2_addInk 58 = .ok (.aload_n 0, 1) := dk_42 (dk_at dksX2_addInk_2 13 rfl rfl)
theorem dX2_addInk_59 : decode cX2_addInk 59 = .ok (.dup, 1) := dk_89 (dk_at dksX2_addInk_2 14 rfl rfl)
theorem dX2_addInk_60 : decode cX2_addInk 60 = .ok (.getfield 71, 3) := dk_180 0 71 (dk_at dksX2_addInk_2 15 rfl rfl)
theorem dX2_addInk_63 : decode cX2_addInk 63 = .ok (.iload_n 2, 1) := dk_28 (dk_at dksX2_addInk_2 18 rfl rfl)
theorem dX2_addInk_64 : decode cX2_addInk 64 = .ok (.iadd, 1) := dk_96 (dk_at dksX2_addInk_2 19 rfl rfl)
theorem dX2_addInk_65 : decode cX2_addInk 65 = .ok (.putfield 71, 3) := dk_181 0 71 (dk_at dksX2_addInk_2 20 rfl rfl)
theorem dX2_addInk_68 : decode cX2_addInk 68 = .ok (.aload_n 0, 1) := dk_42 (dk_at dksX2_addInk_2 23 rfl rfl)
theorem dX2_addInk_69 : decode cX2_addInk 69 = .ok (.getfield 9, 3) := dk_180 0 9 (dk_at dksX2_addInk_3 0 rfl rfl)
theorem dX2_addInk_72 : decode cX2_addInk 72 = .ok (.iload_n 1, 1) := dk_27 (dk_at dksX2_addInk_3 3 rfl rfl)
theorem dX2_addInk_73 : decode cX2_addInk 73 = .ok (.iaload, 1) := dk_46 (dk_at dksX2_addInk_3 4 rfl rfl)
theorem dX2_addInk_74 : decode cX2_addInk 74 = .ok (.ireturn, 1) := dk_172 (dk_at dksX2_addInk_3 5 rfl rfl)
abbrev cX2_addPaper : ByteArray := prog_8_method_6_code
def yX2_addPaper : MethodName := ⟨RX2, "addPaper", "(I)I"⟩
def dkwX2_addPaper_1 : List UInt8 := [167, 0, 4, 3, 184, 0, 99, 42, 89, 180, 0, 56, 27, 96, 181, 0, 56, 42, 180, 0, 56, 172]
abbrev dktX2_addPaper_1 : List UInt8 := dkwX2_addPaper_1 ++ []
def dkwX2_addPaper_0 : List UInt8 := [27, 4, 17, 3, 231, 184, 0, 84, 184, 0, 96, 42, 180, 0, 56, 27, 96, 17, 39, 15, 163, 0, 7, 4]
abbrev dktX2_addPaper_0 : List UInt8 := dkwX2_addPaper_0 ++ dktX2_addPaper_1
theorem dksX2_addPaper_0 : cX2_addPaper.data.toList.drop 0 = dktX2_addPaper_0 := by decide +kernel
theorem dksX2_addPaper_1 : cX2_addPaper.data.toList.drop 24 = dktX2_addPaper_1 := dk_seg dksX2_addPaper_0 24 rfl rfl
theorem dX2_addPaper_0 : decode cX2_addPaper 0 = .ok (.iload_n 1, 1) := dk_27 (dk_at dksX2_addPaper_0 0 rfl rfl)
theorem dX2_addPaper_1 : decode cX2_addPaper 1 = .ok (.iconst 1, 1) := dk_4 (dk_at dksX2_addPaper_0 1 rfl rfl)
theorem dX2_addPaper_2 : decode cX2_addPaper 2 = .ok (.sipush 999, 3) := dk_17 3 231 (dk_at dksX2_addPaper_0 2 rfl rfl)
theorem dX2_addPaper_5 : decode cX2_addPaper 5 = .ok (.invokestatic 84, 3) := dk_184 0 84 (dk_at dksX2_addPaper_0 5 rfl rfl)
theorem dX2_addPaper_8 : decode cX2_addPaper 8 = .ok (.invokestatic 96, 3) := dk_184 0 96 (dk_at dksX2_addPaper_0 8 rfl rfl)
theorem dX2_addPaper_11 : decode cX2_addPaper 11 = .ok (.aload_n 0, 1) := dk_42 (dk_at dksX2_addPaper_0 11 rfl rfl)
theorem dX2_addPaper_12 : decode cX2_addPaper 12 = .ok (.getfield 56, 3) := dk_180 0 56 (dk_at dksX2_addPaper_0 12 rfl rfl)
theorem dX2_addPaper_15 : decode cX2_addPaper 15 = .ok (.iload_n 1, 1) := dk_27 (dk_at dksX2_addPaper_0 15 rfl rfl)
theorem dX2_addPaper_16 : decode cX2_addPaper 16 = .ok (.iadd, 1) := dk_96 (dk_at dksX2_addPaper_0 16 rfl rfl)
theorem dX2_addPaper_17 : decode cX2_addPaper 17 = .ok (.sipush 9999, 3) := dk_17 39 15 (dk_at dksX2_addPaper_0 17 rfl rfl)
theorem dX2_addPaper_20 : decode cX2_addPaper 20 = .ok (.if_icmp .gt 7, 3) := dk_163 0 7 (dk_at dksX2_addPaper_0 20 rfl rfl)
theorem dX2_addPaper_23 : decode cX2_addPaper 23 = .ok (.iconst 1, 1) := dk_4 (dk_at dksX2_addPaper_0 23 rfl rfl)
theorem dX2_addPaper_24 : decode cX2_addPaper 24 = .ok (.goto 4, 3) := dk_167 0 4 (dk_at dksX2_addPaper_1 0 rfl rfl)
theorem dX2_addPaper_27 : decode cX2_addPaper 27 = .ok (.iconst 0, 1) := dk_3 (dk_at dksX2_addPaper_1 3 rfl rfl)
theorem dX2_addPaper_28 : decode cX2_addPaper 28 = .ok (.invokestatic 99, 3) := dk_184 0 99 (dk_at dksX2_addPaper_1 4 rfl rfl)
theorem dX2_addPaper_31 : decode cX2_addPaper 31 = .ok (.aload_n 0, 1) := dk_42 (dk_at dksX2_addPaper_1 7 rfl rfl)
theorem dX2_addPaper_32 : decode cX2_addPaper 32 = .ok (.dup, 1) := dk_89 (dk_at dksX2_addPaper_1 8 rfl rfl)
theorem dX2_addPaper_33 : decode cX2_addPaper 33 = .ok (.getfield 56, 3) := dk_180 0 56 (dk_at dksX2_addPaper_1 9 rfl rfl)
theorem dX2_addPaper_36 : decode cX2_addPaper 36 = .ok (.iload_n 1, 1) := dk_27 (dk_at dksX2_addPaper_1 12 rfl rfl)
theorem dX2_addPaper_37 : decode cX2_addPaper 37 = .ok (.iadd, 1) := dk_96 (dk_at dksX2_addPaper_1 13 rfl rfl)
theorem dX2_addPaper_38 : decode cX2_addPaper 38 = .ok (.putfield 56, 3) := dk_181 0 56 (dk_at dksX2_addPaper_1 14 rfl rfl)
theorem dX2_addPaper_41 : decode cX2_addPaper 41 = .ok (.aload_n 0, 1) := dk_42 (dk_at dksX2_addPaper_1 17 rfl rfl)
theorem dX2_addPaper_42 : decode cX2_addPaper 42 = .ok (.getfield 56, 3) := dk_180 0 56 (dk_at dksX2_addPaper_1 18 rfl rfl)
theorem dX2_addPaper_45 : decode cX2_addPaper 45 = .ok (.ireturn, 1) := dk_172 (dk_at dksX2_addPaper_1 21 rfl rfl)
abbrev cX2_pass : ByteArray := prog_8_method_8_code
def yX2_pass : MethodName := ⟨RX2, "pass", "(I)I"⟩
def dkwX2_pass_1 : List UInt8 := [96, 61, 132, 3, 1, 167, 255, 241, 42, 89, 180, 0, 77, 28, 133, 97, 181, 0, 77, 28, 172]
abbrev dktX2_pass_1 : List UInt8 := dkwX2_pass_1 ++ []
def dkwX2_pass_0 : List UInt8 := [27, 4, 16, 48, 184, 0, 84, 184, 0, 96, 3, 61, 3, 62, 29, 27, 162, 0, 16, 28, 42, 182, 0, 105]
abbrev dktX2_pass_0 : List UInt8 := dkwX2_pass_0 ++ dktX2_pass_1
theorem dksX2_pass_0 : cX2_pass.data.toList.drop 0 = dktX2_pass_0 := by decide +kernel
theorem dksX2_pass_1 : cX2_pass.data.toList.drop 24 = dktX2_pass_1 := dk_seg dksX2_pass_0 24 rfl rfl
theorem dX2_pass_0 : decode cX2_pass 0 = .ok (.iload_n 1, 1) := dk_27 (dk_at dksX2_pass_0 0 rfl rfl)
theorem dX2_pass_1 : decode cX2_pass 1 = .ok (.iconst 1, 1) := dk_4 (dk_at dksX2_pass_0 1 rfl rfl)
theorem dX2_pass_2 : decode cX2_pass 2 = .ok (.bipush 48, 2) := dk_16 48 (dk_at dksX2_pass_0 2 rfl rfl)
theorem dX2_pass_4 : decode cX2_pass 4 = .ok (.invokestatic 84, 3) := dk_184 0 84 (dk_at dksX2_pass_0 4 rfl rfl)
theorem dX2_pass_7 : decode cX2_pass 7 = .ok (.invokestatic 96, 3) := dk_184 0 96 (dk_at dksX2_pass_0 7 rfl rfl)
theorem dX2_pass_10 : decode cX2_pass 10 = .ok (.iconst 0, 1) := dk_3 (dk_at dksX2_pass_0 10 rfl rfl)
theorem dX2_pass_11 : decode cX2_pass 11 = .ok (.istore_n 2, 1) := dk_61 (dk_at dksX2_pass_0 11 rfl rfl)
theorem dX2_pass_12 : decode cX2_pass 12 = .ok (.iconst 0, 1) := dk_3 (dk_at dksX2_pass_0 12 rfl rfl)
theorem dX2_pass_13 : decode cX2_pass 13 = .ok (.istore_n 3, 1) := dk_62 (dk_at dksX2_pass_0 13 rfl rfl)
theorem dX2_pass_14 : decode cX2_pass 14 = .ok (.iload_n 3, 1) := dk_29 (dk_at dksX2_pass_0 14 rfl rfl)
theorem dX2_pass_15 : decode cX2_pass 15 = .ok (.iload_n 1, 1) := dk_27 (dk_at dksX2_pass_0 15 rfl rfl)
theorem dX2_pass_16 : decode cX2_pass 16 = .ok (.if_icmp .ge 16, 3) := dk_162 0 16 (dk_at dksX2_pass_0 16 rfl rfl)
theorem dX2_pass_19 : decode cX2_pass 19 = .ok (.iload_n 2, 1) := dk_28 (dk_at dksX2_pass_0 19 rfl rfl)
theorem dX2_pass_20 : decode cX2_pass 20 = .ok (.aload_n 0, 1) := dk_42 (dk_at dksX2_pass_0 20 rfl rfl)
theorem dX2_pass_21 : decode cX2_pass 21 = .ok (.invokevirtual 105, 3) := dk_182 0 105 (dk_at dksX2_pass_0 21 rfl rfl)
theorem dX2_pass_24 : decode cX2_pass 24 = .ok (.iadd, 1) := dk_96 (dk_at dksX2_pass_1 0 rfl rfl)
theorem dX2_pass_25 : decode cX2_pass 25 = .ok (.istore_n 2, 1) := dk_61 (dk_at dksX2_pass_1 1 rfl rfl)
theorem dX2_pass_26 : decode cX2_pass 26 = .ok (.iinc 3 1, 3) := dk_132 3 1 (dk_at dksX2_pass_1 2 rfl rfl)
theorem dX2_pass_29 : decode cX2_pass 29 = .ok (.goto (-15), 3) := dk_167 255 241 (dk_at dksX2_pass_1 5 rfl rfl)
theorem dX2_pass_32 : decode cX2_pass 32 = .ok (.aload_n 0, 1) := dk_42 (dk_at dksX2_pass_1 8 rfl rfl)
theorem dX2_pass_33 : decode cX2_pass 33 = .ok (.dup, 1) := dk_89 (dk_at dksX2_pass_1 9 rfl rfl)
theorem dX2_pass_34 : decode cX2_pass 34 = .ok (.getfield 77, 3) := dk_180 0 77 (dk_at dksX2_pass_1 10 rfl rfl)
theorem dX2_pass_37 : decode cX2_pass 37 = .ok (.iload_n 2, 1) := dk_28 (dk_at dksX2_pass_1 13 rfl rfl)
theorem dX2_pass_38 : decode cX2_pass 38 = .ok (.i2l, 1) := dk_133 (dk_at dksX2_pass_1 14 rfl rfl)
theorem dX2_pass_39 : decode cX2_pass 39 = .ok (.ladd, 1) := dk_97 (dk_at dksX2_pass_1 15 rfl rfl)
theorem dX2_pass_40 : decode cX2_pass 40 = .ok (.putfield 77, 3) := dk_181 0 77 (dk_at dksX2_pass_1 16 rfl rfl)
theorem dX2_pass_43 : decode cX2_pass 43 = .ok (.iload_n 2, 1) := dk_28 (dk_at dksX2_pass_1 19 rfl rfl)
theorem dX2_pass_44 : decode cX2_pass 44 = .ok (.ireturn, 1) := dk_172 (dk_at dksX2_pass_1 20 rfl rfl)
abbrev cX2_passHour : ByteArray := prog_8_method_7_code
def yX2_passHour : MethodName := ⟨RX2, "passHour", "()I"⟩
def dkwX2_passHour_2 : List UInt8 := [180, 0, 9, 28, 46, 29, 100, 96, 60, 42, 180, 0, 9, 28, 29, 79, 132, 2, 1, 167, 255, 204, 27, 172]
abbrev dktX2_passHour_2 : List UInt8 := dkwX2_passHour_2 ++ []
def dkwX2_passHour_1 : List UInt8 := [28, 50, 42, 180, 0, 52, 182, 0, 102, 153, 0, 30, 42, 180, 0, 9, 28, 46, 5, 108, 62, 27, 42]
abbrev dktX2_passHour_1 : List UInt8 := dkwX2_passHour_1 ++ dktX2_passHour_2
def dkwX2_passHour_0 : List UInt8 := [42, 89, 180, 0, 52, 4, 96, 181, 0, 52, 3, 60, 3, 61, 28, 16, 10, 162, 0, 52, 42, 180, 0, 17]
abbrev dktX2_passHour_0 : List UInt8 := dkwX2_passHour_0 ++ dktX2_passHour_1
theorem dksX2_passHour_0 : cX2_passHour.data.toList.drop 0 = dktX2_passHour_0 := by decide +kernel
theorem dksX2_passHour_1 : cX2_passHour.data.toList.drop 24 = dktX2_passHour_1 := dk_seg dksX2_passHour_0 24 rfl rfl
theorem dksX2_passHour_2 : cX2_passHour.data.toList.drop 47 = dktX2_passHour_2 := dk_seg dksX2_passHour_1 23 rfl rfl
theorem dX2_passHour_0 : decode cX2_passHour 0 = .ok (.aload_n 0, 1) := dk_42 (dk_at dksX2_passHour_0 0 rfl rfl)
theorem dX2_passHour_1 : decode cX2_passHour 1 = .ok (.dup, 1) := dk_89 (dk_at dksX2_passHour_0 1 rfl rfl)
theorem dX2_passHour_2 : decode cX2_passHour 2 = .ok (.getfield 52, 3) := dk_180 0 52 (dk_at dksX2_passHour_0 2 rfl rfl)
theorem dX2_passHour_5 : decode cX2_passHour 5 = .ok (.iconst 1, 1) := dk_4 (dk_at dksX2_passHour_0 5 rfl rfl)
theorem dX2_passHour_6 : decode cX2_passHour 6 = .ok (.iadd, 1) := dk_96 (dk_at dksX2_passHour_0 6 rfl rfl)
theorem dX2_passHour_7 : decode cX2_passHour 7 = .ok (.putfield 52, 3) := dk_181 0 52 (dk_at dksX2_passHour_0 7 rfl rfl)
theorem dX2_passHour_10 : decode cX2_passHour 10 = .ok (.iconst 0, 1) := dk_3 (dk_at dksX2_passHour_0 10 rfl rfl)
theorem dX2_passHour_11 : decode cX2_passHour 11 = .ok (.istore_n 1, 1) := dk_60 (dk_at dksX2_passHour_0 11 rfl rfl)
theorem dX2_passHour_12 : decode cX2_passHour 12 = .ok (.iconst 0, 1) := dk_3 (dk_at dksX2_passHour_0 12 rfl rfl)
theorem dX2_passHour_13 : decode cX2_passHour 13 = .ok (.istore_n 2, 1) := dk_61 (dk_at dksX2_passHour_0 13 rfl rfl)
theorem dX2_passHour_14 : decode cX2_passHour 14 = .ok (.iload_n 2, 1) := dk_28 (dk_at dksX2_passHour_0 14 rfl rfl)
theorem dX2_passHour_15 : decode cX2_passHour 15 = .ok (.bipush 10, 2) := dk_16 10 (dk_at dksX2_passHour_0 15 rfl rfl)
theorem dX2_passHour_17 : decode cX2_passHour 17 = .ok (.if_icmp .ge 52, 3) := dk_162 0 52 (dk_at dksX2_passHour_0 17 rfl rfl)
theorem dX2_passHour_20 : decode cX2_passHour 20 = .ok (.aload_n 0, 1) := dk_42 (dk_at dksX2_passHour_0 20 rfl rfl)
theorem dX2_passHour_21 : decode cX2_passHour 21 = .ok (.getfield 17, 3) := dk_180 0 17 (dk_at dksX2_passHour_0 21 rfl rfl)
theorem dX2_passHour_24 : decode cX2_passHour 24 = .ok (.iload_n 2, 1) := dk_28 (dk_at dksX2_passHour_1 0 rfl rfl)
theorem dX2_passHour_25 : decode cX2_passHour 25 = .ok (.aaload, 1) := dk_50 (dk_at dksX2_passHour_1 1 rfl rfl)
theorem dX2_passHour_26 : decode cX2_passHour 26 = .ok (.aload_n 0, 1) := dk_42 (dk_at dksX2_passHour_1 2 rfl rfl)
theorem dX2_passHour_27 : decode cX2_passHour 27 = .ok (.getfield 52, 3) := dk_180 0 52 (dk_at dksX2_passHour_1 3 rfl rfl)
theorem dX2_passHour_30 : decode cX2_passHour 30 = .ok (.invokevirtual 102, 3) := dk_182 0 102 (dk_at dksX2_passHour_1 6 rfl rfl)
theorem dX2_passHour_33 : decode cX2_passHour 33 = .ok (.ifCond .eq 30, 3) := dk_153 0 30 (dk_at dksX2_passHour_1 9 rfl rfl)
theorem dX2_passHour_36 : decode cX2_passHour 36 = .ok (.aload_n 0, 1) := dk_42 (dk_at dksX2_passHour_1 12 rfl rfl)
theorem dX2_passHour_37 : decode cX2_passHour 37 = .ok (.getfield 9, 3) := dk_180 0 9 (dk_at dksX2_passHour_1 13 rfl rfl)
theorem dX2_passHour_40 : decode cX2_passHour 40 = .ok (.iload_n 2, 1) := dk_28 (dk_at dksX2_passHour_1 16 rfl rfl)
theorem dX2_passHour_41 : decode cX2_passHour 41 = .ok (.iaload, 1) := dk_46 (dk_at dksX2_passHour_1 17 rfl rfl)
theorem dX2_passHour_42 : decode cX2_passHour 42 = .ok (.iconst 2, 1) := dk_5 (dk_at dksX2_passHour_1 18 rfl rfl)
theorem dX2_passHour_43 : decode cX2_passHour 43 = .ok (.idiv, 1) := dk_108 (dk_at dksX2_passHour_1 19 rfl rfl)
theorem dX2_passHour_44 : decode cX2_passHour 44 = .ok (.istore_n 3, 1) := dk_62 (dk_at dksX2_passHour_1 20 rfl rfl)
theorem dX2_passHour_45 : decode cX2_passHour 45 = .ok (.iload_n 1, 1) := dk_27 (dk_at dksX2_passHour_1 21 rfl rfl)
theorem dX2_passHour_46 : decode cX2_passHour 46 = .ok (.aload_n 0, 1) := dk_42 (dk_at dksX2_passHour_1 22 rfl rfl)
theorem dX2_passHour_47 : decode cX2_passHour 47 = .ok (.getfield 9, 3) := dk_180 0 9 (dk_at dksX2_passHour_2 0 rfl rfl)
theorem dX2_passHour_50 : decode cX2_passHour 50 = .ok (.iload_n 2, 1) := dk_28 (dk_at dksX2_passHour_2 3 rfl rfl)
theorem dX2_passHour_51 : decode cX2_passHour 51 = .ok (.iaload, 1) := dk_46 (dk_at dksX2_passHour_2 4 rfl rfl)
theorem dX2_passHour_52 : decode cX2_passHour 52 = .ok (.iload_n 3, 1) := dk_29 (dk_at dksX2_passHour_2 5 rfl rfl)
theorem dX2_passHour_53 : decode cX2_passHour 53 = .ok (.isub, 1) := dk_100 (dk_at dksX2_passHour_2 6 rfl rfl)
theorem dX2_passHour_54 : decode cX2_passHour 54 = .ok (.iadd, 1) := dk_96 (dk_at dksX2_passHour_2 7 rfl rfl)
theorem dX2_passHour_55 : decode cX2_passHour 55 = .ok (.istore_n 1, 1) := dk_60 (dk_at dksX2_passHour_2 8 rfl rfl)
theorem dX2_passHour_56 : decode cX2_passHour 56 = .ok (.aload_n 0, 1) := dk_42 (dk_at dksX2_passHour_2 9 rfl rfl)
theorem dX2_passHour_57 : decode cX2_passHour 57 = .ok (.getfield 9, 3) := dk_180 0 9 (dk_at dksX2_passHour_2 10 rfl rfl)
theorem dX2_passHour_60 : decode cX2_passHour 60 = .ok (.iload_n 2, 1) := dk_28 (dk_at dksX2_passHour_2 13 rfl rfl)
theorem dX2_passHour_61 : decode cX2_passHour 61 = .ok (.iload_n 3, 1) := dk_29 (dk_at dksX2_passHour_2 14 rfl rfl)
theorem dX2_passHour_62 : decode cX2_passHour 62 = .ok (.iastore, 1) := dk_79 (dk_at dksX2_passHour_2 15 rfl rfl)
theorem dX2_passHour_63 : decode cX2_passHour 63 = .ok (.iinc 2 1, 3) := dk_132 2 1 (dk_at dksX2_passHour_2 16 rfl rfl)
theorem dX2_passHour_66 : decode cX2_passHour 66 = .ok (.goto (-52), 3) := dk_167 255 204 (dk_at dksX2_passHour_2 19 rfl rfl)
theorem dX2_passHour_69 : decode cX2_passHour 69 = .ok (.iload_n 1, 1) := dk_27 (dk_at dksX2_passHour_2 22 rfl rfl)
theorem dX2_passHour_70 : decode cX2_passHour 70 = .ok (.ireturn, 1) := dk_172 (dk_at dksX2_passHour_2 23 rfl rfl)
abbrev cX2_hoursUntilLess : ByteArray := prog_8_method_11_code
def yX2_hoursUntilLess : MethodName := ⟨RX2, "hoursUntilLess", "(II)I"⟩
def dkwX2_hoursUntilLess_2 : List UInt8 := [21, 4, 172]
abbrev dktX2_hoursUntilLess_2 : List UInt8 := dkwX2_hoursUntilLess_2 ++ []
def dkwX2_hoursUntilLess_1 : List UInt8 := [42, 180, 0, 52, 21, 4, 96, 182, 0, 102, 153, 0, 9, 29, 5, 108, 167, 0, 4, 29, 62, 167, 255, 221]
abbrev dktX2_hoursUntilLess_1 : List UInt8 := dkwX2_hoursUntilLess_1 ++ dktX2_hoursUntilLess_2
def dkwX2_hoursUntilLess_0 : List UInt8 := [42, 180, 0, 9, 27, 46, 62, 3, 54, 4, 29, 28, 161, 0, 36, 132, 4, 1, 42, 180, 0, 17, 27, 50]
abbrev dktX2_hoursUntilLess_0 : List UInt8 := dkwX2_hoursUntilLess_0 ++ dktX2_hoursUntilLess_1
theorem dksX2_hoursUntilLess_0 : cX2_hoursUntilLess.data.toList.drop 0 = dktX2_hoursUntilLess_0 := by decide +kernel
theorem dksX2_hoursUntilLess_1 : cX2_hoursUntilLess.data.toList.drop 24 = dktX2_hoursUntilLess_1 := dk_seg dksX2_hoursUntilLess_0 24 rfl rfl
theorem dksX2_hoursUntilLess_2 : cX2_hoursUntilLess.data.toList.drop 48 = dktX2_hoursUntilLess_2 := dk_seg dksX2_hoursUntilLess_1 24 rfl rfl
theorem dX2_hoursUntilLess_0 : decode cX2_hoursUntilLess 0 = .ok (.aload_n 0, 1) := dk_42 (dk_at dksX2_hoursUntilLess_0 0 rfl rfl)
theorem dX2_hoursUntilLess_1 : decode cX2_hoursUntilLess 1 = .ok (.getfield 9, 3) := dk_180 0 9 (dk_at dksX2_hoursUntilLess_0 1 rfl rfl)
theorem dX2_hoursUntilLess_4 : decode cX2_hoursUntilLess 4 = .ok (.iload_n 1, 1) := dk_27 (dk_at dksX2_hoursUntilLess_0 4 rfl rfl)
theorem dX2_hoursUntilLess_5 : decode cX2_hoursUntilLess 5 = .ok (.iaload, 1) := dk_46 (dk_at dksX2_hoursUntilLess_0 5 rfl rfl)
theorem dX2_hoursUntilLess_6 : decode cX2_hoursUntilLess 6 = .ok (.istore_n 3, 1) := dk_62 (dk_at dksX2_hoursUntilLess_0 6 rfl rfl)
theorem dX2_hoursUntilLess_7 : decode cX2_hoursUntilLess 7 = .ok (.iconst 0, 1) := dk_3 (dk_at dksX2_hoursUntilLess_0 7 rfl rfl)
theorem dX2_hoursUntilLess_8 : decode cX2_hoursUntilLess 8 = .ok (.istore 4, 2) := dk_54 4 (dk_at dksX2_hoursUntilLess_0 8 rfl rfl)
theorem dX2_hoursUntilLess_10 : decode cX2_hoursUntilLess 10 = .ok (.iload_n 3, 1) := dk_29 (dk_at dksX2_hoursUntilLess_0 10 rfl rfl)
theorem dX2_hoursUntilLess_11 : decode cX2_hoursUntilLess 11 = .ok (.iload_n 2, 1) := dk_28 (dk_at dksX2_hoursUntilLess_0 11 rfl rfl)
theorem dX2_hoursUntilLess_12 : decode cX2_hoursUntilLess 12 = .ok (.if_icmp .lt 36, 3) := dk_161 0 36 (dk_at dksX2_hoursUntilLess_0 12 rfl rfl)
theorem dX2_hoursUntilLess_15 : decode cX2_hoursUntilLess 15 = .ok (.iinc 4 1, 3) := dk_132 4 1 (dk_at dksX2_hoursUntilLess_0 15 rfl rfl)
theorem dX2_hoursUntilLess_18 : decode cX2_hoursUntilLess 18 = .ok (.aload_n 0, 1) := dk_42 (dk_at dksX2_hoursUntilLess_0 18 rfl rfl)
theorem dX2_hoursUntilLess_19 : decode cX2_hoursUntilLess 19 = .ok (.getfield 17, 3) := dk_180 0 17 (dk_at dksX2_hoursUntilLess_0 19 rfl rfl)
theorem dX2_hoursUntilLess_22 : decode cX2_hoursUntilLess 22 = .ok (.iload_n 1, 1) := dk_27 (dk_at dksX2_hoursUntilLess_0 22 rfl rfl)
theorem dX2_hoursUntilLess_23 : decode cX2_hoursUntilLess 23 = .ok (.aaload, 1) := dk_50 (dk_at dksX2_hoursUntilLess_0 23 rfl rfl)
theorem dX2_hoursUntilLess_24 : decode cX2_hoursUntilLess 24 = .ok (.aload_n 0, 1) := dk_42 (dk_at dksX2_hoursUntilLess_1 0 rfl rfl)
theorem dX2_hoursUntilLess_25 : decode cX2_hoursUntilLess 25 = .ok (.getfield 52, 3) := dk_180 0 52 (dk_at dksX2_hoursUntilLess_1 1 rfl rfl)
theorem dX2_hoursUntilLess_28 : decode cX2_hoursUntilLess 28 = .ok (.iload 4, 2) := dk_21 4 (dk_at dksX2_hoursUntilLess_1 4 rfl rfl)
theorem dX2_hoursUntilLess_30 : decode cX2_hoursUntilLess 30 = .ok (.iadd, 1) := dk_96 (dk_at dksX2_hoursUntilLess_1 6 rfl rfl)
theorem dX2_hoursUntilLess_31 : decode cX2_hoursUntilLess 31 = .ok (.invokevirtual 102, 3) := dk_182 0 102 (dk_at dksX2_hoursUntilLess_1 7 rfl rfl)
theorem dX2_hoursUntilLess_34 : decode cX2_hoursUntilLess 34 = .ok (.ifCond .eq 9, 3) := dk_153 0 9 (dk_at dksX2_hoursUntilLess_1 10 rfl rfl)
theorem dX2_hoursUntilLess_37 : decode cX2_hoursUntilLess 37 = .ok (.iload_n 3, 1) := dk_29 (dk_at dksX2_hoursUntilLess_1 13 rfl rfl)
theorem dX2_hoursUntilLess_38 : decode cX2_hoursUntilLess 38 = .ok (.iconst 2, 1) := dk_5 (dk_at dksX2_hoursUntilLess_1 14 rfl rfl)
theorem dX2_hoursUntilLess_39 : decode cX2_hoursUntilLess 39 = .ok (.idiv, 1) := dk_108 (dk_at dksX2_hoursUntilLess_1 15 rfl rfl)
theorem dX2_hoursUntilLess_40 : decode cX2_hoursUntilLess 40 = .ok (.goto 4, 3) := dk_167 0 4 (dk_at dksX2_hoursUntilLess_1 16 rfl rfl)
theorem dX2_hoursUntilLess_43 : decode cX2_hoursUntilLess 43 = .ok (.iload_n 3, 1) := dk_29 (dk_at dksX2_hoursUntilLess_1 19 rfl rfl)
theorem dX2_hoursUntilLess_44 : decode cX2_hoursUntilLess 44 = .ok (.istore_n 3, 1) := dk_62 (dk_at dksX2_hoursUntilLess_1 20 rfl rfl)
theorem dX2_hoursUntilLess_45 : decode cX2_hoursUntilLess 45 = .ok (.goto (-35), 3) := dk_167 255 221 (dk_at dksX2_hoursUntilLess_1 21 rfl rfl)
theorem dX2_hoursUntilLess_48 : decode cX2_hoursUntilLess 48 = .ok (.iload 4, 2) := dk_21 4 (dk_at dksX2_hoursUntilLess_2 0 rfl rfl)
theorem dX2_hoursUntilLess_50 : decode cX2_hoursUntilLess 50 = .ok (.ireturn, 1) := dk_172 (dk_at dksX2_hoursUntilLess_2 2 rfl rfl)
abbrev cX2_addEdition : ByteArray := prog_8_method_19_code
def yX2_addEdition : MethodName := ⟨RX2, "addEdition", "(II)I"⟩
def dkwX2_addEdition_3 : List UInt8 := [42, 180, 0, 59, 4, 100, 172]
abbrev dktX2_addEdition_3 : List UInt8 := dkwX2_addEdition_3 ++ []
def dkwX2_addEdition_2 : List UInt8 := [42, 180, 0, 59, 187, 0, 21, 89, 27, 28, 183, 0, 141, 83, 42, 89, 180, 0, 59, 4, 96, 181, 0, 59]
abbrev dktX2_addEdition_2 : List UInt8 := dkwX2_addEdition_2 ++ dktX2_addEdition_3
def dkwX2_addEdition_1 : List UInt8 := [184, 0, 96, 42, 180, 0, 59, 16, 7, 162, 0, 7, 4, 167, 0, 4, 3, 184, 0, 99, 42, 180, 0, 23]
abbrev dktX2_addEdition_1 : List UInt8 := dkwX2_addEdition_1 ++ dktX2_addEdition_2
def dkwX2_addEdition_0 : List UInt8 := [27, 184, 0, 92, 153, 0, 17, 28, 4, 16, 50, 184, 0, 84, 153, 0, 7, 4, 167, 0, 4, 3]
abbrev dktX2_addEdition_0 : List UInt8 := dkwX2_addEdition_0 ++ dktX2_addEdition_1
theorem dksX2_addEdition_0 : cX2_addEdition.data.toList.drop 0 = dktX2_addEdition_0 := by decide +kernel
theorem dksX2_addEdition_1 : cX2_addEdition.data.toList.drop 22 = dktX2_addEdition_1 := dk_seg dksX2_addEdition_0 22 rfl rfl
theorem dksX2_addEdition_2 : cX2_addEdition.data.toList.drop 46 = dktX2_addEdition_2 := dk_seg dksX2_addEdition_1 24 rfl rfl
theorem dksX2_addEdition_3 : cX2_addEdition.data.toList.drop 70 = dktX2_addEdition_3 := dk_seg dksX2_addEdition_2 24 rfl rfl
theorem dX2_addEdition_0 : decode cX2_addEdition 0 = .ok (.iload_n 1, 1) := dk_27 (dk_at dksX2_addEdition_0 0 rfl rfl)
theorem dX2_addEdition_1 : decode cX2_addEdition 1 = .ok (.invokestatic 92, 3) := dk_184 0 92 (dk_at dksX2_addEdition_0 1 rfl rfl)
theorem dX2_addEdition_4 : decode cX2_addEdition 4 = .ok (.ifCond .eq 17, 3) := dk_153 0 17 (dk_at dksX2_addEdition_0 4 rfl rfl)
theorem dX2_addEdition_7 : decode cX2_addEdition 7 = .ok (.iload_n 2, 1) := dk_28 (dk_at dksX2_addEdition_0 7 rfl rfl)
theorem dX2_addEdition_8 : decode cX2_addEdition 8 = .ok (.iconst 1, 1) := dk_4 (dk_at dksX2_addEdition_0 8 rfl rfl)
theorem dX2_addEdition_9 : decode cX2_addEdition 9 = .ok (.bipush 50, 2) := dk_16 50 (dk_at dksX2_addEdition_0 9 rfl rfl)
theorem dX2_addEdition_11 : decode cX2_addEdition 11 = .ok (.invokestatic 84, 3) := dk_184 0 84 (dk_at dksX2_addEdition_0 11 rfl rfl)
theorem dX2_addEdition_14 : decode cX2_addEdition 14 = .ok (.ifCond .eq 7, 3) := dk_153 0 7 (dk_at dksX2_addEdition_0 14 rfl rfl)
theorem dX2_addEdition_17 : decode cX2_addEdition 17 = .ok (.iconst 1, 1) := dk_4 (dk_at dksX2_addEdition_0 17 rfl rfl)
theorem dX2_addEdition_18 : decode cX2_addEdition 18 = .ok (.goto 4, 3) := dk_167 0 4 (dk_at dksX2_addEdition_0 18 rfl rfl)
theorem dX2_addEdition_21 : decode cX2_addEdition 21 = .ok (.iconst 0, 1) := dk_3 (dk_at dksX2_addEdition_0 21 rfl rfl)
theorem dX2_addEdition_22 : decode cX2_addEdition 22 = .ok (.invokestatic 96, 3) := dk_184 0 96 (dk_at dksX2_addEdition_1 0 rfl rfl)
theorem dX2_addEdition_25 : decode cX2_addEdition 25 = .ok (.aload_n 0, 1) := dk_42 (dk_at dksX2_addEdition_1 3 rfl rfl)
theorem dX2_addEdition_26 : decode cX2_addEdition 26 = .ok (.getfield 59, 3) := dk_180 0 59 (dk_at dksX2_addEdition_1 4 rfl rfl)
theorem dX2_addEdition_29 : decode cX2_addEdition 29 = .ok (.bipush 7, 2) := dk_16 7 (dk_at dksX2_addEdition_1 7 rfl rfl)
theorem dX2_addEdition_31 : decode cX2_addEdition 31 = .ok (.if_icmp .ge 7, 3) := dk_162 0 7 (dk_at dksX2_addEdition_1 9 rfl rfl)
theorem dX2_addEdition_34 : decode cX2_addEdition 34 = .ok (.iconst 1, 1) := dk_4 (dk_at dksX2_addEdition_1 12 rfl rfl)
theorem dX2_addEdition_35 : decode cX2_addEdition 35 = .ok (.goto 4, 3) := dk_167 0 4 (dk_at dksX2_addEdition_1 13 rfl rfl)
theorem dX2_addEdition_38 : decode cX2_addEdition 38 = .ok (.iconst 0, 1) := dk_3 (dk_at dksX2_addEdition_1 16 rfl rfl)
theorem dX2_addEdition_39 : decode cX2_addEdition 39 = .ok (.invokestatic 99, 3) := dk_184 0 99 (dk_at dksX2_addEdition_1 17 rfl rfl)
theorem dX2_addEdition_42 : decode cX2_addEdition 42 = .ok (.aload_n 0, 1) := dk_42 (dk_at dksX2_addEdition_1 20 rfl rfl)
theorem dX2_addEdition_43 : decode cX2_addEdition 43 = .ok (.getfield 23, 3) := dk_180 0 23 (dk_at dksX2_addEdition_1 21 rfl rfl)
theorem dX2_addEdition_46 : decode cX2_addEdition 46 = .ok (.aload_n 0, 1) := dk_42 (dk_at dksX2_addEdition_2 0 rfl rfl)
theorem dX2_addEdition_47 : decode cX2_addEdition 47 = .ok (.getfield 59, 3) := dk_180 0 59 (dk_at dksX2_addEdition_2 1 rfl rfl)
theorem dX2_addEdition_50 : decode cX2_addEdition 50 = .ok (.new 21, 3) := dk_187 0 21 (dk_at dksX2_addEdition_2 4 rfl rfl)
theorem dX2_addEdition_53 : decode cX2_addEdition 53 = .ok (.dup, 1) := dk_89 (dk_at dksX2_addEdition_2 7 rfl rfl)
theorem dX2_addEdition_54 : decode cX2_addEdition 54 = .ok (.iload_n 1, 1) := dk_27 (dk_at dksX2_addEdition_2 8 rfl rfl)
theorem dX2_addEdition_55 : decode cX2_addEdition 55 = .ok (.iload_n 2, 1) := dk_28 (dk_at dksX2_addEdition_2 9 rfl rfl)
theorem dX2_addEdition_56 : decode cX2_addEdition 56 = .ok (.invokespecial 141, 3) := dk_183 0 141 (dk_at dksX2_addEdition_2 10 rfl rfl)
theorem dX2_addEdition_59 : decode cX2_addEdition 59 = .ok (.aastore, 1) := dk_83 (dk_at dksX2_addEdition_2 13 rfl rfl)
theorem dX2_addEdition_60 : decode cX2_addEdition 60 = .ok (.aload_n 0, 1) := dk_42 (dk_at dksX2_addEdition_2 14 rfl rfl)
theorem dX2_addEdition_61 : decode cX2_addEdition 61 = .ok (.dup, 1) := dk_89 (dk_at dksX2_addEdition_2 15 rfl rfl)
theorem dX2_addEdition_62 : decode cX2_addEdition 62 = .ok (.getfield 59, 3) := dk_180 0 59 (dk_at dksX2_addEdition_2 16 rfl rfl)
theorem dX2_addEdition_65 : decode cX2_addEdition 65 = .ok (.iconst 1, 1) := dk_4 (dk_at dksX2_addEdition_2 19 rfl rfl)
theorem dX2_addEdition_66 : decode cX2_addEdition 66 = .ok (.iadd, 1) := dk_96 (dk_at dksX2_addEdition_2 20 rfl rfl)
theorem dX2_addEdition_67 : decode cX2_addEdition 67 = .ok (.putfield 59, 3) := dk_181 0 59 (dk_at dksX2_addEdition_2 21 rfl rfl)
theorem dX2_addEdition_70 : decode cX2_addEdition 70 = .ok (.aload_n 0, 1) := dk_42 (dk_at dksX2_addEdition_3 0 rfl rfl)
theorem dX2_addEdition_71 : decode cX2_addEdition 71 = .ok (.getfield 59, 3) := dk_180 0 59 (dk_at dksX2_addEdition_3 1 rfl rfl)
theorem dX2_addEdition_74 : decode cX2_addEdition 74 = .ok (.iconst 1, 1) := dk_4 (dk_at dksX2_addEdition_3 4 rfl rfl)
theorem dX2_addEdition_75 : decode cX2_addEdition 75 = .ok (.isub, 1) := dk_100 (dk_at dksX2_addEdition_3 5 rfl rfl)
theorem dX2_addEdition_76 : decode cX2_addEdition 76 = .ok (.ireturn, 1) := dk_172 (dk_at dksX2_addEdition_3 6 rfl rfl)
abbrev cX2_removeEdition : ByteArray := prog_8_method_20_code
def yX2_removeEdition : MethodName := ⟨RX2, "removeEdition", "(I)I"⟩
def dkwX2_removeEdition_2 : List UInt8 := [180, 0, 59, 172]
abbrev dktX2_removeEdition_2 : List UInt8 := dkwX2_removeEdition_2 ++ []
def dkwX2_removeEdition_1 : List UInt8 := [162, 0, 23, 42, 180, 0, 23, 28, 42, 180, 0, 23, 28, 4, 96, 50, 83, 132, 2, 1, 167, 255, 231, 42]
abbrev dktX2_removeEdition_1 : List UInt8 := dkwX2_removeEdition_1 ++ dktX2_removeEdition_2
def dkwX2_removeEdition_0 : List UInt8 := [42, 27, 182, 0, 144, 87, 42, 89, 180, 0, 59, 4, 100, 181, 0, 59, 27, 61, 28, 42, 180, 0, 59]
abbrev dktX2_removeEdition_0 : List UInt8 := dkwX2_removeEdition_0 ++ dktX2_removeEdition_1
theorem dksX2_removeEdition_0 : cX2_removeEdition.data.toList.drop 0 = dktX2_removeEdition_0 := by decide +kernel
theorem dksX2_removeEdition_1 : cX2_removeEdition.data.toList.drop 23 = dktX2_removeEdition_1 := dk_seg dksX2_removeEdition_0 23 rfl rfl
theorem dksX2_removeEdition_2 : cX2_removeEdition.data.toList.drop 47 = dktX2_removeEdition_2 := dk_seg dksX2_removeEdition_1 24 rfl rfl
theorem dX2_removeEdition_0 : decode cX2_removeEdition 0 = .ok (.aload_n 0, 1) := dk_42 (dk_at dksX2_removeEdition_0 0 rfl rfl)
theorem dX2_removeEdition_1 : decode cX2_removeEdition 1 = .ok (.iload_n 1, 1) := dk_27 (dk_at dksX2_removeEdition_0 1 rfl rfl)
theorem dX2_removeEdition_2 : decode cX2_removeEdition 2 = .ok (.invokevirtual 144, 3) := dk_182 0 144 (dk_at dksX2_removeEdition_0 2 rfl rfl)
theorem dX2_removeEdition_5 : decode cX2_removeEdition 5 = .ok (.pop, 1) := dk_87 (dk_at dksX2_removeEdition_0 5 rfl rfl)
theorem dX2_removeEdition_6 : decode cX2_removeEdition 6 = .ok (.aload_n 0, 1) := dk_42 (dk_at dksX2_removeEdition_0 6 rfl rfl)
theorem dX2_removeEdition_7 : decode cX2_removeEdition 7 = .ok (.dup, 1) := dk_89 (dk_at dksX2_removeEdition_0 7 rfl rfl)
theorem dX2_removeEdition_8 : decode cX2_removeEdition 8 = .ok (.getfield 59, 3) := dk_180 0 59 (dk_at dksX2_removeEdition_0 8 rfl rfl)
theorem dX2_removeEdition_11 : decode cX2_removeEdition 11 = .ok (.iconst 1, 1) := dk_4 (dk_at dksX2_removeEdition_0 11 rfl rfl)
theorem dX2_removeEdition_12 : decode cX2_removeEdition 12 = .ok (.isub, 1) := dk_100 (dk_at dksX2_removeEdition_0 12 rfl rfl)
theorem dX2_removeEdition_13 : decode cX2_removeEdition 13 = .ok (.putfield 59, 3) := dk_181 0 59 (dk_at dksX2_removeEdition_0 13 rfl rfl)
theorem dX2_removeEdition_16 : decode cX2_removeEdition 16 = .ok (.iload_n 1, 1) := dk_27 (dk_at dksX2_removeEdition_0 16 rfl rfl)
theorem dX2_removeEdition_17 : decode cX2_removeEdition 17 = .ok (.istore_n 2, 1) := dk_61 (dk_at dksX2_removeEdition_0 17 rfl rfl)
theorem dX2_removeEdition_18 : decode cX2_removeEdition 18 = .ok (.iload_n 2, 1) := dk_28 (dk_at dksX2_removeEdition_0 18 rfl rfl)
theorem dX2_removeEdition_19 : decode cX2_removeEdition 19 = .ok (.aload_n 0, 1) := dk_42 (dk_at dksX2_removeEdition_0 19 rfl rfl)
theorem dX2_removeEdition_20 : decode cX2_removeEdition 20 = .ok (.getfield 59, 3) := dk_180 0 59 (dk_at dksX2_removeEdition_0 20 rfl rfl)
theorem dX2_removeEdition_23 : decode cX2_removeEdition 23 = .ok (.if_icmp .ge 23, 3) := dk_162 0 23 (dk_at dksX2_removeEdition_1 0 rfl rfl)
theorem dX2_removeEdition_26 : decode cX2_removeEdition 26 = .ok (.aload_n 0, 1) := dk_42 (dk_at dksX2_removeEdition_1 3 rfl rfl)
theorem dX2_removeEdition_27 : decode cX2_removeEdition 27 = .ok (.getfield 23, 3) := dk_180 0 23 (dk_at dksX2_removeEdition_1 4 rfl rfl)
theorem dX2_removeEdition_30 : decode cX2_removeEdition 30 = .ok (.iload_n 2, 1) := dk_28 (dk_at dksX2_removeEdition_1 7 rfl rfl)
theorem dX2_removeEdition_31 : decode cX2_removeEdition 31 = .ok (.aload_n 0, 1) := dk_42 (dk_at dksX2_removeEdition_1 8 rfl rfl)
theorem dX2_removeEdition_32 : decode cX2_removeEdition 32 = .ok (.getfield 23, 3) := dk_180 0 23 (dk_at dksX2_removeEdition_1 9 rfl rfl)
theorem dX2_removeEdition_35 : decode cX2_removeEdition 35 = .ok (.iload_n 2, 1) := dk_28 (dk_at dksX2_removeEdition_1 12 rfl rfl)
theorem dX2_removeEdition_36 : decode cX2_removeEdition 36 = .ok (.iconst 1, 1) := dk_4 (dk_at dksX2_removeEdition_1 13 rfl rfl)
theorem dX2_removeEdition_37 : decode cX2_removeEdition 37 = .ok (.iadd, 1) := dk_96 (dk_at dksX2_removeEdition_1 14 rfl rfl)
theorem dX2_removeEdition_38 : decode cX2_removeEdition 38 = .ok (.aaload, 1) := dk_50 (dk_at dksX2_removeEdition_1 15 rfl rfl)
theorem dX2_removeEdition_39 : decode cX2_removeEdition 39 = .ok (.aastore, 1) := dk_83 (dk_at dksX2_removeEdition_1 16 rfl rfl)
theorem dX2_removeEdition_40 : decode cX2_removeEdition 40 = .ok (.iinc 2 1, 3) := dk_132 2 1 (dk_at dksX2_removeEdition_1 17 rfl rfl)
theorem dX2_removeEdition_43 : decode cX2_removeEdition 43 = .ok (.goto (-25), 3) := dk_167 255 231 (dk_at dksX2_removeEdition_1 20 rfl rfl)
theorem dX2_removeEdition_46 : decode cX2_removeEdition 46 = .ok (.aload_n 0, 1) := dk_42 (dk_at dksX2_removeEdition_1 23 rfl rfl)
theorem dX2_removeEdition_47 : decode cX2_removeEdition 47 = .ok (.getfield 59, 3) := dk_180 0 59 (dk_at dksX2_removeEdition_2 0 rfl rfl)
theorem dX2_removeEdition_50 : decode cX2_removeEdition 50 = .ok (.ireturn, 1) := dk_172 (dk_at dksX2_removeEdition_2 3 rfl rfl)
abbrev cX2_checkedEdition : ByteArray := prog_8_method_3_code
def yX2_checkedEdition : MethodName := ⟨RX2, "checkedEdition", "(I)LInkPrintery$Edition;"⟩
def dkwX2_checkedEdition_0 : List UInt8 := [27, 3, 42, 180, 0, 59, 4, 100, 184, 0, 84, 184, 0, 88, 42, 180, 0, 23, 27, 50, 176]
abbrev dktX2_checkedEdition_0 : List UInt8 := dkwX2_checkedEdition_0 ++ []
theorem dksX2_checkedEdition_0 : cX2_checkedEdition.data.toList.drop 0 = dktX2_checkedEdition_0 := by decide +kernel
theorem dX2_checkedEdition_0 : decode cX2_checkedEdition 0 = .ok (.iload_n 1, 1) := dk_27 (dk_at dksX2_checkedEdition_0 0 rfl rfl)
theorem dX2_checkedEdition_1 : decode cX2_checkedEdition 1 = .ok (.iconst 0, 1) := dk_3 (dk_at dksX2_checkedEdition_0 1 rfl rfl)
theorem dX2_checkedEdition_2 : decode cX2_checkedEdition 2 = .ok (.aload_n 0, 1) := dk_42 (dk_at dksX2_checkedEdition_0 2 rfl rfl)
theorem dX2_checkedEdition_3 : decode cX2_checkedEdition 3 = .ok (.getfield 59, 3) := dk_180 0 59 (dk_at dksX2_checkedEdition_0 3 rfl rfl)
theorem dX2_checkedEdition_6 : decode cX2_checkedEdition 6 = .ok (.iconst 1, 1) := dk_4 (dk_at dksX2_checkedEdition_0 6 rfl rfl)
theorem dX2_checkedEdition_7 : decode cX2_checkedEdition 7 = .ok (.isub, 1) := dk_100 (dk_at dksX2_checkedEdition_0 7 rfl rfl)
theorem dX2_checkedEdition_8 : decode cX2_checkedEdition 8 = .ok (.invokestatic 84, 3) := dk_184 0 84 (dk_at dksX2_checkedEdition_0 8 rfl rfl)
theorem dX2_checkedEdition_11 : decode cX2_checkedEdition 11 = .ok (.invokestatic 88, 3) := dk_184 0 88 (dk_at dksX2_checkedEdition_0 11 rfl rfl)
theorem dX2_checkedEdition_14 : decode cX2_checkedEdition 14 = .ok (.aload_n 0, 1) := dk_42 (dk_at dksX2_checkedEdition_0 14 rfl rfl)
theorem dX2_checkedEdition_15 : decode cX2_checkedEdition 15 = .ok (.getfield 23, 3) := dk_180 0 23 (dk_at dksX2_checkedEdition_0 15 rfl rfl)
theorem dX2_checkedEdition_18 : decode cX2_checkedEdition 18 = .ok (.iload_n 1, 1) := dk_27 (dk_at dksX2_checkedEdition_0 18 rfl rfl)
theorem dX2_checkedEdition_19 : decode cX2_checkedEdition 19 = .ok (.aaload, 1) := dk_50 (dk_at dksX2_checkedEdition_0 19 rfl rfl)
theorem dX2_checkedEdition_20 : decode cX2_checkedEdition 20 = .ok (.areturn, 1) := dk_176 (dk_at dksX2_checkedEdition_0 20 rfl rfl)
abbrev cX2_print : ByteArray := prog_8_method_22_code
def yX2_print : MethodName := ⟨RX2, "print", "(I)I"⟩
def dkwX2_print_2 : List UInt8 := [158, 0, 7, 4, 167, 0, 4, 3, 184, 0, 161, 42, 44, 29, 182, 0, 164, 29, 172]
abbrev dktX2_print_2 : List UInt8 := dkwX2_print_2 ++ []
def dkwX2_print_1 : List UInt8 := [182, 0, 122, 42, 180, 0, 56, 42, 180, 0, 9, 44, 180, 0, 148, 46, 184, 0, 129, 184, 0, 129, 62, 29]
abbrev dktX2_print_1 : List UInt8 := dkwX2_print_1 ++ dktX2_print_2
def dkwX2_print_0 : List UInt8 := [42, 27, 182, 0, 144, 77, 44, 182, 0, 157, 154, 0, 7, 4, 167, 0, 4, 3, 184, 0, 99, 44]
abbrev dktX2_print_0 : List UInt8 := dkwX2_print_0 ++ dktX2_print_1
theorem dksX2_print_0 : cX2_print.data.toList.drop 0 = dktX2_print_0 := by decide +kernel
theorem dksX2_print_1 : cX2_print.data.toList.drop 22 = dktX2_print_1 := dk_seg dksX2_print_0 22 rfl rfl
theorem dksX2_print_2 : cX2_print.data.toList.drop 46 = dktX2_print_2 := dk_seg dksX2_print_1 24 rfl rfl
theorem dX2_print_0 : decode cX2_print 0 = .ok (.aload_n 0, 1) := dk_42 (dk_at dksX2_print_0 0 rfl rfl)
theorem dX2_print_1 : decode cX2_print 1 = .ok (.iload_n 1, 1) := dk_27 (dk_at dksX2_print_0 1 rfl rfl)
theorem dX2_print_2 : decode cX2_print 2 = .ok (.invokevirtual 144, 3) := dk_182 0 144 (dk_at dksX2_print_0 2 rfl rfl)
theorem dX2_print_5 : decode cX2_print 5 = .ok (.astore_n 2, 1) := dk_77 (dk_at dksX2_print_0 5 rfl rfl)
theorem dX2_print_6 : decode cX2_print 6 = .ok (.aload_n 2, 1) := dk_44 (dk_at dksX2_print_0 6 rfl rfl)
theorem dX2_print_7 : decode cX2_print 7 = .ok (.invokevirtual 157, 3) := dk_182 0 157 (dk_at dksX2_print_0 7 rfl rfl)
theorem dX2_print_10 : decode cX2_print 10 = .ok (.ifCond .ne 7, 3) := dk_154 0 7 (dk_at dksX2_print_0 10 rfl rfl)
theorem dX2_print_13 : decode cX2_print 13 = .ok (.iconst 1, 1) := dk_4 (dk_at dksX2_print_0 13 rfl rfl)
theorem dX2_print_14 : decode cX2_print 14 = .ok (.goto 4, 3) := dk_167 0 4 (dk_at dksX2_print_0 14 rfl rfl)
theorem dX2_print_17 : decode cX2_print 17 = .ok (.iconst 0, 1) := dk_3 (dk_at dksX2_print_0 17 rfl rfl)
theorem dX2_print_18 : decode cX2_print 18 = .ok (.invokestatic 99, 3) := dk_184 0 99 (dk_at dksX2_print_0 18 rfl rfl)
theorem dX2_print_21 : decode cX2_print 21 = .ok (.aload_n 2, 1) := dk_44 (dk_at dksX2_print_0 21 rfl rfl)
theorem dX2_print_22 : decode cX2_print 22 = .ok (.invokevirtual 122, 3) := dk_182 0 122 (dk_at dksX2_print_1 0 rfl rfl)
theorem dX2_print_25 : decode cX2_print 25 = .ok (.aload_n 0, 1) := dk_42 (dk_at dksX2_print_1 3 rfl rfl)
theorem dX2_print_26 : decode cX2_print 26 = .ok (.getfield 56, 3) := dk_180 0 56 (dk_at dksX2_print_1 4 rfl rfl)
theorem dX2_print_29 : decode cX2_print 29 = .ok (.aload_n 0, 1) := dk_42 (dk_at dksX2_print_1 7 rfl rfl)
theorem dX2_print_30 : decode cX2_print 30 = .ok (.getfield 9, 3) := dk_180 0 9 (dk_at dksX2_print_1 8 rfl rfl)
theorem dX2_print_33 : decode cX2_print 33 = .ok (.aload_n 2, 1) := dk_44 (dk_at dksX2_print_1 11 rfl rfl)
theorem dX2_print_34 : decode cX2_print 34 = .ok (.getfield 148, 3) := dk_180 0 148 (dk_at dksX2_print_1 12 rfl rfl)
theorem dX2_print_37 : decode cX2_print 37 = .ok (.iaload, 1) := dk_46 (dk_at dksX2_print_1 15 rfl rfl)
theorem dX2_print_38 : decode cX2_print 38 = .ok (.invokestatic 129, 3) := dk_184 0 129 (dk_at dksX2_print_1 16 rfl rfl)
theorem dX2_print_41 : decode cX2_print 41 = .ok (.invokestatic 129, 3) := dk_184 0 129 (dk_at dksX2_print_1 19 rfl rfl)
theorem dX2_print_44 : decode cX2_print 44 = .ok (.istore_n 3, 1) := dk_62 (dk_at dksX2_print_1 22 rfl rfl)
theorem dX2_print_45 : decode cX2_print 45 = .ok (.iload_n 3, 1) := dk_29 (dk_at dksX2_print_1 23 rfl rfl)
theorem dX2_print_46 : decode cX2_print 46 = .ok (.ifCond .le 7, 3) := dk_158 0 7 (dk_at dksX2_print_2 0 rfl rfl)
theorem dX2_print_49 : decode cX2_print 49 = .ok (.iconst 1, 1) := dk_4 (dk_at dksX2_print_2 3 rfl rfl)
theorem dX2_print_50 : decode cX2_print 50 = .ok (.goto 4, 3) := dk_167 0 4 (dk_at dksX2_print_2 4 rfl rfl)
theorem dX2_print_53 : decode cX2_print 53 = .ok (.iconst 0, 1) := dk_3 (dk_at dksX2_print_2 7 rfl rfl)
theorem dX2_print_54 : decode cX2_print 54 = .ok (.invokestatic 161, 3) := dk_184 0 161 (dk_at dksX2_print_2 8 rfl rfl)
theorem dX2_print_57 : decode cX2_print 57 = .ok (.aload_n 0, 1) := dk_42 (dk_at dksX2_print_2 11 rfl rfl)
theorem dX2_print_58 : decode cX2_print 58 = .ok (.aload_n 2, 1) := dk_44 (dk_at dksX2_print_2 12 rfl rfl)
theorem dX2_print_59 : decode cX2_print 59 = .ok (.iload_n 3, 1) := dk_29 (dk_at dksX2_print_2 13 rfl rfl)
theorem dX2_print_60 : decode cX2_print 60 = .ok (.invokevirtual 164, 3) := dk_182 0 164 (dk_at dksX2_print_2 14 rfl rfl)
theorem dX2_print_63 : decode cX2_print 63 = .ok (.iload_n 3, 1) := dk_29 (dk_at dksX2_print_2 17 rfl rfl)
theorem dX2_print_64 : decode cX2_print 64 = .ok (.ireturn, 1) := dk_172 (dk_at dksX2_print_2 18 rfl rfl)
abbrev cX2_editionByMissing : ByteArray := prog_8_method_24_code
def yX2_editionByMissing : MethodName := ⟨RX2, "editionByMissing", "(I)I"⟩
def dkwX2_editionByMissing_3 : List UInt8 := [132, 4, 1, 167, 255, 198, 29, 27, 160, 0, 5, 28, 172, 132, 2, 1, 167, 255, 172, 2, 172]
abbrev dktX2_editionByMissing_3 : List UInt8 := dkwX2_editionByMissing_3 ++ []
def dkwX2_editionByMissing_2 : List UInt8 := [21, 5, 157, 0, 14, 21, 5, 154, 0, 13, 21, 4, 28, 162, 0, 7, 4, 167, 0, 4, 3, 96, 62]
abbrev dktX2_editionByMissing_2 : List UInt8 := dkwX2_editionByMissing_2 ++ dktX2_editionByMissing_3
def dkwX2_editionByMissing_1 : List UInt8 := [42, 180, 0, 23, 21, 4, 50, 182, 0, 122, 42, 180, 0, 23, 28, 50, 182, 0, 122, 100, 54, 5, 29]
abbrev dktX2_editionByMissing_1 : List UInt8 := dkwX2_editionByMissing_1 ++ dktX2_editionByMissing_2
def dkwX2_editionByMissing_0 : List UInt8 := [3, 61, 28, 42, 180, 0, 59, 162, 0, 82, 3, 62, 3, 54, 4, 21, 4, 42, 180, 0, 59, 162, 0, 55]
abbrev dktX2_editionByMissing_0 : List UInt8 := dkwX2_editionByMissing_0 ++ dktX2_editionByMissing_1
theorem dksX2_editionByMissing_0 : cX2_editionByMissing.data.toList.drop 0 = dktX2_editionByMissing_0 := by decide +kernel
theorem dksX2_editionByMissing_1 : cX2_editionByMissing.data.toList.drop 24 = dktX2_editionByMissing_1 := dk_seg dksX2_editionByMissing_0 24 rfl rfl
theorem dksX2_editionByMissing_2 : cX2_editionByMissing.data.toList.drop 47 = dktX2_editionByMissing_2 := dk_seg dksX2_editionByMissing_1 23 rfl rfl
theorem dksX2_editionByMissing_3 : cX2_editionByMissing.data.toList.drop 70 = dktX2_editionByMissing_3 := dk_seg dksX2_editionByMissing_2 23 rfl rfl
theorem dX2_editionByMissing_0 : decode cX2_editionByMissing 0 = .ok (.iconst 0, 1) := dk_3 (dk_at dksX2_editionByMissing_0 0 rfl rfl)
theorem dX2_editionByMissing_1 : decode cX2_editionByMissing 1 = .ok (.istore_n 2, 1) := dk_61 (dk_at dksX2_editionByMissing_0 1 rfl rfl)
theorem dX2_editionByMissing_2 : decode cX2_editionByMissing 2 = .ok (.iload_n 2, 1) := dk_28 (dk_at dksX2_editionByMissing_0 2 rfl rfl)
theorem dX2_editionByMissing_3 : decode cX2_editionByMissing 3 = .ok (.aload_n 0, 1) := dk_42 (dk_at dksX2_editionByMissing_0 3 rfl rfl)
theorem dX2_editionByMissing_4 : decode cX2_editionByMissing 4 = .ok (.getfield 59, 3) := dk_180 0 59 (dk_at dksX2_editionByMissing_0 4 rfl rfl)
theorem dX2_editionByMissing_7 : decode cX2_editionByMissing 7 = .ok (.if_icmp .ge 82, 3) := dk_162 0 82 (dk_at dksX2_editionByMissing_0 7 rfl rfl)
theorem dX2_editionByMissing_10 : decode cX2_editionByMissing 10 = .ok (.iconst 0, 1) := dk_3 (dk_at dksX2_editionByMissing_0 10 rfl rfl)
theorem dX2_editionByMissing_11 : decode cX2_editionByMissing 11 = .ok (.istore_n 3, 1) := dk_62 (dk_at dksX2_editionByMissing_0 11 rfl rfl)
theorem dX2_editionByMissing_12 : decode cX2_editionByMissing 12 = .ok (.iconst 0, 1) := dk_3 (dk_at dksX2_editionByMissing_0 12 rfl rfl)
theorem dX2_editionByMissing_13 : decode cX2_editionByMissing 13 = .ok (.istore 4, 2) := dk_54 4 (dk_at dksX2_editionByMissing_0 13 rfl rfl)
theorem dX2_editionByMissing_15 : decode cX2_editionByMissing 15 = .ok (.iload 4, 2) := dk_21 4 (dk_at dksX2_editionByMissing_0 15 rfl rfl)
theorem dX2_editionByMissing_17 : decode cX2_editionByMissing 17 = .ok (.aload_n 0, 1) := dk_42 (dk_at dksX2_editionByMissing_0 17 rfl rfl)
theorem dX2_editionByMissing_18 : decode cX2_editionByMissing 18 = .ok (.getfield 59, 3) := dk_180 0 59 (dk_at dksX2_editionByMissing_0 18 rfl rfl)
theorem dX2_editionByMissing_21 : decode cX2_editionByMissing 21 = .ok (.if_icmp .ge 55, 3) := dk_162 0 55 (dk_at dksX2_editionByMissing_0 21 rfl rfl)
theorem dX2_editionByMissing_24 : decode cX2_editionByMissing 24 = .ok (.aload_n 0, 1) := dk_42 (dk_at dksX2_editionByMissing_1 0 rfl rfl)
theorem dX2_editionByMissing_25 : decode cX2_editionByMissing 25 = .ok (.getfield 23, 3) := dk_180 0 23 (dk_at dksX2_editionByMissing_1 1 rfl rfl)
theorem dX2_editionByMissing_28 : decode cX2_editionByMissing 28 = .ok (.iload 4, 2) := dk_21 4 (dk_at dksX2_editionByMissing_1 4 rfl rfl)
theorem dX2_editionByMissing_30 : decode cX2_editionByMissing 30 = .ok (.aaload, 1) := dk_50 (dk_at dksX2_editionByMissing_1 6 rfl rfl)
theorem dX2_editionByMissing_31 : decode cX2_editionByMissing 31 = .ok (.invokevirtual 122, 3) := dk_182 0 122 (dk_at dksX2_editionByMissing_1 7 rfl rfl)
theorem dX2_editionByMissing_34 : decode cX2_editionByMissing 34 = .ok (.aload_n 0, 1) := dk_42 (dk_at dksX2_editionByMissing_1 10 rfl rfl)
theorem dX2_editionByMissing_35 : decode cX2_editionByMissing 35 = .ok (.getfield 23, 3) := dk_180 0 23 (dk_at dksX2_editionByMissing_1 11 rfl rfl)
theorem dX2_editionByMissing_38 : decode cX2_editionByMissing 38 = .ok (.iload_n 2, 1) := dk_28 (dk_at dksX2_editionByMissing_1 14 rfl rfl)
theorem dX2_editionByMissing_39 : decode cX2_editionByMissing 39 = .ok (.aaload, 1) := dk_50 (dk_at dksX2_editionByMissing_1 15 rfl rfl)
theorem dX2_editionByMissing_40 : decode cX2_editionByMissing 40 = .ok (.invokevirtual 122, 3) := dk_182 0 122 (dk_at dksX2_editionByMissing_1 16 rfl rfl)
theorem dX2_editionByMissing_43 : decode cX2_editionByMissing 43 = .ok (.isub, 1) := dk_100 (dk_at dksX2_editionByMissing_1 19 rfl rfl)
theorem dX2_editionByMissing_44 : decode cX2_editionByMissing 44 = .ok (.istore 5, 2) := dk_54 5 (dk_at dksX2_editionByMissing_1 20 rfl rfl)
theorem dX2_editionByMissing_46 : decode cX2_editionByMissing 46 = .ok (.iload_n 3, 1) := dk_29 (dk_at dksX2_editionByMissing_1 22 rfl rfl)
theorem dX2_editionByMissing_47 : decode cX2_editionByMissing 47 = .ok (.iload 5, 2) := dk_21 5 (dk_at dksX2_editionByMissing_2 0 rfl rfl)
theorem dX2_editionByMissing_49 : decode cX2_editionByMissing 49 = .ok (.ifCond .gt 14, 3) := dk_157 0 14 (dk_at dksX2_editionByMissing_2 2 rfl rfl)
theorem dX2_editionByMissing_52 : decode cX2_editionByMissing 52 = .ok (.iload 5, 2) := dk_21 5 (dk_at dksX2_editionByMissing_2 5 rfl rfl)
theorem dX2_editionByMissing_54 : decode cX2_editionByMissing 54 = .ok (.ifCond .ne 13, 3) := dk_154 0 13 (dk_at dksX2_editionByMissing_2 7 rfl rfl)
theorem dX2_editionByMissing_57 : decode cX2_editionByMissing 57 = .ok (.iload 4, 2) := dk_21 4 (dk_at dksX2_editionByMissing_2 10 rfl rfl)
theorem dX2_editionByMissing_59 : decode cX2_editionByMissing 59 = .ok (.iload_n 2, 1) := dk_28 (dk_at dksX2_editionByMissing_2 12 rfl rfl)
theorem dX2_editionByMissing_60 : decode cX2_editionByMissing 60 = .ok (.if_icmp .ge 7, 3) := dk_162 0 7 (dk_at dksX2_editionByMissing_2 13 rfl rfl)
theorem dX2_editionByMissing_63 : decode cX2_editionByMissing 63 = .ok (.iconst 1, 1) := dk_4 (dk_at dksX2_editionByMissing_2 16 rfl rfl)
theorem dX2_editionByMissing_64 : decode cX2_editionByMissing 64 = .ok (.goto 4, 3) := dk_167 0 4 (dk_at dksX2_editionByMissing_2 17 rfl rfl)
theorem dX2_editionByMissing_67 : decode cX2_editionByMissing 67 = .ok (.iconst 0, 1) := dk_3 (dk_at dksX2_editionByMissing_2 20 rfl rfl)
theorem dX2_editionByMissing_68 : decode cX2_editionByMissing 68 = .ok (.iadd, 1) := dk_96 (dk_at dksX2_editionByMissing_2 21 rfl rfl)
theorem dX2_editionByMissing_69 : decode cX2_editionByMissing 69 = .ok (.istore_n 3, 1) := dk_62 (dk_at dksX2_editionByMissing_2 22 rfl rfl)
theorem dX2_editionByMissing_70 : decode cX2_editionByMissing 70 = .ok (.iinc 4 1, 3) := dk_132 4 1 (dk_at dksX2_editionByMissing_3 0 rfl rfl)
theorem dX2_editionByMissing_73 : decode cX2_editionByMissing 73 = .ok (.goto (-58), 3) := dk_167 255 198 (dk_at dksX2_editionByMissing_3 3 rfl rfl)
theorem dX2_editionByMissing_76 : decode cX2_editionByMissing 76 = .ok (.iload_n 3, 1) := dk_29 (dk_at dksX2_editionByMissing_3 6 rfl rfl)
theorem dX2_editionByMissing_77 : decode cX2_editionByMissing 77 = .ok (.iload_n 1, 1) := dk_27 (dk_at dksX2_editionByMissing_3 7 rfl rfl)
theorem dX2_editionByMissing_78 : decode cX2_editionByMissing 78 = .ok (.if_icmp .ne 5, 3) := dk_160 0 5 (dk_at dksX2_editionByMissing_3 8 rfl rfl)
theorem dX2_editionByMissing_81 : decode cX2_editionByMissing 81 = .ok (.iload_n 2, 1) := dk_28 (dk_at dksX2_editionByMissing_3 11 rfl rfl)
theorem dX2_editionByMissing_82 : decode cX2_editionByMissing 82 = .ok (.ireturn, 1) := dk_172 (dk_at dksX2_editionByMissing_3 12 rfl rfl)
theorem dX2_editionByMissing_83 : decode cX2_editionByMissing 83 = .ok (.iinc 2 1, 3) := dk_132 2 1 (dk_at dksX2_editionByMissing_3 13 rfl rfl)
theorem dX2_editionByMissing_86 : decode cX2_editionByMissing 86 = .ok (.goto (-84), 3) := dk_167 255 172 (dk_at dksX2_editionByMissing_3 16 rfl rfl)
theorem dX2_editionByMissing_89 : decode cX2_editionByMissing 89 = .ok (.iconst (-1), 1) := dk_2 (dk_at dksX2_editionByMissing_3 19 rfl rfl)
theorem dX2_editionByMissing_90 : decode cX2_editionByMissing 90 = .ok (.ireturn, 1) := dk_172 (dk_at dksX2_editionByMissing_3 20 rfl rfl)
abbrev cX2_addProof : ByteArray := prog_8_method_25_code
def yX2_addProof : MethodName := ⟨RX2, "addProof", "(I)I"⟩
def dkwX2_addProof_2 : List UInt8 := [180, 0, 52, 79, 42, 89, 180, 0, 81, 4, 96, 181, 0, 81, 42, 180, 0, 81, 4, 100, 172]
abbrev dktX2_addProof_2 : List UInt8 := dkwX2_addProof_2 ++ []
def dkwX2_addProof_1 : List UInt8 := [184, 0, 99, 42, 180, 0, 27, 42, 180, 0, 81, 27, 79, 42, 180, 0, 30, 42, 180, 0, 81, 42]
abbrev dktX2_addProof_1 : List UInt8 := dkwX2_addProof_1 ++ dktX2_addProof_2
def dkwX2_addProof_0 : List UInt8 := [27, 3, 16, 99, 184, 0, 84, 184, 0, 96, 42, 180, 0, 81, 16, 12, 162, 0, 7, 4, 167, 0, 4, 3]
abbrev dktX2_addProof_0 : List UInt8 := dkwX2_addProof_0 ++ dktX2_addProof_1
theorem dksX2_addProof_0 : cX2_addProof.data.toList.drop 0 = dktX2_addProof_0 := by decide +kernel
theorem dksX2_addProof_1 : cX2_addProof.data.toList.drop 24 = dktX2_addProof_1 := dk_seg dksX2_addProof_0 24 rfl rfl
theorem dksX2_addProof_2 : cX2_addProof.data.toList.drop 46 = dktX2_addProof_2 := dk_seg dksX2_addProof_1 22 rfl rfl
theorem dX2_addProof_0 : decode cX2_addProof 0 = .ok (.iload_n 1, 1) := dk_27 (dk_at dksX2_addProof_0 0 rfl rfl)
theorem dX2_addProof_1 : decode cX2_addProof 1 = .ok (.iconst 0, 1) := dk_3 (dk_at dksX2_addProof_0 1 rfl rfl)
theorem dX2_addProof_2 : decode cX2_addProof 2 = .ok (.bipush 99, 2) := dk_16 99 (dk_at dksX2_addProof_0 2 rfl rfl)
theorem dX2_addProof_4 : decode cX2_addProof 4 = .ok (.invokestatic 84, 3) := dk_184 0 84 (dk_at dksX2_addProof_0 4 rfl rfl)
theorem dX2_addProof_7 : decode cX2_addProof 7 = .ok (.invokestatic 96, 3) := dk_184 0 96 (dk_at dksX2_addProof_0 7 rfl rfl)
theorem dX2_addProof_10 : decode cX2_addProof 10 = .ok (.aload_n 0, 1) := dk_42 (dk_at dksX2_addProof_0 10 rfl rfl)
theorem dX2_addProof_11 : decode cX2_addProof 11 = .ok (.getfield 81, 3) := dk_180 0 81 (dk_at dksX2_addProof_0 11 rfl rfl)
theorem dX2_addProof_14 : decode cX2_addProof 14 = .ok (.bipush 12, 2) := dk_16 12 (dk_at dksX2_addProof_0 14 rfl rfl)
theorem dX2_addProof_16 : decode cX2_addProof 16 = .ok (.if_icmp .ge 7, 3) := dk_162 0 7 (dk_at dksX2_addProof_0 16 rfl rfl)
theorem dX2_addProof_19 : decode cX2_addProof 19 = .ok (.iconst 1, 1) := dk_4 (dk_at dksX2_addProof_0 19 rfl rfl)
theorem dX2_addProof_20 : decode cX2_addProof 20 = .ok (.goto 4, 3) := dk_167 0 4 (dk_at dksX2_addProof_0 20 rfl rfl)
theorem dX2_addProof_23 : decode cX2_addProof 23 = .ok (.iconst 0, 1) := dk_3 (dk_at dksX2_addProof_0 23 rfl rfl)
theorem dX2_addProof_24 : decode cX2_addProof 24 = .ok (.invokestatic 99, 3) := dk_184 0 99 (dk_at dksX2_addProof_1 0 rfl rfl)
theorem dX2_addProof_27 : decode cX2_addProof 27 = .ok (.aload_n 0, 1) := dk_42 (dk_at dksX2_addProof_1 3 rfl rfl)
theorem dX2_addProof_28 : decode cX2_addProof 28 = .ok (.getfield 27, 3) := dk_180 0 27 (dk_at dksX2_addProof_1 4 rfl rfl)
theorem dX2_addProof_31 : decode cX2_addProof 31 = .ok (.aload_n 0, 1) := dk_42 (dk_at dksX2_addProof_1 7 rfl rfl)
theorem dX2_addProof_32 : decode cX2_addProof 32 = .ok (.getfield 81, 3) := dk_180 0 81 (dk_at dksX2_addProof_1 8 rfl rfl)
theorem dX2_addProof_35 : decode cX2_addProof 35 = .ok (.iload_n 1, 1) := dk_27 (dk_at dksX2_addProof_1 11 rfl rfl)
theorem dX2_addProof_36 : decode cX2_addProof 36 = .ok (.iastore, 1) := dk_79 (dk_at dksX2_addProof_1 12 rfl rfl)
theorem dX2_addProof_37 : decode cX2_addProof 37 = .ok (.aload_n 0, 1) := dk_42 (dk_at dksX2_addProof_1 13 rfl rfl)
theorem dX2_addProof_38 : decode cX2_addProof 38 = .ok (.getfield 30, 3) := dk_180 0 30 (dk_at dksX2_addProof_1 14 rfl rfl)
theorem dX2_addProof_41 : decode cX2_addProof 41 = .ok (.aload_n 0, 1) := dk_42 (dk_at dksX2_addProof_1 17 rfl rfl)
theorem dX2_addProof_42 : decode cX2_addProof 42 = .ok (.getfield 81, 3) := dk_180 0 81 (dk_at dksX2_addProof_1 18 rfl rfl)
theorem dX2_addProof_45 : decode cX2_addProof 45 = .ok (.aload_n 0, 1) := dk_42 (dk_at dksX2_addProof_1 21 rfl rfl)
theorem dX2_addProof_46 : decode cX2_addProof 46 = .ok (.getfield 52, 3) := dk_180 0 52 (dk_at dksX2_addProof_2 0 rfl rfl)
theorem dX2_addProof_49 : decode cX2_addProof 49 = .ok (.iastore, 1) := dk_79 (dk_at dksX2_addProof_2 3 rfl rfl)
theorem dX2_addProof_50 : decode cX2_addProof 50 = .ok (.aload_n 0, 1) := dk_42 (dk_at dksX2_addProof_2 4 rfl rfl)
theorem dX2_addProof_51 : decode cX2_addProof 51 = .ok (.dup, 1) := dk_89 (dk_at dksX2_addProof_2 5 rfl rfl)
theorem dX2_addProof_52 : decode cX2_addProof 52 = .ok (.getfield 81, 3) := dk_180 0 81 (dk_at dksX2_addProof_2 6 rfl rfl)
theorem dX2_addProof_55 : decode cX2_addProof 55 = .ok (.iconst 1, 1) := dk_4 (dk_at dksX2_addProof_2 9 rfl rfl)
theorem dX2_addProof_56 : decode cX2_addProof 56 = .ok (.iadd, 1) := dk_96 (dk_at dksX2_addProof_2 10 rfl rfl)
theorem dX2_addProof_57 : decode cX2_addProof 57 = .ok (.putfield 81, 3) := dk_181 0 81 (dk_at dksX2_addProof_2 11 rfl rfl)
theorem dX2_addProof_60 : decode cX2_addProof 60 = .ok (.aload_n 0, 1) := dk_42 (dk_at dksX2_addProof_2 14 rfl rfl)
theorem dX2_addProof_61 : decode cX2_addProof 61 = .ok (.getfield 81, 3) := dk_180 0 81 (dk_at dksX2_addProof_2 15 rfl rfl)
theorem dX2_addProof_64 : decode cX2_addProof 64 = .ok (.iconst 1, 1) := dk_4 (dk_at dksX2_addProof_2 18 rfl rfl)
theorem dX2_addProof_65 : decode cX2_addProof 65 = .ok (.isub, 1) := dk_100 (dk_at dksX2_addProof_2 19 rfl rfl)
theorem dX2_addProof_66 : decode cX2_addProof 66 = .ok (.ireturn, 1) := dk_172 (dk_at dksX2_addProof_2 20 rfl rfl)
abbrev cX2_dropProof : ByteArray := prog_8_method_26_code
def yX2_dropProof : MethodName := ⟨RX2, "dropProof", "(I)I"⟩
def dkwX2_dropProof_2 : List UInt8 := [180, 0, 30, 28, 4, 96, 46, 79, 132, 2, 1, 167, 255, 217, 42, 180, 0, 81, 172]
abbrev dktX2_dropProof_2 : List UInt8 := dkwX2_dropProof_2 ++ []
def dkwX2_dropProof_1 : List UInt8 := [162, 0, 37, 42, 180, 0, 27, 28, 42, 180, 0, 27, 28, 4, 96, 46, 79, 42, 180, 0, 30, 28, 42]
abbrev dktX2_dropProof_1 : List UInt8 := dkwX2_dropProof_1 ++ dktX2_dropProof_2
def dkwX2_dropProof_0 : List UInt8 := [42, 27, 182, 0, 174, 42, 89, 180, 0, 81, 4, 100, 181, 0, 81, 27, 61, 28, 42, 180, 0, 81]
abbrev dktX2_dropProof_0 : List UInt8 := dkwX2_dropProof_0 ++ dktX2_dropProof_1
theorem dksX2_dropProof_0 : cX2_dropProof.data.toList.drop 0 = dktX2_dropProof_0 := by decide +kernel
theorem dksX2_dropProof_1 : cX2_dropProof.data.toList.drop 22 = dktX2_dropProof_1 := dk_seg dksX2_dropProof_0 22 rfl rfl
theorem dksX2_dropProof_2 : cX2_dropProof.data.toList.drop 45 = dktX2_dropProof_2 := dk_seg dksX2_dropProof_1 23 rfl rfl
theorem dX2_dropProof_0 : decode cX2_dropProof 0 = .ok (.aload_n 0, 1) := dk_42 (dk_at dksX2_dropProof_0 0 rfl rfl)
theorem dX2_dropProof_1 : decode cX2_dropProof 1 = .ok (.iload_n 1, 1) := dk_27 (dk_at dksX2_dropProof_0 1 rfl rfl)
theorem dX2_dropProof_2 : decode cX2_dropProof 2 = .ok (.invokevirtual 174, 3) := dk_182 0 174 (dk_at dksX2_dropProof_0 2 rfl rfl)
theorem dX2_dropProof_5 : decode cX2_dropProof 5 = .ok (.aload_n 0, 1) := dk_42 (dk_at dksX2_dropProof_0 5 rfl rfl)
theorem dX2_dropProof_6 : decode cX2_dropProof 6 = .ok (.dup, 1) := dk_89 (dk_at dksX2_dropProof_0 6 rfl rfl)
theorem dX2_dropProof_7 : decode cX2_dropProof 7 = .ok (.getfield 81, 3) := dk_180 0 81 (dk_at dksX2_dropProof_0 7 rfl rfl)
theorem dX2_dropProof_10 : decode cX2_dropProof 10 = .ok (.iconst 1, 1) := dk_4 (dk_at dksX2_dropProof_0 10 rfl rfl)
theorem dX2_dropProof_11 : decode cX2_dropProof 11 = .ok (.isub, 1) := dk_100 (dk_at dksX2_dropProof_0 11 rfl rfl)
theorem dX2_dropProof_12 : decode cX2_dropProof 12 = .ok (.putfield 81, 3) := dk_181 0 81 (dk_at dksX2_dropProof_0 12 rfl rfl)
theorem dX2_dropProof_15 : decode cX2_dropProof 15 = .ok (.iload_n 1, 1) := dk_27 (dk_at dksX2_dropProof_0 15 rfl rfl)
theorem dX2_dropProof_16 : decode cX2_dropProof 16 = .ok (.istore_n 2, 1) := dk_61 (dk_at dksX2_dropProof_0 16 rfl rfl)
theorem dX2_dropProof_17 : decode cX2_dropProof 17 = .ok (.iload_n 2, 1) := dk_28 (dk_at dksX2_dropProof_0 17 rfl rfl)
theorem dX2_dropProof_18 : decode cX2_dropProof 18 = .ok (.aload_n 0, 1) := dk_42 (dk_at dksX2_dropProof_0 18 rfl rfl)
theorem dX2_dropProof_19 : decode cX2_dropProof 19 = .ok (.getfield 81, 3) := dk_180 0 81 (dk_at dksX2_dropProof_0 19 rfl rfl)
theorem dX2_dropProof_22 : decode cX2_dropProof 22 = .ok (.if_icmp .ge 37, 3) := dk_162 0 37 (dk_at dksX2_dropProof_1 0 rfl rfl)
theorem dX2_dropProof_25 : decode cX2_dropProof 25 = .ok (.aload_n 0, 1) := dk_42 (dk_at dksX2_dropProof_1 3 rfl rfl)
theorem dX2_dropProof_26 : decode cX2_dropProof 26 = .ok (.getfield 27, 3) := dk_180 0 27 (dk_at dksX2_dropProof_1 4 rfl rfl)
theorem dX2_dropProof_29 : decode cX2_dropProof 29 = .ok (.iload_n 2, 1) := dk_28 (dk_at dksX2_dropProof_1 7 rfl rfl)
theorem dX2_dropProof_30 : decode cX2_dropProof 30 = .ok (.aload_n 0, 1) := dk_42 (dk_at dksX2_dropProof_1 8 rfl rfl)
theorem dX2_dropProof_31 : decode cX2_dropProof 31 = .ok (.getfield 27, 3) := dk_180 0 27 (dk_at dksX2_dropProof_1 9 rfl rfl)
theorem dX2_dropProof_34 : decode cX2_dropProof 34 = .ok (.iload_n 2, 1) := dk_28 (dk_at dksX2_dropProof_1 12 rfl rfl)
theorem dX2_dropProof_35 : decode cX2_dropProof 35 = .ok (.iconst 1, 1) := dk_4 (dk_at dksX2_dropProof_1 13 rfl rfl)
theorem dX2_dropProof_36 : decode cX2_dropProof 36 = .ok (.iadd, 1) := dk_96 (dk_at dksX2_dropProof_1 14 rfl rfl)
theorem dX2_dropProof_37 : decode cX2_dropProof 37 = .ok (.iaload, 1) := dk_46 (dk_at dksX2_dropProof_1 15 rfl rfl)
theorem dX2_dropProof_38 : decode cX2_dropProof 38 = .ok (.iastore, 1) := dk_79 (dk_at dksX2_dropProof_1 16 rfl rfl)
theorem dX2_dropProof_39 : decode cX2_dropProof 39 = .ok (.aload_n 0, 1) := dk_42 (dk_at dksX2_dropProof_1 17 rfl rfl)
theorem dX2_dropProof_40 : decode cX2_dropProof 40 = .ok (.getfield 30, 3) := dk_180 0 30 (dk_at dksX2_dropProof_1 18 rfl rfl)
theorem dX2_dropProof_43 : decode cX2_dropProof 43 = .ok (.iload_n 2, 1) := dk_28 (dk_at dksX2_dropProof_1 21 rfl rfl)
theorem dX2_dropProof_44 : decode cX2_dropProof 44 = .ok (.aload_n 0, 1) := dk_42 (dk_at dksX2_dropProof_1 22 rfl rfl)
theorem dX2_dropProof_45 : decode cX2_dropProof 45 = .ok (.getfield 30, 3) := dk_180 0 30 (dk_at dksX2_dropProof_2 0 rfl rfl)
theorem dX2_dropProof_48 : decode cX2_dropProof 48 = .ok (.iload_n 2, 1) := dk_28 (dk_at dksX2_dropProof_2 3 rfl rfl)
theorem dX2_dropProof_49 : decode cX2_dropProof 49 = .ok (.iconst 1, 1) := dk_4 (dk_at dksX2_dropProof_2 4 rfl rfl)
theorem dX2_dropProof_50 : decode cX2_dropProof 50 = .ok (.iadd, 1) := dk_96 (dk_at dksX2_dropProof_2 5 rfl rfl)
theorem dX2_dropProof_51 : decode cX2_dropProof 51 = .ok (.iaload, 1) := dk_46 (dk_at dksX2_dropProof_2 6 rfl rfl)
theorem dX2_dropProof_52 : decode cX2_dropProof 52 = .ok (.iastore, 1) := dk_79 (dk_at dksX2_dropProof_2 7 rfl rfl)
theorem dX2_dropProof_53 : decode cX2_dropProof 53 = .ok (.iinc 2 1, 3) := dk_132 2 1 (dk_at dksX2_dropProof_2 8 rfl rfl)
theorem dX2_dropProof_56 : decode cX2_dropProof 56 = .ok (.goto (-39), 3) := dk_167 255 217 (dk_at dksX2_dropProof_2 11 rfl rfl)
theorem dX2_dropProof_59 : decode cX2_dropProof 59 = .ok (.aload_n 0, 1) := dk_42 (dk_at dksX2_dropProof_2 14 rfl rfl)
theorem dX2_dropProof_60 : decode cX2_dropProof 60 = .ok (.getfield 81, 3) := dk_180 0 81 (dk_at dksX2_dropProof_2 15 rfl rfl)
theorem dX2_dropProof_63 : decode cX2_dropProof 63 = .ok (.ireturn, 1) := dk_172 (dk_at dksX2_dropProof_2 18 rfl rfl)
abbrev cX2_checkProof : ByteArray := prog_8_method_4_code
def yX2_checkProof : MethodName := ⟨RX2, "checkProof", "(I)V"⟩
def dkwX2_checkProof_0 : List UInt8 := [27, 3, 42, 180, 0, 81, 4, 100, 184, 0, 84, 184, 0, 88, 177]
abbrev dktX2_checkProof_0 : List UInt8 := dkwX2_checkProof_0 ++ []
theorem dksX2_checkProof_0 : cX2_checkProof.data.toList.drop 0 = dktX2_checkProof_0 := by decide +kernel
theorem dX2_checkProof_0 : decode cX2_checkProof 0 = .ok (.iload_n 1, 1) := dk_27 (dk_at dksX2_checkProof_0 0 rfl rfl)
theorem dX2_checkProof_1 : decode cX2_checkProof 1 = .ok (.iconst 0, 1) := dk_3 (dk_at dksX2_checkProof_0 1 rfl rfl)
theorem dX2_checkProof_2 : decode cX2_checkProof 2 = .ok (.aload_n 0, 1) := dk_42 (dk_at dksX2_checkProof_0 2 rfl rfl)
theorem dX2_checkProof_3 : decode cX2_checkProof 3 = .ok (.getfield 81, 3) := dk_180 0 81 (dk_at dksX2_checkProof_0 3 rfl rfl)
theorem dX2_checkProof_6 : decode cX2_checkProof 6 = .ok (.iconst 1, 1) := dk_4 (dk_at dksX2_checkProof_0 6 rfl rfl)
theorem dX2_checkProof_7 : decode cX2_checkProof 7 = .ok (.isub, 1) := dk_100 (dk_at dksX2_checkProof_0 7 rfl rfl)
theorem dX2_checkProof_8 : decode cX2_checkProof 8 = .ok (.invokestatic 84, 3) := dk_184 0 84 (dk_at dksX2_checkProof_0 8 rfl rfl)
theorem dX2_checkProof_11 : decode cX2_checkProof 11 = .ok (.invokestatic 88, 3) := dk_184 0 88 (dk_at dksX2_checkProof_0 11 rfl rfl)
theorem dX2_checkProof_14 : decode cX2_checkProof 14 = .ok (.return_, 1) := dk_177 (dk_at dksX2_checkProof_0 14 rfl rfl)
abbrev cX2_sumOfRuns : ByteArray := prog_8_method_31_code
def yX2_sumOfRuns : MethodName := ⟨RX2, "sumOfRuns", "()I"⟩
def dkwX2_sumOfRuns_1 : List UInt8 := [132, 2, 1, 167, 255, 233, 27, 172]
abbrev dktX2_sumOfRuns_1 : List UInt8 := dkwX2_sumOfRuns_1 ++ []
def dkwX2_sumOfRuns_0 : List UInt8 := [3, 60, 3, 61, 28, 42, 180, 0, 59, 162, 0, 21, 27, 42, 180, 0, 23, 28, 50, 180, 0, 186, 96, 60]
abbrev dktX2_sumOfRuns_0 : List UInt8 := dkwX2_sumOfRuns_0 ++ dktX2_sumOfRuns_1
theorem dksX2_sumOfRuns_0 : cX2_sumOfRuns.data.toList.drop 0 = dktX2_sumOfRuns_0 := by decide +kernel
theorem dksX2_sumOfRuns_1 : cX2_sumOfRuns.data.toList.drop 24 = dktX2_sumOfRuns_1 := dk_seg dksX2_sumOfRuns_0 24 rfl rfl
theorem dX2_sumOfRuns_0 : decode cX2_sumOfRuns 0 = .ok (.iconst 0, 1) := dk_3 (dk_at dksX2_sumOfRuns_0 0 rfl rfl)
theorem dX2_sumOfRuns_1 : decode cX2_sumOfRuns 1 = .ok (.istore_n 1, 1) := dk_60 (dk_at dksX2_sumOfRuns_0 1 rfl rfl)
theorem dX2_sumOfRuns_2 : decode cX2_sumOfRuns 2 = .ok (.iconst 0, 1) := dk_3 (dk_at dksX2_sumOfRuns_0 2 rfl rfl)
theorem dX2_sumOfRuns_3 : decode cX2_sumOfRuns 3 = .ok (.istore_n 2, 1) := dk_61 (dk_at dksX2_sumOfRuns_0 3 rfl rfl)
theorem dX2_sumOfRuns_4 : decode cX2_sumOfRuns 4 = .ok (.iload_n 2, 1) := dk_28 (dk_at dksX2_sumOfRuns_0 4 rfl rfl)
theorem dX2_sumOfRuns_5 : decode cX2_sumOfRuns 5 = .ok (.aload_n 0, 1) := dk_42 (dk_at dksX2_sumOfRuns_0 5 rfl rfl)
theorem dX2_sumOfRuns_6 : decode cX2_sumOfRuns 6 = .ok (.getfield 59, 3) := dk_180 0 59 (dk_at dksX2_sumOfRuns_0 6 rfl rfl)
theorem dX2_sumOfRuns_9 : decode cX2_sumOfRuns 9 = .ok (.if_icmp .ge 21, 3) := dk_162 0 21 (dk_at dksX2_sumOfRuns_0 9 rfl rfl)
theorem dX2_sumOfRuns_12 : decode cX2_sumOfRuns 12 = .ok (.iload_n 1, 1) := dk_27 (dk_at dksX2_sumOfRuns_0 12 rfl rfl)
theorem dX2_sumOfRuns_13 : decode cX2_sumOfRuns 13 = .ok (.aload_n 0, 1) := dk_42 (dk_at dksX2_sumOfRuns_0 13 rfl rfl)
theorem dX2_sumOfRuns_14 : decode cX2_sumOfRuns 14 = .ok (.getfield 23, 3) := dk_180 0 23 (dk_at dksX2_sumOfRuns_0 14 rfl rfl)
theorem dX2_sumOfRuns_17 : decode cX2_sumOfRuns 17 = .ok (.iload_n 2, 1) := dk_28 (dk_at dksX2_sumOfRuns_0 17 rfl rfl)
theorem dX2_sumOfRuns_18 : decode cX2_sumOfRuns 18 = .ok (.aaload, 1) := dk_50 (dk_at dksX2_sumOfRuns_0 18 rfl rfl)
theorem dX2_sumOfRuns_19 : decode cX2_sumOfRuns 19 = .ok (.getfield 186, 3) := dk_180 0 186 (dk_at dksX2_sumOfRuns_0 19 rfl rfl)
theorem dX2_sumOfRuns_22 : decode cX2_sumOfRuns 22 = .ok (.iadd, 1) := dk_96 (dk_at dksX2_sumOfRuns_0 22 rfl rfl)
theorem dX2_sumOfRuns_23 : decode cX2_sumOfRuns 23 = .ok (.istore_n 1, 1) := dk_60 (dk_at dksX2_sumOfRuns_0 23 rfl rfl)
theorem dX2_sumOfRuns_24 : decode cX2_sumOfRuns 24 = .ok (.iinc 2 1, 3) := dk_132 2 1 (dk_at dksX2_sumOfRuns_1 0 rfl rfl)
theorem dX2_sumOfRuns_27 : decode cX2_sumOfRuns 27 = .ok (.goto (-23), 3) := dk_167 255 233 (dk_at dksX2_sumOfRuns_1 3 rfl rfl)
theorem dX2_sumOfRuns_30 : decode cX2_sumOfRuns 30 = .ok (.iload_n 1, 1) := dk_27 (dk_at dksX2_sumOfRuns_1 6 rfl rfl)
theorem dX2_sumOfRuns_31 : decode cX2_sumOfRuns 31 = .ok (.ireturn, 1) := dk_172 (dk_at dksX2_sumOfRuns_1 7 rfl rfl)
theorem q85 : (Jvm.Cond.initialized "InkPrintery$State") ∈ lw_all := lw_g (lw_at lw_m1 2 rfl) rfl
theorem q149 : (Jvm.Cond.instantiable "InkPrintery$State" (15 : Nat)) ∈ lw_all := lw_g (lw_at lw_m1 66 rfl) rfl
theorem q151 : (Jvm.Cond.instanceMethod ({ cls := "InkPrintery$State", name := "<init>", desc := "()V" } : Jvm.MethodName)) ∈ lw_all := lw_g (lw_at lw_m1 68 rfl) rfl
theorem q152 : (Jvm.Cond.code ({ cls := "InkPrintery$State", name := "<init>", desc := "()V" } : Jvm.MethodName) prog_8_method_1_code (2 : Nat) (Option.none : Option Jvm.ClassFile.FieldType)) ∈ lw_all := lw_g (lw_at lw_m1 69 rfl) rfl
theorem q153 : (Jvm.Cond.methodLink "InkPrintery$State" (3 : Nat) ({ cls := "java/lang/Object", name := "<init>", desc := "()V" } : Jvm.MethodName)) ∈ lw_all := lw_g (lw_at lw_m1 70 rfl) rfl
theorem q154 : (Jvm.Cond.classLink "InkPrintery$State" (15 : Nat) "InkPrintery$Fading") ∈ lw_all := lw_g (lw_at lw_m1 71 rfl) rfl
theorem q156 : (Jvm.Cond.classLink "InkPrintery$State" (21 : Nat) "InkPrintery$Edition") ∈ lw_all := lw_g (lw_at lw_m1 73 rfl) rfl
theorem q158 : (Jvm.Cond.methodLink "InkPrintery$State" (33 : Nat) ({ cls := "InkPrintery$Cost", name := "ofPress", desc := "()LInkPrintery$Cost;" } : Jvm.MethodName)) ∈ lw_all := lw_g (lw_at lw_m1 75 rfl) rfl
theorem q170 : (Jvm.Cond.methodLink "InkPrintery$State" (43 : Nat) ({ cls := "InkPrintery$Fading", name := "<init>", desc := "(I)V" } : Jvm.MethodName)) ∈ lw_all := lw_g (lw_at lw_m1 87 rfl) rfl
theorem q178 : (Jvm.Cond.fieldLink "InkPrintery$State" (9 : Nat) "InkPrintery$State" "wells" "[I") ∈ lw_all := lw_g (lw_at lw_m1 95 rfl) rfl
theorem q180 : (Jvm.Cond.fieldLink "InkPrintery$State" (17 : Nat) "InkPrintery$State" "fadings" "[LInkPrintery$Fading;") ∈ lw_all := lw_g (lw_at lw_m1 97 rfl) rfl
theorem q181 : (Jvm.Cond.fieldLink "InkPrintery$State" (52 : Nat) "InkPrintery$State" "hour" "I") ∈ lw_all := lw_g (lw_at lw_m1 98 rfl) rfl
theorem q183 : (Jvm.Cond.fieldLink "InkPrintery$State" (56 : Nat) "InkPrintery$State" "paper" "I") ∈ lw_all := lw_g (lw_at lw_m1 100 rfl) rfl
theorem q185 : (Jvm.Cond.fieldLink "InkPrintery$State" (23 : Nat) "InkPrintery$State" "editions" "[LInkPrintery$Edition;") ∈ lw_all := lw_g (lw_at lw_m1 102 rfl) rfl
theorem q188 : (Jvm.Cond.fieldLink "InkPrintery$State" (59 : Nat) "InkPrintery$State" "editionCount" "I") ∈ lw_all := lw_g (lw_at lw_m1 105 rfl) rfl
theorem q190 : (Jvm.Cond.fieldLink "InkPrintery$State" (65 : Nat) "InkPrintery$State" "pressColour" "I") ∈ lw_all := lw_g (lw_at lw_m1 107 rfl) rfl
theorem q193 : (Jvm.Cond.fieldLink "InkPrintery$State" (68 : Nat) "InkPrintery$State" "minutes" "I") ∈ lw_all := lw_g (lw_at lw_m1 110 rfl) rfl
theorem q195 : (Jvm.Cond.fieldLink "InkPrintery$State" (71 : Nat) "InkPrintery$State" "poured" "I") ∈ lw_all := lw_g (lw_at lw_m1 112 rfl) rfl
theorem q197 : (Jvm.Cond.fieldLink "InkPrintery$State" (74 : Nat) "InkPrintery$State" "used" "I") ∈ lw_all := lw_g (lw_at lw_m1 114 rfl) rfl
theorem q199 : (Jvm.Cond.fieldLink "InkPrintery$State" (77 : Nat) "InkPrintery$State" "faded" "J") ∈ lw_all := lw_g (lw_at lw_m1 116 rfl) rfl
theorem q201 : (Jvm.Cond.fieldLink "InkPrintery$State" (27 : Nat) "InkPrintery$State" "marks" "[I") ∈ lw_all := lw_g (lw_at lw_m1 118 rfl) rfl
theorem q203 : (Jvm.Cond.fieldLink "InkPrintery$State" (30 : Nat) "InkPrintery$State" "hours" "[I") ∈ lw_all := lw_g (lw_at lw_m1 120 rfl) rfl
theorem q205 : (Jvm.Cond.fieldLink "InkPrintery$State" (81 : Nat) "InkPrintery$State" "proofCount" "I") ∈ lw_all := lw_g (lw_at lw_m1 122 rfl) rfl
theorem q207 : (Jvm.Cond.fieldLink "InkPrintery$State" (39 : Nat) "InkPrintery$State" "cost" "LInkPrintery$Cost;") ∈ lw_all := lw_g (lw_at lw_m1 124 rfl) rfl
theorem q210 : (Jvm.Cond.laysFinal "InkPrintery$State" "InkPrintery$State" "wells" "[I") ∈ lw_all := lw_g (lw_at lw_m1 127 rfl) rfl
theorem q211 : (Jvm.Cond.soleField "InkPrintery$State" "wells") ∈ lw_all := lw_g (lw_at lw_m1 128 rfl) rfl
theorem q212 : (Jvm.Cond.laysFinal "InkPrintery$State" "InkPrintery$State" "fadings" "[LInkPrintery$Fading;") ∈ lw_all := lw_g (lw_at lw_m1 129 rfl) rfl
theorem q213 : (Jvm.Cond.soleField "InkPrintery$State" "fadings") ∈ lw_all := lw_g (lw_at lw_m1 130 rfl) rfl
theorem q214 : (Jvm.Cond.lays "InkPrintery$State" "InkPrintery$State" "hour" "I") ∈ lw_all := lw_g (lw_at lw_m1 131 rfl) rfl
theorem q215 : (Jvm.Cond.soleField "InkPrintery$State" "hour") ∈ lw_all := lw_g (lw_at lw_m1 132 rfl) rfl
theorem q216 : (Jvm.Cond.lays "InkPrintery$State" "InkPrintery$State" "paper" "I") ∈ lw_all := lw_g (lw_at lw_m1 133 rfl) rfl
theorem q217 : (Jvm.Cond.soleField "InkPrintery$State" "paper") ∈ lw_all := lw_g (lw_at lw_m1 134 rfl) rfl
theorem q218 : (Jvm.Cond.laysFinal "InkPrintery$State" "InkPrintery$State" "editions" "[LInkPrintery$Edition;") ∈ lw_all := lw_g (lw_at lw_m1 135 rfl) rfl
theorem q219 : (Jvm.Cond.soleField "InkPrintery$State" "editions") ∈ lw_all := lw_g (lw_at lw_m1 136 rfl) rfl
theorem q220 : (Jvm.Cond.lays "InkPrintery$State" "InkPrintery$State" "editionCount" "I") ∈ lw_all := lw_g (lw_at lw_m1 137 rfl) rfl
theorem q221 : (Jvm.Cond.soleField "InkPrintery$State" "editionCount") ∈ lw_all := lw_g (lw_at lw_m1 138 rfl) rfl
theorem q222 : (Jvm.Cond.lays "InkPrintery$State" "InkPrintery$State" "pressColour" "I") ∈ lw_all := lw_g (lw_at lw_m1 139 rfl) rfl
theorem q223 : (Jvm.Cond.soleField "InkPrintery$State" "pressColour") ∈ lw_all := lw_g (lw_at lw_m1 140 rfl) rfl
theorem q224 : (Jvm.Cond.lays "InkPrintery$State" "InkPrintery$State" "minutes" "I") ∈ lw_all := lw_g (lw_at lw_m1 141 rfl) rfl
theorem q225 : (Jvm.Cond.soleField "InkPrintery$State" "minutes") ∈ lw_all := lw_g (lw_at lw_m1 142 rfl) rfl
theorem q226 : (Jvm.Cond.lays "InkPrintery$State" "InkPrintery$State" "poured" "I") ∈ lw_all := lw_g (lw_at lw_m1 143 rfl) rfl
theorem q227 : (Jvm.Cond.soleField "InkPrintery$State" "poured") ∈ lw_all := lw_g (lw_at lw_m1 144 rfl) rfl
theorem q228 : (Jvm.Cond.lays "InkPrintery$State" "InkPrintery$State" "used" "I") ∈ lw_all := lw_g (lw_at lw_m1 145 rfl) rfl
theorem q229 : (Jvm.Cond.soleField "InkPrintery$State" "used") ∈ lw_all := lw_g (lw_at lw_m1 146 rfl) rfl
theorem q230 : (Jvm.Cond.lays "InkPrintery$State" "InkPrintery$State" "faded" "J") ∈ lw_all := lw_g (lw_at lw_m1 147 rfl) rfl
theorem q231 : (Jvm.Cond.soleField "InkPrintery$State" "faded") ∈ lw_all := lw_g (lw_at lw_m1 148 rfl) rfl
theorem q232 : (Jvm.Cond.laysFinal "InkPrintery$State" "InkPrintery$State" "marks" "[I") ∈ lw_all := lw_g (lw_at lw_m1 149 rfl) rfl
theorem q233 : (Jvm.Cond.soleField "InkPrintery$State" "marks") ∈ lw_all := lw_g (lw_at lw_m1 150 rfl) rfl
theorem q234 : (Jvm.Cond.laysFinal "InkPrintery$State" "InkPrintery$State" "hours" "[I") ∈ lw_all := lw_g (lw_at lw_m1 151 rfl) rfl
theorem q235 : (Jvm.Cond.soleField "InkPrintery$State" "hours") ∈ lw_all := lw_g (lw_at lw_m1 152 rfl) rfl
theorem q236 : (Jvm.Cond.lays "InkPrintery$State" "InkPrintery$State" "proofCount" "I") ∈ lw_all := lw_g (lw_at lw_m1 153 rfl) rfl
theorem q237 : (Jvm.Cond.soleField "InkPrintery$State" "proofCount") ∈ lw_all := lw_g (lw_at lw_m1 154 rfl) rfl
theorem q238 : (Jvm.Cond.laysFinal "InkPrintery$State" "InkPrintery$State" "cost" "LInkPrintery$Cost;") ∈ lw_all := lw_g (lw_at lw_m1 155 rfl) rfl
theorem q239 : (Jvm.Cond.soleField "InkPrintery$State" "cost") ∈ lw_all := lw_g (lw_at lw_m1 156 rfl) rfl
theorem q240 : (Jvm.Cond.superclass "InkPrintery$State" "java/lang/Object") ∈ lw_all := lw_g (lw_at lw_m1 157 rfl) rfl
theorem q502 : (Jvm.Cond.selects "InkPrintery$State" ({ cls := "java/lang/Object", name := "getClass", desc := "()Ljava/lang/Class;" } : Jvm.MethodName) ({ cls := "java/lang/Object", name := "getClass", desc := "()Ljava/lang/Class;" } : Jvm.MethodName)) ∈ lw_all := lw_g (lw_at lw_m2 179 rfl) rfl
theorem q594 : (Jvm.Cond.instanceMethod ({ cls := "InkPrintery$State", name := "copyFrom", desc := "(LInkPrintery$State;)V" } : Jvm.MethodName)) ∈ lw_all := lw_g (lw_at lw_m3 31 rfl) rfl
theorem q595 : (Jvm.Cond.selects "InkPrintery$State" ({ cls := "InkPrintery$State", name := "copyFrom", desc := "(LInkPrintery$State;)V" } : Jvm.MethodName) ({ cls := "InkPrintery$State", name := "copyFrom", desc := "(LInkPrintery$State;)V" } : Jvm.MethodName)) ∈ lw_all := lw_g (lw_at lw_m3 32 rfl) rfl
theorem q596 : (Jvm.Cond.code ({ cls := "InkPrintery$State", name := "copyFrom", desc := "(LInkPrintery$State;)V" } : Jvm.MethodName) prog_8_method_2_code (3 : Nat) (Option.none : Option Jvm.ClassFile.FieldType)) ∈ lw_all := lw_g (lw_at lw_m3 33 rfl) rfl
theorem q597 : (Jvm.Cond.methodLink "InkPrintery$State" (46 : Nat) ({ cls := "java/lang/System", name := "arraycopy", desc := "(Ljava/lang/Object;ILjava/lang/Object;II)V" } : Jvm.MethodName)) ∈ lw_all := lw_g (lw_at lw_m3 34 rfl) rfl
theorem q599 : (Jvm.Cond.methodLink "InkPrintery$State" (62 : Nat) ({ cls := "InkPrintery$Edition", name := "<init>", desc := "(LInkPrintery$Edition;)V" } : Jvm.MethodName)) ∈ lw_all := lw_g (lw_at lw_m3 36 rfl) rfl
theorem q608 : (Jvm.Cond.fieldLinkNest "InkPrintery$State" (148 : Nat) "InkPrintery$Edition" "colour" "I" "InkPrintery") ∈ lw_tbl := lw_at lw_m3 45 rfl
theorem q612 : (Jvm.Cond.fieldLinkNest "InkPrintery$State" (186 : Nat) "InkPrintery$Edition" "copies" "I" "InkPrintery") ∈ lw_tbl := lw_at lw_m3 49 rfl
theorem q614 : (Jvm.Cond.fieldLinkNest "InkPrintery$State" (154 : Nat) "InkPrintery$Edition" "printed" "I" "InkPrintery") ∈ lw_tbl := lw_at lw_m3 51 rfl
theorem q624 : (Jvm.Cond.instanceMethod ({ cls := "InkPrintery$State", name := "printAll", desc := "()I" } : Jvm.MethodName)) ∈ lw_all := lw_g (lw_at lw_m3 61 rfl) rfl
theorem q625 : (Jvm.Cond.selects "InkPrintery$State" ({ cls := "InkPrintery$State", name := "printAll", desc := "()I" } : Jvm.MethodName) ({ cls := "InkPrintery$State", name := "printAll", desc := "()I" } : Jvm.MethodName)) ∈ lw_all := lw_g (lw_at lw_m3 62 rfl) rfl
theorem q626 : (Jvm.Cond.code ({ cls := "InkPrintery$State", name := "printAll", desc := "()I" } : Jvm.MethodName) prog_8_method_23_code (9 : Nat) (Option.some Jvm.ClassFile.FieldType.int)) ∈ lw_all := lw_g (lw_at lw_m3 63 rfl) rfl
theorem q627 : (Jvm.Cond.methodLink "InkPrintery$State" (168 : Nat) ({ cls := "InkPrintery$State", name := "bestOrder", desc := "()[I" } : Jvm.MethodName)) ∈ lw_all := lw_g (lw_at lw_m3 64 rfl) rfl
theorem q628 : (Jvm.Cond.instanceMethod ({ cls := "InkPrintery$State", name := "bestOrder", desc := "()[I" } : Jvm.MethodName)) ∈ lw_all := lw_g (lw_at lw_m3 65 rfl) rfl
theorem q629 : (Jvm.Cond.selects "InkPrintery$State" ({ cls := "InkPrintery$State", name := "bestOrder", desc := "()[I" } : Jvm.MethodName) ({ cls := "InkPrintery$State", name := "bestOrder", desc := "()[I" } : Jvm.MethodName)) ∈ lw_all := lw_g (lw_at lw_m3 66 rfl) rfl
theorem q630 : (Jvm.Cond.code ({ cls := "InkPrintery$State", name := "bestOrder", desc := "()[I" } : Jvm.MethodName) prog_8_method_13_code (1 : Nat) (Option.some (Jvm.ClassFile.FieldType.array Jvm.ClassFile.FieldType.int))) ∈ lw_all := lw_g (lw_at lw_m3 67 rfl) rfl
theorem q631 : (Jvm.Cond.classLink "InkPrintery$State" (113 : Nat) "InkPrintery$State$OrderSearch") ∈ lw_all := lw_g (lw_at lw_m3 68 rfl) rfl
theorem q633 : (Jvm.Cond.methodLink "InkPrintery$State" (115 : Nat) ({ cls := "InkPrintery$State$OrderSearch", name := "<init>", desc := "(LInkPrintery$State;)V" } : Jvm.MethodName)) ∈ lw_all := lw_g (lw_at lw_m3 70 rfl) rfl
theorem q683 : (Jvm.Cond.methodLink "InkPrintery$State" (118 : Nat) ({ cls := "InkPrintery$State$OrderSearch", name := "best", desc := "()[I" } : Jvm.MethodName)) ∈ lw_all := lw_g (lw_at lw_m3 120 rfl) rfl
theorem q687 : (Jvm.Cond.methodLink "InkPrintery$State" (171 : Nat) ({ cls := "InkPrintery$State", name := "shares", desc := "()[I" } : Jvm.MethodName)) ∈ lw_all := lw_g (lw_at lw_m3 124 rfl) rfl
theorem q688 : (Jvm.Cond.instanceMethod ({ cls := "InkPrintery$State", name := "shares", desc := "()[I" } : Jvm.MethodName)) ∈ lw_all := lw_g (lw_at lw_m3 125 rfl) rfl
theorem q689 : (Jvm.Cond.selects "InkPrintery$State" ({ cls := "InkPrintery$State", name := "shares", desc := "()[I" } : Jvm.MethodName) ({ cls := "InkPrintery$State", name := "shares", desc := "()[I" } : Jvm.MethodName)) ∈ lw_all := lw_g (lw_at lw_m3 126 rfl) rfl
theorem q690 : (Jvm.Cond.code ({ cls := "InkPrintery$State", name := "shares", desc := "()[I" } : Jvm.MethodName) prog_8_method_15_code (4 : Nat) (Option.some (Jvm.ClassFile.FieldType.array Jvm.ClassFile.FieldType.int))) ∈ lw_all := lw_g (lw_at lw_m3 127 rfl) rfl
theorem q691 : (Jvm.Cond.methodLink "InkPrintery$State" (125 : Nat) ({ cls := "InkPrintery$State", name := "nextToGet", desc := "([I)I" } : Jvm.MethodName)) ∈ lw_all := lw_g (lw_at lw_m3 128 rfl) rfl
theorem q692 : (Jvm.Cond.privateMethod ({ cls := "InkPrintery$State", name := "nextToGet", desc := "([I)I" } : Jvm.MethodName)) ∈ lw_tbl := lw_at lw_m3 129 rfl
theorem q693 : (Jvm.Cond.instanceMethod ({ cls := "InkPrintery$State", name := "nextToGet", desc := "([I)I" } : Jvm.MethodName)) ∈ lw_all := lw_g (lw_at lw_m3 130 rfl) rfl
theorem q694 : (Jvm.Cond.code ({ cls := "InkPrintery$State", name := "nextToGet", desc := "([I)I" } : Jvm.MethodName) prog_8_method_14_code (4 : Nat) (Option.some Jvm.ClassFile.FieldType.int)) ∈ lw_all := lw_g (lw_at lw_m3 131 rfl) rfl
theorem q695 : (Jvm.Cond.methodLink "InkPrintery$State" (122 : Nat) ({ cls := "InkPrintery$Edition", name := "missing", desc := "()I" } : Jvm.MethodName)) ∈ lw_all := lw_g (lw_at lw_m3 132 rfl) rfl
theorem q699 : (Jvm.Cond.methodLink "InkPrintery$State" (129 : Nat) ({ cls := "java/lang/Math", name := "min", desc := "(II)I" } : Jvm.MethodName)) ∈ lw_all := lw_g (lw_at lw_m3 136 rfl) rfl
theorem q700 : (Jvm.Cond.methodLink "InkPrintery$State" (164 : Nat) ({ cls := "InkPrintery$State", name := "printCopies", desc := "(LInkPrintery$Edition;I)V" } : Jvm.MethodName)) ∈ lw_all := lw_g (lw_at lw_m3 137 rfl) rfl
theorem q701 : (Jvm.Cond.privateMethod ({ cls := "InkPrintery$State", name := "printCopies", desc := "(LInkPrintery$Edition;I)V" } : Jvm.MethodName)) ∈ lw_tbl := lw_at lw_m3 138 rfl
theorem q702 : (Jvm.Cond.instanceMethod ({ cls := "InkPrintery$State", name := "printCopies", desc := "(LInkPrintery$Edition;I)V" } : Jvm.MethodName)) ∈ lw_all := lw_g (lw_at lw_m3 139 rfl) rfl
theorem q703 : (Jvm.Cond.code ({ cls := "InkPrintery$State", name := "printCopies", desc := "(LInkPrintery$Edition;I)V" } : Jvm.MethodName) prog_8_method_21_code (3 : Nat) (Option.none : Option Jvm.ClassFile.FieldType)) ∈ lw_all := lw_g (lw_at lw_m3 140 rfl) rfl
theorem q704 : (Jvm.Cond.interfaceEntry "InkPrintery$State" (151 : Nat)) ∈ lw_tbl := lw_at lw_m3 141 rfl
theorem q705 : (Jvm.Cond.methodLink "InkPrintery$State" (151 : Nat) ({ cls := "InkPrintery$Cost", name := "of", desc := "(II)I" } : Jvm.MethodName)) ∈ lw_all := lw_g (lw_at lw_m3 142 rfl) rfl
theorem q779 : (Jvm.Cond.instanceMethod ({ cls := "InkPrintery$State", name := "longestRise", desc := "()I" } : Jvm.MethodName)) ∈ lw_all := lw_g (lw_at lw_m3 216 rfl) rfl
theorem q780 : (Jvm.Cond.selects "InkPrintery$State" ({ cls := "InkPrintery$State", name := "longestRise", desc := "()I" } : Jvm.MethodName) ({ cls := "InkPrintery$State", name := "longestRise", desc := "()I" } : Jvm.MethodName)) ∈ lw_all := lw_g (lw_at lw_m3 217 rfl) rfl
theorem q781 : (Jvm.Cond.code ({ cls := "InkPrintery$State", name := "longestRise", desc := "()I" } : Jvm.MethodName) prog_8_method_28_code (6 : Nat) (Option.some Jvm.ClassFile.FieldType.int)) ∈ lw_all := lw_g (lw_at lw_m3 218 rfl) rfl
theorem q782 : (Jvm.Cond.methodLink "InkPrintery$State" (180 : Nat) ({ cls := "InkPrintery$State", name := "lengths", desc := "()[I" } : Jvm.MethodName)) ∈ lw_all := lw_g (lw_at lw_m3 219 rfl) rfl
theorem q783 : (Jvm.Cond.privateMethod ({ cls := "InkPrintery$State", name := "lengths", desc := "()[I" } : Jvm.MethodName)) ∈ lw_tbl := lw_at lw_m3 220 rfl
theorem q784 : (Jvm.Cond.instanceMethod ({ cls := "InkPrintery$State", name := "lengths", desc := "()[I" } : Jvm.MethodName)) ∈ lw_all := lw_g (lw_at lw_m3 221 rfl) rfl
theorem q785 : (Jvm.Cond.code ({ cls := "InkPrintery$State", name := "lengths", desc := "()[I" } : Jvm.MethodName) prog_8_method_27_code (4 : Nat) (Option.some (Jvm.ClassFile.FieldType.array Jvm.ClassFile.FieldType.int))) ∈ lw_all := lw_g (lw_at lw_m3 222 rfl) rfl
theorem q786 : (Jvm.Cond.methodLink "InkPrintery$State" (177 : Nat) ({ cls := "java/lang/Math", name := "max", desc := "(II)I" } : Jvm.MethodName)) ∈ lw_all := lw_g (lw_at lw_m3 223 rfl) rfl
theorem q794 : (Jvm.Cond.instanceMethod ({ cls := "InkPrintery$State", name := "riseByEnds", desc := "()I" } : Jvm.MethodName)) ∈ lw_all := lw_g (lw_at lw_m3 231 rfl) rfl
theorem q795 : (Jvm.Cond.selects "InkPrintery$State" ({ cls := "InkPrintery$State", name := "riseByEnds", desc := "()I" } : Jvm.MethodName) ({ cls := "InkPrintery$State", name := "riseByEnds", desc := "()I" } : Jvm.MethodName)) ∈ lw_all := lw_g (lw_at lw_m3 232 rfl) rfl
theorem q796 : (Jvm.Cond.code ({ cls := "InkPrintery$State", name := "riseByEnds", desc := "()I" } : Jvm.MethodName) prog_8_method_29_code (7 : Nat) (Option.some Jvm.ClassFile.FieldType.int)) ∈ lw_all := lw_g (lw_at lw_m3 233 rfl) rfl
theorem q802 : (Jvm.Cond.instanceMethod ({ cls := "InkPrintery$State", name := "riseCount", desc := "()I" } : Jvm.MethodName)) ∈ lw_all := lw_g (lw_at lw_m3 239 rfl) rfl
theorem q803 : (Jvm.Cond.selects "InkPrintery$State" ({ cls := "InkPrintery$State", name := "riseCount", desc := "()I" } : Jvm.MethodName) ({ cls := "InkPrintery$State", name := "riseCount", desc := "()I" } : Jvm.MethodName)) ∈ lw_all := lw_g (lw_at lw_m4 0 rfl) rfl
theorem q804 : (Jvm.Cond.code ({ cls := "InkPrintery$State", name := "riseCount", desc := "()I" } : Jvm.MethodName) prog_8_method_30_code (8 : Nat) (Option.some Jvm.ClassFile.FieldType.int)) ∈ lw_all := lw_g (lw_at lw_m4 1 rfl) rfl
theorem q805 : (Jvm.Cond.methodLink "InkPrintery$State" (183 : Nat) ({ cls := "InkPrintery$State", name := "longestRise", desc := "()I" } : Jvm.MethodName)) ∈ lw_all := lw_g (lw_at lw_m4 2 rfl) rfl
theorem q827 : (Jvm.Cond.instanceMethod ({ cls := "InkPrintery$State", name := "inkInWells", desc := "()I" } : Jvm.MethodName)) ∈ lw_all := lw_g (lw_at lw_m4 24 rfl) rfl
theorem q828 : (Jvm.Cond.selects "InkPrintery$State" ({ cls := "InkPrintery$State", name := "inkInWells", desc := "()I" } : Jvm.MethodName) ({ cls := "InkPrintery$State", name := "inkInWells", desc := "()I" } : Jvm.MethodName)) ∈ lw_all := lw_g (lw_at lw_m4 25 rfl) rfl
theorem q829 : (Jvm.Cond.code ({ cls := "InkPrintery$State", name := "inkInWells", desc := "()I" } : Jvm.MethodName) prog_8_method_12_code (6 : Nat) (Option.some Jvm.ClassFile.FieldType.int)) ∈ lw_all := lw_g (lw_at lw_m4 26 rfl) rfl
theorem q1221 : (Jvm.Cond.instanceMethod ({ cls := "InkPrintery$State", name := "writeWells", desc := "(Ljava/lang/StringBuilder;)V" } : Jvm.MethodName)) ∈ lw_all := lw_g (lw_at lw_m5 178 rfl) rfl
theorem q1222 : (Jvm.Cond.selects "InkPrintery$State" ({ cls := "InkPrintery$State", name := "writeWells", desc := "(Ljava/lang/StringBuilder;)V" } : Jvm.MethodName) ({ cls := "InkPrintery$State", name := "writeWells", desc := "(Ljava/lang/StringBuilder;)V" } : Jvm.MethodName)) ∈ lw_all := lw_g (lw_at lw_m5 179 rfl) rfl
theorem q1223 : (Jvm.Cond.code ({ cls := "InkPrintery$State", name := "writeWells", desc := "(Ljava/lang/StringBuilder;)V" } : Jvm.MethodName) prog_8_method_35_code (3 : Nat) (Option.none : Option Jvm.ClassFile.FieldType)) ∈ lw_all := lw_g (lw_at lw_m5 180 rfl) rfl
theorem q1224 : (Jvm.Cond.stringRef "InkPrintery$State" (216 : Nat) "") ∈ lw_tbl := lw_at lw_m5 181 rfl
theorem q1225 : (Jvm.Cond.stringRef "InkPrintery$State" (218 : Nat) " ") ∈ lw_tbl := lw_at lw_m5 182 rfl
theorem q1226 : (Jvm.Cond.methodLink "InkPrintery$State" (220 : Nat) ({ cls := "java/lang/StringBuilder", name := "append", desc := "(Ljava/lang/String;)Ljava/lang/StringBuilder;" } : Jvm.MethodName)) ∈ lw_all := lw_g (lw_at lw_m5 183 rfl) rfl
theorem q1227 : (Jvm.Cond.methodLink "InkPrintery$State" (226 : Nat) ({ cls := "java/lang/StringBuilder", name := "append", desc := "(I)Ljava/lang/StringBuilder;" } : Jvm.MethodName)) ∈ lw_all := lw_g (lw_at lw_m5 184 rfl) rfl
theorem q1234 : (Jvm.Cond.instanceMethod ({ cls := "InkPrintery$State", name := "isConsistent", desc := "()Z" } : Jvm.MethodName)) ∈ lw_all := lw_g (lw_at lw_m5 191 rfl) rfl
theorem q1235 : (Jvm.Cond.selects "InkPrintery$State" ({ cls := "InkPrintery$State", name := "isConsistent", desc := "()Z" } : Jvm.MethodName) ({ cls := "InkPrintery$State", name := "isConsistent", desc := "()Z" } : Jvm.MethodName)) ∈ lw_all := lw_g (lw_at lw_m5 192 rfl) rfl
theorem q1236 : (Jvm.Cond.code ({ cls := "InkPrintery$State", name := "isConsistent", desc := "()Z" } : Jvm.MethodName) prog_8_method_34_code (2 : Nat) (Option.some Jvm.ClassFile.FieldType.boolean)) ∈ lw_all := lw_g (lw_at lw_m5 193 rfl) rfl
theorem q1237 : (Jvm.Cond.methodLink "InkPrintery$State" (201 : Nat) ({ cls := "InkPrintery$State$OrderSearch", name := "fewestMinutes", desc := "()I" } : Jvm.MethodName)) ∈ lw_all := lw_g (lw_at lw_m5 194 rfl) rfl
theorem q1238 : (Jvm.Cond.methodLink "InkPrintery$State" (204 : Nat) ({ cls := "InkPrintery$State$OrderSearch", name := "minutesByOrders", desc := "()I" } : Jvm.MethodName)) ∈ lw_all := lw_g (lw_at lw_m5 195 rfl) rfl
theorem q1239 : (Jvm.Cond.methodLink "InkPrintery$State" (207 : Nat) ({ cls := "InkPrintery$State", name := "isInkConsistent", desc := "()Z" } : Jvm.MethodName)) ∈ lw_all := lw_g (lw_at lw_m5 196 rfl) rfl
theorem q1240 : (Jvm.Cond.privateMethod ({ cls := "InkPrintery$State", name := "isInkConsistent", desc := "()Z" } : Jvm.MethodName)) ∈ lw_tbl := lw_at lw_m5 197 rfl
theorem q1241 : (Jvm.Cond.instanceMethod ({ cls := "InkPrintery$State", name := "isInkConsistent", desc := "()Z" } : Jvm.MethodName)) ∈ lw_all := lw_g (lw_at lw_m5 198 rfl) rfl
theorem q1242 : (Jvm.Cond.code ({ cls := "InkPrintery$State", name := "isInkConsistent", desc := "()Z" } : Jvm.MethodName) prog_8_method_32_code (3 : Nat) (Option.some Jvm.ClassFile.FieldType.boolean)) ∈ lw_all := lw_g (lw_at lw_m5 199 rfl) rfl
theorem q1243 : (Jvm.Cond.methodLink "InkPrintery$State" (189 : Nat) ({ cls := "InkPrintery$State", name := "inkInWells", desc := "()I" } : Jvm.MethodName)) ∈ lw_all := lw_g (lw_at lw_m5 200 rfl) rfl
theorem q1244 : (Jvm.Cond.methodLink "InkPrintery$State" (192 : Nat) ({ cls := "InkPrintery$State", name := "inkAfter", desc := "(II)I" } : Jvm.MethodName)) ∈ lw_all := lw_g (lw_at lw_m5 201 rfl) rfl
theorem q1245 : (Jvm.Cond.instanceMethod ({ cls := "InkPrintery$State", name := "inkAfter", desc := "(II)I" } : Jvm.MethodName)) ∈ lw_all := lw_g (lw_at lw_m5 202 rfl) rfl
theorem q1246 : (Jvm.Cond.selects "InkPrintery$State" ({ cls := "InkPrintery$State", name := "inkAfter", desc := "(II)I" } : Jvm.MethodName) ({ cls := "InkPrintery$State", name := "inkAfter", desc := "(II)I" } : Jvm.MethodName)) ∈ lw_all := lw_g (lw_at lw_m5 203 rfl) rfl
theorem q1247 : (Jvm.Cond.code ({ cls := "InkPrintery$State", name := "inkAfter", desc := "(II)I" } : Jvm.MethodName) prog_8_method_9_code (5 : Nat) (Option.some Jvm.ClassFile.FieldType.int)) ∈ lw_all := lw_g (lw_at lw_m5 204 rfl) rfl
theorem q1248 : (Jvm.Cond.methodLink "InkPrintery$State" (102 : Nat) ({ cls := "InkPrintery$Fading", name := "isAt", desc := "(I)Z" } : Jvm.MethodName)) ∈ lw_all := lw_g (lw_at lw_m5 205 rfl) rfl
theorem q1252 : (Jvm.Cond.methodLink "InkPrintery$State" (195 : Nat) ({ cls := "InkPrintery$State", name := "inkByHalvings", desc := "(II)I" } : Jvm.MethodName)) ∈ lw_all := lw_g (lw_at lw_m5 209 rfl) rfl
theorem q1253 : (Jvm.Cond.instanceMethod ({ cls := "InkPrintery$State", name := "inkByHalvings", desc := "(II)I" } : Jvm.MethodName)) ∈ lw_all := lw_g (lw_at lw_m5 210 rfl) rfl
theorem q1254 : (Jvm.Cond.selects "InkPrintery$State" ({ cls := "InkPrintery$State", name := "inkByHalvings", desc := "(II)I" } : Jvm.MethodName) ({ cls := "InkPrintery$State", name := "inkByHalvings", desc := "(II)I" } : Jvm.MethodName)) ∈ lw_all := lw_g (lw_at lw_m5 211 rfl) rfl
theorem q1255 : (Jvm.Cond.code ({ cls := "InkPrintery$State", name := "inkByHalvings", desc := "(II)I" } : Jvm.MethodName) prog_8_method_10_code (4 : Nat) (Option.some Jvm.ClassFile.FieldType.int)) ∈ lw_all := lw_g (lw_at lw_m5 212 rfl) rfl
theorem q1256 : (Jvm.Cond.methodLink "InkPrintery$State" (109 : Nat) ({ cls := "InkPrintery$Fading", name := "halvings", desc := "(II)I" } : Jvm.MethodName)) ∈ lw_all := lw_g (lw_at lw_m5 213 rfl) rfl
theorem q1260 : (Jvm.Cond.methodLink "InkPrintery$State" (210 : Nat) ({ cls := "InkPrintery$State", name := "areSharesConsistent", desc := "()Z" } : Jvm.MethodName)) ∈ lw_all := lw_g (lw_at lw_m5 217 rfl) rfl
theorem q1261 : (Jvm.Cond.privateMethod ({ cls := "InkPrintery$State", name := "areSharesConsistent", desc := "()Z" } : Jvm.MethodName)) ∈ lw_tbl := lw_at lw_m5 218 rfl
theorem q1262 : (Jvm.Cond.instanceMethod ({ cls := "InkPrintery$State", name := "areSharesConsistent", desc := "()Z" } : Jvm.MethodName)) ∈ lw_all := lw_g (lw_at lw_m5 219 rfl) rfl
theorem q1263 : (Jvm.Cond.code ({ cls := "InkPrintery$State", name := "areSharesConsistent", desc := "()Z" } : Jvm.MethodName) prog_8_method_33_code (4 : Nat) (Option.some Jvm.ClassFile.FieldType.boolean)) ∈ lw_all := lw_g (lw_at lw_m5 220 rfl) rfl
theorem q1264 : (Jvm.Cond.methodLink "InkPrintery$State" (198 : Nat) ({ cls := "InkPrintery$State", name := "shareByLevel", desc := "(I)I" } : Jvm.MethodName)) ∈ lw_all := lw_g (lw_at lw_m5 221 rfl) rfl
theorem q1265 : (Jvm.Cond.instanceMethod ({ cls := "InkPrintery$State", name := "shareByLevel", desc := "(I)I" } : Jvm.MethodName)) ∈ lw_all := lw_g (lw_at lw_m5 222 rfl) rfl
theorem q1266 : (Jvm.Cond.selects "InkPrintery$State" ({ cls := "InkPrintery$State", name := "shareByLevel", desc := "(I)I" } : Jvm.MethodName) ({ cls := "InkPrintery$State", name := "shareByLevel", desc := "(I)I" } : Jvm.MethodName)) ∈ lw_all := lw_g (lw_at lw_m5 223 rfl) rfl
theorem q1267 : (Jvm.Cond.code ({ cls := "InkPrintery$State", name := "shareByLevel", desc := "(I)I" } : Jvm.MethodName) prog_8_method_18_code (6 : Nat) (Option.some Jvm.ClassFile.FieldType.int)) ∈ lw_all := lw_g (lw_at lw_m5 224 rfl) rfl
theorem q1268 : (Jvm.Cond.methodLink "InkPrintery$State" (138 : Nat) ({ cls := "InkPrintery$State", name := "level", desc := "()I" } : Jvm.MethodName)) ∈ lw_all := lw_g (lw_at lw_m5 225 rfl) rfl
theorem q1269 : (Jvm.Cond.privateMethod ({ cls := "InkPrintery$State", name := "level", desc := "()I" } : Jvm.MethodName)) ∈ lw_tbl := lw_at lw_m5 226 rfl
theorem q1270 : (Jvm.Cond.instanceMethod ({ cls := "InkPrintery$State", name := "level", desc := "()I" } : Jvm.MethodName)) ∈ lw_all := lw_g (lw_at lw_m5 227 rfl) rfl
theorem q1271 : (Jvm.Cond.code ({ cls := "InkPrintery$State", name := "level", desc := "()I" } : Jvm.MethodName) prog_8_method_17_code (4 : Nat) (Option.some Jvm.ClassFile.FieldType.int)) ∈ lw_all := lw_g (lw_at lw_m5 228 rfl) rfl
theorem q1272 : (Jvm.Cond.methodLink "InkPrintery$State" (134 : Nat) ({ cls := "InkPrintery$State", name := "sheetsFor", desc := "(I)I" } : Jvm.MethodName)) ∈ lw_all := lw_g (lw_at lw_m5 229 rfl) rfl
theorem q1273 : (Jvm.Cond.privateMethod ({ cls := "InkPrintery$State", name := "sheetsFor", desc := "(I)I" } : Jvm.MethodName)) ∈ lw_tbl := lw_at lw_m5 230 rfl
theorem q1274 : (Jvm.Cond.instanceMethod ({ cls := "InkPrintery$State", name := "sheetsFor", desc := "(I)I" } : Jvm.MethodName)) ∈ lw_all := lw_g (lw_at lw_m5 231 rfl) rfl
theorem q1275 : (Jvm.Cond.code ({ cls := "InkPrintery$State", name := "sheetsFor", desc := "(I)I" } : Jvm.MethodName) prog_8_method_16_code (4 : Nat) (Option.some Jvm.ClassFile.FieldType.int)) ∈ lw_all := lw_g (lw_at lw_m5 232 rfl) rfl
theorem q1276 : (Jvm.Cond.methodLink "InkPrintery$State" (213 : Nat) ({ cls := "InkPrintery$State", name := "riseByEnds", desc := "()I" } : Jvm.MethodName)) ∈ lw_all := lw_g (lw_at lw_m5 233 rfl) rfl
theorem q1291 : (Jvm.Cond.instanceMethod ({ cls := "InkPrintery$State", name := "addInk", desc := "(II)I" } : Jvm.MethodName)) ∈ lw_all := lw_g (lw_at lw_m6 8 rfl) rfl
theorem q1292 : (Jvm.Cond.selects "InkPrintery$State" ({ cls := "InkPrintery$State", name := "addInk", desc := "(II)I" } : Jvm.MethodName) ({ cls := "InkPrintery$State", name := "addInk", desc := "(II)I" } : Jvm.MethodName)) ∈ lw_all := lw_g (lw_at lw_m6 9 rfl) rfl
theorem q1293 : (Jvm.Cond.code ({ cls := "InkPrintery$State", name := "addInk", desc := "(II)I" } : Jvm.MethodName) prog_8_method_5_code (3 : Nat) (Option.some Jvm.ClassFile.FieldType.int)) ∈ lw_all := lw_g (lw_at lw_m6 10 rfl) rfl
theorem q1294 : (Jvm.Cond.methodLinkNest "InkPrintery$State" (92 : Nat) ({ cls := "InkPrintery", name := "isColour", desc := "(I)Z" } : Jvm.MethodName) "InkPrintery") ∈ lw_tbl := lw_at lw_m6 11 rfl
theorem q1300 : (Jvm.Cond.methodLinkNest "InkPrintery$State" (84 : Nat) ({ cls := "InkPrintery", name := "inRange", desc := "(III)Z" } : Jvm.MethodName) "InkPrintery") ∈ lw_tbl := lw_at lw_m6 17 rfl
theorem q1301 : (Jvm.Cond.methodLinkNest "InkPrintery$State" (96 : Nat) ({ cls := "InkPrintery", name := "checkArgument", desc := "(Z)V" } : Jvm.MethodName) "InkPrintery") ∈ lw_tbl := lw_at lw_m6 18 rfl
theorem q1309 : (Jvm.Cond.methodLinkNest "InkPrintery$State" (99 : Nat) ({ cls := "InkPrintery", name := "checkState", desc := "(Z)V" } : Jvm.MethodName) "InkPrintery") ∈ lw_tbl := lw_at lw_m6 26 rfl
theorem q1325 : (Jvm.Cond.instanceMethod ({ cls := "InkPrintery$State", name := "addPaper", desc := "(I)I" } : Jvm.MethodName)) ∈ lw_all := lw_g (lw_at lw_m6 42 rfl) rfl
theorem q1326 : (Jvm.Cond.selects "InkPrintery$State" ({ cls := "InkPrintery$State", name := "addPaper", desc := "(I)I" } : Jvm.MethodName) ({ cls := "InkPrintery$State", name := "addPaper", desc := "(I)I" } : Jvm.MethodName)) ∈ lw_all := lw_g (lw_at lw_m6 43 rfl) rfl
theorem q1327 : (Jvm.Cond.code ({ cls := "InkPrintery$State", name := "addPaper", desc := "(I)I" } : Jvm.MethodName) prog_8_method_6_code (2 : Nat) (Option.some Jvm.ClassFile.FieldType.int)) ∈ lw_all := lw_g (lw_at lw_m6 44 rfl) rfl
theorem q1336 : (Jvm.Cond.instanceMethod ({ cls := "InkPrintery$State", name := "pass", desc := "(I)I" } : Jvm.MethodName)) ∈ lw_all := lw_g (lw_at lw_m6 53 rfl) rfl
theorem q1337 : (Jvm.Cond.selects "InkPrintery$State" ({ cls := "InkPrintery$State", name := "pass", desc := "(I)I" } : Jvm.MethodName) ({ cls := "InkPrintery$State", name := "pass", desc := "(I)I" } : Jvm.MethodName)) ∈ lw_all := lw_g (lw_at lw_m6 54 rfl) rfl
theorem q1338 : (Jvm.Cond.code ({ cls := "InkPrintery$State", name := "pass", desc := "(I)I" } : Jvm.MethodName) prog_8_method_8_code (4 : Nat) (Option.some Jvm.ClassFile.FieldType.int)) ∈ lw_all := lw_g (lw_at lw_m6 55 rfl) rfl
theorem q1339 : (Jvm.Cond.methodLink "InkPrintery$State" (105 : Nat) ({ cls := "InkPrintery$State", name := "passHour", desc := "()I" } : Jvm.MethodName)) ∈ lw_all := lw_g (lw_at lw_m6 56 rfl) rfl
theorem q1340 : (Jvm.Cond.privateMethod ({ cls := "InkPrintery$State", name := "passHour", desc := "()I" } : Jvm.MethodName)) ∈ lw_tbl := lw_at lw_m6 57 rfl
theorem q1341 : (Jvm.Cond.instanceMethod ({ cls := "InkPrintery$State", name := "passHour", desc := "()I" } : Jvm.MethodName)) ∈ lw_all := lw_g (lw_at lw_m6 58 rfl) rfl
theorem q1342 : (Jvm.Cond.code ({ cls := "InkPrintery$State", name := "passHour", desc := "()I" } : Jvm.MethodName) prog_8_method_7_code (4 : Nat) (Option.some Jvm.ClassFile.FieldType.int)) ∈ lw_all := lw_g (lw_at lw_m6 59 rfl) rfl
theorem q1379 : (Jvm.Cond.instanceMethod ({ cls := "InkPrintery$State", name := "hoursUntilLess", desc := "(II)I" } : Jvm.MethodName)) ∈ lw_all := lw_g (lw_at lw_m6 96 rfl) rfl
theorem q1380 : (Jvm.Cond.selects "InkPrintery$State" ({ cls := "InkPrintery$State", name := "hoursUntilLess", desc := "(II)I" } : Jvm.MethodName) ({ cls := "InkPrintery$State", name := "hoursUntilLess", desc := "(II)I" } : Jvm.MethodName)) ∈ lw_all := lw_g (lw_at lw_m6 97 rfl) rfl
theorem q1381 : (Jvm.Cond.code ({ cls := "InkPrintery$State", name := "hoursUntilLess", desc := "(II)I" } : Jvm.MethodName) prog_8_method_11_code (5 : Nat) (Option.some Jvm.ClassFile.FieldType.int)) ∈ lw_all := lw_g (lw_at lw_m6 98 rfl) rfl
theorem q1390 : (Jvm.Cond.instanceMethod ({ cls := "InkPrintery$State", name := "addEdition", desc := "(II)I" } : Jvm.MethodName)) ∈ lw_all := lw_g (lw_at lw_m6 107 rfl) rfl
theorem q1391 : (Jvm.Cond.selects "InkPrintery$State" ({ cls := "InkPrintery$State", name := "addEdition", desc := "(II)I" } : Jvm.MethodName) ({ cls := "InkPrintery$State", name := "addEdition", desc := "(II)I" } : Jvm.MethodName)) ∈ lw_all := lw_g (lw_at lw_m6 108 rfl) rfl
theorem q1392 : (Jvm.Cond.code ({ cls := "InkPrintery$State", name := "addEdition", desc := "(II)I" } : Jvm.MethodName) prog_8_method_19_code (3 : Nat) (Option.some Jvm.ClassFile.FieldType.int)) ∈ lw_all := lw_g (lw_at lw_m6 109 rfl) rfl
theorem q1393 : (Jvm.Cond.methodLink "InkPrintery$State" (141 : Nat) ({ cls := "InkPrintery$Edition", name := "<init>", desc := "(II)V" } : Jvm.MethodName)) ∈ lw_all := lw_g (lw_at lw_m6 110 rfl) rfl
theorem q1405 : (Jvm.Cond.instanceMethod ({ cls := "InkPrintery$State", name := "removeEdition", desc := "(I)I" } : Jvm.MethodName)) ∈ lw_all := lw_g (lw_at lw_m6 122 rfl) rfl
theorem q1406 : (Jvm.Cond.selects "InkPrintery$State" ({ cls := "InkPrintery$State", name := "removeEdition", desc := "(I)I" } : Jvm.MethodName) ({ cls := "InkPrintery$State", name := "removeEdition", desc := "(I)I" } : Jvm.MethodName)) ∈ lw_all := lw_g (lw_at lw_m6 123 rfl) rfl
theorem q1407 : (Jvm.Cond.code ({ cls := "InkPrintery$State", name := "removeEdition", desc := "(I)I" } : Jvm.MethodName) prog_8_method_20_code (3 : Nat) (Option.some Jvm.ClassFile.FieldType.int)) ∈ lw_all := lw_g (lw_at lw_m6 124 rfl) rfl
theorem q1408 : (Jvm.Cond.methodLink "InkPrintery$State" (144 : Nat) ({ cls := "InkPrintery$State", name := "checkedEdition", desc := "(I)LInkPrintery$Edition;" } : Jvm.MethodName)) ∈ lw_all := lw_g (lw_at lw_m6 125 rfl) rfl
theorem q1409 : (Jvm.Cond.instanceMethod ({ cls := "InkPrintery$State", name := "checkedEdition", desc := "(I)LInkPrintery$Edition;" } : Jvm.MethodName)) ∈ lw_all := lw_g (lw_at lw_m6 126 rfl) rfl
theorem q1410 : (Jvm.Cond.selects "InkPrintery$State" ({ cls := "InkPrintery$State", name := "checkedEdition", desc := "(I)LInkPrintery$Edition;" } : Jvm.MethodName) ({ cls := "InkPrintery$State", name := "checkedEdition", desc := "(I)LInkPrintery$Edition;" } : Jvm.MethodName)) ∈ lw_all := lw_g (lw_at lw_m6 127 rfl) rfl
theorem q1411 : (Jvm.Cond.code ({ cls := "InkPrintery$State", name := "checkedEdition", desc := "(I)LInkPrintery$Edition;" } : Jvm.MethodName) prog_8_method_3_code (2 : Nat) (Option.some (Jvm.ClassFile.FieldType.object "InkPrintery$Edition"))) ∈ lw_all := lw_g (lw_at lw_m6 128 rfl) rfl
theorem q1412 : (Jvm.Cond.methodLinkNest "InkPrintery$State" (88 : Nat) ({ cls := "InkPrintery", name := "checkIndex", desc := "(Z)V" } : Jvm.MethodName) "InkPrintery") ∈ lw_tbl := lw_at lw_m6 129 rfl
theorem q1429 : (Jvm.Cond.instanceMethod ({ cls := "InkPrintery$State", name := "print", desc := "(I)I" } : Jvm.MethodName)) ∈ lw_all := lw_g (lw_at lw_m6 146 rfl) rfl
theorem q1430 : (Jvm.Cond.selects "InkPrintery$State" ({ cls := "InkPrintery$State", name := "print", desc := "(I)I" } : Jvm.MethodName) ({ cls := "InkPrintery$State", name := "print", desc := "(I)I" } : Jvm.MethodName)) ∈ lw_all := lw_g (lw_at lw_m6 147 rfl) rfl
theorem q1431 : (Jvm.Cond.code ({ cls := "InkPrintery$State", name := "print", desc := "(I)I" } : Jvm.MethodName) prog_8_method_22_code (4 : Nat) (Option.some Jvm.ClassFile.FieldType.int)) ∈ lw_all := lw_g (lw_at lw_m6 148 rfl) rfl
theorem q1432 : (Jvm.Cond.methodLink "InkPrintery$State" (157 : Nat) ({ cls := "InkPrintery$Edition", name := "isComplete", desc := "()Z" } : Jvm.MethodName)) ∈ lw_all := lw_g (lw_at lw_m6 149 rfl) rfl
theorem q1433 : (Jvm.Cond.methodLinkNest "InkPrintery$State" (161 : Nat) ({ cls := "InkPrintery", name := "checkSupported", desc := "(Z)V" } : Jvm.MethodName) "InkPrintery") ∈ lw_tbl := lw_at lw_m6 150 rfl
theorem q1541 : (Jvm.Cond.instanceMethod ({ cls := "InkPrintery$State", name := "editionByMissing", desc := "(I)I" } : Jvm.MethodName)) ∈ lw_all := lw_g (lw_at lw_m7 18 rfl) rfl
theorem q1542 : (Jvm.Cond.selects "InkPrintery$State" ({ cls := "InkPrintery$State", name := "editionByMissing", desc := "(I)I" } : Jvm.MethodName) ({ cls := "InkPrintery$State", name := "editionByMissing", desc := "(I)I" } : Jvm.MethodName)) ∈ lw_all := lw_g (lw_at lw_m7 19 rfl) rfl
theorem q1543 : (Jvm.Cond.code ({ cls := "InkPrintery$State", name := "editionByMissing", desc := "(I)I" } : Jvm.MethodName) prog_8_method_24_code (6 : Nat) (Option.some Jvm.ClassFile.FieldType.int)) ∈ lw_all := lw_g (lw_at lw_m7 20 rfl) rfl
theorem q1555 : (Jvm.Cond.instanceMethod ({ cls := "InkPrintery$State", name := "addProof", desc := "(I)I" } : Jvm.MethodName)) ∈ lw_all := lw_g (lw_at lw_m7 32 rfl) rfl
theorem q1556 : (Jvm.Cond.selects "InkPrintery$State" ({ cls := "InkPrintery$State", name := "addProof", desc := "(I)I" } : Jvm.MethodName) ({ cls := "InkPrintery$State", name := "addProof", desc := "(I)I" } : Jvm.MethodName)) ∈ lw_all := lw_g (lw_at lw_m7 33 rfl) rfl
theorem q1557 : (Jvm.Cond.code ({ cls := "InkPrintery$State", name := "addProof", desc := "(I)I" } : Jvm.MethodName) prog_8_method_25_code (2 : Nat) (Option.some Jvm.ClassFile.FieldType.int)) ∈ lw_all := lw_g (lw_at lw_m7 34 rfl) rfl
theorem q1566 : (Jvm.Cond.instanceMethod ({ cls := "InkPrintery$State", name := "dropProof", desc := "(I)I" } : Jvm.MethodName)) ∈ lw_all := lw_g (lw_at lw_m7 43 rfl) rfl
theorem q1567 : (Jvm.Cond.selects "InkPrintery$State" ({ cls := "InkPrintery$State", name := "dropProof", desc := "(I)I" } : Jvm.MethodName) ({ cls := "InkPrintery$State", name := "dropProof", desc := "(I)I" } : Jvm.MethodName)) ∈ lw_all := lw_g (lw_at lw_m7 44 rfl) rfl
theorem q1568 : (Jvm.Cond.code ({ cls := "InkPrintery$State", name := "dropProof", desc := "(I)I" } : Jvm.MethodName) prog_8_method_26_code (3 : Nat) (Option.some Jvm.ClassFile.FieldType.int)) ∈ lw_all := lw_g (lw_at lw_m7 45 rfl) rfl
theorem q1569 : (Jvm.Cond.methodLink "InkPrintery$State" (174 : Nat) ({ cls := "InkPrintery$State", name := "checkProof", desc := "(I)V" } : Jvm.MethodName)) ∈ lw_all := lw_g (lw_at lw_m7 46 rfl) rfl
theorem q1570 : (Jvm.Cond.instanceMethod ({ cls := "InkPrintery$State", name := "checkProof", desc := "(I)V" } : Jvm.MethodName)) ∈ lw_all := lw_g (lw_at lw_m7 47 rfl) rfl
theorem q1571 : (Jvm.Cond.selects "InkPrintery$State" ({ cls := "InkPrintery$State", name := "checkProof", desc := "(I)V" } : Jvm.MethodName) ({ cls := "InkPrintery$State", name := "checkProof", desc := "(I)V" } : Jvm.MethodName)) ∈ lw_all := lw_g (lw_at lw_m7 48 rfl) rfl
theorem q1572 : (Jvm.Cond.code ({ cls := "InkPrintery$State", name := "checkProof", desc := "(I)V" } : Jvm.MethodName) prog_8_method_4_code (2 : Nat) (Option.none : Option Jvm.ClassFile.FieldType)) ∈ lw_all := lw_g (lw_at lw_m7 49 rfl) rfl
theorem q1618 : (Jvm.Cond.instanceMethod ({ cls := "InkPrintery$State", name := "sumOfRuns", desc := "()I" } : Jvm.MethodName)) ∈ lw_all := lw_g (lw_at lw_m7 95 rfl) rfl
theorem q1619 : (Jvm.Cond.selects "InkPrintery$State" ({ cls := "InkPrintery$State", name := "sumOfRuns", desc := "()I" } : Jvm.MethodName) ({ cls := "InkPrintery$State", name := "sumOfRuns", desc := "()I" } : Jvm.MethodName)) ∈ lw_all := lw_g (lw_at lw_m7 96 rfl) rfl
theorem q1620 : (Jvm.Cond.code ({ cls := "InkPrintery$State", name := "sumOfRuns", desc := "()I" } : Jvm.MethodName) prog_8_method_31_code (3 : Nat) (Option.some Jvm.ClassFile.FieldType.int)) ∈ lw_all := lw_g (lw_at lw_m7 97 rfl) rfl
theorem q2788 : (Jvm.Cond.castable "InkPrintery$State" "java/lang/Object") ∈ lw_tbl := lw_at lw_m12 65 rfl
theorem in_X2 : ∀ w ∈ wsX20, w ∈ lw_all := lw_in wsX20 [210, 212, 214, 216, 218, 220, 222, 224, 226, 228, 230, 232, 234, 236, 238] (by decide +kernel) (by decide +kernel)
/-! InkPrintery$Cost -/
set_option maxRecDepth 100000
def RX3 : String := "InkPrintery$Cost"
abbrev cX3_ofPress : ByteArray := prog_3_method_3_code
def yX3_ofPress : MethodName := ⟨RX3, "ofPress", "()LInkPrintery$Cost;"⟩
def dkwX3_ofPress_0 : List UInt8 := [187, 0, 7, 89, 183, 0, 9, 176]
abbrev dktX3_ofPress_0 : List UInt8 := dkwX3_ofPress_0 ++ []
theorem dksX3_ofPress_0 : cX3_ofPress.data.toList.drop 0 = dktX3_ofPress_0 := by decide +kernel
theorem dX3_ofPress_0 : decode cX3_ofPress 0 = .ok (.new 7, 3) := dk_187 0 7 (dk_at dksX3_ofPress_0 0 rfl rfl)
theorem dX3_ofPress_3 : decode cX3_ofPress 3 = .ok (.dup, 1) := dk_89 (dk_at dksX3_ofPress_0 3 rfl rfl)
theorem dX3_ofPress_4 : decode cX3_ofPress 4 = .ok (.invokespecial 9, 3) := dk_183 0 9 (dk_at dksX3_ofPress_0 4 rfl rfl)
theorem dX3_ofPress_7 : decode cX3_ofPress 7 = .ok (.areturn, 1) := dk_176 (dk_at dksX3_ofPress_0 7 rfl rfl)
abbrev cX3_ofPath : ByteArray := prog_3_method_2_code
def yX3_ofPath : MethodName := ⟨RX3, "ofPath", "(I[II)I"⟩
def dkwX3_ofPath_1 : List UInt8 := [185, 0, 1, 3, 0, 96, 54, 4, 44, 21, 6, 46, 54, 5, 132, 6, 1, 167, 255, 224, 21, 4, 172]
abbrev dktX3_ofPath_1 : List UInt8 := dkwX3_ofPath_1 ++ []
def dkwX3_ofPath_0 : List UInt8 := [3, 54, 4, 27, 54, 5, 3, 54, 6, 21, 6, 29, 162, 0, 32, 21, 4, 42, 21, 5, 44, 21, 6, 46]
abbrev dktX3_ofPath_0 : List UInt8 := dkwX3_ofPath_0 ++ dktX3_ofPath_1
theorem dksX3_ofPath_0 : cX3_ofPath.data.toList.drop 0 = dktX3_ofPath_0 := by decide +kernel
theorem dksX3_ofPath_1 : cX3_ofPath.data.toList.drop 24 = dktX3_ofPath_1 := dk_seg dksX3_ofPath_0 24 rfl rfl
theorem dX3_ofPath_0 : decode cX3_ofPath 0 = .ok (.iconst 0, 1) := dk_3 (dk_at dksX3_ofPath_0 0 rfl rfl)
theorem dX3_ofPath_1 : decode cX3_ofPath 1 = .ok (.istore 4, 2) := dk_54 4 (dk_at dksX3_ofPath_0 1 rfl rfl)
theorem dX3_ofPath_3 : decode cX3_ofPath 3 = .ok (.iload_n 1, 1) := dk_27 (dk_at dksX3_ofPath_0 3 rfl rfl)
theorem dX3_ofPath_4 : decode cX3_ofPath 4 = .ok (.istore 5, 2) := dk_54 5 (dk_at dksX3_ofPath_0 4 rfl rfl)
theorem dX3_ofPath_6 : decode cX3_ofPath 6 = .ok (.iconst 0, 1) := dk_3 (dk_at dksX3_ofPath_0 6 rfl rfl)
theorem dX3_ofPath_7 : decode cX3_ofPath 7 = .ok (.istore 6, 2) := dk_54 6 (dk_at dksX3_ofPath_0 7 rfl rfl)
theorem dX3_ofPath_9 : decode cX3_ofPath 9 = .ok (.iload 6, 2) := dk_21 6 (dk_at dksX3_ofPath_0 9 rfl rfl)
theorem dX3_ofPath_11 : decode cX3_ofPath 11 = .ok (.iload_n 3, 1) := dk_29 (dk_at dksX3_ofPath_0 11 rfl rfl)
theorem dX3_ofPath_12 : decode cX3_ofPath 12 = .ok (.if_icmp .ge 32, 3) := dk_162 0 32 (dk_at dksX3_ofPath_0 12 rfl rfl)
theorem dX3_ofPath_15 : decode cX3_ofPath 15 = .ok (.iload 4, 2) := dk_21 4 (dk_at dksX3_ofPath_0 15 rfl rfl)
theorem dX3_ofPath_17 : decode cX3_ofPath 17 = .ok (.aload_n 0, 1) := dk_42 (dk_at dksX3_ofPath_0 17 rfl rfl)
theorem dX3_ofPath_18 : decode cX3_ofPath 18 = .ok (.iload 5, 2) := dk_21 5 (dk_at dksX3_ofPath_0 18 rfl rfl)
theorem dX3_ofPath_20 : decode cX3_ofPath 20 = .ok (.aload_n 2, 1) := dk_44 (dk_at dksX3_ofPath_0 20 rfl rfl)
theorem dX3_ofPath_21 : decode cX3_ofPath 21 = .ok (.iload 6, 2) := dk_21 6 (dk_at dksX3_ofPath_0 21 rfl rfl)
theorem dX3_ofPath_23 : decode cX3_ofPath 23 = .ok (.iaload, 1) := dk_46 (dk_at dksX3_ofPath_0 23 rfl rfl)
theorem dX3_ofPath_24 : decode cX3_ofPath 24 = .ok (.invokeinterface 1 3, 5) := by decide +kernel
theorem dX3_ofPath_29 : decode cX3_ofPath 29 = .ok (.iadd, 1) := dk_96 (dk_at dksX3_ofPath_1 5 rfl rfl)
theorem dX3_ofPath_30 : decode cX3_ofPath 30 = .ok (.istore 4, 2) := dk_54 4 (dk_at dksX3_ofPath_1 6 rfl rfl)
theorem dX3_ofPath_32 : decode cX3_ofPath 32 = .ok (.aload_n 2, 1) := dk_44 (dk_at dksX3_ofPath_1 8 rfl rfl)
theorem dX3_ofPath_33 : decode cX3_ofPath 33 = .ok (.iload 6, 2) := dk_21 6 (dk_at dksX3_ofPath_1 9 rfl rfl)
theorem dX3_ofPath_35 : decode cX3_ofPath 35 = .ok (.iaload, 1) := dk_46 (dk_at dksX3_ofPath_1 11 rfl rfl)
theorem dX3_ofPath_36 : decode cX3_ofPath 36 = .ok (.istore 5, 2) := dk_54 5 (dk_at dksX3_ofPath_1 12 rfl rfl)
theorem dX3_ofPath_38 : decode cX3_ofPath 38 = .ok (.iinc 6 1, 3) := dk_132 6 1 (dk_at dksX3_ofPath_1 14 rfl rfl)
theorem dX3_ofPath_41 : decode cX3_ofPath 41 = .ok (.goto (-32), 3) := dk_167 255 224 (dk_at dksX3_ofPath_1 17 rfl rfl)
theorem dX3_ofPath_44 : decode cX3_ofPath 44 = .ok (.iload 4, 2) := dk_21 4 (dk_at dksX3_ofPath_1 20 rfl rfl)
theorem dX3_ofPath_46 : decode cX3_ofPath 46 = .ok (.ireturn, 1) := dk_172 (dk_at dksX3_ofPath_1 22 rfl rfl)
theorem q86 : (Jvm.Cond.initialized "InkPrintery$Cost") ∈ lw_all := lw_g (lw_at lw_m1 3 rfl) rfl
theorem q159 : (Jvm.Cond.static ({ cls := "InkPrintery$Cost", name := "ofPress", desc := "()LInkPrintery$Cost;" } : Jvm.MethodName)) ∈ lw_all := lw_g (lw_at lw_m1 76 rfl) rfl
theorem q160 : (Jvm.Cond.code ({ cls := "InkPrintery$Cost", name := "ofPress", desc := "()LInkPrintery$Cost;" } : Jvm.MethodName) prog_3_method_3_code (0 : Nat) (Option.some (Jvm.ClassFile.FieldType.object "InkPrintery$Cost"))) ∈ lw_all := lw_g (lw_at lw_m1 77 rfl) rfl
theorem q161 : (Jvm.Cond.classLink "InkPrintery$Cost" (7 : Nat) "InkPrintery$PressCost") ∈ lw_all := lw_g (lw_at lw_m1 78 rfl) rfl
theorem q163 : (Jvm.Cond.methodLinkNest "InkPrintery$Cost" (9 : Nat) ({ cls := "InkPrintery$PressCost", name := "<init>", desc := "()V" } : Jvm.MethodName) "InkPrintery") ∈ lw_tbl := lw_at lw_m1 80 rfl
theorem q661 : (Jvm.Cond.interfaceMethod "InkPrintery$Cost" "InkPrintery$Cost" "of" "(II)I") ∈ lw_tbl := lw_at lw_m3 98 rfl
theorem q662 : (Jvm.Cond.declares ({ cls := "InkPrintery$Cost", name := "of", desc := "(II)I" } : Jvm.MethodName)) ∈ lw_tbl := lw_at lw_m3 99 rfl
theorem q762 : (Jvm.Cond.interfaceMethod "InkPrintery$Cost" "InkPrintery$Cost" "ofPath" "(I[II)I") ∈ lw_tbl := lw_at lw_m3 199 rfl
theorem q763 : (Jvm.Cond.declares ({ cls := "InkPrintery$Cost", name := "ofPath", desc := "(I[II)I" } : Jvm.MethodName)) ∈ lw_tbl := lw_at lw_m3 200 rfl
theorem q765 : (Jvm.Cond.instanceMethod ({ cls := "InkPrintery$Cost", name := "ofPath", desc := "(I[II)I" } : Jvm.MethodName)) ∈ lw_all := lw_g (lw_at lw_m3 202 rfl) rfl
theorem q766 : (Jvm.Cond.publicMethod ({ cls := "InkPrintery$Cost", name := "ofPath", desc := "(I[II)I" } : Jvm.MethodName)) ∈ lw_tbl := lw_at lw_m3 203 rfl
theorem q767 : (Jvm.Cond.code ({ cls := "InkPrintery$Cost", name := "ofPath", desc := "(I[II)I" } : Jvm.MethodName) prog_3_method_2_code (7 : Nat) (Option.some Jvm.ClassFile.FieldType.int)) ∈ lw_all := lw_g (lw_at lw_m3 204 rfl) rfl
theorem q768 : (Jvm.Cond.interfaceEntry "InkPrintery$Cost" (1 : Nat)) ∈ lw_tbl := lw_at lw_m3 205 rfl
theorem q769 : (Jvm.Cond.methodLink "InkPrintery$Cost" (1 : Nat) ({ cls := "InkPrintery$Cost", name := "of", desc := "(II)I" } : Jvm.MethodName)) ∈ lw_all := lw_g (lw_at lw_m3 206 rfl) rfl
/-! InkPrintery$PressCost -/
set_option maxRecDepth 100000
def RX4 : String := "InkPrintery$PressCost"
abbrev cX4_init : ByteArray := prog_7_method_1_code
def yX4_init : MethodName := ⟨RX4, "<init>", "()V"⟩
theorem dX4_init_0 : decode cX4_init 0 = .ok (.aload_n 0, 1) := by decide +kernel
theorem dX4_init_1 : decode cX4_init 1 = .ok (.invokespecial 1, 3) := by decide +kernel
theorem dX4_init_4 : decode cX4_init 4 = .ok (.return_, 1) := by decide +kernel
abbrev cX4_of : ByteArray := prog_7_method_2_code
def yX4_of : MethodName := ⟨RX4, "of", "(II)I"⟩
def dkwX4_of_0 : List UInt8 := [28, 27, 161, 0, 9, 28, 27, 100, 167, 0, 10, 5, 27, 28, 100, 104, 4, 96, 172]
abbrev dktX4_of_0 : List UInt8 := dkwX4_of_0 ++ []
theorem dksX4_of_0 : cX4_of.data.toList.drop 0 = dktX4_of_0 := by decide +kernel
theorem dX4_of_0 : decode cX4_of 0 = .ok (.iload_n 2, 1) := dk_28 (dk_at dksX4_of_0 0 rfl rfl)
theorem dX4_of_1 : decode cX4_of 1 = .ok (.iload_n 1, 1) := dk_27 (dk_at dksX4_of_0 1 rfl rfl)
theorem dX4_of_2 : decode cX4_of 2 = .ok (.if_icmp .lt 9, 3) := dk_161 0 9 (dk_at dksX4_of_0 2 rfl rfl)
theorem dX4_of_5 : decode cX4_of 5 = .ok (.iload_n 2, 1) := dk_28 (dk_at dksX4_of_0 5 rfl rfl)
theorem dX4_of_6 : decode cX4_of 6 = .ok (.iload_n 1, 1) := dk_27 (dk_at dksX4_of_0 6 rfl rfl)
theorem dX4_of_7 : decode cX4_of 7 = .ok (.isub, 1) := dk_100 (dk_at dksX4_of_0 7 rfl rfl)
theorem dX4_of_8 : decode cX4_of 8 = .ok (.goto 10, 3) := dk_167 0 10 (dk_at dksX4_of_0 8 rfl rfl)
theorem dX4_of_11 : decode cX4_of 11 = .ok (.iconst 2, 1) := dk_5 (dk_at dksX4_of_0 11 rfl rfl)
theorem dX4_of_12 : decode cX4_of 12 = .ok (.iload_n 1, 1) := dk_27 (dk_at dksX4_of_0 12 rfl rfl)
theorem dX4_of_13 : decode cX4_of 13 = .ok (.iload_n 2, 1) := dk_28 (dk_at dksX4_of_0 13 rfl rfl)
theorem dX4_of_14 : decode cX4_of 14 = .ok (.isub, 1) := dk_100 (dk_at dksX4_of_0 14 rfl rfl)
theorem dX4_of_15 : decode cX4_of 15 = .ok (.imul, 1) := dk_104 (dk_at dksX4_of_0 15 rfl rfl)
theorem dX4_of_16 : decode cX4_of 16 = .ok (.iconst 1, 1) := dk_4 (dk_at dksX4_of_0 16 rfl rfl)
theorem dX4_of_17 : decode cX4_of 17 = .ok (.iadd, 1) := dk_96 (dk_at dksX4_of_0 17 rfl rfl)
theorem dX4_of_18 : decode cX4_of 18 = .ok (.ireturn, 1) := dk_172 (dk_at dksX4_of_0 18 rfl rfl)
theorem q87 : (Jvm.Cond.initialized "InkPrintery$PressCost") ∈ lw_all := lw_g (lw_at lw_m1 4 rfl) rfl
theorem q162 : (Jvm.Cond.instantiable "InkPrintery$PressCost" (0 : Nat)) ∈ lw_all := lw_g (lw_at lw_m1 79 rfl) rfl
theorem q164 : (Jvm.Cond.instanceMethod ({ cls := "InkPrintery$PressCost", name := "<init>", desc := "()V" } : Jvm.MethodName)) ∈ lw_all := lw_g (lw_at lw_m1 81 rfl) rfl
theorem q165 : (Jvm.Cond.code ({ cls := "InkPrintery$PressCost", name := "<init>", desc := "()V" } : Jvm.MethodName) prog_7_method_1_code (1 : Nat) (Option.none : Option Jvm.ClassFile.FieldType)) ∈ lw_all := lw_g (lw_at lw_m1 82 rfl) rfl
theorem q166 : (Jvm.Cond.methodLink "InkPrintery$PressCost" (1 : Nat) ({ cls := "java/lang/Object", name := "<init>", desc := "()V" } : Jvm.MethodName)) ∈ lw_all := lw_g (lw_at lw_m1 83 rfl) rfl
theorem q167 : (Jvm.Cond.superclass "InkPrintery$PressCost" "java/lang/Object") ∈ lw_all := lw_g (lw_at lw_m1 84 rfl) rfl
theorem q501 : (Jvm.Cond.selects "InkPrintery$PressCost" ({ cls := "java/lang/Object", name := "getClass", desc := "()Ljava/lang/Class;" } : Jvm.MethodName) ({ cls := "java/lang/Object", name := "getClass", desc := "()Ljava/lang/Class;" } : Jvm.MethodName)) ∈ lw_all := lw_g (lw_at lw_m2 178 rfl) rfl
theorem q663 : (Jvm.Cond.castable "InkPrintery$PressCost" "InkPrintery$Cost") ∈ lw_tbl := lw_at lw_m3 100 rfl
theorem q664 : (Jvm.Cond.selects "InkPrintery$PressCost" ({ cls := "InkPrintery$Cost", name := "of", desc := "(II)I" } : Jvm.MethodName) ({ cls := "InkPrintery$PressCost", name := "of", desc := "(II)I" } : Jvm.MethodName)) ∈ lw_all := lw_g (lw_at lw_m3 101 rfl) rfl
theorem q665 : (Jvm.Cond.unhidden "InkPrintery$PressCost" "of" "(II)I") ∈ lw_tbl := lw_at lw_m3 102 rfl
theorem q666 : (Jvm.Cond.instanceMethod ({ cls := "InkPrintery$PressCost", name := "of", desc := "(II)I" } : Jvm.MethodName)) ∈ lw_all := lw_g (lw_at lw_m3 103 rfl) rfl
theorem q667 : (Jvm.Cond.publicMethod ({ cls := "InkPrintery$PressCost", name := "of", desc := "(II)I" } : Jvm.MethodName)) ∈ lw_tbl := lw_at lw_m3 104 rfl
theorem q668 : (Jvm.Cond.code ({ cls := "InkPrintery$PressCost", name := "of", desc := "(II)I" } : Jvm.MethodName) prog_7_method_2_code (3 : Nat) (Option.some Jvm.ClassFile.FieldType.int)) ∈ lw_all := lw_g (lw_at lw_m3 105 rfl) rfl
theorem q764 : (Jvm.Cond.unhidden "InkPrintery$PressCost" "ofPath" "(I[II)I") ∈ lw_tbl := lw_at lw_m3 201 rfl
theorem q2789 : (Jvm.Cond.castable "InkPrintery$PressCost" "java/lang/Object") ∈ lw_tbl := lw_at lw_m12 66 rfl
/-! InkPrintery$Fading -/
set_option maxRecDepth 100000
def RX5 : String := "InkPrintery$Fading"
def TX5 : u_T := fun k => match k with
  | _ => ("InkPrintery$Fading", "period", "I", true)
def tyX5 : Nat → FieldType := fun k => match k with
  | _ => .int
abbrev wsX50 : List Cond := u_ws RX5 TX5 1
theorem nmX5 : ∀ a, a < 1 → ∀ b, b < 1 → a ≠ b → (TX5 a).2.1 ≠ (TX5 b).2.1 := by decide +kernel
theorem tyX5_ok : ∀ k, k < 1 → parseFieldDescriptor (TX5 k).2.2.1 = some (tyX5 k) := by decide +kernel
abbrev cX5_init : ByteArray := prog_5_method_1_code
def yX5_init : MethodName := ⟨RX5, "<init>", "(I)V"⟩
def dkwX5_init_0 : List UInt8 := [42, 183, 0, 1, 42, 27, 4, 96, 181, 0, 7, 177]
abbrev dktX5_init_0 : List UInt8 := dkwX5_init_0 ++ []
theorem dksX5_init_0 : cX5_init.data.toList.drop 0 = dktX5_init_0 := by decide +kernel
theorem dX5_init_0 : decode cX5_init 0 = .ok (.aload_n 0, 1) := dk_42 (dk_at dksX5_init_0 0 rfl rfl)
theorem dX5_init_1 : decode cX5_init 1 = .ok (.invokespecial 1, 3) := dk_183 0 1 (dk_at dksX5_init_0 1 rfl rfl)
theorem dX5_init_4 : decode cX5_init 4 = .ok (.aload_n 0, 1) := dk_42 (dk_at dksX5_init_0 4 rfl rfl)
theorem dX5_init_5 : decode cX5_init 5 = .ok (.iload_n 1, 1) := dk_27 (dk_at dksX5_init_0 5 rfl rfl)
theorem dX5_init_6 : decode cX5_init 6 = .ok (.iconst 1, 1) := dk_4 (dk_at dksX5_init_0 6 rfl rfl)
theorem dX5_init_7 : decode cX5_init 7 = .ok (.iadd, 1) := dk_96 (dk_at dksX5_init_0 7 rfl rfl)
theorem dX5_init_8 : decode cX5_init 8 = .ok (.putfield 7, 3) := dk_181 0 7 (dk_at dksX5_init_0 8 rfl rfl)
theorem dX5_init_11 : decode cX5_init 11 = .ok (.return_, 1) := dk_177 (dk_at dksX5_init_0 11 rfl rfl)
abbrev cX5_isAt : ByteArray := prog_5_method_2_code
def yX5_isAt : MethodName := ⟨RX5, "isAt", "(I)Z"⟩
def dkwX5_isAt_0 : List UInt8 := [27, 42, 180, 0, 7, 112, 154, 0, 7, 4, 167, 0, 4, 3, 172]
abbrev dktX5_isAt_0 : List UInt8 := dkwX5_isAt_0 ++ []
theorem dksX5_isAt_0 : cX5_isAt.data.toList.drop 0 = dktX5_isAt_0 := by decide +kernel
theorem dX5_isAt_0 : decode cX5_isAt 0 = .ok (.iload_n 1, 1) := dk_27 (dk_at dksX5_isAt_0 0 rfl rfl)
theorem dX5_isAt_1 : decode cX5_isAt 1 = .ok (.aload_n 0, 1) := dk_42 (dk_at dksX5_isAt_0 1 rfl rfl)
theorem dX5_isAt_2 : decode cX5_isAt 2 = .ok (.getfield 7, 3) := dk_180 0 7 (dk_at dksX5_isAt_0 2 rfl rfl)
theorem dX5_isAt_5 : decode cX5_isAt 5 = .ok (.irem, 1) := dk_112 (dk_at dksX5_isAt_0 5 rfl rfl)
theorem dX5_isAt_6 : decode cX5_isAt 6 = .ok (.ifCond .ne 7, 3) := dk_154 0 7 (dk_at dksX5_isAt_0 6 rfl rfl)
theorem dX5_isAt_9 : decode cX5_isAt 9 = .ok (.iconst 1, 1) := dk_4 (dk_at dksX5_isAt_0 9 rfl rfl)
theorem dX5_isAt_10 : decode cX5_isAt 10 = .ok (.goto 4, 3) := dk_167 0 4 (dk_at dksX5_isAt_0 10 rfl rfl)
theorem dX5_isAt_13 : decode cX5_isAt 13 = .ok (.iconst 0, 1) := dk_3 (dk_at dksX5_isAt_0 13 rfl rfl)
theorem dX5_isAt_14 : decode cX5_isAt 14 = .ok (.ireturn, 1) := dk_172 (dk_at dksX5_isAt_0 14 rfl rfl)
abbrev cX5_halvings : ByteArray := prog_5_method_3_code
def yX5_halvings : MethodName := ⟨RX5, "halvings", "(II)I"⟩
def dkwX5_halvings_0 : List UInt8 := [27, 28, 96, 42, 180, 0, 7, 108, 27, 42, 180, 0, 7, 108, 100, 172]
abbrev dktX5_halvings_0 : List UInt8 := dkwX5_halvings_0 ++ []
theorem dksX5_halvings_0 : cX5_halvings.data.toList.drop 0 = dktX5_halvings_0 := by decide +kernel
theorem dX5_halvings_0 : decode cX5_halvings 0 = .ok (.iload_n 1, 1) := dk_27 (dk_at dksX5_halvings_0 0 rfl rfl)
theorem dX5_halvings_1 : decode cX5_halvings 1 = .ok (.iload_n 2, 1) := dk_28 (dk_at dksX5_halvings_0 1 rfl rfl)
theorem dX5_halvings_2 : decode cX5_halvings 2 = .ok (.iadd, 1) := dk_96 (dk_at dksX5_halvings_0 2 rfl rfl)
theorem dX5_halvings_3 : decode cX5_halvings 3 = .ok (.aload_n 0, 1) := dk_42 (dk_at dksX5_halvings_0 3 rfl rfl)
theorem dX5_halvings_4 : decode cX5_halvings 4 = .ok (.getfield 7, 3) := dk_180 0 7 (dk_at dksX5_halvings_0 4 rfl rfl)
theorem dX5_halvings_7 : decode cX5_halvings 7 = .ok (.idiv, 1) := dk_108 (dk_at dksX5_halvings_0 7 rfl rfl)
theorem dX5_halvings_8 : decode cX5_halvings 8 = .ok (.iload_n 1, 1) := dk_27 (dk_at dksX5_halvings_0 8 rfl rfl)
theorem dX5_halvings_9 : decode cX5_halvings 9 = .ok (.aload_n 0, 1) := dk_42 (dk_at dksX5_halvings_0 9 rfl rfl)
theorem dX5_halvings_10 : decode cX5_halvings 10 = .ok (.getfield 7, 3) := dk_180 0 7 (dk_at dksX5_halvings_0 10 rfl rfl)
theorem dX5_halvings_13 : decode cX5_halvings 13 = .ok (.idiv, 1) := dk_108 (dk_at dksX5_halvings_0 13 rfl rfl)
theorem dX5_halvings_14 : decode cX5_halvings 14 = .ok (.isub, 1) := dk_100 (dk_at dksX5_halvings_0 14 rfl rfl)
theorem dX5_halvings_15 : decode cX5_halvings 15 = .ok (.ireturn, 1) := dk_172 (dk_at dksX5_halvings_0 15 rfl rfl)
theorem q88 : (Jvm.Cond.initialized "InkPrintery$Fading") ∈ lw_all := lw_g (lw_at lw_m1 5 rfl) rfl
theorem q169 : (Jvm.Cond.instantiable "InkPrintery$Fading" (1 : Nat)) ∈ lw_all := lw_g (lw_at lw_m1 86 rfl) rfl
theorem q171 : (Jvm.Cond.instanceMethod ({ cls := "InkPrintery$Fading", name := "<init>", desc := "(I)V" } : Jvm.MethodName)) ∈ lw_all := lw_g (lw_at lw_m1 88 rfl) rfl
theorem q172 : (Jvm.Cond.code ({ cls := "InkPrintery$Fading", name := "<init>", desc := "(I)V" } : Jvm.MethodName) prog_5_method_1_code (2 : Nat) (Option.none : Option Jvm.ClassFile.FieldType)) ∈ lw_all := lw_g (lw_at lw_m1 89 rfl) rfl
theorem q173 : (Jvm.Cond.methodLink "InkPrintery$Fading" (1 : Nat) ({ cls := "java/lang/Object", name := "<init>", desc := "()V" } : Jvm.MethodName)) ∈ lw_all := lw_g (lw_at lw_m1 90 rfl) rfl
theorem q174 : (Jvm.Cond.fieldLink "InkPrintery$Fading" (7 : Nat) "InkPrintery$Fading" "period" "I") ∈ lw_all := lw_g (lw_at lw_m1 91 rfl) rfl
theorem q175 : (Jvm.Cond.laysFinal "InkPrintery$Fading" "InkPrintery$Fading" "period" "I") ∈ lw_all := lw_g (lw_at lw_m1 92 rfl) rfl
theorem q176 : (Jvm.Cond.soleField "InkPrintery$Fading" "period") ∈ lw_all := lw_g (lw_at lw_m1 93 rfl) rfl
theorem q177 : (Jvm.Cond.superclass "InkPrintery$Fading" "java/lang/Object") ∈ lw_all := lw_g (lw_at lw_m1 94 rfl) rfl
theorem q499 : (Jvm.Cond.selects "InkPrintery$Fading" ({ cls := "java/lang/Object", name := "getClass", desc := "()Ljava/lang/Class;" } : Jvm.MethodName) ({ cls := "java/lang/Object", name := "getClass", desc := "()Ljava/lang/Class;" } : Jvm.MethodName)) ∈ lw_all := lw_g (lw_at lw_m2 176 rfl) rfl
theorem q1249 : (Jvm.Cond.instanceMethod ({ cls := "InkPrintery$Fading", name := "isAt", desc := "(I)Z" } : Jvm.MethodName)) ∈ lw_all := lw_g (lw_at lw_m5 206 rfl) rfl
theorem q1250 : (Jvm.Cond.selects "InkPrintery$Fading" ({ cls := "InkPrintery$Fading", name := "isAt", desc := "(I)Z" } : Jvm.MethodName) ({ cls := "InkPrintery$Fading", name := "isAt", desc := "(I)Z" } : Jvm.MethodName)) ∈ lw_all := lw_g (lw_at lw_m5 207 rfl) rfl
theorem q1251 : (Jvm.Cond.code ({ cls := "InkPrintery$Fading", name := "isAt", desc := "(I)Z" } : Jvm.MethodName) prog_5_method_2_code (2 : Nat) (Option.some Jvm.ClassFile.FieldType.boolean)) ∈ lw_all := lw_g (lw_at lw_m5 208 rfl) rfl
theorem q1257 : (Jvm.Cond.instanceMethod ({ cls := "InkPrintery$Fading", name := "halvings", desc := "(II)I" } : Jvm.MethodName)) ∈ lw_all := lw_g (lw_at lw_m5 214 rfl) rfl
theorem q1258 : (Jvm.Cond.selects "InkPrintery$Fading" ({ cls := "InkPrintery$Fading", name := "halvings", desc := "(II)I" } : Jvm.MethodName) ({ cls := "InkPrintery$Fading", name := "halvings", desc := "(II)I" } : Jvm.MethodName)) ∈ lw_all := lw_g (lw_at lw_m5 215 rfl) rfl
theorem q1259 : (Jvm.Cond.code ({ cls := "InkPrintery$Fading", name := "halvings", desc := "(II)I" } : Jvm.MethodName) prog_5_method_3_code (3 : Nat) (Option.some Jvm.ClassFile.FieldType.int)) ∈ lw_all := lw_g (lw_at lw_m5 216 rfl) rfl
theorem q2784 : (Jvm.Cond.castable "InkPrintery$Fading" "java/lang/Object") ∈ lw_tbl := lw_at lw_m12 61 rfl
theorem in_X5 : ∀ w ∈ wsX50, w ∈ lw_all := lw_in wsX50 [175] (by decide +kernel) (by decide +kernel)
/-! InkPrintery$Parser -/
set_option maxRecDepth 100000
def RX6 : String := "InkPrintery$Parser"
def TX6 : u_T := fun k => match k with
  | 0 => ("InkPrintery$Parser", "text", "Ljava/lang/StringBuilder;", true)
  | 1 => ("InkPrintery$Parser", "position", "I", false)
  | _ => ("InkPrintery$Parser", "commands", "Ljava/util/LinkedList;", true)
def tyX6 : Nat → FieldType := fun k => match k with
  | 0 => .object "java/lang/StringBuilder"
  | 1 => .int
  | _ => .object "java/util/LinkedList"
abbrev wsX60 : List Cond := u_ws RX6 TX6 3
theorem nmX6 : ∀ a, a < 3 → ∀ b, b < 3 → a ≠ b → (TX6 a).2.1 ≠ (TX6 b).2.1 := by decide +kernel
theorem tyX6_ok : ∀ k, k < 3 → parseFieldDescriptor (TX6 k).2.2.1 = some (tyX6 k) := by decide +kernel
abbrev cX6_init : ByteArray := prog_6_method_1_code
def yX6_init : MethodName := ⟨RX6, "<init>", "(Ljava/lang/StringBuilder;)V"⟩
def dkwX6_init_0 : List UInt8 := [42, 183, 0, 3, 42, 187, 0, 9, 89, 183, 0, 11, 181, 0, 12, 42, 43, 181, 0, 18, 177]
abbrev dktX6_init_0 : List UInt8 := dkwX6_init_0 ++ []
theorem dksX6_init_0 : cX6_init.data.toList.drop 0 = dktX6_init_0 := by decide +kernel
theorem dX6_init_0 : decode cX6_init 0 = .ok (.aload_n 0, 1) := dk_42 (dk_at dksX6_init_0 0 rfl rfl)
theorem dX6_init_1 : decode cX6_init 1 = .ok (.invokespecial 3, 3) := dk_183 0 3 (dk_at dksX6_init_0 1 rfl rfl)
theorem dX6_init_4 : decode cX6_init 4 = .ok (.aload_n 0, 1) := dk_42 (dk_at dksX6_init_0 4 rfl rfl)
theorem dX6_init_5 : decode cX6_init 5 = .ok (.new 9, 3) := dk_187 0 9 (dk_at dksX6_init_0 5 rfl rfl)
theorem dX6_init_8 : decode cX6_init 8 = .ok (.dup, 1) := dk_89 (dk_at dksX6_init_0 8 rfl rfl)
theorem dX6_init_9 : decode cX6_init 9 = .ok (.invokespecial 11, 3) := dk_183 0 11 (dk_at dksX6_init_0 9 rfl rfl)
theorem dX6_init_12 : decode cX6_init 12 = .ok (.putfield 12, 3) := dk_181 0 12 (dk_at dksX6_init_0 12 rfl rfl)
theorem dX6_init_15 : decode cX6_init 15 = .ok (.aload_n 0, 1) := dk_42 (dk_at dksX6_init_0 15 rfl rfl)
theorem dX6_init_16 : decode cX6_init 16 = .ok (.aload_n 1, 1) := dk_43 (dk_at dksX6_init_0 16 rfl rfl)
theorem dX6_init_17 : decode cX6_init 17 = .ok (.putfield 18, 3) := dk_181 0 18 (dk_at dksX6_init_0 17 rfl rfl)
theorem dX6_init_20 : decode cX6_init 20 = .ok (.return_, 1) := dk_177 (dk_at dksX6_init_0 20 rfl rfl)
abbrev cX6_parse : ByteArray := prog_6_method_11_code
def yX6_parse : MethodName := ⟨RX6, "parse", "()V"⟩
def dkwX6_parse_2 : List UInt8 := [167, 0, 4, 3, 182, 0, 56, 177]
abbrev dktX6_parse_2 : List UInt8 := dkwX6_parse_2 ++ []
def dkwX6_parse_1 : List UInt8 := [16, 59, 182, 0, 52, 154, 255, 239, 42, 42, 180, 0, 32, 42, 180, 0, 18, 182, 0, 22, 160, 0, 7, 4]
abbrev dktX6_parse_1 : List UInt8 := dkwX6_parse_1 ++ dktX6_parse_2
def dkwX6_parse_0 : List UInt8 := [42, 3, 181, 0, 32, 42, 180, 0, 12, 182, 0, 106, 42, 180, 0, 12, 42, 182, 0, 109, 182, 0, 112, 42]
abbrev dktX6_parse_0 : List UInt8 := dkwX6_parse_0 ++ dktX6_parse_1
theorem dksX6_parse_0 : cX6_parse.data.toList.drop 0 = dktX6_parse_0 := by decide +kernel
theorem dksX6_parse_1 : cX6_parse.data.toList.drop 24 = dktX6_parse_1 := dk_seg dksX6_parse_0 24 rfl rfl
theorem dksX6_parse_2 : cX6_parse.data.toList.drop 48 = dktX6_parse_2 := dk_seg dksX6_parse_1 24 rfl rfl
theorem dX6_parse_0 : decode cX6_parse 0 = .ok (.aload_n 0, 1) := dk_42 (dk_at dksX6_parse_0 0 rfl rfl)
theorem dX6_parse_1 : decode cX6_parse 1 = .ok (.iconst 0, 1) := dk_3 (dk_at dksX6_parse_0 1 rfl rfl)
theorem dX6_parse_2 : decode cX6_parse 2 = .ok (.putfield 32, 3) := dk_181 0 32 (dk_at dksX6_parse_0 2 rfl rfl)
theorem dX6_parse_5 : decode cX6_parse 5 = .ok (.aload_n 0, 1) := dk_42 (dk_at dksX6_parse_0 5 rfl rfl)
theorem dX6_parse_6 : decode cX6_parse 6 = .ok (.getfield 12, 3) := dk_180 0 12 (dk_at dksX6_parse_0 6 rfl rfl)
theorem dX6_parse_9 : decode cX6_parse 9 = .ok (.invokevirtual 106, 3) := dk_182 0 106 (dk_at dksX6_parse_0 9 rfl rfl)
theorem dX6_parse_12 : decode cX6_parse 12 = .ok (.aload_n 0, 1) := dk_42 (dk_at dksX6_parse_0 12 rfl rfl)
theorem dX6_parse_13 : decode cX6_parse 13 = .ok (.getfield 12, 3) := dk_180 0 12 (dk_at dksX6_parse_0 13 rfl rfl)
theorem dX6_parse_16 : decode cX6_parse 16 = .ok (.aload_n 0, 1) := dk_42 (dk_at dksX6_parse_0 16 rfl rfl)
theorem dX6_parse_17 : decode cX6_parse 17 = .ok (.invokevirtual 109, 3) := dk_182 0 109 (dk_at dksX6_parse_0 17 rfl rfl)
theorem dX6_parse_20 : decode cX6_parse 20 = .ok (.invokevirtual 112, 3) := dk_182 0 112 (dk_at dksX6_parse_0 20 rfl rfl)
theorem dX6_parse_23 : decode cX6_parse 23 = .ok (.aload_n 0, 1) := dk_42 (dk_at dksX6_parse_0 23 rfl rfl)
theorem dX6_parse_24 : decode cX6_parse 24 = .ok (.bipush 59, 2) := dk_16 59 (dk_at dksX6_parse_1 0 rfl rfl)
theorem dX6_parse_26 : decode cX6_parse 26 = .ok (.invokevirtual 52, 3) := dk_182 0 52 (dk_at dksX6_parse_1 2 rfl rfl)
theorem dX6_parse_29 : decode cX6_parse 29 = .ok (.ifCond .ne (-17), 3) := dk_154 255 239 (dk_at dksX6_parse_1 5 rfl rfl)
theorem dX6_parse_32 : decode cX6_parse 32 = .ok (.aload_n 0, 1) := dk_42 (dk_at dksX6_parse_1 8 rfl rfl)
theorem dX6_parse_33 : decode cX6_parse 33 = .ok (.aload_n 0, 1) := dk_42 (dk_at dksX6_parse_1 9 rfl rfl)
theorem dX6_parse_34 : decode cX6_parse 34 = .ok (.getfield 32, 3) := dk_180 0 32 (dk_at dksX6_parse_1 10 rfl rfl)
theorem dX6_parse_37 : decode cX6_parse 37 = .ok (.aload_n 0, 1) := dk_42 (dk_at dksX6_parse_1 13 rfl rfl)
theorem dX6_parse_38 : decode cX6_parse 38 = .ok (.getfield 18, 3) := dk_180 0 18 (dk_at dksX6_parse_1 14 rfl rfl)
theorem dX6_parse_41 : decode cX6_parse 41 = .ok (.invokevirtual 22, 3) := dk_182 0 22 (dk_at dksX6_parse_1 17 rfl rfl)
theorem dX6_parse_44 : decode cX6_parse 44 = .ok (.if_icmp .ne 7, 3) := dk_160 0 7 (dk_at dksX6_parse_1 20 rfl rfl)
theorem dX6_parse_47 : decode cX6_parse 47 = .ok (.iconst 1, 1) := dk_4 (dk_at dksX6_parse_1 23 rfl rfl)
theorem dX6_parse_48 : decode cX6_parse 48 = .ok (.goto 4, 3) := dk_167 0 4 (dk_at dksX6_parse_2 0 rfl rfl)
theorem dX6_parse_51 : decode cX6_parse 51 = .ok (.iconst 0, 1) := dk_3 (dk_at dksX6_parse_2 3 rfl rfl)
theorem dX6_parse_52 : decode cX6_parse 52 = .ok (.invokevirtual 56, 3) := dk_182 0 56 (dk_at dksX6_parse_2 4 rfl rfl)
theorem dX6_parse_55 : decode cX6_parse 55 = .ok (.return_, 1) := dk_177 (dk_at dksX6_parse_2 7 rfl rfl)
abbrev cX6_command : ByteArray := prog_6_method_10_code
def yX6_command : MethodName := ⟨RX6, "command", "()LInkPrintery$Command;"⟩
def dkwX6_command_6 : List UInt8 := [182, 0, 75, 42, 5, 182, 0, 79, 182, 0, 82, 176]
abbrev dktX6_command_6 : List UInt8 := dkwX6_command_6 ++ []
def dkwX6_command_5 : List UInt8 := [182, 0, 75, 176, 42, 18, 102, 182, 0, 75, 42, 5, 182, 0, 79, 182, 0, 82, 176, 42, 18, 104]
abbrev dktX6_command_5 : List UInt8 := dkwX6_command_5 ++ dktX6_command_6
def dkwX6_command_4 : List UInt8 := [182, 0, 82, 176, 42, 18, 98, 182, 0, 75, 42, 4, 182, 0, 79, 182, 0, 82, 176, 42, 18, 100]
abbrev dktX6_command_4 : List UInt8 := dkwX6_command_4 ++ dktX6_command_5
def dkwX6_command_3 : List UInt8 := [182, 0, 92, 176, 42, 18, 96, 182, 0, 75, 42, 4, 182, 0, 79, 182, 0, 82, 42, 5, 182, 0, 79]
abbrev dktX6_command_3 : List UInt8 := dkwX6_command_3 ++ dktX6_command_4
def dkwX6_command_2 : List UInt8 := [42, 18, 90, 182, 0, 75, 42, 4, 182, 0, 79, 182, 0, 82, 42, 6, 182, 0, 79, 182, 0, 82, 176, 42]
abbrev dktX6_command_2 : List UInt8 := dkwX6_command_2 ++ dktX6_command_3
def dkwX6_command_1 : List UInt8 := [170, 0, 0, 0, 0, 0, 0, 176, 0, 0, 0, 97, 0, 0, 0, 114, 0, 0, 0, 154, 0, 0, 0, 176, 0, 0, 0, 176, 0, 0, 0, 176, 0, 0, 0, 116, 0, 0, 0, 176, 0, 0, 0, 176, 0, 0, 0, 161, 0, 0, 0, 88, 0, 0, 0, 176, 0, 0, 0, 176, 0, 0, 0, 176, 0, 0, 0, 176, 0, 0, 0, 176, 0, 0, 0, 176, 0, 0, 0, 111, 0, 0, 0, 176, 0, 0, 0, 139]
abbrev dktX6_command_1 : List UInt8 := dkwX6_command_1 ++ dktX6_command_2
def dkwX6_command_0 : List UInt8 := [42, 182, 0, 40]
abbrev dktX6_command_0 : List UInt8 := dkwX6_command_0 ++ dktX6_command_1
theorem dksX6_command_0 : cX6_command.data.toList.drop 0 = dktX6_command_0 := by decide +kernel
theorem dksX6_command_1 : cX6_command.data.toList.drop 4 = dktX6_command_1 := dk_seg dksX6_command_0 4 rfl rfl
theorem dksX6_command_2 : cX6_command.data.toList.drop 92 = dktX6_command_2 := dk_seg dksX6_command_1 88 rfl rfl
theorem dksX6_command_3 : cX6_command.data.toList.drop 116 = dktX6_command_3 := dk_seg dksX6_command_2 24 rfl rfl
theorem dksX6_command_4 : cX6_command.data.toList.drop 139 = dktX6_command_4 := dk_seg dksX6_command_3 23 rfl rfl
theorem dksX6_command_5 : cX6_command.data.toList.drop 161 = dktX6_command_5 := dk_seg dksX6_command_4 22 rfl rfl
theorem dksX6_command_6 : cX6_command.data.toList.drop 183 = dktX6_command_6 := dk_seg dksX6_command_5 22 rfl rfl
theorem dX6_command_0 : decode cX6_command 0 = .ok (.aload_n 0, 1) := dk_42 (dk_at dksX6_command_0 0 rfl rfl)
theorem dX6_command_1 : decode cX6_command 1 = .ok (.invokevirtual 40, 3) := dk_182 0 40 (dk_at dksX6_command_0 1 rfl rfl)
theorem dX6_command_4 : decode cX6_command 4 = .ok (.tableswitch 176 97 114 #[154, 176, 176, 176, 116, 176, 176, 161, 88, 176, 176, 176, 176, 176, 176, 111, 176, 139], 88) := by decide +kernel
theorem dX6_command_92 : decode cX6_command 92 = .ok (.aload_n 0, 1) := dk_42 (dk_at dksX6_command_2 0 rfl rfl)
theorem dX6_command_93 : decode cX6_command 93 = .ok (.ldc 90, 2) := dk_18 90 (dk_at dksX6_command_2 1 rfl rfl)
theorem dX6_command_95 : decode cX6_command 95 = .ok (.invokevirtual 75, 3) := dk_182 0 75 (dk_at dksX6_command_2 3 rfl rfl)
theorem dX6_command_98 : decode cX6_command 98 = .ok (.aload_n 0, 1) := dk_42 (dk_at dksX6_command_2 6 rfl rfl)
theorem dX6_command_99 : decode cX6_command 99 = .ok (.iconst 1, 1) := dk_4 (dk_at dksX6_command_2 7 rfl rfl)
theorem dX6_command_100 : decode cX6_command 100 = .ok (.invokevirtual 79, 3) := dk_182 0 79 (dk_at dksX6_command_2 8 rfl rfl)
theorem dX6_command_103 : decode cX6_command 103 = .ok (.invokevirtual 82, 3) := dk_182 0 82 (dk_at dksX6_command_2 11 rfl rfl)
theorem dX6_command_106 : decode cX6_command 106 = .ok (.aload_n 0, 1) := dk_42 (dk_at dksX6_command_2 14 rfl rfl)
theorem dX6_command_107 : decode cX6_command 107 = .ok (.iconst 3, 1) := dk_6 (dk_at dksX6_command_2 15 rfl rfl)
theorem dX6_command_108 : decode cX6_command 108 = .ok (.invokevirtual 79, 3) := dk_182 0 79 (dk_at dksX6_command_2 16 rfl rfl)
theorem dX6_command_111 : decode cX6_command 111 = .ok (.invokevirtual 82, 3) := dk_182 0 82 (dk_at dksX6_command_2 19 rfl rfl)
theorem dX6_command_114 : decode cX6_command 114 = .ok (.areturn, 1) := dk_176 (dk_at dksX6_command_2 22 rfl rfl)
theorem dX6_command_115 : decode cX6_command 115 = .ok (.aload_n 0, 1) := dk_42 (dk_at dksX6_command_2 23 rfl rfl)
theorem dX6_command_116 : decode cX6_command 116 = .ok (.invokevirtual 92, 3) := dk_182 0 92 (dk_at dksX6_command_3 0 rfl rfl)
theorem dX6_command_119 : decode cX6_command 119 = .ok (.areturn, 1) := dk_176 (dk_at dksX6_command_3 3 rfl rfl)
theorem dX6_command_120 : decode cX6_command 120 = .ok (.aload_n 0, 1) := dk_42 (dk_at dksX6_command_3 4 rfl rfl)
theorem dX6_command_121 : decode cX6_command 121 = .ok (.ldc 96, 2) := dk_18 96 (dk_at dksX6_command_3 5 rfl rfl)
theorem dX6_command_123 : decode cX6_command 123 = .ok (.invokevirtual 75, 3) := dk_182 0 75 (dk_at dksX6_command_3 7 rfl rfl)
theorem dX6_command_126 : decode cX6_command 126 = .ok (.aload_n 0, 1) := dk_42 (dk_at dksX6_command_3 10 rfl rfl)
theorem dX6_command_127 : decode cX6_command 127 = .ok (.iconst 1, 1) := dk_4 (dk_at dksX6_command_3 11 rfl rfl)
theorem dX6_command_128 : decode cX6_command 128 = .ok (.invokevirtual 79, 3) := dk_182 0 79 (dk_at dksX6_command_3 12 rfl rfl)
theorem dX6_command_131 : decode cX6_command 131 = .ok (.invokevirtual 82, 3) := dk_182 0 82 (dk_at dksX6_command_3 15 rfl rfl)
theorem dX6_command_134 : decode cX6_command 134 = .ok (.aload_n 0, 1) := dk_42 (dk_at dksX6_command_3 18 rfl rfl)
theorem dX6_command_135 : decode cX6_command 135 = .ok (.iconst 2, 1) := dk_5 (dk_at dksX6_command_3 19 rfl rfl)
theorem dX6_command_136 : decode cX6_command 136 = .ok (.invokevirtual 79, 3) := dk_182 0 79 (dk_at dksX6_command_3 20 rfl rfl)
theorem dX6_command_139 : decode cX6_command 139 = .ok (.invokevirtual 82, 3) := dk_182 0 82 (dk_at dksX6_command_4 0 rfl rfl)
theorem dX6_command_142 : decode cX6_command 142 = .ok (.areturn, 1) := dk_176 (dk_at dksX6_command_4 3 rfl rfl)
theorem dX6_command_143 : decode cX6_command 143 = .ok (.aload_n 0, 1) := dk_42 (dk_at dksX6_command_4 4 rfl rfl)
theorem dX6_command_144 : decode cX6_command 144 = .ok (.ldc 98, 2) := dk_18 98 (dk_at dksX6_command_4 5 rfl rfl)
theorem dX6_command_146 : decode cX6_command 146 = .ok (.invokevirtual 75, 3) := dk_182 0 75 (dk_at dksX6_command_4 7 rfl rfl)
theorem dX6_command_149 : decode cX6_command 149 = .ok (.aload_n 0, 1) := dk_42 (dk_at dksX6_command_4 10 rfl rfl)
theorem dX6_command_150 : decode cX6_command 150 = .ok (.iconst 1, 1) := dk_4 (dk_at dksX6_command_4 11 rfl rfl)
theorem dX6_command_151 : decode cX6_command 151 = .ok (.invokevirtual 79, 3) := dk_182 0 79 (dk_at dksX6_command_4 12 rfl rfl)
theorem dX6_command_154 : decode cX6_command 154 = .ok (.invokevirtual 82, 3) := dk_182 0 82 (dk_at dksX6_command_4 15 rfl rfl)
theorem dX6_command_157 : decode cX6_command 157 = .ok (.areturn, 1) := dk_176 (dk_at dksX6_command_4 18 rfl rfl)
theorem dX6_command_158 : decode cX6_command 158 = .ok (.aload_n 0, 1) := dk_42 (dk_at dksX6_command_4 19 rfl rfl)
theorem dX6_command_159 : decode cX6_command 159 = .ok (.ldc 100, 2) := dk_18 100 (dk_at dksX6_command_4 20 rfl rfl)
theorem dX6_command_161 : decode cX6_command 161 = .ok (.invokevirtual 75, 3) := dk_182 0 75 (dk_at dksX6_command_5 0 rfl rfl)
theorem dX6_command_164 : decode cX6_command 164 = .ok (.areturn, 1) := dk_176 (dk_at dksX6_command_5 3 rfl rfl)
theorem dX6_command_165 : decode cX6_command 165 = .ok (.aload_n 0, 1) := dk_42 (dk_at dksX6_command_5 4 rfl rfl)
theorem dX6_command_166 : decode cX6_command 166 = .ok (.ldc 102, 2) := dk_18 102 (dk_at dksX6_command_5 5 rfl rfl)
theorem dX6_command_168 : decode cX6_command 168 = .ok (.invokevirtual 75, 3) := dk_182 0 75 (dk_at dksX6_command_5 7 rfl rfl)
theorem dX6_command_171 : decode cX6_command 171 = .ok (.aload_n 0, 1) := dk_42 (dk_at dksX6_command_5 10 rfl rfl)
theorem dX6_command_172 : decode cX6_command 172 = .ok (.iconst 2, 1) := dk_5 (dk_at dksX6_command_5 11 rfl rfl)
theorem dX6_command_173 : decode cX6_command 173 = .ok (.invokevirtual 79, 3) := dk_182 0 79 (dk_at dksX6_command_5 12 rfl rfl)
theorem dX6_command_176 : decode cX6_command 176 = .ok (.invokevirtual 82, 3) := dk_182 0 82 (dk_at dksX6_command_5 15 rfl rfl)
theorem dX6_command_179 : decode cX6_command 179 = .ok (.areturn, 1) := dk_176 (dk_at dksX6_command_5 18 rfl rfl)
theorem dX6_command_180 : decode cX6_command 180 = .ok (.aload_n 0, 1) := dk_42 (dk_at dksX6_command_5 19 rfl rfl)
theorem dX6_command_181 : decode cX6_command 181 = .ok (.ldc 104, 2) := dk_18 104 (dk_at dksX6_command_5 20 rfl rfl)
theorem dX6_command_183 : decode cX6_command 183 = .ok (.invokevirtual 75, 3) := dk_182 0 75 (dk_at dksX6_command_6 0 rfl rfl)
theorem dX6_command_186 : decode cX6_command 186 = .ok (.aload_n 0, 1) := dk_42 (dk_at dksX6_command_6 3 rfl rfl)
theorem dX6_command_187 : decode cX6_command 187 = .ok (.iconst 2, 1) := dk_5 (dk_at dksX6_command_6 4 rfl rfl)
theorem dX6_command_188 : decode cX6_command 188 = .ok (.invokevirtual 79, 3) := dk_182 0 79 (dk_at dksX6_command_6 5 rfl rfl)
theorem dX6_command_191 : decode cX6_command 191 = .ok (.invokevirtual 82, 3) := dk_182 0 82 (dk_at dksX6_command_6 8 rfl rfl)
theorem dX6_command_194 : decode cX6_command 194 = .ok (.areturn, 1) := dk_176 (dk_at dksX6_command_6 11 rfl rfl)
abbrev cX6_current : ByteArray := prog_6_method_3_code
def yX6_current : MethodName := ⟨RX6, "current", "()I"⟩
def dkwX6_current_0 : List UInt8 := [42, 42, 180, 0, 32, 182, 0, 36, 172]
abbrev dktX6_current_0 : List UInt8 := dkwX6_current_0 ++ []
theorem dksX6_current_0 : cX6_current.data.toList.drop 0 = dktX6_current_0 := by decide +kernel
theorem dX6_current_0 : decode cX6_current 0 = .ok (.aload_n 0, 1) := dk_42 (dk_at dksX6_current_0 0 rfl rfl)
theorem dX6_current_1 : decode cX6_current 1 = .ok (.aload_n 0, 1) := dk_42 (dk_at dksX6_current_0 1 rfl rfl)
theorem dX6_current_2 : decode cX6_current 2 = .ok (.getfield 32, 3) := dk_180 0 32 (dk_at dksX6_current_0 2 rfl rfl)
theorem dX6_current_5 : decode cX6_current 5 = .ok (.invokevirtual 36, 3) := dk_182 0 36 (dk_at dksX6_current_0 5 rfl rfl)
theorem dX6_current_8 : decode cX6_current 8 = .ok (.ireturn, 1) := dk_172 (dk_at dksX6_current_0 8 rfl rfl)
abbrev cX6_at : ByteArray := prog_6_method_2_code
def yX6_at : MethodName := ⟨RX6, "at", "(I)I"⟩
def dkwX6_at_0 : List UInt8 := [27, 42, 180, 0, 18, 182, 0, 22, 162, 0, 14, 42, 180, 0, 18, 27, 182, 0, 28, 167, 0, 4, 2, 172]
abbrev dktX6_at_0 : List UInt8 := dkwX6_at_0 ++ []
theorem dksX6_at_0 : cX6_at.data.toList.drop 0 = dktX6_at_0 := by decide +kernel
theorem dX6_at_0 : decode cX6_at 0 = .ok (.iload_n 1, 1) := dk_27 (dk_at dksX6_at_0 0 rfl rfl)
theorem dX6_at_1 : decode cX6_at 1 = .ok (.aload_n 0, 1) := dk_42 (dk_at dksX6_at_0 1 rfl rfl)
theorem dX6_at_2 : decode cX6_at 2 = .ok (.getfield 18, 3) := dk_180 0 18 (dk_at dksX6_at_0 2 rfl rfl)
theorem dX6_at_5 : decode cX6_at 5 = .ok (.invokevirtual 22, 3) := dk_182 0 22 (dk_at dksX6_at_0 5 rfl rfl)
theorem dX6_at_8 : decode cX6_at 8 = .ok (.if_icmp .ge 14, 3) := dk_162 0 14 (dk_at dksX6_at_0 8 rfl rfl)
theorem dX6_at_11 : decode cX6_at 11 = .ok (.aload_n 0, 1) := dk_42 (dk_at dksX6_at_0 11 rfl rfl)
theorem dX6_at_12 : decode cX6_at 12 = .ok (.getfield 18, 3) := dk_180 0 18 (dk_at dksX6_at_0 12 rfl rfl)
theorem dX6_at_15 : decode cX6_at 15 = .ok (.iload_n 1, 1) := dk_27 (dk_at dksX6_at_0 15 rfl rfl)
theorem dX6_at_16 : decode cX6_at 16 = .ok (.invokevirtual 28, 3) := dk_182 0 28 (dk_at dksX6_at_0 16 rfl rfl)
theorem dX6_at_19 : decode cX6_at 19 = .ok (.goto 4, 3) := dk_167 0 4 (dk_at dksX6_at_0 19 rfl rfl)
theorem dX6_at_22 : decode cX6_at 22 = .ok (.iconst (-1), 1) := dk_2 (dk_at dksX6_at_0 22 rfl rfl)
theorem dX6_at_23 : decode cX6_at 23 = .ok (.ireturn, 1) := dk_172 (dk_at dksX6_at_0 23 rfl rfl)
abbrev cX6_word : ByteArray := prog_6_method_6_code
def yX6_word : MethodName := ⟨RX6, "word", "(Ljava/lang/String;)LInkPrintery$Command;"⟩
def dkwX6_word_1 : List UInt8 := [132, 2, 1, 167, 255, 232, 187, 0, 60, 89, 43, 183, 0, 62, 176]
abbrev dktX6_word_1 : List UInt8 := dkwX6_word_1 ++ []
def dkwX6_word_0 : List UInt8 := [3, 61, 28, 43, 182, 0, 48, 162, 0, 22, 42, 42, 43, 28, 182, 0, 51, 182, 0, 52, 182, 0, 56]
abbrev dktX6_word_0 : List UInt8 := dkwX6_word_0 ++ dktX6_word_1
theorem dksX6_word_0 : cX6_word.data.toList.drop 0 = dktX6_word_0 := by decide +kernel
theorem dksX6_word_1 : cX6_word.data.toList.drop 23 = dktX6_word_1 := dk_seg dksX6_word_0 23 rfl rfl
theorem dX6_word_0 : decode cX6_word 0 = .ok (.iconst 0, 1) := dk_3 (dk_at dksX6_word_0 0 rfl rfl)
theorem dX6_word_1 : decode cX6_word 1 = .ok (.istore_n 2, 1) := dk_61 (dk_at dksX6_word_0 1 rfl rfl)
theorem dX6_word_2 : decode cX6_word 2 = .ok (.iload_n 2, 1) := dk_28 (dk_at dksX6_word_0 2 rfl rfl)
theorem dX6_word_3 : decode cX6_word 3 = .ok (.aload_n 1, 1) := dk_43 (dk_at dksX6_word_0 3 rfl rfl)
theorem dX6_word_4 : decode cX6_word 4 = .ok (.invokevirtual 48, 3) := dk_182 0 48 (dk_at dksX6_word_0 4 rfl rfl)
theorem dX6_word_7 : decode cX6_word 7 = .ok (.if_icmp .ge 22, 3) := dk_162 0 22 (dk_at dksX6_word_0 7 rfl rfl)
theorem dX6_word_10 : decode cX6_word 10 = .ok (.aload_n 0, 1) := dk_42 (dk_at dksX6_word_0 10 rfl rfl)
theorem dX6_word_11 : decode cX6_word 11 = .ok (.aload_n 0, 1) := dk_42 (dk_at dksX6_word_0 11 rfl rfl)
theorem dX6_word_12 : decode cX6_word 12 = .ok (.aload_n 1, 1) := dk_43 (dk_at dksX6_word_0 12 rfl rfl)
theorem dX6_word_13 : decode cX6_word 13 = .ok (.iload_n 2, 1) := dk_28 (dk_at dksX6_word_0 13 rfl rfl)
theorem dX6_word_14 : decode cX6_word 14 = .ok (.invokevirtual 51, 3) := dk_182 0 51 (dk_at dksX6_word_0 14 rfl rfl)
theorem dX6_word_17 : decode cX6_word 17 = .ok (.invokevirtual 52, 3) := dk_182 0 52 (dk_at dksX6_word_0 17 rfl rfl)
theorem dX6_word_20 : decode cX6_word 20 = .ok (.invokevirtual 56, 3) := dk_182 0 56 (dk_at dksX6_word_0 20 rfl rfl)
theorem dX6_word_23 : decode cX6_word 23 = .ok (.iinc 2 1, 3) := dk_132 2 1 (dk_at dksX6_word_1 0 rfl rfl)
theorem dX6_word_26 : decode cX6_word 26 = .ok (.goto (-24), 3) := dk_167 255 232 (dk_at dksX6_word_1 3 rfl rfl)
theorem dX6_word_29 : decode cX6_word 29 = .ok (.new 60, 3) := dk_187 0 60 (dk_at dksX6_word_1 6 rfl rfl)
theorem dX6_word_32 : decode cX6_word 32 = .ok (.dup, 1) := dk_89 (dk_at dksX6_word_1 9 rfl rfl)
theorem dX6_word_33 : decode cX6_word 33 = .ok (.aload_n 1, 1) := dk_43 (dk_at dksX6_word_1 10 rfl rfl)
theorem dX6_word_34 : decode cX6_word 34 = .ok (.invokespecial 62, 3) := dk_183 0 62 (dk_at dksX6_word_1 11 rfl rfl)
theorem dX6_word_37 : decode cX6_word 37 = .ok (.areturn, 1) := dk_176 (dk_at dksX6_word_1 14 rfl rfl)
abbrev cX6_accept : ByteArray := prog_6_method_4_code
def yX6_accept : MethodName := ⟨RX6, "accept", "(C)Z"⟩
def dkwX6_accept_0 : List UInt8 := [42, 182, 0, 40, 27, 159, 0, 5, 3, 172, 42, 89, 180, 0, 32, 4, 96, 181, 0, 32, 4, 172]
abbrev dktX6_accept_0 : List UInt8 := dkwX6_accept_0 ++ []
theorem dksX6_accept_0 : cX6_accept.data.toList.drop 0 = dktX6_accept_0 := by decide +kernel
theorem dX6_accept_0 : decode cX6_accept 0 = .ok (.aload_n 0, 1) := dk_42 (dk_at dksX6_accept_0 0 rfl rfl)
theorem dX6_accept_1 : decode cX6_accept 1 = .ok (.invokevirtual 40, 3) := dk_182 0 40 (dk_at dksX6_accept_0 1 rfl rfl)
theorem dX6_accept_4 : decode cX6_accept 4 = .ok (.iload_n 1, 1) := dk_27 (dk_at dksX6_accept_0 4 rfl rfl)
theorem dX6_accept_5 : decode cX6_accept 5 = .ok (.if_icmp .eq 5, 3) := dk_159 0 5 (dk_at dksX6_accept_0 5 rfl rfl)
theorem dX6_accept_8 : decode cX6_accept 8 = .ok (.iconst 0, 1) := dk_3 (dk_at dksX6_accept_0 8 rfl rfl)
theorem dX6_accept_9 : decode cX6_accept 9 = .ok (.ireturn, 1) := dk_172 (dk_at dksX6_accept_0 9 rfl rfl)
theorem dX6_accept_10 : decode cX6_accept 10 = .ok (.aload_n 0, 1) := dk_42 (dk_at dksX6_accept_0 10 rfl rfl)
theorem dX6_accept_11 : decode cX6_accept 11 = .ok (.dup, 1) := dk_89 (dk_at dksX6_accept_0 11 rfl rfl)
theorem dX6_accept_12 : decode cX6_accept 12 = .ok (.getfield 32, 3) := dk_180 0 32 (dk_at dksX6_accept_0 12 rfl rfl)
theorem dX6_accept_15 : decode cX6_accept 15 = .ok (.iconst 1, 1) := dk_4 (dk_at dksX6_accept_0 15 rfl rfl)
theorem dX6_accept_16 : decode cX6_accept 16 = .ok (.iadd, 1) := dk_96 (dk_at dksX6_accept_0 16 rfl rfl)
theorem dX6_accept_17 : decode cX6_accept 17 = .ok (.putfield 32, 3) := dk_181 0 32 (dk_at dksX6_accept_0 17 rfl rfl)
theorem dX6_accept_20 : decode cX6_accept 20 = .ok (.iconst 1, 1) := dk_4 (dk_at dksX6_accept_0 20 rfl rfl)
theorem dX6_accept_21 : decode cX6_accept 21 = .ok (.ireturn, 1) := dk_172 (dk_at dksX6_accept_0 21 rfl rfl)
abbrev cX6_expect : ByteArray := prog_6_method_5_code
def yX6_expect : MethodName := ⟨RX6, "expect", "(Z)V"⟩
def dkwX6_expect_0 : List UInt8 := [27, 154, 0, 15, 187, 0, 43, 89, 42, 180, 0, 32, 183, 0, 45, 191, 177]
abbrev dktX6_expect_0 : List UInt8 := dkwX6_expect_0 ++ []
theorem dksX6_expect_0 : cX6_expect.data.toList.drop 0 = dktX6_expect_0 := by decide +kernel
theorem dX6_expect_0 : decode cX6_expect 0 = .ok (.iload_n 1, 1) := dk_27 (dk_at dksX6_expect_0 0 rfl rfl)
theorem dX6_expect_1 : decode cX6_expect 1 = .ok (.ifCond .ne 15, 3) := dk_154 0 15 (dk_at dksX6_expect_0 1 rfl rfl)
theorem dX6_expect_4 : decode cX6_expect 4 = .ok (.new 43, 3) := dk_187 0 43 (dk_at dksX6_expect_0 4 rfl rfl)
theorem dX6_expect_7 : decode cX6_expect 7 = .ok (.dup, 1) := dk_89 (dk_at dksX6_expect_0 7 rfl rfl)
theorem dX6_expect_8 : decode cX6_expect 8 = .ok (.aload_n 0, 1) := dk_42 (dk_at dksX6_expect_0 8 rfl rfl)
theorem dX6_expect_9 : decode cX6_expect 9 = .ok (.getfield 32, 3) := dk_180 0 32 (dk_at dksX6_expect_0 9 rfl rfl)
theorem dX6_expect_12 : decode cX6_expect 12 = .ok (.invokespecial 45, 3) := dk_183 0 45 (dk_at dksX6_expect_0 12 rfl rfl)
theorem dX6_expect_15 : decode cX6_expect 15 = .ok (.athrow, 1) := dk_191 (dk_at dksX6_expect_0 15 rfl rfl)
theorem dX6_expect_16 : decode cX6_expect 16 = .ok (.return_, 1) := dk_177 (dk_at dksX6_expect_0 16 rfl rfl)
abbrev cX6_number : ByteArray := prog_6_method_8_code
def yX6_number : MethodName := ⟨RX6, "number", "(I)I"⟩
def dkwX6_number_2 : List UInt8 := [89, 180, 0, 32, 4, 96, 181, 0, 32, 132, 3, 1, 167, 255, 218, 28, 172]
abbrev dktX6_number_2 : List UInt8 := dkwX6_number_2 ++ []
def dkwX6_number_1 : List UInt8 := [162, 0, 39, 42, 182, 0, 69, 153, 0, 32, 16, 10, 28, 104, 42, 182, 0, 40, 96, 16, 48, 100, 61, 42]
abbrev dktX6_number_1 : List UInt8 := dkwX6_number_1 ++ dktX6_number_2
def dkwX6_number_0 : List UInt8 := [42, 42, 16, 32, 182, 0, 52, 182, 0, 56, 42, 42, 182, 0, 69, 182, 0, 56, 3, 61, 3, 62, 29, 27]
abbrev dktX6_number_0 : List UInt8 := dkwX6_number_0 ++ dktX6_number_1
theorem dksX6_number_0 : cX6_number.data.toList.drop 0 = dktX6_number_0 := by decide +kernel
theorem dksX6_number_1 : cX6_number.data.toList.drop 24 = dktX6_number_1 := dk_seg dksX6_number_0 24 rfl rfl
theorem dksX6_number_2 : cX6_number.data.toList.drop 48 = dktX6_number_2 := dk_seg dksX6_number_1 24 rfl rfl
theorem dX6_number_0 : decode cX6_number 0 = .ok (.aload_n 0, 1) := dk_42 (dk_at dksX6_number_0 0 rfl rfl)
theorem dX6_number_1 : decode cX6_number 1 = .ok (.aload_n 0, 1) := dk_42 (dk_at dksX6_number_0 1 rfl rfl)
theorem dX6_number_2 : decode cX6_number 2 = .ok (.bipush 32, 2) := dk_16 32 (dk_at dksX6_number_0 2 rfl rfl)
theorem dX6_number_4 : decode cX6_number 4 = .ok (.invokevirtual 52, 3) := dk_182 0 52 (dk_at dksX6_number_0 4 rfl rfl)
theorem dX6_number_7 : decode cX6_number 7 = .ok (.invokevirtual 56, 3) := dk_182 0 56 (dk_at dksX6_number_0 7 rfl rfl)
theorem dX6_number_10 : decode cX6_number 10 = .ok (.aload_n 0, 1) := dk_42 (dk_at dksX6_number_0 10 rfl rfl)
theorem dX6_number_11 : decode cX6_number 11 = .ok (.aload_n 0, 1) := dk_42 (dk_at dksX6_number_0 11 rfl rfl)
theorem dX6_number_12 : decode cX6_number 12 = .ok (.invokevirtual 69, 3) := dk_182 0 69 (dk_at dksX6_number_0 12 rfl rfl)
theorem dX6_number_15 : decode cX6_number 15 = .ok (.invokevirtual 56, 3) := dk_182 0 56 (dk_at dksX6_number_0 15 rfl rfl)
theorem dX6_number_18 : decode cX6_number 18 = .ok (.iconst 0, 1) := dk_3 (dk_at dksX6_number_0 18 rfl rfl)
theorem dX6_number_19 : decode cX6_number 19 = .ok (.istore_n 2, 1) := dk_61 (dk_at dksX6_number_0 19 rfl rfl)
theorem dX6_number_20 : decode cX6_number 20 = .ok (.iconst 0, 1) := dk_3 (dk_at dksX6_number_0 20 rfl rfl)
theorem dX6_number_21 : decode cX6_number 21 = .ok (.istore_n 3, 1) := dk_62 (dk_at dksX6_number_0 21 rfl rfl)
theorem dX6_number_22 : decode cX6_number 22 = .ok (.iload_n 3, 1) := dk_29 (dk_at dksX6_number_0 22 rfl rfl)
theorem dX6_number_23 : decode cX6_number 23 = .ok (.iload_n 1, 1) := dk_27 (dk_at dksX6_number_0 23 rfl rfl)
theorem dX6_number_24 : decode cX6_number 24 = .ok (.if_icmp .ge 39, 3) := dk_162 0 39 (dk_at dksX6_number_1 0 rfl rfl)
theorem dX6_number_27 : decode cX6_number 27 = .ok (.aload_n 0, 1) := dk_42 (dk_at dksX6_number_1 3 rfl rfl)
theorem dX6_number_28 : decode cX6_number 28 = .ok (.invokevirtual 69, 3) := dk_182 0 69 (dk_at dksX6_number_1 4 rfl rfl)
theorem dX6_number_31 : decode cX6_number 31 = .ok (.ifCond .eq 32, 3) := dk_153 0 32 (dk_at dksX6_number_1 7 rfl rfl)
theorem dX6_number_34 : decode cX6_number 34 = .ok (.bipush 10, 2) := dk_16 10 (dk_at dksX6_number_1 10 rfl rfl)
theorem dX6_number_36 : decode cX6_number 36 = .ok (.iload_n 2, 1) := dk_28 (dk_at dksX6_number_1 12 rfl rfl)
theorem dX6_number_37 : decode cX6_number 37 = .ok (.imul, 1) := dk_104 (dk_at dksX6_number_1 13 rfl rfl)
theorem dX6_number_38 : decode cX6_number 38 = .ok (.aload_n 0, 1) := dk_42 (dk_at dksX6_number_1 14 rfl rfl)
theorem dX6_number_39 : decode cX6_number 39 = .ok (.invokevirtual 40, 3) := dk_182 0 40 (dk_at dksX6_number_1 15 rfl rfl)
theorem dX6_number_42 : decode cX6_number 42 = .ok (.iadd, 1) := dk_96 (dk_at dksX6_number_1 18 rfl rfl)
theorem dX6_number_43 : decode cX6_number 43 = .ok (.bipush 48, 2) := dk_16 48 (dk_at dksX6_number_1 19 rfl rfl)
theorem dX6_number_45 : decode cX6_number 45 = .ok (.isub, 1) := dk_100 (dk_at dksX6_number_1 21 rfl rfl)
theorem dX6_number_46 : decode cX6_number 46 = .ok (.istore_n 2, 1) := dk_61 (dk_at dksX6_number_1 22 rfl rfl)
theorem dX6_number_47 : decode cX6_number 47 = .ok (.aload_n 0, 1) := dk_42 (dk_at dksX6_number_1 23 rfl rfl)
theorem dX6_number_48 : decode cX6_number 48 = .ok (.dup, 1) := dk_89 (dk_at dksX6_number_2 0 rfl rfl)
theorem dX6_number_49 : decode cX6_number 49 = .ok (.getfield 32, 3) := dk_180 0 32 (dk_at dksX6_number_2 1 rfl rfl)
theorem dX6_number_52 : decode cX6_number 52 = .ok (.iconst 1, 1) := dk_4 (dk_at dksX6_number_2 4 rfl rfl)
theorem dX6_number_53 : decode cX6_number 53 = .ok (.iadd, 1) := dk_96 (dk_at dksX6_number_2 5 rfl rfl)
theorem dX6_number_54 : decode cX6_number 54 = .ok (.putfield 32, 3) := dk_181 0 32 (dk_at dksX6_number_2 6 rfl rfl)
theorem dX6_number_57 : decode cX6_number 57 = .ok (.iinc 3 1, 3) := dk_132 3 1 (dk_at dksX6_number_2 9 rfl rfl)
theorem dX6_number_60 : decode cX6_number 60 = .ok (.goto (-38), 3) := dk_167 255 218 (dk_at dksX6_number_2 12 rfl rfl)
theorem dX6_number_63 : decode cX6_number 63 = .ok (.iload_n 2, 1) := dk_28 (dk_at dksX6_number_2 15 rfl rfl)
theorem dX6_number_64 : decode cX6_number 64 = .ok (.ireturn, 1) := dk_172 (dk_at dksX6_number_2 16 rfl rfl)
abbrev cX6_isDigit : ByteArray := prog_6_method_7_code
def yX6_isDigit : MethodName := ⟨RX6, "isDigit", "()Z"⟩
def dkwX6_isDigit_0 : List UInt8 := [42, 182, 0, 40, 16, 48, 16, 57, 184, 0, 65, 172]
abbrev dktX6_isDigit_0 : List UInt8 := dkwX6_isDigit_0 ++ []
theorem dksX6_isDigit_0 : cX6_isDigit.data.toList.drop 0 = dktX6_isDigit_0 := by decide +kernel
theorem dX6_isDigit_0 : decode cX6_isDigit 0 = .ok (.aload_n 0, 1) := dk_42 (dk_at dksX6_isDigit_0 0 rfl rfl)
theorem dX6_isDigit_1 : decode cX6_isDigit 1 = .ok (.invokevirtual 40, 3) := dk_182 0 40 (dk_at dksX6_isDigit_0 1 rfl rfl)
theorem dX6_isDigit_4 : decode cX6_isDigit 4 = .ok (.bipush 48, 2) := dk_16 48 (dk_at dksX6_isDigit_0 4 rfl rfl)
theorem dX6_isDigit_6 : decode cX6_isDigit 6 = .ok (.bipush 57, 2) := dk_16 57 (dk_at dksX6_isDigit_0 6 rfl rfl)
theorem dX6_isDigit_8 : decode cX6_isDigit 8 = .ok (.invokestatic 65, 3) := dk_184 0 65 (dk_at dksX6_isDigit_0 8 rfl rfl)
theorem dX6_isDigit_11 : decode cX6_isDigit 11 = .ok (.ireturn, 1) := dk_172 (dk_at dksX6_isDigit_0 11 rfl rfl)
abbrev cX6_commandWithP : ByteArray := prog_6_method_9_code
def yX6_commandWithP : MethodName := ⟨RX6, "commandWithP", "()LInkPrintery$Command;"⟩
def dkwX6_commandWithP_3 : List UInt8 := [182, 0, 79, 182, 0, 82, 176]
abbrev dktX6_commandWithP_3 : List UInt8 := dkwX6_commandWithP_3 ++ []
def dkwX6_commandWithP_2 : List UInt8 := [18, 86, 182, 0, 75, 42, 5, 182, 0, 79, 182, 0, 82, 167, 0, 17, 42, 18, 88, 182, 0, 75, 42, 4]
abbrev dktX6_commandWithP_2 : List UInt8 := dkwX6_commandWithP_2 ++ dktX6_commandWithP_3
def dkwX6_commandWithP_1 : List UInt8 := [182, 0, 79, 182, 0, 82, 176, 42, 42, 180, 0, 32, 5, 96, 182, 0, 36, 16, 111, 160, 0, 20, 42]
abbrev dktX6_commandWithP_1 : List UInt8 := dkwX6_commandWithP_1 ++ dktX6_commandWithP_2
def dkwX6_commandWithP_0 : List UInt8 := [42, 42, 180, 0, 32, 4, 96, 182, 0, 36, 16, 114, 159, 0, 18, 42, 18, 73, 182, 0, 75, 42, 6]
abbrev dktX6_commandWithP_0 : List UInt8 := dkwX6_commandWithP_0 ++ dktX6_commandWithP_1
theorem dksX6_commandWithP_0 : cX6_commandWithP.data.toList.drop 0 = dktX6_commandWithP_0 := by decide +kernel
theorem dksX6_commandWithP_1 : cX6_commandWithP.data.toList.drop 23 = dktX6_commandWithP_1 := dk_seg dksX6_commandWithP_0 23 rfl rfl
theorem dksX6_commandWithP_2 : cX6_commandWithP.data.toList.drop 46 = dktX6_commandWithP_2 := dk_seg dksX6_commandWithP_1 23 rfl rfl
theorem dksX6_commandWithP_3 : cX6_commandWithP.data.toList.drop 70 = dktX6_commandWithP_3 := dk_seg dksX6_commandWithP_2 24 rfl rfl
theorem dX6_commandWithP_0 : decode cX6_commandWithP 0 = .ok (.aload_n 0, 1) := dk_42 (dk_at dksX6_commandWithP_0 0 rfl rfl)
theorem dX6_commandWithP_1 : decode cX6_commandWithP 1 = .ok (.aload_n 0, 1) := dk_42 (dk_at dksX6_commandWithP_0 1 rfl rfl)
theorem dX6_commandWithP_2 : decode cX6_commandWithP 2 = .ok (.getfield 32, 3) := dk_180 0 32 (dk_at dksX6_commandWithP_0 2 rfl rfl)
theorem dX6_commandWithP_5 : decode cX6_commandWithP 5 = .ok (.iconst 1, 1) := dk_4 (dk_at dksX6_commandWithP_0 5 rfl rfl)
theorem dX6_commandWithP_6 : decode cX6_commandWithP 6 = .ok (.iadd, 1) := dk_96 (dk_at dksX6_commandWithP_0 6 rfl rfl)
theorem dX6_commandWithP_7 : decode cX6_commandWithP 7 = .ok (.invokevirtual 36, 3) := dk_182 0 36 (dk_at dksX6_commandWithP_0 7 rfl rfl)
theorem dX6_commandWithP_10 : decode cX6_commandWithP 10 = .ok (.bipush 114, 2) := dk_16 114 (dk_at dksX6_commandWithP_0 10 rfl rfl)
theorem dX6_commandWithP_12 : decode cX6_commandWithP 12 = .ok (.if_icmp .eq 18, 3) := dk_159 0 18 (dk_at dksX6_commandWithP_0 12 rfl rfl)
theorem dX6_commandWithP_15 : decode cX6_commandWithP 15 = .ok (.aload_n 0, 1) := dk_42 (dk_at dksX6_commandWithP_0 15 rfl rfl)
theorem dX6_commandWithP_16 : decode cX6_commandWithP 16 = .ok (.ldc 73, 2) := dk_18 73 (dk_at dksX6_commandWithP_0 16 rfl rfl)
theorem dX6_commandWithP_18 : decode cX6_commandWithP 18 = .ok (.invokevirtual 75, 3) := dk_182 0 75 (dk_at dksX6_commandWithP_0 18 rfl rfl)
theorem dX6_commandWithP_21 : decode cX6_commandWithP 21 = .ok (.aload_n 0, 1) := dk_42 (dk_at dksX6_commandWithP_0 21 rfl rfl)
theorem dX6_commandWithP_22 : decode cX6_commandWithP 22 = .ok (.iconst 3, 1) := dk_6 (dk_at dksX6_commandWithP_0 22 rfl rfl)
theorem dX6_commandWithP_23 : decode cX6_commandWithP 23 = .ok (.invokevirtual 79, 3) := dk_182 0 79 (dk_at dksX6_commandWithP_1 0 rfl rfl)
theorem dX6_commandWithP_26 : decode cX6_commandWithP 26 = .ok (.invokevirtual 82, 3) := dk_182 0 82 (dk_at dksX6_commandWithP_1 3 rfl rfl)
theorem dX6_commandWithP_29 : decode cX6_commandWithP 29 = .ok (.areturn, 1) := dk_176 (dk_at dksX6_commandWithP_1 6 rfl rfl)
theorem dX6_commandWithP_30 : decode cX6_commandWithP 30 = .ok (.aload_n 0, 1) := dk_42 (dk_at dksX6_commandWithP_1 7 rfl rfl)
theorem dX6_commandWithP_31 : decode cX6_commandWithP 31 = .ok (.aload_n 0, 1) := dk_42 (dk_at dksX6_commandWithP_1 8 rfl rfl)
theorem dX6_commandWithP_32 : decode cX6_commandWithP 32 = .ok (.getfield 32, 3) := dk_180 0 32 (dk_at dksX6_commandWithP_1 9 rfl rfl)
theorem dX6_commandWithP_35 : decode cX6_commandWithP 35 = .ok (.iconst 2, 1) := dk_5 (dk_at dksX6_commandWithP_1 12 rfl rfl)
theorem dX6_commandWithP_36 : decode cX6_commandWithP 36 = .ok (.iadd, 1) := dk_96 (dk_at dksX6_commandWithP_1 13 rfl rfl)
theorem dX6_commandWithP_37 : decode cX6_commandWithP 37 = .ok (.invokevirtual 36, 3) := dk_182 0 36 (dk_at dksX6_commandWithP_1 14 rfl rfl)
theorem dX6_commandWithP_40 : decode cX6_commandWithP 40 = .ok (.bipush 111, 2) := dk_16 111 (dk_at dksX6_commandWithP_1 17 rfl rfl)
theorem dX6_commandWithP_42 : decode cX6_commandWithP 42 = .ok (.if_icmp .ne 20, 3) := dk_160 0 20 (dk_at dksX6_commandWithP_1 19 rfl rfl)
theorem dX6_commandWithP_45 : decode cX6_commandWithP 45 = .ok (.aload_n 0, 1) := dk_42 (dk_at dksX6_commandWithP_1 22 rfl rfl)
theorem dX6_commandWithP_46 : decode cX6_commandWithP 46 = .ok (.ldc 86, 2) := dk_18 86 (dk_at dksX6_commandWithP_2 0 rfl rfl)
theorem dX6_commandWithP_48 : decode cX6_commandWithP 48 = .ok (.invokevirtual 75, 3) := dk_182 0 75 (dk_at dksX6_commandWithP_2 2 rfl rfl)
theorem dX6_commandWithP_51 : decode cX6_commandWithP 51 = .ok (.aload_n 0, 1) := dk_42 (dk_at dksX6_commandWithP_2 5 rfl rfl)
theorem dX6_commandWithP_52 : decode cX6_commandWithP 52 = .ok (.iconst 2, 1) := dk_5 (dk_at dksX6_commandWithP_2 6 rfl rfl)
theorem dX6_commandWithP_53 : decode cX6_commandWithP 53 = .ok (.invokevirtual 79, 3) := dk_182 0 79 (dk_at dksX6_commandWithP_2 7 rfl rfl)
theorem dX6_commandWithP_56 : decode cX6_commandWithP 56 = .ok (.invokevirtual 82, 3) := dk_182 0 82 (dk_at dksX6_commandWithP_2 10 rfl rfl)
theorem dX6_commandWithP_59 : decode cX6_commandWithP 59 = .ok (.goto 17, 3) := dk_167 0 17 (dk_at dksX6_commandWithP_2 13 rfl rfl)
theorem dX6_commandWithP_62 : decode cX6_commandWithP 62 = .ok (.aload_n 0, 1) := dk_42 (dk_at dksX6_commandWithP_2 16 rfl rfl)
theorem dX6_commandWithP_63 : decode cX6_commandWithP 63 = .ok (.ldc 88, 2) := dk_18 88 (dk_at dksX6_commandWithP_2 17 rfl rfl)
theorem dX6_commandWithP_65 : decode cX6_commandWithP 65 = .ok (.invokevirtual 75, 3) := dk_182 0 75 (dk_at dksX6_commandWithP_2 19 rfl rfl)
theorem dX6_commandWithP_68 : decode cX6_commandWithP 68 = .ok (.aload_n 0, 1) := dk_42 (dk_at dksX6_commandWithP_2 22 rfl rfl)
theorem dX6_commandWithP_69 : decode cX6_commandWithP 69 = .ok (.iconst 1, 1) := dk_4 (dk_at dksX6_commandWithP_2 23 rfl rfl)
theorem dX6_commandWithP_70 : decode cX6_commandWithP 70 = .ok (.invokevirtual 79, 3) := dk_182 0 79 (dk_at dksX6_commandWithP_3 0 rfl rfl)
theorem dX6_commandWithP_73 : decode cX6_commandWithP 73 = .ok (.invokevirtual 82, 3) := dk_182 0 82 (dk_at dksX6_commandWithP_3 3 rfl rfl)
theorem dX6_commandWithP_76 : decode cX6_commandWithP 76 = .ok (.areturn, 1) := dk_176 (dk_at dksX6_commandWithP_3 6 rfl rfl)
theorem q99 : (Jvm.Cond.initialized "InkPrintery$Parser") ∈ lw_all := lw_g (lw_at lw_m1 16 rfl) rfl
theorem q384 : (Jvm.Cond.instantiable "InkPrintery$Parser" (3 : Nat)) ∈ lw_all := lw_g (lw_at lw_m2 61 rfl) rfl
theorem q386 : (Jvm.Cond.instanceMethod ({ cls := "InkPrintery$Parser", name := "<init>", desc := "(Ljava/lang/StringBuilder;)V" } : Jvm.MethodName)) ∈ lw_all := lw_g (lw_at lw_m2 63 rfl) rfl
theorem q387 : (Jvm.Cond.code ({ cls := "InkPrintery$Parser", name := "<init>", desc := "(Ljava/lang/StringBuilder;)V" } : Jvm.MethodName) prog_6_method_1_code (2 : Nat) (Option.none : Option Jvm.ClassFile.FieldType)) ∈ lw_all := lw_g (lw_at lw_m2 64 rfl) rfl
theorem q388 : (Jvm.Cond.methodLink "InkPrintery$Parser" (3 : Nat) ({ cls := "java/lang/Object", name := "<init>", desc := "()V" } : Jvm.MethodName)) ∈ lw_all := lw_g (lw_at lw_m2 65 rfl) rfl
theorem q389 : (Jvm.Cond.classLink "InkPrintery$Parser" (9 : Nat) "java/util/LinkedList") ∈ lw_all := lw_g (lw_at lw_m2 66 rfl) rfl
theorem q391 : (Jvm.Cond.methodLink "InkPrintery$Parser" (11 : Nat) ({ cls := "java/util/LinkedList", name := "<init>", desc := "()V" } : Jvm.MethodName)) ∈ lw_all := lw_g (lw_at lw_m2 68 rfl) rfl
theorem q419 : (Jvm.Cond.fieldLink "InkPrintery$Parser" (18 : Nat) "InkPrintery$Parser" "text" "Ljava/lang/StringBuilder;") ∈ lw_all := lw_g (lw_at lw_m2 96 rfl) rfl
theorem q420 : (Jvm.Cond.fieldLink "InkPrintery$Parser" (32 : Nat) "InkPrintery$Parser" "position" "I") ∈ lw_all := lw_g (lw_at lw_m2 97 rfl) rfl
theorem q421 : (Jvm.Cond.fieldLink "InkPrintery$Parser" (12 : Nat) "InkPrintery$Parser" "commands" "Ljava/util/LinkedList;") ∈ lw_all := lw_g (lw_at lw_m2 98 rfl) rfl
theorem q423 : (Jvm.Cond.laysFinal "InkPrintery$Parser" "InkPrintery$Parser" "text" "Ljava/lang/StringBuilder;") ∈ lw_all := lw_g (lw_at lw_m2 100 rfl) rfl
theorem q424 : (Jvm.Cond.soleField "InkPrintery$Parser" "text") ∈ lw_all := lw_g (lw_at lw_m2 101 rfl) rfl
theorem q425 : (Jvm.Cond.lays "InkPrintery$Parser" "InkPrintery$Parser" "position" "I") ∈ lw_all := lw_g (lw_at lw_m2 102 rfl) rfl
theorem q426 : (Jvm.Cond.soleField "InkPrintery$Parser" "position") ∈ lw_all := lw_g (lw_at lw_m2 103 rfl) rfl
theorem q427 : (Jvm.Cond.laysFinal "InkPrintery$Parser" "InkPrintery$Parser" "commands" "Ljava/util/LinkedList;") ∈ lw_all := lw_g (lw_at lw_m2 104 rfl) rfl
theorem q428 : (Jvm.Cond.soleField "InkPrintery$Parser" "commands") ∈ lw_all := lw_g (lw_at lw_m2 105 rfl) rfl
theorem q429 : (Jvm.Cond.superclass "InkPrintery$Parser" "java/lang/Object") ∈ lw_all := lw_g (lw_at lw_m2 106 rfl) rfl
theorem q500 : (Jvm.Cond.selects "InkPrintery$Parser" ({ cls := "java/lang/Object", name := "getClass", desc := "()Ljava/lang/Class;" } : Jvm.MethodName) ({ cls := "java/lang/Object", name := "getClass", desc := "()Ljava/lang/Class;" } : Jvm.MethodName)) ∈ lw_all := lw_g (lw_at lw_m2 177 rfl) rfl
theorem q1742 : (Jvm.Cond.instanceMethod ({ cls := "InkPrintery$Parser", name := "parse", desc := "()V" } : Jvm.MethodName)) ∈ lw_all := lw_g (lw_at lw_m7 219 rfl) rfl
theorem q1743 : (Jvm.Cond.selects "InkPrintery$Parser" ({ cls := "InkPrintery$Parser", name := "parse", desc := "()V" } : Jvm.MethodName) ({ cls := "InkPrintery$Parser", name := "parse", desc := "()V" } : Jvm.MethodName)) ∈ lw_all := lw_g (lw_at lw_m7 220 rfl) rfl
theorem q1744 : (Jvm.Cond.code ({ cls := "InkPrintery$Parser", name := "parse", desc := "()V" } : Jvm.MethodName) prog_6_method_11_code (1 : Nat) (Option.none : Option Jvm.ClassFile.FieldType)) ∈ lw_all := lw_g (lw_at lw_m7 221 rfl) rfl
theorem q1745 : (Jvm.Cond.methodLink "InkPrintery$Parser" (106 : Nat) ({ cls := "java/util/LinkedList", name := "clear", desc := "()V" } : Jvm.MethodName)) ∈ lw_all := lw_g (lw_at lw_m7 222 rfl) rfl
theorem q1749 : (Jvm.Cond.methodLink "InkPrintery$Parser" (109 : Nat) ({ cls := "InkPrintery$Parser", name := "command", desc := "()LInkPrintery$Command;" } : Jvm.MethodName)) ∈ lw_all := lw_g (lw_at lw_m7 226 rfl) rfl
theorem q1750 : (Jvm.Cond.privateMethod ({ cls := "InkPrintery$Parser", name := "command", desc := "()LInkPrintery$Command;" } : Jvm.MethodName)) ∈ lw_tbl := lw_at lw_m7 227 rfl
theorem q1751 : (Jvm.Cond.instanceMethod ({ cls := "InkPrintery$Parser", name := "command", desc := "()LInkPrintery$Command;" } : Jvm.MethodName)) ∈ lw_all := lw_g (lw_at lw_m7 228 rfl) rfl
theorem q1752 : (Jvm.Cond.code ({ cls := "InkPrintery$Parser", name := "command", desc := "()LInkPrintery$Command;" } : Jvm.MethodName) prog_6_method_10_code (1 : Nat) (Option.some (Jvm.ClassFile.FieldType.object "InkPrintery$Command"))) ∈ lw_all := lw_g (lw_at lw_m7 229 rfl) rfl
theorem q1753 : (Jvm.Cond.methodLink "InkPrintery$Parser" (40 : Nat) ({ cls := "InkPrintery$Parser", name := "current", desc := "()I" } : Jvm.MethodName)) ∈ lw_all := lw_g (lw_at lw_m7 230 rfl) rfl
theorem q1754 : (Jvm.Cond.privateMethod ({ cls := "InkPrintery$Parser", name := "current", desc := "()I" } : Jvm.MethodName)) ∈ lw_tbl := lw_at lw_m7 231 rfl
theorem q1755 : (Jvm.Cond.instanceMethod ({ cls := "InkPrintery$Parser", name := "current", desc := "()I" } : Jvm.MethodName)) ∈ lw_all := lw_g (lw_at lw_m7 232 rfl) rfl
theorem q1756 : (Jvm.Cond.code ({ cls := "InkPrintery$Parser", name := "current", desc := "()I" } : Jvm.MethodName) prog_6_method_3_code (1 : Nat) (Option.some Jvm.ClassFile.FieldType.int)) ∈ lw_all := lw_g (lw_at lw_m7 233 rfl) rfl
theorem q1757 : (Jvm.Cond.methodLink "InkPrintery$Parser" (36 : Nat) ({ cls := "InkPrintery$Parser", name := "at", desc := "(I)I" } : Jvm.MethodName)) ∈ lw_all := lw_g (lw_at lw_m7 234 rfl) rfl
theorem q1758 : (Jvm.Cond.privateMethod ({ cls := "InkPrintery$Parser", name := "at", desc := "(I)I" } : Jvm.MethodName)) ∈ lw_tbl := lw_at lw_m7 235 rfl
theorem q1759 : (Jvm.Cond.instanceMethod ({ cls := "InkPrintery$Parser", name := "at", desc := "(I)I" } : Jvm.MethodName)) ∈ lw_all := lw_g (lw_at lw_m7 236 rfl) rfl
theorem q1760 : (Jvm.Cond.code ({ cls := "InkPrintery$Parser", name := "at", desc := "(I)I" } : Jvm.MethodName) prog_6_method_2_code (2 : Nat) (Option.some Jvm.ClassFile.FieldType.int)) ∈ lw_all := lw_g (lw_at lw_m7 237 rfl) rfl
theorem q1761 : (Jvm.Cond.methodLink "InkPrintery$Parser" (22 : Nat) ({ cls := "java/lang/StringBuilder", name := "length", desc := "()I" } : Jvm.MethodName)) ∈ lw_all := lw_g (lw_at lw_m7 238 rfl) rfl
theorem q1762 : (Jvm.Cond.methodLink "InkPrintery$Parser" (28 : Nat) ({ cls := "java/lang/StringBuilder", name := "charAt", desc := "(I)C" } : Jvm.MethodName)) ∈ lw_all := lw_g (lw_at lw_m7 239 rfl) rfl
theorem q1763 : (Jvm.Cond.stringRef "InkPrintery$Parser" (90 : Nat) "ink") ∈ lw_tbl := lw_at lw_m8 0 rfl
theorem q1764 : (Jvm.Cond.methodLink "InkPrintery$Parser" (75 : Nat) ({ cls := "InkPrintery$Parser", name := "word", desc := "(Ljava/lang/String;)LInkPrintery$Command;" } : Jvm.MethodName)) ∈ lw_all := lw_g (lw_at lw_m8 1 rfl) rfl
theorem q1765 : (Jvm.Cond.privateMethod ({ cls := "InkPrintery$Parser", name := "word", desc := "(Ljava/lang/String;)LInkPrintery$Command;" } : Jvm.MethodName)) ∈ lw_tbl := lw_at lw_m8 2 rfl
theorem q1766 : (Jvm.Cond.instanceMethod ({ cls := "InkPrintery$Parser", name := "word", desc := "(Ljava/lang/String;)LInkPrintery$Command;" } : Jvm.MethodName)) ∈ lw_all := lw_g (lw_at lw_m8 3 rfl) rfl
theorem q1767 : (Jvm.Cond.code ({ cls := "InkPrintery$Parser", name := "word", desc := "(Ljava/lang/String;)LInkPrintery$Command;" } : Jvm.MethodName) prog_6_method_6_code (3 : Nat) (Option.some (Jvm.ClassFile.FieldType.object "InkPrintery$Command"))) ∈ lw_all := lw_g (lw_at lw_m8 4 rfl) rfl
theorem q1768 : (Jvm.Cond.methodLink "InkPrintery$Parser" (48 : Nat) ({ cls := "java/lang/String", name := "length", desc := "()I" } : Jvm.MethodName)) ∈ lw_all := lw_g (lw_at lw_m8 5 rfl) rfl
theorem q1769 : (Jvm.Cond.methodLink "InkPrintery$Parser" (51 : Nat) ({ cls := "java/lang/String", name := "charAt", desc := "(I)C" } : Jvm.MethodName)) ∈ lw_all := lw_g (lw_at lw_m8 6 rfl) rfl
theorem q1784 : (Jvm.Cond.methodLink "InkPrintery$Parser" (52 : Nat) ({ cls := "InkPrintery$Parser", name := "accept", desc := "(C)Z" } : Jvm.MethodName)) ∈ lw_all := lw_g (lw_at lw_m8 21 rfl) rfl
theorem q1785 : (Jvm.Cond.privateMethod ({ cls := "InkPrintery$Parser", name := "accept", desc := "(C)Z" } : Jvm.MethodName)) ∈ lw_tbl := lw_at lw_m8 22 rfl
theorem q1786 : (Jvm.Cond.instanceMethod ({ cls := "InkPrintery$Parser", name := "accept", desc := "(C)Z" } : Jvm.MethodName)) ∈ lw_all := lw_g (lw_at lw_m8 23 rfl) rfl
theorem q1787 : (Jvm.Cond.code ({ cls := "InkPrintery$Parser", name := "accept", desc := "(C)Z" } : Jvm.MethodName) prog_6_method_4_code (2 : Nat) (Option.some Jvm.ClassFile.FieldType.boolean)) ∈ lw_all := lw_g (lw_at lw_m8 24 rfl) rfl
theorem q1788 : (Jvm.Cond.methodLink "InkPrintery$Parser" (56 : Nat) ({ cls := "InkPrintery$Parser", name := "expect", desc := "(Z)V" } : Jvm.MethodName)) ∈ lw_all := lw_g (lw_at lw_m8 25 rfl) rfl
theorem q1789 : (Jvm.Cond.privateMethod ({ cls := "InkPrintery$Parser", name := "expect", desc := "(Z)V" } : Jvm.MethodName)) ∈ lw_tbl := lw_at lw_m8 26 rfl
theorem q1790 : (Jvm.Cond.instanceMethod ({ cls := "InkPrintery$Parser", name := "expect", desc := "(Z)V" } : Jvm.MethodName)) ∈ lw_all := lw_g (lw_at lw_m8 27 rfl) rfl
theorem q1791 : (Jvm.Cond.code ({ cls := "InkPrintery$Parser", name := "expect", desc := "(Z)V" } : Jvm.MethodName) prog_6_method_5_code (2 : Nat) (Option.none : Option Jvm.ClassFile.FieldType)) ∈ lw_all := lw_g (lw_at lw_m8 28 rfl) rfl
theorem q1792 : (Jvm.Cond.classLink "InkPrintery$Parser" (43 : Nat) "InkPrintery$SyntaxError") ∈ lw_all := lw_g (lw_at lw_m8 29 rfl) rfl
theorem q1801 : (Jvm.Cond.methodLink "InkPrintery$Parser" (45 : Nat) ({ cls := "InkPrintery$SyntaxError", name := "<init>", desc := "(I)V" } : Jvm.MethodName)) ∈ lw_all := lw_g (lw_at lw_m8 38 rfl) rfl
theorem q1811 : (Jvm.Cond.classLink "InkPrintery$Parser" (60 : Nat) "InkPrintery$Command") ∈ lw_all := lw_g (lw_at lw_m8 48 rfl) rfl
theorem q1813 : (Jvm.Cond.methodLink "InkPrintery$Parser" (62 : Nat) ({ cls := "InkPrintery$Command", name := "<init>", desc := "(Ljava/lang/String;)V" } : Jvm.MethodName)) ∈ lw_all := lw_g (lw_at lw_m8 50 rfl) rfl
theorem q1827 : (Jvm.Cond.methodLink "InkPrintery$Parser" (79 : Nat) ({ cls := "InkPrintery$Parser", name := "number", desc := "(I)I" } : Jvm.MethodName)) ∈ lw_all := lw_g (lw_at lw_m8 64 rfl) rfl
theorem q1828 : (Jvm.Cond.privateMethod ({ cls := "InkPrintery$Parser", name := "number", desc := "(I)I" } : Jvm.MethodName)) ∈ lw_tbl := lw_at lw_m8 65 rfl
theorem q1829 : (Jvm.Cond.instanceMethod ({ cls := "InkPrintery$Parser", name := "number", desc := "(I)I" } : Jvm.MethodName)) ∈ lw_all := lw_g (lw_at lw_m8 66 rfl) rfl
theorem q1830 : (Jvm.Cond.code ({ cls := "InkPrintery$Parser", name := "number", desc := "(I)I" } : Jvm.MethodName) prog_6_method_8_code (4 : Nat) (Option.some Jvm.ClassFile.FieldType.int)) ∈ lw_all := lw_g (lw_at lw_m8 67 rfl) rfl
theorem q1831 : (Jvm.Cond.methodLink "InkPrintery$Parser" (69 : Nat) ({ cls := "InkPrintery$Parser", name := "isDigit", desc := "()Z" } : Jvm.MethodName)) ∈ lw_all := lw_g (lw_at lw_m8 68 rfl) rfl
theorem q1832 : (Jvm.Cond.privateMethod ({ cls := "InkPrintery$Parser", name := "isDigit", desc := "()Z" } : Jvm.MethodName)) ∈ lw_tbl := lw_at lw_m8 69 rfl
theorem q1833 : (Jvm.Cond.instanceMethod ({ cls := "InkPrintery$Parser", name := "isDigit", desc := "()Z" } : Jvm.MethodName)) ∈ lw_all := lw_g (lw_at lw_m8 70 rfl) rfl
theorem q1834 : (Jvm.Cond.code ({ cls := "InkPrintery$Parser", name := "isDigit", desc := "()Z" } : Jvm.MethodName) prog_6_method_7_code (1 : Nat) (Option.some Jvm.ClassFile.FieldType.boolean)) ∈ lw_all := lw_g (lw_at lw_m8 71 rfl) rfl
theorem q1835 : (Jvm.Cond.methodLinkNest "InkPrintery$Parser" (65 : Nat) ({ cls := "InkPrintery", name := "inRange", desc := "(III)Z" } : Jvm.MethodName) "InkPrintery") ∈ lw_tbl := lw_at lw_m8 72 rfl
theorem q1836 : (Jvm.Cond.methodLink "InkPrintery$Parser" (82 : Nat) ({ cls := "InkPrintery$Command", name := "with", desc := "(I)LInkPrintery$Command;" } : Jvm.MethodName)) ∈ lw_all := lw_g (lw_at lw_m8 73 rfl) rfl
theorem q1840 : (Jvm.Cond.methodLink "InkPrintery$Parser" (92 : Nat) ({ cls := "InkPrintery$Parser", name := "commandWithP", desc := "()LInkPrintery$Command;" } : Jvm.MethodName)) ∈ lw_all := lw_g (lw_at lw_m8 77 rfl) rfl
theorem q1841 : (Jvm.Cond.privateMethod ({ cls := "InkPrintery$Parser", name := "commandWithP", desc := "()LInkPrintery$Command;" } : Jvm.MethodName)) ∈ lw_tbl := lw_at lw_m8 78 rfl
theorem q1842 : (Jvm.Cond.instanceMethod ({ cls := "InkPrintery$Parser", name := "commandWithP", desc := "()LInkPrintery$Command;" } : Jvm.MethodName)) ∈ lw_all := lw_g (lw_at lw_m8 79 rfl) rfl
theorem q1843 : (Jvm.Cond.code ({ cls := "InkPrintery$Parser", name := "commandWithP", desc := "()LInkPrintery$Command;" } : Jvm.MethodName) prog_6_method_9_code (1 : Nat) (Option.some (Jvm.ClassFile.FieldType.object "InkPrintery$Command"))) ∈ lw_all := lw_g (lw_at lw_m8 80 rfl) rfl
theorem q1844 : (Jvm.Cond.stringRef "InkPrintery$Parser" (73 : Nat) "paper") ∈ lw_tbl := lw_at lw_m8 81 rfl
theorem q1845 : (Jvm.Cond.stringRef "InkPrintery$Parser" (86 : Nat) "proof") ∈ lw_tbl := lw_at lw_m8 82 rfl
theorem q1846 : (Jvm.Cond.stringRef "InkPrintery$Parser" (88 : Nat) "print") ∈ lw_tbl := lw_at lw_m8 83 rfl
theorem q1847 : (Jvm.Cond.stringRef "InkPrintery$Parser" (96 : Nat) "edition") ∈ lw_tbl := lw_at lw_m8 84 rfl
theorem q1848 : (Jvm.Cond.stringRef "InkPrintery$Parser" (98 : Nat) "remove") ∈ lw_tbl := lw_at lw_m8 85 rfl
theorem q1849 : (Jvm.Cond.stringRef "InkPrintery$Parser" (100 : Nat) "all") ∈ lw_tbl := lw_at lw_m8 86 rfl
theorem q1850 : (Jvm.Cond.stringRef "InkPrintery$Parser" (102 : Nat) "hours") ∈ lw_tbl := lw_at lw_m8 87 rfl
theorem q1851 : (Jvm.Cond.stringRef "InkPrintery$Parser" (104 : Nat) "drop") ∈ lw_tbl := lw_at lw_m8 88 rfl
theorem q1852 : (Jvm.Cond.methodLink "InkPrintery$Parser" (112 : Nat) ({ cls := "java/util/LinkedList", name := "addLast", desc := "(Ljava/lang/Object;)V" } : Jvm.MethodName)) ∈ lw_all := lw_g (lw_at lw_m8 89 rfl) rfl
theorem q2793 : (Jvm.Cond.castable "InkPrintery$Parser" "java/lang/Object") ∈ lw_tbl := lw_at lw_m12 70 rfl
theorem in_X6 : ∀ w ∈ wsX60, w ∈ lw_all := lw_in wsX60 [423, 425, 427] (by decide +kernel) (by decide +kernel)
/-! InkPrintery$Edition -/
set_option maxRecDepth 100000
def RX8 : String := "InkPrintery$Edition"
def TX8 : u_T := fun k => match k with
  | 0 => ("InkPrintery$Edition", "colour", "I", true)
  | 1 => ("InkPrintery$Edition", "copies", "I", true)
  | _ => ("InkPrintery$Edition", "printed", "I", false)
def tyX8 : Nat → FieldType := fun k => match k with
  | 0 => .int
  | 1 => .int
  | _ => .int
abbrev wsX80 : List Cond := u_ws RX8 TX8 3
theorem nmX8 : ∀ a, a < 3 → ∀ b, b < 3 → a ≠ b → (TX8 a).2.1 ≠ (TX8 b).2.1 := by decide +kernel
theorem tyX8_ok : ∀ k, k < 3 → parseFieldDescriptor (TX8 k).2.2.1 = some (tyX8 k) := by decide +kernel
abbrev cX8_init : ByteArray := prog_4_method_2_code
def yX8_init : MethodName := ⟨RX8, "<init>", "(LInkPrintery$Edition;)V"⟩
def dkwX8_init_0 : List UInt8 := [42, 43, 180, 0, 7, 43, 180, 0, 13, 183, 0, 16, 42, 43, 180, 0, 19, 181, 0, 19, 177]
abbrev dktX8_init_0 : List UInt8 := dkwX8_init_0 ++ []
theorem dksX8_init_0 : cX8_init.data.toList.drop 0 = dktX8_init_0 := by decide +kernel
theorem dX8_init_0 : decode cX8_init 0 = .ok (.aload_n 0, 1) := dk_42 (dk_at dksX8_init_0 0 rfl rfl)
theorem dX8_init_1 : decode cX8_init 1 = .ok (.aload_n 1, 1) := dk_43 (dk_at dksX8_init_0 1 rfl rfl)
theorem dX8_init_2 : decode cX8_init 2 = .ok (.getfield 7, 3) := dk_180 0 7 (dk_at dksX8_init_0 2 rfl rfl)
theorem dX8_init_5 : decode cX8_init 5 = .ok (.aload_n 1, 1) := dk_43 (dk_at dksX8_init_0 5 rfl rfl)
theorem dX8_init_6 : decode cX8_init 6 = .ok (.getfield 13, 3) := dk_180 0 13 (dk_at dksX8_init_0 6 rfl rfl)
theorem dX8_init_9 : decode cX8_init 9 = .ok (.invokespecial 16, 3) := dk_183 0 16 (dk_at dksX8_init_0 9 rfl rfl)
theorem dX8_init_12 : decode cX8_init 12 = .ok (.aload_n 0, 1) := dk_42 (dk_at dksX8_init_0 12 rfl rfl)
theorem dX8_init_13 : decode cX8_init 13 = .ok (.aload_n 1, 1) := dk_43 (dk_at dksX8_init_0 13 rfl rfl)
theorem dX8_init_14 : decode cX8_init 14 = .ok (.getfield 19, 3) := dk_180 0 19 (dk_at dksX8_init_0 14 rfl rfl)
theorem dX8_init_17 : decode cX8_init 17 = .ok (.putfield 19, 3) := dk_181 0 19 (dk_at dksX8_init_0 17 rfl rfl)
theorem dX8_init_20 : decode cX8_init 20 = .ok (.return_, 1) := dk_177 (dk_at dksX8_init_0 20 rfl rfl)
abbrev cX8_init_2 : ByteArray := prog_4_method_1_code
def yX8_init_2 : MethodName := ⟨RX8, "<init>", "(II)V"⟩
def dkwX8_init_2_0 : List UInt8 := [42, 183, 0, 1, 42, 27, 181, 0, 7, 42, 28, 181, 0, 13, 177]
abbrev dktX8_init_2_0 : List UInt8 := dkwX8_init_2_0 ++ []
theorem dksX8_init_2_0 : cX8_init_2.data.toList.drop 0 = dktX8_init_2_0 := by decide +kernel
theorem dX8_init_2_0 : decode cX8_init_2 0 = .ok (.aload_n 0, 1) := dk_42 (dk_at dksX8_init_2_0 0 rfl rfl)
theorem dX8_init_2_1 : decode cX8_init_2 1 = .ok (.invokespecial 1, 3) := dk_183 0 1 (dk_at dksX8_init_2_0 1 rfl rfl)
theorem dX8_init_2_4 : decode cX8_init_2 4 = .ok (.aload_n 0, 1) := dk_42 (dk_at dksX8_init_2_0 4 rfl rfl)
theorem dX8_init_2_5 : decode cX8_init_2 5 = .ok (.iload_n 1, 1) := dk_27 (dk_at dksX8_init_2_0 5 rfl rfl)
theorem dX8_init_2_6 : decode cX8_init_2 6 = .ok (.putfield 7, 3) := dk_181 0 7 (dk_at dksX8_init_2_0 6 rfl rfl)
theorem dX8_init_2_9 : decode cX8_init_2 9 = .ok (.aload_n 0, 1) := dk_42 (dk_at dksX8_init_2_0 9 rfl rfl)
theorem dX8_init_2_10 : decode cX8_init_2 10 = .ok (.iload_n 2, 1) := dk_28 (dk_at dksX8_init_2_0 10 rfl rfl)
theorem dX8_init_2_11 : decode cX8_init_2 11 = .ok (.putfield 13, 3) := dk_181 0 13 (dk_at dksX8_init_2_0 11 rfl rfl)
theorem dX8_init_2_14 : decode cX8_init_2 14 = .ok (.return_, 1) := dk_177 (dk_at dksX8_init_2_0 14 rfl rfl)
abbrev cX8_isComplete : ByteArray := prog_4_method_4_code
def yX8_isComplete : MethodName := ⟨RX8, "isComplete", "()Z"⟩
def dkwX8_isComplete_0 : List UInt8 := [42, 180, 0, 19, 42, 180, 0, 13, 160, 0, 7, 4, 167, 0, 4, 3, 172]
abbrev dktX8_isComplete_0 : List UInt8 := dkwX8_isComplete_0 ++ []
theorem dksX8_isComplete_0 : cX8_isComplete.data.toList.drop 0 = dktX8_isComplete_0 := by decide +kernel
theorem dX8_isComplete_0 : decode cX8_isComplete 0 = .ok (.aload_n 0, 1) := dk_42 (dk_at dksX8_isComplete_0 0 rfl rfl)
theorem dX8_isComplete_1 : decode cX8_isComplete 1 = .ok (.getfield 19, 3) := dk_180 0 19 (dk_at dksX8_isComplete_0 1 rfl rfl)
theorem dX8_isComplete_4 : decode cX8_isComplete 4 = .ok (.aload_n 0, 1) := dk_42 (dk_at dksX8_isComplete_0 4 rfl rfl)
theorem dX8_isComplete_5 : decode cX8_isComplete 5 = .ok (.getfield 13, 3) := dk_180 0 13 (dk_at dksX8_isComplete_0 5 rfl rfl)
theorem dX8_isComplete_8 : decode cX8_isComplete 8 = .ok (.if_icmp .ne 7, 3) := dk_160 0 7 (dk_at dksX8_isComplete_0 8 rfl rfl)
theorem dX8_isComplete_11 : decode cX8_isComplete 11 = .ok (.iconst 1, 1) := dk_4 (dk_at dksX8_isComplete_0 11 rfl rfl)
theorem dX8_isComplete_12 : decode cX8_isComplete 12 = .ok (.goto 4, 3) := dk_167 0 4 (dk_at dksX8_isComplete_0 12 rfl rfl)
theorem dX8_isComplete_15 : decode cX8_isComplete 15 = .ok (.iconst 0, 1) := dk_3 (dk_at dksX8_isComplete_0 15 rfl rfl)
theorem dX8_isComplete_16 : decode cX8_isComplete 16 = .ok (.ireturn, 1) := dk_172 (dk_at dksX8_isComplete_0 16 rfl rfl)
abbrev cX8_missing : ByteArray := prog_4_method_3_code
def yX8_missing : MethodName := ⟨RX8, "missing", "()I"⟩
def dkwX8_missing_0 : List UInt8 := [42, 180, 0, 13, 42, 180, 0, 19, 100, 172]
abbrev dktX8_missing_0 : List UInt8 := dkwX8_missing_0 ++ []
theorem dksX8_missing_0 : cX8_missing.data.toList.drop 0 = dktX8_missing_0 := by decide +kernel
theorem dX8_missing_0 : decode cX8_missing 0 = .ok (.aload_n 0, 1) := dk_42 (dk_at dksX8_missing_0 0 rfl rfl)
theorem dX8_missing_1 : decode cX8_missing 1 = .ok (.getfield 13, 3) := dk_180 0 13 (dk_at dksX8_missing_0 1 rfl rfl)
theorem dX8_missing_4 : decode cX8_missing 4 = .ok (.aload_n 0, 1) := dk_42 (dk_at dksX8_missing_0 4 rfl rfl)
theorem dX8_missing_5 : decode cX8_missing 5 = .ok (.getfield 19, 3) := dk_180 0 19 (dk_at dksX8_missing_0 5 rfl rfl)
theorem dX8_missing_8 : decode cX8_missing 8 = .ok (.isub, 1) := dk_100 (dk_at dksX8_missing_0 8 rfl rfl)
theorem dX8_missing_9 : decode cX8_missing 9 = .ok (.ireturn, 1) := dk_172 (dk_at dksX8_missing_0 9 rfl rfl)
abbrev cX8_toString : ByteArray := prog_4_method_5_code
def yX8_toString : MethodName := ⟨RX8, "toString", "()Ljava/lang/String;"⟩
def dkwX8_toString_1 : List UInt8 := [42, 180, 0, 19, 182, 0, 29, 16, 47, 182, 0, 25, 42, 180, 0, 13, 182, 0, 29, 182, 0, 32, 176]
abbrev dktX8_toString_1 : List UInt8 := dkwX8_toString_1 ++ []
def dkwX8_toString_0 : List UInt8 := [187, 0, 22, 89, 183, 0, 24, 16, 99, 182, 0, 25, 42, 180, 0, 7, 182, 0, 29, 16, 58, 182, 0, 25]
abbrev dktX8_toString_0 : List UInt8 := dkwX8_toString_0 ++ dktX8_toString_1
theorem dksX8_toString_0 : cX8_toString.data.toList.drop 0 = dktX8_toString_0 := by decide +kernel
theorem dksX8_toString_1 : cX8_toString.data.toList.drop 24 = dktX8_toString_1 := dk_seg dksX8_toString_0 24 rfl rfl
theorem dX8_toString_0 : decode cX8_toString 0 = .ok (.new 22, 3) := dk_187 0 22 (dk_at dksX8_toString_0 0 rfl rfl)
theorem dX8_toString_3 : decode cX8_toString 3 = .ok (.dup, 1) := dk_89 (dk_at dksX8_toString_0 3 rfl rfl)
theorem dX8_toString_4 : decode cX8_toString 4 = .ok (.invokespecial 24, 3) := dk_183 0 24 (dk_at dksX8_toString_0 4 rfl rfl)
theorem dX8_toString_7 : decode cX8_toString 7 = .ok (.bipush 99, 2) := dk_16 99 (dk_at dksX8_toString_0 7 rfl rfl)
theorem dX8_toString_9 : decode cX8_toString 9 = .ok (.invokevirtual 25, 3) := dk_182 0 25 (dk_at dksX8_toString_0 9 rfl rfl)
theorem dX8_toString_12 : decode cX8_toString 12 = .ok (.aload_n 0, 1) := dk_42 (dk_at dksX8_toString_0 12 rfl rfl)
theorem dX8_toString_13 : decode cX8_toString 13 = .ok (.getfield 7, 3) := dk_180 0 7 (dk_at dksX8_toString_0 13 rfl rfl)
theorem dX8_toString_16 : decode cX8_toString 16 = .ok (.invokevirtual 29, 3) := dk_182 0 29 (dk_at dksX8_toString_0 16 rfl rfl)
theorem dX8_toString_19 : decode cX8_toString 19 = .ok (.bipush 58, 2) := dk_16 58 (dk_at dksX8_toString_0 19 rfl rfl)
theorem dX8_toString_21 : decode cX8_toString 21 = .ok (.invokevirtual 25, 3) := dk_182 0 25 (dk_at dksX8_toString_0 21 rfl rfl)
theorem dX8_toString_24 : decode cX8_toString 24 = .ok (.aload_n 0, 1) := dk_42 (dk_at dksX8_toString_1 0 rfl rfl)
theorem dX8_toString_25 : decode cX8_toString 25 = .ok (.getfield 19, 3) := dk_180 0 19 (dk_at dksX8_toString_1 1 rfl rfl)
theorem dX8_toString_28 : decode cX8_toString 28 = .ok (.invokevirtual 29, 3) := dk_182 0 29 (dk_at dksX8_toString_1 4 rfl rfl)
theorem dX8_toString_31 : decode cX8_toString 31 = .ok (.bipush 47, 2) := dk_16 47 (dk_at dksX8_toString_1 7 rfl rfl)
theorem dX8_toString_33 : decode cX8_toString 33 = .ok (.invokevirtual 25, 3) := dk_182 0 25 (dk_at dksX8_toString_1 9 rfl rfl)
theorem dX8_toString_36 : decode cX8_toString 36 = .ok (.aload_n 0, 1) := dk_42 (dk_at dksX8_toString_1 12 rfl rfl)
theorem dX8_toString_37 : decode cX8_toString 37 = .ok (.getfield 13, 3) := dk_180 0 13 (dk_at dksX8_toString_1 13 rfl rfl)
theorem dX8_toString_40 : decode cX8_toString 40 = .ok (.invokevirtual 29, 3) := dk_182 0 29 (dk_at dksX8_toString_1 16 rfl rfl)
theorem dX8_toString_43 : decode cX8_toString 43 = .ok (.invokevirtual 32, 3) := dk_182 0 32 (dk_at dksX8_toString_1 19 rfl rfl)
theorem dX8_toString_46 : decode cX8_toString 46 = .ok (.areturn, 1) := dk_176 (dk_at dksX8_toString_1 22 rfl rfl)
theorem q109 : (Jvm.Cond.initialized "InkPrintery$Edition") ∈ lw_all := lw_g (lw_at lw_m1 26 rfl) rfl
theorem q498 : (Jvm.Cond.selects "InkPrintery$Edition" ({ cls := "java/lang/Object", name := "getClass", desc := "()Ljava/lang/Class;" } : Jvm.MethodName) ({ cls := "java/lang/Object", name := "getClass", desc := "()Ljava/lang/Class;" } : Jvm.MethodName)) ∈ lw_all := lw_g (lw_at lw_m2 175 rfl) rfl
theorem q598 : (Jvm.Cond.instantiable "InkPrintery$Edition" (3 : Nat)) ∈ lw_all := lw_g (lw_at lw_m3 35 rfl) rfl
theorem q600 : (Jvm.Cond.instanceMethod ({ cls := "InkPrintery$Edition", name := "<init>", desc := "(LInkPrintery$Edition;)V" } : Jvm.MethodName)) ∈ lw_all := lw_g (lw_at lw_m3 37 rfl) rfl
theorem q601 : (Jvm.Cond.code ({ cls := "InkPrintery$Edition", name := "<init>", desc := "(LInkPrintery$Edition;)V" } : Jvm.MethodName) prog_4_method_2_code (2 : Nat) (Option.none : Option Jvm.ClassFile.FieldType)) ∈ lw_all := lw_g (lw_at lw_m3 38 rfl) rfl
theorem q602 : (Jvm.Cond.methodLink "InkPrintery$Edition" (16 : Nat) ({ cls := "InkPrintery$Edition", name := "<init>", desc := "(II)V" } : Jvm.MethodName)) ∈ lw_all := lw_g (lw_at lw_m3 39 rfl) rfl
theorem q603 : (Jvm.Cond.instanceMethod ({ cls := "InkPrintery$Edition", name := "<init>", desc := "(II)V" } : Jvm.MethodName)) ∈ lw_all := lw_g (lw_at lw_m3 40 rfl) rfl
theorem q604 : (Jvm.Cond.code ({ cls := "InkPrintery$Edition", name := "<init>", desc := "(II)V" } : Jvm.MethodName) prog_4_method_1_code (3 : Nat) (Option.none : Option Jvm.ClassFile.FieldType)) ∈ lw_all := lw_g (lw_at lw_m3 41 rfl) rfl
theorem q605 : (Jvm.Cond.methodLink "InkPrintery$Edition" (1 : Nat) ({ cls := "java/lang/Object", name := "<init>", desc := "()V" } : Jvm.MethodName)) ∈ lw_all := lw_g (lw_at lw_m3 42 rfl) rfl
theorem q606 : (Jvm.Cond.fieldLink "InkPrintery$Edition" (7 : Nat) "InkPrintery$Edition" "colour" "I") ∈ lw_all := lw_g (lw_at lw_m3 43 rfl) rfl
theorem q610 : (Jvm.Cond.fieldLink "InkPrintery$Edition" (13 : Nat) "InkPrintery$Edition" "copies" "I") ∈ lw_all := lw_g (lw_at lw_m3 47 rfl) rfl
theorem q613 : (Jvm.Cond.fieldLink "InkPrintery$Edition" (19 : Nat) "InkPrintery$Edition" "printed" "I") ∈ lw_all := lw_g (lw_at lw_m3 50 rfl) rfl
theorem q616 : (Jvm.Cond.laysFinal "InkPrintery$Edition" "InkPrintery$Edition" "colour" "I") ∈ lw_all := lw_g (lw_at lw_m3 53 rfl) rfl
theorem q617 : (Jvm.Cond.soleField "InkPrintery$Edition" "colour") ∈ lw_all := lw_g (lw_at lw_m3 54 rfl) rfl
theorem q618 : (Jvm.Cond.laysFinal "InkPrintery$Edition" "InkPrintery$Edition" "copies" "I") ∈ lw_all := lw_g (lw_at lw_m3 55 rfl) rfl
theorem q619 : (Jvm.Cond.soleField "InkPrintery$Edition" "copies") ∈ lw_all := lw_g (lw_at lw_m3 56 rfl) rfl
theorem q620 : (Jvm.Cond.lays "InkPrintery$Edition" "InkPrintery$Edition" "printed" "I") ∈ lw_all := lw_g (lw_at lw_m3 57 rfl) rfl
theorem q621 : (Jvm.Cond.soleField "InkPrintery$Edition" "printed") ∈ lw_all := lw_g (lw_at lw_m3 58 rfl) rfl
theorem q622 : (Jvm.Cond.superclass "InkPrintery$Edition" "java/lang/Object") ∈ lw_all := lw_g (lw_at lw_m3 59 rfl) rfl
theorem q638 : (Jvm.Cond.instanceMethod ({ cls := "InkPrintery$Edition", name := "isComplete", desc := "()Z" } : Jvm.MethodName)) ∈ lw_all := lw_g (lw_at lw_m3 75 rfl) rfl
theorem q639 : (Jvm.Cond.selects "InkPrintery$Edition" ({ cls := "InkPrintery$Edition", name := "isComplete", desc := "()Z" } : Jvm.MethodName) ({ cls := "InkPrintery$Edition", name := "isComplete", desc := "()Z" } : Jvm.MethodName)) ∈ lw_all := lw_g (lw_at lw_m3 76 rfl) rfl
theorem q640 : (Jvm.Cond.code ({ cls := "InkPrintery$Edition", name := "isComplete", desc := "()Z" } : Jvm.MethodName) prog_4_method_4_code (1 : Nat) (Option.some Jvm.ClassFile.FieldType.boolean)) ∈ lw_all := lw_g (lw_at lw_m3 77 rfl) rfl
theorem q696 : (Jvm.Cond.instanceMethod ({ cls := "InkPrintery$Edition", name := "missing", desc := "()I" } : Jvm.MethodName)) ∈ lw_all := lw_g (lw_at lw_m3 133 rfl) rfl
theorem q697 : (Jvm.Cond.selects "InkPrintery$Edition" ({ cls := "InkPrintery$Edition", name := "missing", desc := "()I" } : Jvm.MethodName) ({ cls := "InkPrintery$Edition", name := "missing", desc := "()I" } : Jvm.MethodName)) ∈ lw_all := lw_g (lw_at lw_m3 134 rfl) rfl
theorem q698 : (Jvm.Cond.code ({ cls := "InkPrintery$Edition", name := "missing", desc := "()I" } : Jvm.MethodName) prog_4_method_3_code (1 : Nat) (Option.some Jvm.ClassFile.FieldType.int)) ∈ lw_all := lw_g (lw_at lw_m3 135 rfl) rfl
theorem q1637 : (Jvm.Cond.instanceMethod ({ cls := "InkPrintery$Edition", name := "toString", desc := "()Ljava/lang/String;" } : Jvm.MethodName)) ∈ lw_all := lw_g (lw_at lw_m7 114 rfl) rfl
theorem q1638 : (Jvm.Cond.selects "InkPrintery$Edition" ({ cls := "InkPrintery$Edition", name := "toString", desc := "()Ljava/lang/String;" } : Jvm.MethodName) ({ cls := "InkPrintery$Edition", name := "toString", desc := "()Ljava/lang/String;" } : Jvm.MethodName)) ∈ lw_all := lw_g (lw_at lw_m7 115 rfl) rfl
theorem q1639 : (Jvm.Cond.code ({ cls := "InkPrintery$Edition", name := "toString", desc := "()Ljava/lang/String;" } : Jvm.MethodName) prog_4_method_5_code (1 : Nat) (Option.some (Jvm.ClassFile.FieldType.object "java/lang/String"))) ∈ lw_all := lw_g (lw_at lw_m7 116 rfl) rfl
theorem q1640 : (Jvm.Cond.classLink "InkPrintery$Edition" (22 : Nat) "java/lang/StringBuilder") ∈ lw_all := lw_g (lw_at lw_m7 117 rfl) rfl
theorem q1641 : (Jvm.Cond.methodLink "InkPrintery$Edition" (24 : Nat) ({ cls := "java/lang/StringBuilder", name := "<init>", desc := "()V" } : Jvm.MethodName)) ∈ lw_all := lw_g (lw_at lw_m7 118 rfl) rfl
theorem q1642 : (Jvm.Cond.methodLink "InkPrintery$Edition" (25 : Nat) ({ cls := "java/lang/StringBuilder", name := "append", desc := "(C)Ljava/lang/StringBuilder;" } : Jvm.MethodName)) ∈ lw_all := lw_g (lw_at lw_m7 119 rfl) rfl
theorem q1668 : (Jvm.Cond.methodLink "InkPrintery$Edition" (29 : Nat) ({ cls := "java/lang/StringBuilder", name := "append", desc := "(I)Ljava/lang/StringBuilder;" } : Jvm.MethodName)) ∈ lw_all := lw_g (lw_at lw_m7 145 rfl) rfl
theorem q1669 : (Jvm.Cond.methodLink "InkPrintery$Edition" (32 : Nat) ({ cls := "java/lang/StringBuilder", name := "toString", desc := "()Ljava/lang/String;" } : Jvm.MethodName)) ∈ lw_all := lw_g (lw_at lw_m7 146 rfl) rfl
theorem q2785 : (Jvm.Cond.castable "InkPrintery$Edition" "java/lang/Object") ∈ lw_tbl := lw_at lw_m12 62 rfl
theorem in_X8 : ∀ w ∈ wsX80, w ∈ lw_all := lw_in wsX80 [616, 618, 620] (by decide +kernel) (by decide +kernel)
/-! InkPrintery$State$OrderSearch -/
set_option maxRecDepth 100000
def RX9 : String := "InkPrintery$State$OrderSearch"
def TX9 : u_T := fun k => match k with
  | 0 => ("InkPrintery$State$OrderSearch", "numbers", "[I", true)
  | 1 => ("InkPrintery$State$OrderSearch", "count", "I", false)
  | 2 => ("InkPrintery$State$OrderSearch", "rests", "[[I", true)
  | _ => ("InkPrintery$State$OrderSearch", "this$0", "LInkPrintery$State;", true)
def tyX9 : Nat → FieldType := fun k => match k with
  | 0 => .array .int
  | 1 => .int
  | 2 => .array (.array .int)
  | _ => .object "InkPrintery$State"
abbrev wsX90 : List Cond := u_ws RX9 TX9 4
theorem nmX9 : ∀ a, a < 4 → ∀ b, b < 4 → a ≠ b → (TX9 a).2.1 ≠ (TX9 b).2.1 := by decide +kernel
theorem tyX9_ok : ∀ k, k < 4 → parseFieldDescriptor (TX9 k).2.2.1 = some (tyX9 k) := by decide +kernel
abbrev cX9_init : ByteArray := prog_9_method_1_code
def yX9_init : MethodName := ⟨RX9, "<init>", "(LInkPrintery$State;)V"⟩
def dkwX9_init_6 : List UInt8 := [132, 2, 255, 167, 255, 202, 177]
abbrev dktX9_init_6 : List UInt8 := dkwX9_init_6 ++ []
def dkwX9_init_5 : List UInt8 := [42, 28, 42, 29, 182, 0, 47, 182, 0, 51, 167, 0, 5, 18, 55, 79, 132, 3, 1, 167, 255, 214]
abbrev dktX9_init_5 : List UInt8 := dkwX9_init_5 ++ dktX9_init_6
def dkwX9_init_4 : List UInt8 := [62, 29, 42, 180, 0, 35, 162, 0, 40, 42, 180, 0, 40, 28, 50, 29, 28, 29, 184, 0, 43, 153, 0, 16]
abbrev dktX9_init_4 : List UInt8 := dkwX9_init_4 ++ dktX9_init_5
def dkwX9_init_3 : List UInt8 := [42, 180, 0, 35, 197, 0, 38, 2, 181, 0, 40, 42, 180, 0, 40, 190, 5, 100, 61, 28, 158, 0, 56, 3]
abbrev dktX9_init_3 : List UInt8 := dkwX9_init_3 ++ dktX9_init_4
def dkwX9_init_2 : List UInt8 := [79, 42, 89, 180, 0, 35, 4, 96, 181, 0, 35, 132, 2, 1, 167, 255, 213, 42, 4, 42, 180, 0, 35, 120]
abbrev dktX9_init_2 : List UInt8 := dkwX9_init_2 ++ dktX9_init_3
def dkwX9_init_1 : List UInt8 := [162, 0, 41, 43, 180, 0, 25, 28, 50, 182, 0, 29, 154, 0, 23, 42, 180, 0, 15, 42, 180, 0, 35, 28]
abbrev dktX9_init_1 : List UInt8 := dkwX9_init_1 ++ dktX9_init_2
def dkwX9_init_0 : List UInt8 := [42, 43, 181, 0, 3, 42, 183, 0, 9, 42, 16, 7, 188, 10, 181, 0, 15, 3, 61, 28, 43, 180, 0, 19]
abbrev dktX9_init_0 : List UInt8 := dkwX9_init_0 ++ dktX9_init_1
theorem dksX9_init_0 : cX9_init.data.toList.drop 0 = dktX9_init_0 := by decide +kernel
theorem dksX9_init_1 : cX9_init.data.toList.drop 24 = dktX9_init_1 := dk_seg dksX9_init_0 24 rfl rfl
theorem dksX9_init_2 : cX9_init.data.toList.drop 48 = dktX9_init_2 := dk_seg dksX9_init_1 24 rfl rfl
theorem dksX9_init_3 : cX9_init.data.toList.drop 72 = dktX9_init_3 := dk_seg dksX9_init_2 24 rfl rfl
theorem dksX9_init_4 : cX9_init.data.toList.drop 96 = dktX9_init_4 := dk_seg dksX9_init_3 24 rfl rfl
theorem dksX9_init_5 : cX9_init.data.toList.drop 120 = dktX9_init_5 := dk_seg dksX9_init_4 24 rfl rfl
theorem dksX9_init_6 : cX9_init.data.toList.drop 142 = dktX9_init_6 := dk_seg dksX9_init_5 22 rfl rfl
theorem dX9_init_0 : decode cX9_init 0 = .ok (.aload_n 0, 1) := dk_42 (dk_at dksX9_init_0 0 rfl rfl)
theorem dX9_init_1 : decode cX9_init 1 = .ok (.aload_n 1, 1) := dk_43 (dk_at dksX9_init_0 1 rfl rfl)
theorem dX9_init_2 : decode cX9_init 2 = .ok (.putfield 3, 3) := dk_181 0 3 (dk_at dksX9_init_0 2 rfl rfl)
theorem dX9_init_5 : decode cX9_init 5 = .ok (.aload_n 0, 1) := dk_42 (dk_at dksX9_init_0 5 rfl rfl)
theorem dX9_init_6 : decode cX9_init 6 = .ok (.invokespecial 9, 3) := dk_183 0 9 (dk_at dksX9_init_0 6 rfl rfl)
theorem dX9_init_9 : decode cX9_init 9 = .ok (.aload_n 0, 1) := dk_42 (dk_at dksX9_init_0 9 rfl rfl)
theorem dX9_init_10 : decode cX9_init 10 = .ok (.bipush 7, 2) := dk_16 7 (dk_at dksX9_init_0 10 rfl rfl)
theorem dX9_init_12 : decode cX9_init 12 = .ok (.newarray .int, 2) := dk_188_10 (dk_at dksX9_init_0 12 rfl rfl)
theorem dX9_init_14 : decode cX9_init 14 = .ok (.putfield 15, 3) := dk_181 0 15 (dk_at dksX9_init_0 14 rfl rfl)
theorem dX9_init_17 : decode cX9_init 17 = .ok (.iconst 0, 1) := dk_3 (dk_at dksX9_init_0 17 rfl rfl)
theorem dX9_init_18 : decode cX9_init 18 = .ok (.istore_n 2, 1) := dk_61 (dk_at dksX9_init_0 18 rfl rfl)
theorem dX9_init_19 : decode cX9_init 19 = .ok (.iload_n 2, 1) := dk_28 (dk_at dksX9_init_0 19 rfl rfl)
theorem dX9_init_20 : decode cX9_init 20 = .ok (.aload_n 1, 1) := dk_43 (dk_at dksX9_init_0 20 rfl rfl)
theorem dX9_init_21 : decode cX9_init 21 = .ok (.getfield 19, 3) := dk_180 0 19 (dk_at dksX9_init_0 21 rfl rfl)
theorem dX9_init_24 : decode cX9_init 24 = .ok (.if_icmp .ge 41, 3) := dk_162 0 41 (dk_at dksX9_init_1 0 rfl rfl)
theorem dX9_init_27 : decode cX9_init 27 = .ok (.aload_n 1, 1) := dk_43 (dk_at dksX9_init_1 3 rfl rfl)
theorem dX9_init_28 : decode cX9_init 28 = .ok (.getfield 25, 3) := dk_180 0 25 (dk_at dksX9_init_1 4 rfl rfl)
theorem dX9_init_31 : decode cX9_init 31 = .ok (.iload_n 2, 1) := dk_28 (dk_at dksX9_init_1 7 rfl rfl)
theorem dX9_init_32 : decode cX9_init 32 = .ok (.aaload, 1) := dk_50 (dk_at dksX9_init_1 8 rfl rfl)
theorem dX9_init_33 : decode cX9_init 33 = .ok (.invokevirtual 29, 3) := dk_182 0 29 (dk_at dksX9_init_1 9 rfl rfl)
theorem dX9_init_36 : decode cX9_init 36 = .ok (.ifCond .ne 23, 3) := dk_154 0 23 (dk_at dksX9_init_1 12 rfl rfl)
theorem dX9_init_39 : decode cX9_init 39 = .ok (.aload_n 0, 1) := dk_42 (dk_at dksX9_init_1 15 rfl rfl)
theorem dX9_init_40 : decode cX9_init 40 = .ok (.getfield 15, 3) := dk_180 0 15 (dk_at dksX9_init_1 16 rfl rfl)
theorem dX9_init_43 : decode cX9_init 43 = .ok (.aload_n 0, 1) := dk_42 (dk_at dksX9_init_1 19 rfl rfl)
theorem dX9_init_44 : decode cX9_init 44 = .ok (.getfield 35, 3) := dk_180 0 35 (dk_at dksX9_init_1 20 rfl rfl)
theorem dX9_init_47 : decode cX9_init 47 = .ok (.iload_n 2, 1) := dk_28 (dk_at dksX9_init_1 23 rfl rfl)
theorem dX9_init_48 : decode cX9_init 48 = .ok (.iastore, 1) := dk_79 (dk_at dksX9_init_2 0 rfl rfl)
theorem dX9_init_49 : decode cX9_init 49 = .ok (.aload_n 0, 1) := dk_42 (dk_at dksX9_init_2 1 rfl rfl)
theorem dX9_init_50 : decode cX9_init 50 = .ok (.dup, 1) := dk_89 (dk_at dksX9_init_2 2 rfl rfl)
theorem dX9_init_51 : decode cX9_init 51 = .ok (.getfield 35, 3) := dk_180 0 35 (dk_at dksX9_init_2 3 rfl rfl)
theorem dX9_init_54 : decode cX9_init 54 = .ok (.iconst 1, 1) := dk_4 (dk_at dksX9_init_2 6 rfl rfl)
theorem dX9_init_55 : decode cX9_init 55 = .ok (.iadd, 1) := dk_96 (dk_at dksX9_init_2 7 rfl rfl)
theorem dX9_init_56 : decode cX9_init 56 = .ok (.putfield 35, 3) := dk_181 0 35 (dk_at dksX9_init_2 8 rfl rfl)
theorem dX9_init_59 : decode cX9_init 59 = .ok (.iinc 2 1, 3) := dk_132 2 1 (dk_at dksX9_init_2 11 rfl rfl)
theorem dX9_init_62 : decode cX9_init 62 = .ok (.goto (-43), 3) := dk_167 255 213 (dk_at dksX9_init_2 14 rfl rfl)
theorem dX9_init_65 : decode cX9_init 65 = .ok (.aload_n 0, 1) := dk_42 (dk_at dksX9_init_2 17 rfl rfl)
theorem dX9_init_66 : decode cX9_init 66 = .ok (.iconst 1, 1) := dk_4 (dk_at dksX9_init_2 18 rfl rfl)
theorem dX9_init_67 : decode cX9_init 67 = .ok (.aload_n 0, 1) := dk_42 (dk_at dksX9_init_2 19 rfl rfl)
theorem dX9_init_68 : decode cX9_init 68 = .ok (.getfield 35, 3) := dk_180 0 35 (dk_at dksX9_init_2 20 rfl rfl)
theorem dX9_init_71 : decode cX9_init 71 = .ok (.ishl, 1) := dk_120 (dk_at dksX9_init_2 23 rfl rfl)
theorem dX9_init_72 : decode cX9_init 72 = .ok (.aload_n 0, 1) := dk_42 (dk_at dksX9_init_3 0 rfl rfl)
theorem dX9_init_73 : decode cX9_init 73 = .ok (.getfield 35, 3) := dk_180 0 35 (dk_at dksX9_init_3 1 rfl rfl)
theorem dX9_init_76 : decode cX9_init 76 = .ok (.multianewarray 38 2, 4) := by decide +kernel
theorem dX9_init_80 : decode cX9_init 80 = .ok (.putfield 40, 3) := dk_181 0 40 (dk_at dksX9_init_3 8 rfl rfl)
theorem dX9_init_83 : decode cX9_init 83 = .ok (.aload_n 0, 1) := dk_42 (dk_at dksX9_init_3 11 rfl rfl)
theorem dX9_init_84 : decode cX9_init 84 = .ok (.getfield 40, 3) := dk_180 0 40 (dk_at dksX9_init_3 12 rfl rfl)
theorem dX9_init_87 : decode cX9_init 87 = .ok (.arraylength, 1) := dk_190 (dk_at dksX9_init_3 15 rfl rfl)
theorem dX9_init_88 : decode cX9_init 88 = .ok (.iconst 2, 1) := dk_5 (dk_at dksX9_init_3 16 rfl rfl)
theorem dX9_init_89 : decode cX9_init 89 = .ok (.isub, 1) := dk_100 (dk_at dksX9_init_3 17 rfl rfl)
theorem dX9_init_90 : decode cX9_init 90 = .ok (.istore_n 2, 1) := dk_61 (dk_at dksX9_init_3 18 rfl rfl)
theorem dX9_init_91 : decode cX9_init 91 = .ok (.iload_n 2, 1) := dk_28 (dk_at dksX9_init_3 19 rfl rfl)
theorem dX9_init_92 : decode cX9_init 92 = .ok (.ifCond .le 56, 3) := dk_158 0 56 (dk_at dksX9_init_3 20 rfl rfl)
theorem dX9_init_95 : decode cX9_init 95 = .ok (.iconst 0, 1) := dk_3 (dk_at dksX9_init_3 23 rfl rfl)
theorem dX9_init_96 : decode cX9_init 96 = .ok (.istore_n 3, 1) := dk_62 (dk_at dksX9_init_4 0 rfl rfl)
theorem dX9_init_97 : decode cX9_init 97 = .ok (.iload_n 3, 1) := dk_29 (dk_at dksX9_init_4 1 rfl rfl)
theorem dX9_init_98 : decode cX9_init 98 = .ok (.aload_n 0, 1) := dk_42 (dk_at dksX9_init_4 2 rfl rfl)
theorem dX9_init_99 : decode cX9_init 99 = .ok (.getfield 35, 3) := dk_180 0 35 (dk_at dksX9_init_4 3 rfl rfl)
theorem dX9_init_102 : decode cX9_init 102 = .ok (.if_icmp .ge 40, 3) := dk_162 0 40 (dk_at dksX9_init_4 6 rfl rfl)
theorem dX9_init_105 : decode cX9_init 105 = .ok (.aload_n 0, 1) := dk_42 (dk_at dksX9_init_4 9 rfl rfl)
theorem dX9_init_106 : decode cX9_init 106 = .ok (.getfield 40, 3) := dk_180 0 40 (dk_at dksX9_init_4 10 rfl rfl)
theorem dX9_init_109 : decode cX9_init 109 = .ok (.iload_n 2, 1) := dk_28 (dk_at dksX9_init_4 13 rfl rfl)
theorem dX9_init_110 : decode cX9_init 110 = .ok (.aaload, 1) := dk_50 (dk_at dksX9_init_4 14 rfl rfl)
theorem dX9_init_111 : decode cX9_init 111 = .ok (.iload_n 3, 1) := dk_29 (dk_at dksX9_init_4 15 rfl rfl)
theorem dX9_init_112 : decode cX9_init 112 = .ok (.iload_n 2, 1) := dk_28 (dk_at dksX9_init_4 16 rfl rfl)
theorem dX9_init_113 : decode cX9_init 113 = .ok (.iload_n 3, 1) := dk_29 (dk_at dksX9_init_4 17 rfl rfl)
theorem dX9_init_114 : decode cX9_init 114 = .ok (.invokestatic 43, 3) := dk_184 0 43 (dk_at dksX9_init_4 18 rfl rfl)
theorem dX9_init_117 : decode cX9_init 117 = .ok (.ifCond .eq 16, 3) := dk_153 0 16 (dk_at dksX9_init_4 21 rfl rfl)
theorem dX9_init_120 : decode cX9_init 120 = .ok (.aload_n 0, 1) := dk_42 (dk_at dksX9_init_5 0 rfl rfl)
theorem dX9_init_121 : decode cX9_init 121 = .ok (.iload_n 2, 1) := dk_28 (dk_at dksX9_init_5 1 rfl rfl)
theorem dX9_init_122 : decode cX9_init 122 = .ok (.aload_n 0, 1) := dk_42 (dk_at dksX9_init_5 2 rfl rfl)
theorem dX9_init_123 : decode cX9_init 123 = .ok (.iload_n 3, 1) := dk_29 (dk_at dksX9_init_5 3 rfl rfl)
theorem dX9_init_124 : decode cX9_init 124 = .ok (.invokevirtual 47, 3) := dk_182 0 47 (dk_at dksX9_init_5 4 rfl rfl)
theorem dX9_init_127 : decode cX9_init 127 = .ok (.invokevirtual 51, 3) := dk_182 0 51 (dk_at dksX9_init_5 7 rfl rfl)
theorem dX9_init_130 : decode cX9_init 130 = .ok (.goto 5, 3) := dk_167 0 5 (dk_at dksX9_init_5 10 rfl rfl)
theorem dX9_init_133 : decode cX9_init 133 = .ok (.ldc 55, 2) := dk_18 55 (dk_at dksX9_init_5 13 rfl rfl)
theorem dX9_init_135 : decode cX9_init 135 = .ok (.iastore, 1) := dk_79 (dk_at dksX9_init_5 15 rfl rfl)
theorem dX9_init_136 : decode cX9_init 136 = .ok (.iinc 3 1, 3) := dk_132 3 1 (dk_at dksX9_init_5 16 rfl rfl)
theorem dX9_init_139 : decode cX9_init 139 = .ok (.goto (-42), 3) := dk_167 255 214 (dk_at dksX9_init_5 19 rfl rfl)
theorem dX9_init_142 : decode cX9_init 142 = .ok (.iinc 2 (-1), 3) := dk_132 2 255 (dk_at dksX9_init_6 0 rfl rfl)
theorem dX9_init_145 : decode cX9_init 145 = .ok (.goto (-54), 3) := dk_167 255 202 (dk_at dksX9_init_6 3 rfl rfl)
theorem dX9_init_148 : decode cX9_init 148 = .ok (.return_, 1) := dk_177 (dk_at dksX9_init_6 6 rfl rfl)
abbrev cX9_colour : ByteArray := prog_9_method_2_code
def yX9_colour : MethodName := ⟨RX9, "colour", "(I)I"⟩
def dkwX9_colour_0 : List UInt8 := [42, 180, 0, 3, 180, 0, 25, 42, 180, 0, 15, 27, 46, 50, 180, 0, 56, 172]
abbrev dktX9_colour_0 : List UInt8 := dkwX9_colour_0 ++ []
theorem dksX9_colour_0 : cX9_colour.data.toList.drop 0 = dktX9_colour_0 := by decide +kernel
theorem dX9_colour_0 : decode cX9_colour 0 = .ok (.aload_n 0, 1) := dk_42 (dk_at dksX9_colour_0 0 rfl rfl)
theorem dX9_colour_1 : decode cX9_colour 1 = .ok (.getfield 3, 3) := dk_180 0 3 (dk_at dksX9_colour_0 1 rfl rfl)
theorem dX9_colour_4 : decode cX9_colour 4 = .ok (.getfield 25, 3) := dk_180 0 25 (dk_at dksX9_colour_0 4 rfl rfl)
theorem dX9_colour_7 : decode cX9_colour 7 = .ok (.aload_n 0, 1) := dk_42 (dk_at dksX9_colour_0 7 rfl rfl)
theorem dX9_colour_8 : decode cX9_colour 8 = .ok (.getfield 15, 3) := dk_180 0 15 (dk_at dksX9_colour_0 8 rfl rfl)
theorem dX9_colour_11 : decode cX9_colour 11 = .ok (.iload_n 1, 1) := dk_27 (dk_at dksX9_colour_0 11 rfl rfl)
theorem dX9_colour_12 : decode cX9_colour 12 = .ok (.iaload, 1) := dk_46 (dk_at dksX9_colour_0 12 rfl rfl)
theorem dX9_colour_13 : decode cX9_colour 13 = .ok (.aaload, 1) := dk_50 (dk_at dksX9_colour_0 13 rfl rfl)
theorem dX9_colour_14 : decode cX9_colour 14 = .ok (.getfield 56, 3) := dk_180 0 56 (dk_at dksX9_colour_0 14 rfl rfl)
theorem dX9_colour_17 : decode cX9_colour 17 = .ok (.ireturn, 1) := dk_172 (dk_at dksX9_colour_0 17 rfl rfl)
abbrev cX9_fewest : ByteArray := prog_9_method_4_code
def yX9_fewest : MethodName := ⟨RX9, "fewest", "(II)I"⟩
def dkwX9_fewest_2 : List UInt8 := [21, 4, 182, 0, 67, 184, 0, 71, 62, 132, 4, 1, 167, 255, 218, 29, 172]
abbrev dktX9_fewest_2 : List UInt8 := dkwX9_fewest_2 ++ []
def dkwX9_fewest_1 : List UInt8 := [180, 0, 35, 162, 0, 35, 27, 21, 4, 184, 0, 43, 153, 0, 7, 29, 167, 0, 15, 29, 42, 27, 28]
abbrev dktX9_fewest_1 : List UInt8 := dkwX9_fewest_1 ++ dktX9_fewest_2
def dkwX9_fewest_0 : List UInt8 := [27, 42, 180, 0, 40, 190, 4, 100, 160, 0, 7, 3, 167, 0, 5, 18, 55, 62, 3, 54, 4, 21, 4, 42]
abbrev dktX9_fewest_0 : List UInt8 := dkwX9_fewest_0 ++ dktX9_fewest_1
theorem dksX9_fewest_0 : cX9_fewest.data.toList.drop 0 = dktX9_fewest_0 := by decide +kernel
theorem dksX9_fewest_1 : cX9_fewest.data.toList.drop 24 = dktX9_fewest_1 := dk_seg dksX9_fewest_0 24 rfl rfl
theorem dksX9_fewest_2 : cX9_fewest.data.toList.drop 47 = dktX9_fewest_2 := dk_seg dksX9_fewest_1 23 rfl rfl
theorem dX9_fewest_0 : decode cX9_fewest 0 = .ok (.iload_n 1, 1) := dk_27 (dk_at dksX9_fewest_0 0 rfl rfl)
theorem dX9_fewest_1 : decode cX9_fewest 1 = .ok (.aload_n 0, 1) := dk_42 (dk_at dksX9_fewest_0 1 rfl rfl)
theorem dX9_fewest_2 : decode cX9_fewest 2 = .ok (.getfield 40, 3) := dk_180 0 40 (dk_at dksX9_fewest_0 2 rfl rfl)
theorem dX9_fewest_5 : decode cX9_fewest 5 = .ok (.arraylength, 1) := dk_190 (dk_at dksX9_fewest_0 5 rfl rfl)
theorem dX9_fewest_6 : decode cX9_fewest 6 = .ok (.iconst 1, 1) := dk_4 (dk_at dksX9_fewest_0 6 rfl rfl)
theorem dX9_fewest_7 : decode cX9_fewest 7 = .ok (.isub, 1) := dk_100 (dk_at dksX9_fewest_0 7 rfl rfl)
theorem dX9_fewest_8 : decode cX9_fewest 8 = .ok (.if_icmp .ne 7, 3) := dk_160 0 7 (dk_at dksX9_fewest_0 8 rfl rfl)
theorem dX9_fewest_11 : decode cX9_fewest 11 = .ok (.iconst 0, 1) := dk_3 (dk_at dksX9_fewest_0 11 rfl rfl)
theorem dX9_fewest_12 : decode cX9_fewest 12 = .ok (.goto 5, 3) := dk_167 0 5 (dk_at dksX9_fewest_0 12 rfl rfl)
theorem dX9_fewest_15 : decode cX9_fewest 15 = .ok (.ldc 55, 2) := dk_18 55 (dk_at dksX9_fewest_0 15 rfl rfl)
theorem dX9_fewest_17 : decode cX9_fewest 17 = .ok (.istore_n 3, 1) := dk_62 (dk_at dksX9_fewest_0 17 rfl rfl)
theorem dX9_fewest_18 : decode cX9_fewest 18 = .ok (.iconst 0, 1) := dk_3 (dk_at dksX9_fewest_0 18 rfl rfl)
theorem dX9_fewest_19 : decode cX9_fewest 19 = .ok (.istore 4, 2) := dk_54 4 (dk_at dksX9_fewest_0 19 rfl rfl)
theorem dX9_fewest_21 : decode cX9_fewest 21 = .ok (.iload 4, 2) := dk_21 4 (dk_at dksX9_fewest_0 21 rfl rfl)
theorem dX9_fewest_23 : decode cX9_fewest 23 = .ok (.aload_n 0, 1) := dk_42 (dk_at dksX9_fewest_0 23 rfl rfl)
theorem dX9_fewest_24 : decode cX9_fewest 24 = .ok (.getfield 35, 3) := dk_180 0 35 (dk_at dksX9_fewest_1 0 rfl rfl)
theorem dX9_fewest_27 : decode cX9_fewest 27 = .ok (.if_icmp .ge 35, 3) := dk_162 0 35 (dk_at dksX9_fewest_1 3 rfl rfl)
theorem dX9_fewest_30 : decode cX9_fewest 30 = .ok (.iload_n 1, 1) := dk_27 (dk_at dksX9_fewest_1 6 rfl rfl)
theorem dX9_fewest_31 : decode cX9_fewest 31 = .ok (.iload 4, 2) := dk_21 4 (dk_at dksX9_fewest_1 7 rfl rfl)
theorem dX9_fewest_33 : decode cX9_fewest 33 = .ok (.invokestatic 43, 3) := dk_184 0 43 (dk_at dksX9_fewest_1 9 rfl rfl)
theorem dX9_fewest_36 : decode cX9_fewest 36 = .ok (.ifCond .eq 7, 3) := dk_153 0 7 (dk_at dksX9_fewest_1 12 rfl rfl)
theorem dX9_fewest_39 : decode cX9_fewest 39 = .ok (.iload_n 3, 1) := dk_29 (dk_at dksX9_fewest_1 15 rfl rfl)
theorem dX9_fewest_40 : decode cX9_fewest 40 = .ok (.goto 15, 3) := dk_167 0 15 (dk_at dksX9_fewest_1 16 rfl rfl)
theorem dX9_fewest_43 : decode cX9_fewest 43 = .ok (.iload_n 3, 1) := dk_29 (dk_at dksX9_fewest_1 19 rfl rfl)
theorem dX9_fewest_44 : decode cX9_fewest 44 = .ok (.aload_n 0, 1) := dk_42 (dk_at dksX9_fewest_1 20 rfl rfl)
theorem dX9_fewest_45 : decode cX9_fewest 45 = .ok (.iload_n 1, 1) := dk_27 (dk_at dksX9_fewest_1 21 rfl rfl)
theorem dX9_fewest_46 : decode cX9_fewest 46 = .ok (.iload_n 2, 1) := dk_28 (dk_at dksX9_fewest_1 22 rfl rfl)
theorem dX9_fewest_47 : decode cX9_fewest 47 = .ok (.iload 4, 2) := dk_21 4 (dk_at dksX9_fewest_2 0 rfl rfl)
theorem dX9_fewest_49 : decode cX9_fewest 49 = .ok (.invokevirtual 67, 3) := dk_182 0 67 (dk_at dksX9_fewest_2 2 rfl rfl)
theorem dX9_fewest_52 : decode cX9_fewest 52 = .ok (.invokestatic 71, 3) := dk_184 0 71 (dk_at dksX9_fewest_2 5 rfl rfl)
theorem dX9_fewest_55 : decode cX9_fewest 55 = .ok (.istore_n 3, 1) := dk_62 (dk_at dksX9_fewest_2 8 rfl rfl)
theorem dX9_fewest_56 : decode cX9_fewest 56 = .ok (.iinc 4 1, 3) := dk_132 4 1 (dk_at dksX9_fewest_2 9 rfl rfl)
theorem dX9_fewest_59 : decode cX9_fewest 59 = .ok (.goto (-38), 3) := dk_167 255 218 (dk_at dksX9_fewest_2 12 rfl rfl)
theorem dX9_fewest_62 : decode cX9_fewest 62 = .ok (.iload_n 3, 1) := dk_29 (dk_at dksX9_fewest_2 15 rfl rfl)
theorem dX9_fewest_63 : decode cX9_fewest 63 = .ok (.ireturn, 1) := dk_172 (dk_at dksX9_fewest_2 16 rfl rfl)
abbrev cX9_with : ByteArray := prog_9_method_3_code
def yX9_with : MethodName := ⟨RX9, "with", "(III)I"⟩
def dkwX9_with_1 : List UInt8 := [29, 120, 128, 50, 29, 46, 96, 172]
abbrev dktX9_with_1 : List UInt8 := dkwX9_with_1 ++ []
def dkwX9_with_0 : List UInt8 := [42, 180, 0, 3, 180, 0, 58, 28, 42, 29, 182, 0, 47, 185, 0, 62, 3, 0, 42, 180, 0, 40, 27, 4]
abbrev dktX9_with_0 : List UInt8 := dkwX9_with_0 ++ dktX9_with_1
theorem dksX9_with_0 : cX9_with.data.toList.drop 0 = dktX9_with_0 := by decide +kernel
theorem dksX9_with_1 : cX9_with.data.toList.drop 24 = dktX9_with_1 := dk_seg dksX9_with_0 24 rfl rfl
theorem dX9_with_0 : decode cX9_with 0 = .ok (.aload_n 0, 1) := dk_42 (dk_at dksX9_with_0 0 rfl rfl)
theorem dX9_with_1 : decode cX9_with 1 = .ok (.getfield 3, 3) := dk_180 0 3 (dk_at dksX9_with_0 1 rfl rfl)
theorem dX9_with_4 : decode cX9_with 4 = .ok (.getfield 58, 3) := dk_180 0 58 (dk_at dksX9_with_0 4 rfl rfl)
theorem dX9_with_7 : decode cX9_with 7 = .ok (.iload_n 2, 1) := dk_28 (dk_at dksX9_with_0 7 rfl rfl)
theorem dX9_with_8 : decode cX9_with 8 = .ok (.aload_n 0, 1) := dk_42 (dk_at dksX9_with_0 8 rfl rfl)
theorem dX9_with_9 : decode cX9_with 9 = .ok (.iload_n 3, 1) := dk_29 (dk_at dksX9_with_0 9 rfl rfl)
theorem dX9_with_10 : decode cX9_with 10 = .ok (.invokevirtual 47, 3) := dk_182 0 47 (dk_at dksX9_with_0 10 rfl rfl)
theorem dX9_with_13 : decode cX9_with 13 = .ok (.invokeinterface 62 3, 5) := by decide +kernel
theorem dX9_with_18 : decode cX9_with 18 = .ok (.aload_n 0, 1) := dk_42 (dk_at dksX9_with_0 18 rfl rfl)
theorem dX9_with_19 : decode cX9_with 19 = .ok (.getfield 40, 3) := dk_180 0 40 (dk_at dksX9_with_0 19 rfl rfl)
theorem dX9_with_22 : decode cX9_with 22 = .ok (.iload_n 1, 1) := dk_27 (dk_at dksX9_with_0 22 rfl rfl)
theorem dX9_with_23 : decode cX9_with 23 = .ok (.iconst 1, 1) := dk_4 (dk_at dksX9_with_0 23 rfl rfl)
theorem dX9_with_24 : decode cX9_with 24 = .ok (.iload_n 3, 1) := dk_29 (dk_at dksX9_with_1 0 rfl rfl)
theorem dX9_with_25 : decode cX9_with 25 = .ok (.ishl, 1) := dk_120 (dk_at dksX9_with_1 1 rfl rfl)
theorem dX9_with_26 : decode cX9_with 26 = .ok (.ior, 1) := dk_128 (dk_at dksX9_with_1 2 rfl rfl)
theorem dX9_with_27 : decode cX9_with 27 = .ok (.aaload, 1) := dk_50 (dk_at dksX9_with_1 3 rfl rfl)
theorem dX9_with_28 : decode cX9_with 28 = .ok (.iload_n 3, 1) := dk_29 (dk_at dksX9_with_1 4 rfl rfl)
theorem dX9_with_29 : decode cX9_with 29 = .ok (.iaload, 1) := dk_46 (dk_at dksX9_with_1 5 rfl rfl)
theorem dX9_with_30 : decode cX9_with 30 = .ok (.iadd, 1) := dk_96 (dk_at dksX9_with_1 6 rfl rfl)
theorem dX9_with_31 : decode cX9_with 31 = .ok (.ireturn, 1) := dk_172 (dk_at dksX9_with_1 7 rfl rfl)
abbrev cX9_best : ByteArray := prog_9_method_6_code
def yX9_best : MethodName := ⟨RX9, "best", "()[I"⟩
def dkwX9_best_4 : List UInt8 := [167, 255, 184, 43, 176]
abbrev dktX9_best_4 : List UInt8 := dkwX9_best_4 ++ []
def dkwX9_best_3 : List UInt8 := [180, 0, 15, 21, 5, 46, 79, 28, 4, 21, 5, 120, 128, 61, 42, 21, 5, 182, 0, 47, 62, 132, 4, 1]
abbrev dktX9_best_3 : List UInt8 := dkwX9_best_3 ++ dktX9_best_4
def dkwX9_best_2 : List UInt8 := [182, 0, 67, 42, 28, 29, 182, 0, 51, 159, 0, 9, 132, 5, 1, 167, 255, 227, 43, 21, 4, 42]
abbrev dktX9_best_2 : List UInt8 := dkwX9_best_2 ++ dktX9_best_3
def dkwX9_best_1 : List UInt8 := [180, 0, 35, 162, 0, 69, 3, 54, 5, 28, 21, 5, 184, 0, 43, 154, 0, 20, 42, 28, 29, 21, 5]
abbrev dktX9_best_1 : List UInt8 := dkwX9_best_1 ++ dktX9_best_2
def dkwX9_best_0 : List UInt8 := [42, 180, 0, 35, 188, 10, 76, 3, 61, 42, 180, 0, 3, 180, 0, 76, 62, 3, 54, 4, 21, 4, 42]
abbrev dktX9_best_0 : List UInt8 := dkwX9_best_0 ++ dktX9_best_1
theorem dksX9_best_0 : cX9_best.data.toList.drop 0 = dktX9_best_0 := by decide +kernel
theorem dksX9_best_1 : cX9_best.data.toList.drop 23 = dktX9_best_1 := dk_seg dksX9_best_0 23 rfl rfl
theorem dksX9_best_2 : cX9_best.data.toList.drop 46 = dktX9_best_2 := dk_seg dksX9_best_1 23 rfl rfl
theorem dksX9_best_3 : cX9_best.data.toList.drop 68 = dktX9_best_3 := dk_seg dksX9_best_2 22 rfl rfl
theorem dksX9_best_4 : cX9_best.data.toList.drop 92 = dktX9_best_4 := dk_seg dksX9_best_3 24 rfl rfl
theorem dX9_best_0 : decode cX9_best 0 = .ok (.aload_n 0, 1) := dk_42 (dk_at dksX9_best_0 0 rfl rfl)
theorem dX9_best_1 : decode cX9_best 1 = .ok (.getfield 35, 3) := dk_180 0 35 (dk_at dksX9_best_0 1 rfl rfl)
theorem dX9_best_4 : decode cX9_best 4 = .ok (.newarray .int, 2) := dk_188_10 (dk_at dksX9_best_0 4 rfl rfl)
theorem dX9_best_6 : decode cX9_best 6 = .ok (.astore_n 1, 1) := dk_76 (dk_at dksX9_best_0 6 rfl rfl)
theorem dX9_best_7 : decode cX9_best 7 = .ok (.iconst 0, 1) := dk_3 (dk_at dksX9_best_0 7 rfl rfl)
theorem dX9_best_8 : decode cX9_best 8 = .ok (.istore_n 2, 1) := dk_61 (dk_at dksX9_best_0 8 rfl rfl)
theorem dX9_best_9 : decode cX9_best 9 = .ok (.aload_n 0, 1) := dk_42 (dk_at dksX9_best_0 9 rfl rfl)
theorem dX9_best_10 : decode cX9_best 10 = .ok (.getfield 3, 3) := dk_180 0 3 (dk_at dksX9_best_0 10 rfl rfl)
theorem dX9_best_13 : decode cX9_best 13 = .ok (.getfield 76, 3) := dk_180 0 76 (dk_at dksX9_best_0 13 rfl rfl)
theorem dX9_best_16 : decode cX9_best 16 = .ok (.istore_n 3, 1) := dk_62 (dk_at dksX9_best_0 16 rfl rfl)
theorem dX9_best_17 : decode cX9_best 17 = .ok (.iconst 0, 1) := dk_3 (dk_at dksX9_best_0 17 rfl rfl)
theorem dX9_best_18 : decode cX9_best 18 = .ok (.istore 4, 2) := dk_54 4 (dk_at dksX9_best_0 18 rfl rfl)
theorem dX9_best_20 : decode cX9_best 20 = .ok (.iload 4, 2) := dk_21 4 (dk_at dksX9_best_0 20 rfl rfl)
theorem dX9_best_22 : decode cX9_best 22 = .ok (.aload_n 0, 1) := dk_42 (dk_at dksX9_best_0 22 rfl rfl)
theorem dX9_best_23 : decode cX9_best 23 = .ok (.getfield 35, 3) := dk_180 0 35 (dk_at dksX9_best_1 0 rfl rfl)
theorem dX9_best_26 : decode cX9_best 26 = .ok (.if_icmp .ge 69, 3) := dk_162 0 69 (dk_at dksX9_best_1 3 rfl rfl)
theorem dX9_best_29 : decode cX9_best 29 = .ok (.iconst 0, 1) := dk_3 (dk_at dksX9_best_1 6 rfl rfl)
theorem dX9_best_30 : decode cX9_best 30 = .ok (.istore 5, 2) := dk_54 5 (dk_at dksX9_best_1 7 rfl rfl)
theorem dX9_best_32 : decode cX9_best 32 = .ok (.iload_n 2, 1) := dk_28 (dk_at dksX9_best_1 9 rfl rfl)
theorem dX9_best_33 : decode cX9_best 33 = .ok (.iload 5, 2) := dk_21 5 (dk_at dksX9_best_1 10 rfl rfl)
theorem dX9_best_35 : decode cX9_best 35 = .ok (.invokestatic 43, 3) := dk_184 0 43 (dk_at dksX9_best_1 12 rfl rfl)
theorem dX9_best_38 : decode cX9_best 38 = .ok (.ifCond .ne 20, 3) := dk_154 0 20 (dk_at dksX9_best_1 15 rfl rfl)
theorem dX9_best_41 : decode cX9_best 41 = .ok (.aload_n 0, 1) := dk_42 (dk_at dksX9_best_1 18 rfl rfl)
theorem dX9_best_42 : decode cX9_best 42 = .ok (.iload_n 2, 1) := dk_28 (dk_at dksX9_best_1 19 rfl rfl)
theorem dX9_best_43 : decode cX9_best 43 = .ok (.iload_n 3, 1) := dk_29 (dk_at dksX9_best_1 20 rfl rfl)
theorem dX9_best_44 : decode cX9_best 44 = .ok (.iload 5, 2) := dk_21 5 (dk_at dksX9_best_1 21 rfl rfl)
theorem dX9_best_46 : decode cX9_best 46 = .ok (.invokevirtual 67, 3) := dk_182 0 67 (dk_at dksX9_best_2 0 rfl rfl)
theorem dX9_best_49 : decode cX9_best 49 = .ok (.aload_n 0, 1) := dk_42 (dk_at dksX9_best_2 3 rfl rfl)
theorem dX9_best_50 : decode cX9_best 50 = .ok (.iload_n 2, 1) := dk_28 (dk_at dksX9_best_2 4 rfl rfl)
theorem dX9_best_51 : decode cX9_best 51 = .ok (.iload_n 3, 1) := dk_29 (dk_at dksX9_best_2 5 rfl rfl)
theorem dX9_best_52 : decode cX9_best 52 = .ok (.invokevirtual 51, 3) := dk_182 0 51 (dk_at dksX9_best_2 6 rfl rfl)
theorem dX9_best_55 : decode cX9_best 55 = .ok (.if_icmp .eq 9, 3) := dk_159 0 9 (dk_at dksX9_best_2 9 rfl rfl)
theorem dX9_best_58 : decode cX9_best 58 = .ok (.iinc 5 1, 3) := dk_132 5 1 (dk_at dksX9_best_2 12 rfl rfl)
theorem dX9_best_61 : decode cX9_best 61 = .ok (.goto (-29), 3) := dk_167 255 227 (dk_at dksX9_best_2 15 rfl rfl)
theorem dX9_best_64 : decode cX9_best 64 = .ok (.aload_n 1, 1) := dk_43 (dk_at dksX9_best_2 18 rfl rfl)
theorem dX9_best_65 : decode cX9_best 65 = .ok (.iload 4, 2) := dk_21 4 (dk_at dksX9_best_2 19 rfl rfl)
theorem dX9_best_67 : decode cX9_best 67 = .ok (.aload_n 0, 1) := dk_42 (dk_at dksX9_best_2 21 rfl rfl)
theorem dX9_best_68 : decode cX9_best 68 = .ok (.getfield 15, 3) := dk_180 0 15 (dk_at dksX9_best_3 0 rfl rfl)
theorem dX9_best_71 : decode cX9_best 71 = .ok (.iload 5, 2) := dk_21 5 (dk_at dksX9_best_3 3 rfl rfl)
theorem dX9_best_73 : decode cX9_best 73 = .ok (.iaload, 1) := dk_46 (dk_at dksX9_best_3 5 rfl rfl)
theorem dX9_best_74 : decode cX9_best 74 = .ok (.iastore, 1) := dk_79 (dk_at dksX9_best_3 6 rfl rfl)
theorem dX9_best_75 : decode cX9_best 75 = .ok (.iload_n 2, 1) := dk_28 (dk_at dksX9_best_3 7 rfl rfl)
theorem dX9_best_76 : decode cX9_best 76 = .ok (.iconst 1, 1) := dk_4 (dk_at dksX9_best_3 8 rfl rfl)
theorem dX9_best_77 : decode cX9_best 77 = .ok (.iload 5, 2) := dk_21 5 (dk_at dksX9_best_3 9 rfl rfl)
theorem dX9_best_79 : decode cX9_best 79 = .ok (.ishl, 1) := dk_120 (dk_at dksX9_best_3 11 rfl rfl)
theorem dX9_best_80 : decode cX9_best 80 = .ok (.ior, 1) := dk_128 (dk_at dksX9_best_3 12 rfl rfl)
theorem dX9_best_81 : decode cX9_best 81 = .ok (.istore_n 2, 1) := dk_61 (dk_at dksX9_best_3 13 rfl rfl)
theorem dX9_best_82 : decode cX9_best 82 = .ok (.aload_n 0, 1) := dk_42 (dk_at dksX9_best_3 14 rfl rfl)
theorem dX9_best_83 : decode cX9_best 83 = .ok (.iload 5, 2) := dk_21 5 (dk_at dksX9_best_3 15 rfl rfl)
theorem dX9_best_85 : decode cX9_best 85 = .ok (.invokevirtual 47, 3) := dk_182 0 47 (dk_at dksX9_best_3 17 rfl rfl)
theorem dX9_best_88 : decode cX9_best 88 = .ok (.istore_n 3, 1) := dk_62 (dk_at dksX9_best_3 20 rfl rfl)
theorem dX9_best_89 : decode cX9_best 89 = .ok (.iinc 4 1, 3) := dk_132 4 1 (dk_at dksX9_best_3 21 rfl rfl)
theorem dX9_best_92 : decode cX9_best 92 = .ok (.goto (-72), 3) := dk_167 255 184 (dk_at dksX9_best_4 0 rfl rfl)
theorem dX9_best_95 : decode cX9_best 95 = .ok (.aload_n 1, 1) := dk_43 (dk_at dksX9_best_4 3 rfl rfl)
theorem dX9_best_96 : decode cX9_best 96 = .ok (.areturn, 1) := dk_176 (dk_at dksX9_best_4 4 rfl rfl)
abbrev cX9_fewestMinutes : ByteArray := prog_9_method_5_code
def yX9_fewestMinutes : MethodName := ⟨RX9, "fewestMinutes", "()I"⟩
def dkwX9_fewestMinutes_0 : List UInt8 := [42, 3, 42, 180, 0, 3, 180, 0, 76, 182, 0, 51, 172]
abbrev dktX9_fewestMinutes_0 : List UInt8 := dkwX9_fewestMinutes_0 ++ []
theorem dksX9_fewestMinutes_0 : cX9_fewestMinutes.data.toList.drop 0 = dktX9_fewestMinutes_0 := by decide +kernel
theorem dX9_fewestMinutes_0 : decode cX9_fewestMinutes 0 = .ok (.aload_n 0, 1) := dk_42 (dk_at dksX9_fewestMinutes_0 0 rfl rfl)
theorem dX9_fewestMinutes_1 : decode cX9_fewestMinutes 1 = .ok (.iconst 0, 1) := dk_3 (dk_at dksX9_fewestMinutes_0 1 rfl rfl)
theorem dX9_fewestMinutes_2 : decode cX9_fewestMinutes 2 = .ok (.aload_n 0, 1) := dk_42 (dk_at dksX9_fewestMinutes_0 2 rfl rfl)
theorem dX9_fewestMinutes_3 : decode cX9_fewestMinutes 3 = .ok (.getfield 3, 3) := dk_180 0 3 (dk_at dksX9_fewestMinutes_0 3 rfl rfl)
theorem dX9_fewestMinutes_6 : decode cX9_fewestMinutes 6 = .ok (.getfield 76, 3) := dk_180 0 76 (dk_at dksX9_fewestMinutes_0 6 rfl rfl)
theorem dX9_fewestMinutes_9 : decode cX9_fewestMinutes 9 = .ok (.invokevirtual 51, 3) := dk_182 0 51 (dk_at dksX9_fewestMinutes_0 9 rfl rfl)
theorem dX9_fewestMinutes_12 : decode cX9_fewestMinutes 12 = .ok (.ireturn, 1) := dk_172 (dk_at dksX9_fewestMinutes_0 12 rfl rfl)
abbrev cX9_minutesByOrders : ByteArray := prog_9_method_8_code
def yX9_minutesByOrders : MethodName := ⟨RX9, "minutesByOrders", "()I"⟩
def dkwX9_minutesByOrders_0 : List UInt8 := [42, 3, 3, 42, 180, 0, 35, 188, 10, 182, 0, 83, 172]
abbrev dktX9_minutesByOrders_0 : List UInt8 := dkwX9_minutesByOrders_0 ++ []
theorem dksX9_minutesByOrders_0 : cX9_minutesByOrders.data.toList.drop 0 = dktX9_minutesByOrders_0 := by decide +kernel
theorem dX9_minutesByOrders_0 : decode cX9_minutesByOrders 0 = .ok (.aload_n 0, 1) := dk_42 (dk_at dksX9_minutesByOrders_0 0 rfl rfl)
theorem dX9_minutesByOrders_1 : decode cX9_minutesByOrders 1 = .ok (.iconst 0, 1) := dk_3 (dk_at dksX9_minutesByOrders_0 1 rfl rfl)
theorem dX9_minutesByOrders_2 : decode cX9_minutesByOrders 2 = .ok (.iconst 0, 1) := dk_3 (dk_at dksX9_minutesByOrders_0 2 rfl rfl)
theorem dX9_minutesByOrders_3 : decode cX9_minutesByOrders 3 = .ok (.aload_n 0, 1) := dk_42 (dk_at dksX9_minutesByOrders_0 3 rfl rfl)
theorem dX9_minutesByOrders_4 : decode cX9_minutesByOrders 4 = .ok (.getfield 35, 3) := dk_180 0 35 (dk_at dksX9_minutesByOrders_0 4 rfl rfl)
theorem dX9_minutesByOrders_7 : decode cX9_minutesByOrders 7 = .ok (.newarray .int, 2) := dk_188_10 (dk_at dksX9_minutesByOrders_0 7 rfl rfl)
theorem dX9_minutesByOrders_9 : decode cX9_minutesByOrders 9 = .ok (.invokevirtual 83, 3) := dk_182 0 83 (dk_at dksX9_minutesByOrders_0 9 rfl rfl)
theorem dX9_minutesByOrders_12 : decode cX9_minutesByOrders 12 = .ok (.ireturn, 1) := dk_172 (dk_at dksX9_minutesByOrders_0 12 rfl rfl)
abbrev cX9_leastFrom : ByteArray := prog_9_method_7_code
def yX9_leastFrom : MethodName := ⟨RX9, "leastFrom", "(II[I)I"⟩
def dkwX9_leastFrom_4 : List UInt8 := [21, 4, 172]
abbrev dktX9_leastFrom_4 : List UInt8 := dkwX9_leastFrom_4 ++ []
def dkwX9_leastFrom_3 : List UInt8 := [27, 4, 96, 28, 4, 21, 5, 120, 128, 45, 182, 0, 83, 184, 0, 71, 54, 4, 132, 5, 1, 167, 255, 205]
abbrev dktX9_leastFrom_3 : List UInt8 := dkwX9_leastFrom_3 ++ dktX9_leastFrom_4
def dkwX9_leastFrom_2 : List UInt8 := [162, 0, 48, 28, 21, 5, 184, 0, 43, 154, 0, 33, 45, 27, 42, 21, 5, 182, 0, 47, 79, 21, 4, 42]
abbrev dktX9_leastFrom_2 : List UInt8 := dkwX9_leastFrom_2 ++ dktX9_leastFrom_3
def dkwX9_leastFrom_1 : List UInt8 := [180, 0, 35, 185, 0, 79, 4, 0, 172, 18, 55, 54, 4, 3, 54, 5, 21, 5, 42, 180, 0, 35]
abbrev dktX9_leastFrom_1 : List UInt8 := dkwX9_leastFrom_1 ++ dktX9_leastFrom_2
def dkwX9_leastFrom_0 : List UInt8 := [27, 42, 180, 0, 35, 160, 0, 28, 42, 180, 0, 3, 180, 0, 58, 42, 180, 0, 3, 180, 0, 76, 45, 42]
abbrev dktX9_leastFrom_0 : List UInt8 := dkwX9_leastFrom_0 ++ dktX9_leastFrom_1
theorem dksX9_leastFrom_0 : cX9_leastFrom.data.toList.drop 0 = dktX9_leastFrom_0 := by decide +kernel
theorem dksX9_leastFrom_1 : cX9_leastFrom.data.toList.drop 24 = dktX9_leastFrom_1 := dk_seg dksX9_leastFrom_0 24 rfl rfl
theorem dksX9_leastFrom_2 : cX9_leastFrom.data.toList.drop 46 = dktX9_leastFrom_2 := dk_seg dksX9_leastFrom_1 22 rfl rfl
theorem dksX9_leastFrom_3 : cX9_leastFrom.data.toList.drop 70 = dktX9_leastFrom_3 := dk_seg dksX9_leastFrom_2 24 rfl rfl
theorem dksX9_leastFrom_4 : cX9_leastFrom.data.toList.drop 94 = dktX9_leastFrom_4 := dk_seg dksX9_leastFrom_3 24 rfl rfl
theorem dX9_leastFrom_0 : decode cX9_leastFrom 0 = .ok (.iload_n 1, 1) := dk_27 (dk_at dksX9_leastFrom_0 0 rfl rfl)
theorem dX9_leastFrom_1 : decode cX9_leastFrom 1 = .ok (.aload_n 0, 1) := dk_42 (dk_at dksX9_leastFrom_0 1 rfl rfl)
theorem dX9_leastFrom_2 : decode cX9_leastFrom 2 = .ok (.getfield 35, 3) := dk_180 0 35 (dk_at dksX9_leastFrom_0 2 rfl rfl)
theorem dX9_leastFrom_5 : decode cX9_leastFrom 5 = .ok (.if_icmp .ne 28, 3) := dk_160 0 28 (dk_at dksX9_leastFrom_0 5 rfl rfl)
theorem dX9_leastFrom_8 : decode cX9_leastFrom 8 = .ok (.aload_n 0, 1) := dk_42 (dk_at dksX9_leastFrom_0 8 rfl rfl)
theorem dX9_leastFrom_9 : decode cX9_leastFrom 9 = .ok (.getfield 3, 3) := dk_180 0 3 (dk_at dksX9_leastFrom_0 9 rfl rfl)
theorem dX9_leastFrom_12 : decode cX9_leastFrom 12 = .ok (.getfield 58, 3) := dk_180 0 58 (dk_at dksX9_leastFrom_0 12 rfl rfl)
theorem dX9_leastFrom_15 : decode cX9_leastFrom 15 = .ok (.aload_n 0, 1) := dk_42 (dk_at dksX9_leastFrom_0 15 rfl rfl)
theorem dX9_leastFrom_16 : decode cX9_leastFrom 16 = .ok (.getfield 3, 3) := dk_180 0 3 (dk_at dksX9_leastFrom_0 16 rfl rfl)
theorem dX9_leastFrom_19 : decode cX9_leastFrom 19 = .ok (.getfield 76, 3) := dk_180 0 76 (dk_at dksX9_leastFrom_0 19 rfl rfl)
theorem dX9_leastFrom_22 : decode cX9_leastFrom 22 = .ok (.aload_n 3, 1) := dk_45 (dk_at dksX9_leastFrom_0 22 rfl rfl)
theorem dX9_leastFrom_23 : decode cX9_leastFrom 23 = .ok (.aload_n 0, 1) := dk_42 (dk_at dksX9_leastFrom_0 23 rfl rfl)
theorem dX9_leastFrom_24 : decode cX9_leastFrom 24 = .ok (.getfield 35, 3) := dk_180 0 35 (dk_at dksX9_leastFrom_1 0 rfl rfl)
theorem dX9_leastFrom_27 : decode cX9_leastFrom 27 = .ok (.invokeinterface 79 4, 5) := by decide +kernel
theorem dX9_leastFrom_32 : decode cX9_leastFrom 32 = .ok (.ireturn, 1) := dk_172 (dk_at dksX9_leastFrom_1 8 rfl rfl)
theorem dX9_leastFrom_33 : decode cX9_leastFrom 33 = .ok (.ldc 55, 2) := dk_18 55 (dk_at dksX9_leastFrom_1 9 rfl rfl)
theorem dX9_leastFrom_35 : decode cX9_leastFrom 35 = .ok (.istore 4, 2) := dk_54 4 (dk_at dksX9_leastFrom_1 11 rfl rfl)
theorem dX9_leastFrom_37 : decode cX9_leastFrom 37 = .ok (.iconst 0, 1) := dk_3 (dk_at dksX9_leastFrom_1 13 rfl rfl)
theorem dX9_leastFrom_38 : decode cX9_leastFrom 38 = .ok (.istore 5, 2) := dk_54 5 (dk_at dksX9_leastFrom_1 14 rfl rfl)
theorem dX9_leastFrom_40 : decode cX9_leastFrom 40 = .ok (.iload 5, 2) := dk_21 5 (dk_at dksX9_leastFrom_1 16 rfl rfl)
theorem dX9_leastFrom_42 : decode cX9_leastFrom 42 = .ok (.aload_n 0, 1) := dk_42 (dk_at dksX9_leastFrom_1 18 rfl rfl)
theorem dX9_leastFrom_43 : decode cX9_leastFrom 43 = .ok (.getfield 35, 3) := dk_180 0 35 (dk_at dksX9_leastFrom_1 19 rfl rfl)
theorem dX9_leastFrom_46 : decode cX9_leastFrom 46 = .ok (.if_icmp .ge 48, 3) := dk_162 0 48 (dk_at dksX9_leastFrom_2 0 rfl rfl)
theorem dX9_leastFrom_49 : decode cX9_leastFrom 49 = .ok (.iload_n 2, 1) := dk_28 (dk_at dksX9_leastFrom_2 3 rfl rfl)
theorem dX9_leastFrom_50 : decode cX9_leastFrom 50 = .ok (.iload 5, 2) := dk_21 5 (dk_at dksX9_leastFrom_2 4 rfl rfl)
theorem dX9_leastFrom_52 : decode cX9_leastFrom 52 = .ok (.invokestatic 43, 3) := dk_184 0 43 (dk_at dksX9_leastFrom_2 6 rfl rfl)
theorem dX9_leastFrom_55 : decode cX9_leastFrom 55 = .ok (.ifCond .ne 33, 3) := dk_154 0 33 (dk_at dksX9_leastFrom_2 9 rfl rfl)
theorem dX9_leastFrom_58 : decode cX9_leastFrom 58 = .ok (.aload_n 3, 1) := dk_45 (dk_at dksX9_leastFrom_2 12 rfl rfl)
theorem dX9_leastFrom_59 : decode cX9_leastFrom 59 = .ok (.iload_n 1, 1) := dk_27 (dk_at dksX9_leastFrom_2 13 rfl rfl)
theorem dX9_leastFrom_60 : decode cX9_leastFrom 60 = .ok (.aload_n 0, 1) := dk_42 (dk_at dksX9_leastFrom_2 14 rfl rfl)
theorem dX9_leastFrom_61 : decode cX9_leastFrom 61 = .ok (.iload 5, 2) := dk_21 5 (dk_at dksX9_leastFrom_2 15 rfl rfl)
theorem dX9_leastFrom_63 : decode cX9_leastFrom 63 = .ok (.invokevirtual 47, 3) := dk_182 0 47 (dk_at dksX9_leastFrom_2 17 rfl rfl)
theorem dX9_leastFrom_66 : decode cX9_leastFrom 66 = .ok (.iastore, 1) := dk_79 (dk_at dksX9_leastFrom_2 20 rfl rfl)
theorem dX9_leastFrom_67 : decode cX9_leastFrom 67 = .ok (.iload 4, 2) := dk_21 4 (dk_at dksX9_leastFrom_2 21 rfl rfl)
theorem dX9_leastFrom_69 : decode cX9_leastFrom 69 = .ok (.aload_n 0, 1) := dk_42 (dk_at dksX9_leastFrom_2 23 rfl rfl)
theorem dX9_leastFrom_70 : decode cX9_leastFrom 70 = .ok (.iload_n 1, 1) := dk_27 (dk_at dksX9_leastFrom_3 0 rfl rfl)
theorem dX9_leastFrom_71 : decode cX9_leastFrom 71 = .ok (.iconst 1, 1) := dk_4 (dk_at dksX9_leastFrom_3 1 rfl rfl)
theorem dX9_leastFrom_72 : decode cX9_leastFrom 72 = .ok (.iadd, 1) := dk_96 (dk_at dksX9_leastFrom_3 2 rfl rfl)
theorem dX9_leastFrom_73 : decode cX9_leastFrom 73 = .ok (.iload_n 2, 1) := dk_28 (dk_at dksX9_leastFrom_3 3 rfl rfl)
theorem dX9_leastFrom_74 : decode cX9_leastFrom 74 = .ok (.iconst 1, 1) := dk_4 (dk_at dksX9_leastFrom_3 4 rfl rfl)
theorem dX9_leastFrom_75 : decode cX9_leastFrom 75 = .ok (.iload 5, 2) := dk_21 5 (dk_at dksX9_leastFrom_3 5 rfl rfl)
theorem dX9_leastFrom_77 : decode cX9_leastFrom 77 = .ok (.ishl, 1) := dk_120 (dk_at dksX9_leastFrom_3 7 rfl rfl)
theorem dX9_leastFrom_78 : decode cX9_leastFrom 78 = .ok (.ior, 1) := dk_128 (dk_at dksX9_leastFrom_3 8 rfl rfl)
theorem dX9_leastFrom_79 : decode cX9_leastFrom 79 = .ok (.aload_n 3, 1) := dk_45 (dk_at dksX9_leastFrom_3 9 rfl rfl)
theorem dX9_leastFrom_80 : decode cX9_leastFrom 80 = .ok (.invokevirtual 83, 3) := dk_182 0 83 (dk_at dksX9_leastFrom_3 10 rfl rfl)
theorem dX9_leastFrom_83 : decode cX9_leastFrom 83 = .ok (.invokestatic 71, 3) := dk_184 0 71 (dk_at dksX9_leastFrom_3 13 rfl rfl)
theorem dX9_leastFrom_86 : decode cX9_leastFrom 86 = .ok (.istore 4, 2) := dk_54 4 (dk_at dksX9_leastFrom_3 16 rfl rfl)
theorem dX9_leastFrom_88 : decode cX9_leastFrom 88 = .ok (.iinc 5 1, 3) := dk_132 5 1 (dk_at dksX9_leastFrom_3 18 rfl rfl)
theorem dX9_leastFrom_91 : decode cX9_leastFrom 91 = .ok (.goto (-51), 3) := dk_167 255 205 (dk_at dksX9_leastFrom_3 21 rfl rfl)
theorem dX9_leastFrom_94 : decode cX9_leastFrom 94 = .ok (.iload 4, 2) := dk_21 4 (dk_at dksX9_leastFrom_4 0 rfl rfl)
theorem dX9_leastFrom_96 : decode cX9_leastFrom 96 = .ok (.ireturn, 1) := dk_172 (dk_at dksX9_leastFrom_4 2 rfl rfl)
theorem q114 : (Jvm.Cond.initialized "InkPrintery$State$OrderSearch") ∈ lw_all := lw_g (lw_at lw_m1 31 rfl) rfl
theorem q186 : (Jvm.Cond.fieldLinkNest "InkPrintery$State$OrderSearch" (25 : Nat) "InkPrintery$State" "editions" "[LInkPrintery$Edition;" "InkPrintery") ∈ lw_tbl := lw_at lw_m1 103 rfl
theorem q187 : (Jvm.Cond.fieldLinkNest "InkPrintery$State$OrderSearch" (19 : Nat) "InkPrintery$State" "editionCount" "I" "InkPrintery") ∈ lw_tbl := lw_at lw_m1 104 rfl
theorem q191 : (Jvm.Cond.fieldLinkNest "InkPrintery$State$OrderSearch" (76 : Nat) "InkPrintery$State" "pressColour" "I" "InkPrintery") ∈ lw_tbl := lw_at lw_m1 108 rfl
theorem q208 : (Jvm.Cond.fieldLinkNest "InkPrintery$State$OrderSearch" (58 : Nat) "InkPrintery$State" "cost" "LInkPrintery$Cost;" "InkPrintery") ∈ lw_tbl := lw_at lw_m1 125 rfl
theorem q503 : (Jvm.Cond.selects "InkPrintery$State$OrderSearch" ({ cls := "java/lang/Object", name := "getClass", desc := "()Ljava/lang/Class;" } : Jvm.MethodName) ({ cls := "java/lang/Object", name := "getClass", desc := "()Ljava/lang/Class;" } : Jvm.MethodName)) ∈ lw_all := lw_g (lw_at lw_m2 180 rfl) rfl
theorem q607 : (Jvm.Cond.fieldLinkNest "InkPrintery$State$OrderSearch" (56 : Nat) "InkPrintery$Edition" "colour" "I" "InkPrintery") ∈ lw_tbl := lw_at lw_m3 44 rfl
theorem q632 : (Jvm.Cond.instantiable "InkPrintery$State$OrderSearch" (4 : Nat)) ∈ lw_all := lw_g (lw_at lw_m3 69 rfl) rfl
theorem q634 : (Jvm.Cond.instanceMethod ({ cls := "InkPrintery$State$OrderSearch", name := "<init>", desc := "(LInkPrintery$State;)V" } : Jvm.MethodName)) ∈ lw_all := lw_g (lw_at lw_m3 71 rfl) rfl
theorem q635 : (Jvm.Cond.code ({ cls := "InkPrintery$State$OrderSearch", name := "<init>", desc := "(LInkPrintery$State;)V" } : Jvm.MethodName) prog_9_method_1_code (4 : Nat) (Option.none : Option Jvm.ClassFile.FieldType)) ∈ lw_all := lw_g (lw_at lw_m3 72 rfl) rfl
theorem q636 : (Jvm.Cond.methodLink "InkPrintery$State$OrderSearch" (9 : Nat) ({ cls := "java/lang/Object", name := "<init>", desc := "()V" } : Jvm.MethodName)) ∈ lw_all := lw_g (lw_at lw_m3 73 rfl) rfl
theorem q637 : (Jvm.Cond.methodLink "InkPrintery$State$OrderSearch" (29 : Nat) ({ cls := "InkPrintery$Edition", name := "isComplete", desc := "()Z" } : Jvm.MethodName)) ∈ lw_all := lw_g (lw_at lw_m3 74 rfl) rfl
theorem q641 : (Jvm.Cond.classLink "InkPrintery$State$OrderSearch" (38 : Nat) "[[I") ∈ lw_all := lw_g (lw_at lw_m3 78 rfl) rfl
theorem q643 : (Jvm.Cond.methodLinkNest "InkPrintery$State$OrderSearch" (43 : Nat) ({ cls := "InkPrintery", name := "isIn", desc := "(II)Z" } : Jvm.MethodName) "InkPrintery") ∈ lw_tbl := lw_at lw_m3 80 rfl
theorem q646 : (Jvm.Cond.methodLink "InkPrintery$State$OrderSearch" (47 : Nat) ({ cls := "InkPrintery$State$OrderSearch", name := "colour", desc := "(I)I" } : Jvm.MethodName)) ∈ lw_all := lw_g (lw_at lw_m3 83 rfl) rfl
theorem q647 : (Jvm.Cond.privateMethod ({ cls := "InkPrintery$State$OrderSearch", name := "colour", desc := "(I)I" } : Jvm.MethodName)) ∈ lw_tbl := lw_at lw_m3 84 rfl
theorem q648 : (Jvm.Cond.instanceMethod ({ cls := "InkPrintery$State$OrderSearch", name := "colour", desc := "(I)I" } : Jvm.MethodName)) ∈ lw_all := lw_g (lw_at lw_m3 85 rfl) rfl
theorem q649 : (Jvm.Cond.code ({ cls := "InkPrintery$State$OrderSearch", name := "colour", desc := "(I)I" } : Jvm.MethodName) prog_9_method_2_code (2 : Nat) (Option.some Jvm.ClassFile.FieldType.int)) ∈ lw_all := lw_g (lw_at lw_m3 86 rfl) rfl
theorem q650 : (Jvm.Cond.methodLink "InkPrintery$State$OrderSearch" (51 : Nat) ({ cls := "InkPrintery$State$OrderSearch", name := "fewest", desc := "(II)I" } : Jvm.MethodName)) ∈ lw_all := lw_g (lw_at lw_m3 87 rfl) rfl
theorem q651 : (Jvm.Cond.privateMethod ({ cls := "InkPrintery$State$OrderSearch", name := "fewest", desc := "(II)I" } : Jvm.MethodName)) ∈ lw_tbl := lw_at lw_m3 88 rfl
theorem q652 : (Jvm.Cond.instanceMethod ({ cls := "InkPrintery$State$OrderSearch", name := "fewest", desc := "(II)I" } : Jvm.MethodName)) ∈ lw_all := lw_g (lw_at lw_m3 89 rfl) rfl
theorem q653 : (Jvm.Cond.code ({ cls := "InkPrintery$State$OrderSearch", name := "fewest", desc := "(II)I" } : Jvm.MethodName) prog_9_method_4_code (5 : Nat) (Option.some Jvm.ClassFile.FieldType.int)) ∈ lw_all := lw_g (lw_at lw_m3 90 rfl) rfl
theorem q654 : (Jvm.Cond.constant "InkPrintery$State$OrderSearch" (55 : Nat) (99999 : Int32)) ∈ lw_all := lw_g (lw_at lw_m3 91 rfl) rfl
theorem q655 : (Jvm.Cond.methodLink "InkPrintery$State$OrderSearch" (67 : Nat) ({ cls := "InkPrintery$State$OrderSearch", name := "with", desc := "(III)I" } : Jvm.MethodName)) ∈ lw_all := lw_g (lw_at lw_m3 92 rfl) rfl
theorem q656 : (Jvm.Cond.privateMethod ({ cls := "InkPrintery$State$OrderSearch", name := "with", desc := "(III)I" } : Jvm.MethodName)) ∈ lw_tbl := lw_at lw_m3 93 rfl
theorem q657 : (Jvm.Cond.instanceMethod ({ cls := "InkPrintery$State$OrderSearch", name := "with", desc := "(III)I" } : Jvm.MethodName)) ∈ lw_all := lw_g (lw_at lw_m3 94 rfl) rfl
theorem q658 : (Jvm.Cond.code ({ cls := "InkPrintery$State$OrderSearch", name := "with", desc := "(III)I" } : Jvm.MethodName) prog_9_method_3_code (4 : Nat) (Option.some Jvm.ClassFile.FieldType.int)) ∈ lw_all := lw_g (lw_at lw_m3 95 rfl) rfl
theorem q659 : (Jvm.Cond.interfaceEntry "InkPrintery$State$OrderSearch" (62 : Nat)) ∈ lw_tbl := lw_at lw_m3 96 rfl
theorem q660 : (Jvm.Cond.methodLink "InkPrintery$State$OrderSearch" (62 : Nat) ({ cls := "InkPrintery$Cost", name := "of", desc := "(II)I" } : Jvm.MethodName)) ∈ lw_all := lw_g (lw_at lw_m3 97 rfl) rfl
theorem q669 : (Jvm.Cond.methodLink "InkPrintery$State$OrderSearch" (71 : Nat) ({ cls := "java/lang/Math", name := "min", desc := "(II)I" } : Jvm.MethodName)) ∈ lw_all := lw_g (lw_at lw_m3 106 rfl) rfl
theorem q670 : (Jvm.Cond.fieldLink "InkPrintery$State$OrderSearch" (15 : Nat) "InkPrintery$State$OrderSearch" "numbers" "[I") ∈ lw_all := lw_g (lw_at lw_m3 107 rfl) rfl
theorem q671 : (Jvm.Cond.fieldLink "InkPrintery$State$OrderSearch" (35 : Nat) "InkPrintery$State$OrderSearch" "count" "I") ∈ lw_all := lw_g (lw_at lw_m3 108 rfl) rfl
theorem q672 : (Jvm.Cond.fieldLink "InkPrintery$State$OrderSearch" (40 : Nat) "InkPrintery$State$OrderSearch" "rests" "[[I") ∈ lw_all := lw_g (lw_at lw_m3 109 rfl) rfl
theorem q673 : (Jvm.Cond.fieldLink "InkPrintery$State$OrderSearch" (3 : Nat) "InkPrintery$State$OrderSearch" "this$0" "LInkPrintery$State;") ∈ lw_all := lw_g (lw_at lw_m3 110 rfl) rfl
theorem q674 : (Jvm.Cond.laysFinal "InkPrintery$State$OrderSearch" "InkPrintery$State$OrderSearch" "numbers" "[I") ∈ lw_all := lw_g (lw_at lw_m3 111 rfl) rfl
theorem q675 : (Jvm.Cond.soleField "InkPrintery$State$OrderSearch" "numbers") ∈ lw_all := lw_g (lw_at lw_m3 112 rfl) rfl
theorem q676 : (Jvm.Cond.lays "InkPrintery$State$OrderSearch" "InkPrintery$State$OrderSearch" "count" "I") ∈ lw_all := lw_g (lw_at lw_m3 113 rfl) rfl
theorem q677 : (Jvm.Cond.soleField "InkPrintery$State$OrderSearch" "count") ∈ lw_all := lw_g (lw_at lw_m3 114 rfl) rfl
theorem q678 : (Jvm.Cond.laysFinal "InkPrintery$State$OrderSearch" "InkPrintery$State$OrderSearch" "rests" "[[I") ∈ lw_all := lw_g (lw_at lw_m3 115 rfl) rfl
theorem q679 : (Jvm.Cond.soleField "InkPrintery$State$OrderSearch" "rests") ∈ lw_all := lw_g (lw_at lw_m3 116 rfl) rfl
theorem q680 : (Jvm.Cond.laysFinal "InkPrintery$State$OrderSearch" "InkPrintery$State$OrderSearch" "this$0" "LInkPrintery$State;") ∈ lw_all := lw_g (lw_at lw_m3 117 rfl) rfl
theorem q681 : (Jvm.Cond.soleField "InkPrintery$State$OrderSearch" "this$0") ∈ lw_all := lw_g (lw_at lw_m3 118 rfl) rfl
theorem q682 : (Jvm.Cond.superclass "InkPrintery$State$OrderSearch" "java/lang/Object") ∈ lw_all := lw_g (lw_at lw_m3 119 rfl) rfl
theorem q684 : (Jvm.Cond.instanceMethod ({ cls := "InkPrintery$State$OrderSearch", name := "best", desc := "()[I" } : Jvm.MethodName)) ∈ lw_all := lw_g (lw_at lw_m3 121 rfl) rfl
theorem q685 : (Jvm.Cond.selects "InkPrintery$State$OrderSearch" ({ cls := "InkPrintery$State$OrderSearch", name := "best", desc := "()[I" } : Jvm.MethodName) ({ cls := "InkPrintery$State$OrderSearch", name := "best", desc := "()[I" } : Jvm.MethodName)) ∈ lw_all := lw_g (lw_at lw_m3 122 rfl) rfl
theorem q686 : (Jvm.Cond.code ({ cls := "InkPrintery$State$OrderSearch", name := "best", desc := "()[I" } : Jvm.MethodName) prog_9_method_6_code (6 : Nat) (Option.some (Jvm.ClassFile.FieldType.array Jvm.ClassFile.FieldType.int))) ∈ lw_all := lw_g (lw_at lw_m3 123 rfl) rfl
theorem q745 : (Jvm.Cond.instanceMethod ({ cls := "InkPrintery$State$OrderSearch", name := "fewestMinutes", desc := "()I" } : Jvm.MethodName)) ∈ lw_all := lw_g (lw_at lw_m3 182 rfl) rfl
theorem q746 : (Jvm.Cond.selects "InkPrintery$State$OrderSearch" ({ cls := "InkPrintery$State$OrderSearch", name := "fewestMinutes", desc := "()I" } : Jvm.MethodName) ({ cls := "InkPrintery$State$OrderSearch", name := "fewestMinutes", desc := "()I" } : Jvm.MethodName)) ∈ lw_all := lw_g (lw_at lw_m3 183 rfl) rfl
theorem q747 : (Jvm.Cond.code ({ cls := "InkPrintery$State$OrderSearch", name := "fewestMinutes", desc := "()I" } : Jvm.MethodName) prog_9_method_5_code (1 : Nat) (Option.some Jvm.ClassFile.FieldType.int)) ∈ lw_all := lw_g (lw_at lw_m3 184 rfl) rfl
theorem q753 : (Jvm.Cond.instanceMethod ({ cls := "InkPrintery$State$OrderSearch", name := "minutesByOrders", desc := "()I" } : Jvm.MethodName)) ∈ lw_all := lw_g (lw_at lw_m3 190 rfl) rfl
theorem q754 : (Jvm.Cond.selects "InkPrintery$State$OrderSearch" ({ cls := "InkPrintery$State$OrderSearch", name := "minutesByOrders", desc := "()I" } : Jvm.MethodName) ({ cls := "InkPrintery$State$OrderSearch", name := "minutesByOrders", desc := "()I" } : Jvm.MethodName)) ∈ lw_all := lw_g (lw_at lw_m3 191 rfl) rfl
theorem q755 : (Jvm.Cond.code ({ cls := "InkPrintery$State$OrderSearch", name := "minutesByOrders", desc := "()I" } : Jvm.MethodName) prog_9_method_8_code (1 : Nat) (Option.some Jvm.ClassFile.FieldType.int)) ∈ lw_all := lw_g (lw_at lw_m3 192 rfl) rfl
theorem q756 : (Jvm.Cond.methodLink "InkPrintery$State$OrderSearch" (83 : Nat) ({ cls := "InkPrintery$State$OrderSearch", name := "leastFrom", desc := "(II[I)I" } : Jvm.MethodName)) ∈ lw_all := lw_g (lw_at lw_m3 193 rfl) rfl
theorem q757 : (Jvm.Cond.privateMethod ({ cls := "InkPrintery$State$OrderSearch", name := "leastFrom", desc := "(II[I)I" } : Jvm.MethodName)) ∈ lw_tbl := lw_at lw_m3 194 rfl
theorem q758 : (Jvm.Cond.instanceMethod ({ cls := "InkPrintery$State$OrderSearch", name := "leastFrom", desc := "(II[I)I" } : Jvm.MethodName)) ∈ lw_all := lw_g (lw_at lw_m3 195 rfl) rfl
theorem q759 : (Jvm.Cond.code ({ cls := "InkPrintery$State$OrderSearch", name := "leastFrom", desc := "(II[I)I" } : Jvm.MethodName) prog_9_method_7_code (6 : Nat) (Option.some Jvm.ClassFile.FieldType.int)) ∈ lw_all := lw_g (lw_at lw_m3 196 rfl) rfl
theorem q760 : (Jvm.Cond.interfaceEntry "InkPrintery$State$OrderSearch" (79 : Nat)) ∈ lw_tbl := lw_at lw_m3 197 rfl
theorem q761 : (Jvm.Cond.methodLink "InkPrintery$State$OrderSearch" (79 : Nat) ({ cls := "InkPrintery$Cost", name := "ofPath", desc := "(I[II)I" } : Jvm.MethodName)) ∈ lw_all := lw_g (lw_at lw_m3 198 rfl) rfl
theorem q2802 : (Jvm.Cond.castable "InkPrintery$State$OrderSearch" "java/lang/Object") ∈ lw_tbl := lw_at lw_m12 79 rfl
theorem in_X9 : ∀ w ∈ wsX90, w ∈ lw_all := lw_in wsX90 [674, 676, 678, 680] (by decide +kernel) (by decide +kernel)
/-! InkPrintery$SyntaxError -/
set_option maxRecDepth 100000
def RX10 : String := "InkPrintery$SyntaxError"
def TX10 : u_T := fun k => match k with
  | 0 => ("java/lang/Throwable", "cause", "Ljava/lang/Throwable;", false)
  | 1 => ("java/lang/Throwable", "stackTrace", "[Ljava/lang/StackTraceElement;", false)
  | 2 => ("java/lang/Throwable", "suppressedExceptions", "Ljava/util/List;", false)
  | 3 => ("java/lang/Throwable", "detailMessage", "Ljava/lang/String;", false)
  | 4 => ("java/lang/Throwable", "backtrace", "Ljava/lang/Object;", false)
  | 5 => ("java/lang/Throwable", "depth", "I", false)
  | _ => ("InkPrintery$SyntaxError", "position", "I", true)
def tyX10 : Nat → FieldType := fun k => match k with
  | 0 => .object "java/lang/Throwable"
  | 1 => .array (.object "java/lang/StackTraceElement")
  | 2 => .object "java/util/List"
  | 3 => .object "java/lang/String"
  | 4 => .object "java/lang/Object"
  | 5 => .int
  | _ => .int
abbrev wsX100 : List Cond := u_ws RX10 TX10 7
theorem nmX10 : ∀ a, a < 7 → ∀ b, b < 7 → a ≠ b → (TX10 a).2.1 ≠ (TX10 b).2.1 := by decide +kernel
theorem tyX10_ok : ∀ k, k < 7 → parseFieldDescriptor (TX10 k).2.2.1 = some (tyX10 k) := by decide +kernel
abbrev cX10_init : ByteArray := prog_10_method_1_code
def yX10_init : MethodName := ⟨RX10, "<init>", "(I)V"⟩
def dkwX10_init_0 : List UInt8 := [42, 183, 0, 1, 42, 27, 181, 0, 7, 177]
abbrev dktX10_init_0 : List UInt8 := dkwX10_init_0 ++ []
theorem dksX10_init_0 : cX10_init.data.toList.drop 0 = dktX10_init_0 := by decide +kernel
theorem dX10_init_0 : decode cX10_init 0 = .ok (.aload_n 0, 1) := dk_42 (dk_at dksX10_init_0 0 rfl rfl)
theorem dX10_init_1 : decode cX10_init 1 = .ok (.invokespecial 1, 3) := dk_183 0 1 (dk_at dksX10_init_0 1 rfl rfl)
theorem dX10_init_4 : decode cX10_init 4 = .ok (.aload_n 0, 1) := dk_42 (dk_at dksX10_init_0 4 rfl rfl)
theorem dX10_init_5 : decode cX10_init 5 = .ok (.iload_n 1, 1) := dk_27 (dk_at dksX10_init_0 5 rfl rfl)
theorem dX10_init_6 : decode cX10_init 6 = .ok (.putfield 7, 3) := dk_181 0 7 (dk_at dksX10_init_0 6 rfl rfl)
theorem dX10_init_9 : decode cX10_init 9 = .ok (.return_, 1) := dk_177 (dk_at dksX10_init_0 9 rfl rfl)
theorem q133 : (Jvm.Cond.initialized "InkPrintery$SyntaxError") ∈ lw_all := lw_g (lw_at lw_m1 50 rfl) rfl
theorem q312 : (Jvm.Cond.selects "InkPrintery$SyntaxError" ({ cls := "java/lang/Throwable", name := "fillInStackTrace", desc := "()Ljava/lang/Throwable;" } : Jvm.MethodName) ({ cls := "java/lang/Throwable", name := "fillInStackTrace", desc := "()Ljava/lang/Throwable;" } : Jvm.MethodName)) ∈ lw_all := lw_g (lw_at lw_m1 229 rfl) rfl
theorem q504 : (Jvm.Cond.selects "InkPrintery$SyntaxError" ({ cls := "java/lang/Object", name := "getClass", desc := "()Ljava/lang/Class;" } : Jvm.MethodName) ({ cls := "java/lang/Object", name := "getClass", desc := "()Ljava/lang/Class;" } : Jvm.MethodName)) ∈ lw_all := lw_g (lw_at lw_m2 181 rfl) rfl
theorem q1793 : (Jvm.Cond.instantiable "InkPrintery$SyntaxError" (7 : Nat)) ∈ lw_all := lw_g (lw_at lw_m8 30 rfl) rfl
theorem q1794 : (Jvm.Cond.castable "InkPrintery$SyntaxError" "InkPrintery$SyntaxError") ∈ lw_tbl := lw_at lw_m8 31 rfl
theorem q1795 : (Jvm.Cond.selects "InkPrintery$SyntaxError" ({ cls := "java/lang/Throwable", name := "fillInStackTrace", desc := "(I)Ljava/lang/Throwable;" } : Jvm.MethodName) ({ cls := "java/lang/Throwable", name := "fillInStackTrace", desc := "(I)Ljava/lang/Throwable;" } : Jvm.MethodName)) ∈ lw_all := lw_g (lw_at lw_m8 32 rfl) rfl
theorem q1796 : (Jvm.Cond.lays "InkPrintery$SyntaxError" "java/lang/Throwable" "cause" "Ljava/lang/Throwable;") ∈ lw_all := lw_g (lw_at lw_m8 33 rfl) rfl
theorem q1797 : (Jvm.Cond.lays "InkPrintery$SyntaxError" "java/lang/Throwable" "stackTrace" "[Ljava/lang/StackTraceElement;") ∈ lw_all := lw_g (lw_at lw_m8 34 rfl) rfl
theorem q1798 : (Jvm.Cond.lays "InkPrintery$SyntaxError" "java/lang/Throwable" "suppressedExceptions" "Ljava/util/List;") ∈ lw_all := lw_g (lw_at lw_m8 35 rfl) rfl
theorem q1799 : (Jvm.Cond.lays "InkPrintery$SyntaxError" "java/lang/Throwable" "detailMessage" "Ljava/lang/String;") ∈ lw_all := lw_g (lw_at lw_m8 36 rfl) rfl
theorem q1800 : (Jvm.Cond.lays "InkPrintery$SyntaxError" "java/lang/Throwable" "backtrace" "Ljava/lang/Object;") ∈ lw_all := lw_g (lw_at lw_m8 37 rfl) rfl
theorem q1802 : (Jvm.Cond.instanceMethod ({ cls := "InkPrintery$SyntaxError", name := "<init>", desc := "(I)V" } : Jvm.MethodName)) ∈ lw_all := lw_g (lw_at lw_m8 39 rfl) rfl
theorem q1803 : (Jvm.Cond.code ({ cls := "InkPrintery$SyntaxError", name := "<init>", desc := "(I)V" } : Jvm.MethodName) prog_10_method_1_code (2 : Nat) (Option.none : Option Jvm.ClassFile.FieldType)) ∈ lw_all := lw_g (lw_at lw_m8 40 rfl) rfl
theorem q1804 : (Jvm.Cond.methodLink "InkPrintery$SyntaxError" (1 : Nat) ({ cls := "java/lang/RuntimeException", name := "<init>", desc := "()V" } : Jvm.MethodName)) ∈ lw_all := lw_g (lw_at lw_m8 41 rfl) rfl
theorem q1805 : (Jvm.Cond.fieldLink "InkPrintery$SyntaxError" (7 : Nat) "InkPrintery$SyntaxError" "position" "I") ∈ lw_all := lw_g (lw_at lw_m8 42 rfl) rfl
theorem q1807 : (Jvm.Cond.laysFinal "InkPrintery$SyntaxError" "InkPrintery$SyntaxError" "position" "I") ∈ lw_all := lw_g (lw_at lw_m8 44 rfl) rfl
theorem q1808 : (Jvm.Cond.soleField "InkPrintery$SyntaxError" "position") ∈ lw_all := lw_g (lw_at lw_m8 45 rfl) rfl
theorem q1809 : (Jvm.Cond.lays "InkPrintery$SyntaxError" "java/lang/Throwable" "depth" "I") ∈ lw_all := lw_g (lw_at lw_m8 46 rfl) rfl
theorem q1810 : (Jvm.Cond.superclass "InkPrintery$SyntaxError" "java/lang/RuntimeException") ∈ lw_all := lw_g (lw_at lw_m8 47 rfl) rfl
theorem q2029 : (Jvm.Cond.selects "InkPrintery$SyntaxError" ({ cls := "java/lang/Throwable", name := "toString", desc := "()Ljava/lang/String;" } : Jvm.MethodName) ({ cls := "java/lang/Throwable", name := "toString", desc := "()Ljava/lang/String;" } : Jvm.MethodName)) ∈ lw_all := lw_g (lw_at lw_m9 26 rfl) rfl
theorem q2048 : (Jvm.Cond.selects "InkPrintery$SyntaxError" ({ cls := "java/lang/Throwable", name := "getLocalizedMessage", desc := "()Ljava/lang/String;" } : Jvm.MethodName) ({ cls := "java/lang/Throwable", name := "getLocalizedMessage", desc := "()Ljava/lang/String;" } : Jvm.MethodName)) ∈ lw_all := lw_g (lw_at lw_m9 45 rfl) rfl
theorem q2066 : (Jvm.Cond.selects "InkPrintery$SyntaxError" ({ cls := "java/lang/Throwable", name := "getMessage", desc := "()Ljava/lang/String;" } : Jvm.MethodName) ({ cls := "java/lang/Throwable", name := "getMessage", desc := "()Ljava/lang/String;" } : Jvm.MethodName)) ∈ lw_all := lw_g (lw_at lw_m9 63 rfl) rfl
theorem q2770 : (Jvm.Cond.castable "InkPrintery$SyntaxError" "java/lang/RuntimeException") ∈ lw_tbl := lw_at lw_m12 47 rfl
theorem q2812 : (Jvm.Cond.castable "InkPrintery$SyntaxError" "java/lang/Object") ∈ lw_tbl := lw_at lw_m12 89 rfl
theorem in_X10 : ∀ w ∈ wsX100, w ∈ lw_all := lw_in wsX100 [1796, 1797, 1798, 1799, 1800, 1809, 1807] (by decide +kernel) (by decide +kernel)
/-! InkPrintery$Command -/
set_option maxRecDepth 100000
def RX11 : String := "InkPrintery$Command"
def TX11 : u_T := fun k => match k with
  | 0 => ("InkPrintery$Command", "word", "Ljava/lang/String;", true)
  | 1 => ("InkPrintery$Command", "numbers", "[I", true)
  | _ => ("InkPrintery$Command", "count", "I", false)
def tyX11 : Nat → FieldType := fun k => match k with
  | 0 => .object "java/lang/String"
  | 1 => .array .int
  | _ => .int
abbrev wsX110 : List Cond := u_ws RX11 TX11 3
theorem nmX11 : ∀ a, a < 3 → ∀ b, b < 3 → a ≠ b → (TX11 a).2.1 ≠ (TX11 b).2.1 := by decide +kernel
theorem tyX11_ok : ∀ k, k < 3 → parseFieldDescriptor (TX11 k).2.2.1 = some (tyX11 k) := by decide +kernel
abbrev cX11_init : ByteArray := prog_2_method_1_code
def yX11_init : MethodName := ⟨RX11, "<init>", "(Ljava/lang/String;)V"⟩
def dkwX11_init_0 : List UInt8 := [42, 183, 0, 1, 42, 5, 188, 10, 181, 0, 7, 42, 43, 181, 0, 13, 177]
abbrev dktX11_init_0 : List UInt8 := dkwX11_init_0 ++ []
theorem dksX11_init_0 : cX11_init.data.toList.drop 0 = dktX11_init_0 := by decide +kernel
theorem dX11_init_0 : decode cX11_init 0 = .ok (.aload_n 0, 1) := dk_42 (dk_at dksX11_init_0 0 rfl rfl)
theorem dX11_init_1 : decode cX11_init 1 = .ok (.invokespecial 1, 3) := dk_183 0 1 (dk_at dksX11_init_0 1 rfl rfl)
theorem dX11_init_4 : decode cX11_init 4 = .ok (.aload_n 0, 1) := dk_42 (dk_at dksX11_init_0 4 rfl rfl)
theorem dX11_init_5 : decode cX11_init 5 = .ok (.iconst 2, 1) := dk_5 (dk_at dksX11_init_0 5 rfl rfl)
theorem dX11_init_6 : decode cX11_init 6 = .ok (.newarray .int, 2) := dk_188_10 (dk_at dksX11_init_0 6 rfl rfl)
theorem dX11_init_8 : decode cX11_init 8 = .ok (.putfield 7, 3) := dk_181 0 7 (dk_at dksX11_init_0 8 rfl rfl)
theorem dX11_init_11 : decode cX11_init 11 = .ok (.aload_n 0, 1) := dk_42 (dk_at dksX11_init_0 11 rfl rfl)
theorem dX11_init_12 : decode cX11_init 12 = .ok (.aload_n 1, 1) := dk_43 (dk_at dksX11_init_0 12 rfl rfl)
theorem dX11_init_13 : decode cX11_init 13 = .ok (.putfield 13, 3) := dk_181 0 13 (dk_at dksX11_init_0 13 rfl rfl)
theorem dX11_init_16 : decode cX11_init 16 = .ok (.return_, 1) := dk_177 (dk_at dksX11_init_0 16 rfl rfl)
abbrev cX11_with : ByteArray := prog_2_method_2_code
def yX11_with : MethodName := ⟨RX11, "with", "(I)LInkPrintery$Command;"⟩
def dkwX11_with_0 : List UInt8 := [42, 180, 0, 7, 42, 180, 0, 17, 27, 79, 42, 89, 180, 0, 17, 4, 96, 181, 0, 17, 42, 176]
abbrev dktX11_with_0 : List UInt8 := dkwX11_with_0 ++ []
theorem dksX11_with_0 : cX11_with.data.toList.drop 0 = dktX11_with_0 := by decide +kernel
theorem dX11_with_0 : decode cX11_with 0 = .ok (.aload_n 0, 1) := dk_42 (dk_at dksX11_with_0 0 rfl rfl)
theorem dX11_with_1 : decode cX11_with 1 = .ok (.getfield 7, 3) := dk_180 0 7 (dk_at dksX11_with_0 1 rfl rfl)
theorem dX11_with_4 : decode cX11_with 4 = .ok (.aload_n 0, 1) := dk_42 (dk_at dksX11_with_0 4 rfl rfl)
theorem dX11_with_5 : decode cX11_with 5 = .ok (.getfield 17, 3) := dk_180 0 17 (dk_at dksX11_with_0 5 rfl rfl)
theorem dX11_with_8 : decode cX11_with 8 = .ok (.iload_n 1, 1) := dk_27 (dk_at dksX11_with_0 8 rfl rfl)
theorem dX11_with_9 : decode cX11_with 9 = .ok (.iastore, 1) := dk_79 (dk_at dksX11_with_0 9 rfl rfl)
theorem dX11_with_10 : decode cX11_with 10 = .ok (.aload_n 0, 1) := dk_42 (dk_at dksX11_with_0 10 rfl rfl)
theorem dX11_with_11 : decode cX11_with 11 = .ok (.dup, 1) := dk_89 (dk_at dksX11_with_0 11 rfl rfl)
theorem dX11_with_12 : decode cX11_with 12 = .ok (.getfield 17, 3) := dk_180 0 17 (dk_at dksX11_with_0 12 rfl rfl)
theorem dX11_with_15 : decode cX11_with 15 = .ok (.iconst 1, 1) := dk_4 (dk_at dksX11_with_0 15 rfl rfl)
theorem dX11_with_16 : decode cX11_with 16 = .ok (.iadd, 1) := dk_96 (dk_at dksX11_with_0 16 rfl rfl)
theorem dX11_with_17 : decode cX11_with 17 = .ok (.putfield 17, 3) := dk_181 0 17 (dk_at dksX11_with_0 17 rfl rfl)
theorem dX11_with_20 : decode cX11_with 20 = .ok (.aload_n 0, 1) := dk_42 (dk_at dksX11_with_0 20 rfl rfl)
theorem dX11_with_21 : decode cX11_with 21 = .ok (.areturn, 1) := dk_176 (dk_at dksX11_with_0 21 rfl rfl)
abbrev cX11_applyTo : ByteArray := prog_2_method_3_code
def yX11_applyTo : MethodName := ⟨RX11, "applyTo", "(LInkPrintery$State;)V"⟩
def dkwX11_applyTo_13 : List UInt8 := [167, 0, 14, 43, 42, 180, 0, 7, 3, 46, 182, 0, 74, 87, 177]
abbrev dktX11_applyTo_13 : List UInt8 := dkwX11_applyTo_13 ++ []
def dkwX11_applyTo_12 : List UInt8 := [180, 0, 7, 3, 46, 182, 0, 68, 87, 167, 0, 28, 43, 42, 180, 0, 7, 3, 46, 182, 0, 71, 87]
abbrev dktX11_applyTo_12 : List UInt8 := dkwX11_applyTo_12 ++ dktX11_applyTo_13
def dkwX11_applyTo_11 : List UInt8 := [180, 0, 7, 3, 46, 182, 0, 63, 87, 167, 0, 50, 43, 182, 0, 65, 87, 167, 0, 42, 43, 42]
abbrev dktX11_applyTo_11 : List UInt8 := dkwX11_applyTo_11 ++ dktX11_applyTo_12
def dkwX11_applyTo_10 : List UInt8 := [46, 182, 0, 57, 87, 167, 0, 78, 43, 42, 180, 0, 7, 3, 46, 182, 0, 60, 87, 167, 0, 64, 43, 42]
abbrev dktX11_applyTo_10 : List UInt8 := dkwX11_applyTo_10 ++ dktX11_applyTo_11
def dkwX11_applyTo_9 : List UInt8 := [180, 0, 7, 3, 46, 182, 0, 53, 87, 167, 0, 98, 43, 42, 180, 0, 7, 3, 46, 42, 180, 0, 7, 4]
abbrev dktX11_applyTo_9 : List UInt8 := dkwX11_applyTo_9 ++ dktX11_applyTo_10
def dkwX11_applyTo_8 : List UInt8 := [43, 42, 180, 0, 7, 3, 46, 42, 180, 0, 7, 4, 46, 182, 0, 47, 87, 167, 0, 112, 43, 42]
abbrev dktX11_applyTo_8 : List UInt8 := dkwX11_applyTo_8 ++ dktX11_applyTo_9
def dkwX11_applyTo_7 : List UInt8 := [170, 0, 0, 0, 0, 0, 0, 166, 0, 0, 0, 0, 0, 0, 0, 7, 0, 0, 0, 48, 0, 0, 0, 68, 0, 0, 0, 82, 0, 0, 0, 102, 0, 0, 0, 116, 0, 0, 0, 130, 0, 0, 0, 138, 0, 0, 0, 152]
abbrev dktX11_applyTo_7 : List UInt8 := dkwX11_applyTo_7 ++ dktX11_applyTo_8
def dkwX11_applyTo_6 : List UInt8 := [62, 167, 0, 15, 44, 18, 45, 182, 0, 29, 153, 0, 6, 16, 7, 62, 29]
abbrev dktX11_applyTo_6 : List UInt8 := dkwX11_applyTo_6 ++ dktX11_applyTo_7
def dkwX11_applyTo_5 : List UInt8 := [18, 41, 182, 0, 29, 153, 0, 35, 8, 62, 167, 0, 30, 44, 18, 43, 182, 0, 29, 153, 0, 21, 16, 6]
abbrev dktX11_applyTo_5 : List UInt8 := dkwX11_applyTo_5 ++ dktX11_applyTo_6
def dkwX11_applyTo_4 : List UInt8 := [153, 0, 63, 6, 62, 167, 0, 58, 44, 18, 39, 182, 0, 29, 153, 0, 49, 7, 62, 167, 0, 44, 44]
abbrev dktX11_applyTo_4 : List UInt8 := dkwX11_applyTo_4 ++ dktX11_applyTo_5
def dkwX11_applyTo_3 : List UInt8 := [62, 167, 0, 86, 44, 18, 35, 182, 0, 29, 153, 0, 77, 5, 62, 167, 0, 72, 44, 18, 37, 182, 0, 29]
abbrev dktX11_applyTo_3 : List UInt8 := dkwX11_applyTo_3 ++ dktX11_applyTo_4
def dkwX11_applyTo_2 : List UInt8 := [44, 18, 27, 182, 0, 29, 153, 0, 105, 3, 62, 167, 0, 100, 44, 18, 33, 182, 0, 29, 153, 0, 91, 4]
abbrev dktX11_applyTo_2 : List UInt8 := dkwX11_applyTo_2 ++ dktX11_applyTo_3
def dkwX11_applyTo_1 : List UInt8 := [171, 0, 0, 0, 184, 0, 0, 0, 8, 143, 119, 245, 190, 0, 0, 0, 101, 200, 74, 248, 132, 0, 0, 0, 115, 0, 1, 121, 161, 0, 0, 0, 143, 0, 1, 151, 230, 0, 0, 0, 73, 5, 237, 199, 15, 0, 0, 0, 157, 6, 88, 17, 140, 0, 0, 0, 87, 6, 95, 178, 173, 0, 0, 0, 129, 6, 95, 201, 68, 0, 0, 0, 172]
abbrev dktX11_applyTo_1 : List UInt8 := dkwX11_applyTo_1 ++ dktX11_applyTo_2
def dkwX11_applyTo_0 : List UInt8 := [42, 180, 0, 13, 77, 2, 62, 44, 182, 0, 21]
abbrev dktX11_applyTo_0 : List UInt8 := dkwX11_applyTo_0 ++ dktX11_applyTo_1
theorem dksX11_applyTo_0 : cX11_applyTo.data.toList.drop 0 = dktX11_applyTo_0 := by decide +kernel
theorem dksX11_applyTo_1 : cX11_applyTo.data.toList.drop 11 = dktX11_applyTo_1 := dk_seg dksX11_applyTo_0 11 rfl rfl
theorem dksX11_applyTo_2 : cX11_applyTo.data.toList.drop 84 = dktX11_applyTo_2 := dk_seg dksX11_applyTo_1 73 rfl rfl
theorem dksX11_applyTo_3 : cX11_applyTo.data.toList.drop 108 = dktX11_applyTo_3 := dk_seg dksX11_applyTo_2 24 rfl rfl
theorem dksX11_applyTo_4 : cX11_applyTo.data.toList.drop 132 = dktX11_applyTo_4 := dk_seg dksX11_applyTo_3 24 rfl rfl
theorem dksX11_applyTo_5 : cX11_applyTo.data.toList.drop 155 = dktX11_applyTo_5 := dk_seg dksX11_applyTo_4 23 rfl rfl
theorem dksX11_applyTo_6 : cX11_applyTo.data.toList.drop 179 = dktX11_applyTo_6 := dk_seg dksX11_applyTo_5 24 rfl rfl
theorem dksX11_applyTo_7 : cX11_applyTo.data.toList.drop 196 = dktX11_applyTo_7 := dk_seg dksX11_applyTo_6 17 rfl rfl
theorem dksX11_applyTo_8 : cX11_applyTo.data.toList.drop 244 = dktX11_applyTo_8 := dk_seg dksX11_applyTo_7 48 rfl rfl
theorem dksX11_applyTo_9 : cX11_applyTo.data.toList.drop 266 = dktX11_applyTo_9 := dk_seg dksX11_applyTo_8 22 rfl rfl
theorem dksX11_applyTo_10 : cX11_applyTo.data.toList.drop 290 = dktX11_applyTo_10 := dk_seg dksX11_applyTo_9 24 rfl rfl
theorem dksX11_applyTo_11 : cX11_applyTo.data.toList.drop 314 = dktX11_applyTo_11 := dk_seg dksX11_applyTo_10 24 rfl rfl
theorem dksX11_applyTo_12 : cX11_applyTo.data.toList.drop 336 = dktX11_applyTo_12 := dk_seg dksX11_applyTo_11 22 rfl rfl
theorem dksX11_applyTo_13 : cX11_applyTo.data.toList.drop 359 = dktX11_applyTo_13 := dk_seg dksX11_applyTo_12 23 rfl rfl
theorem dX11_applyTo_0 : decode cX11_applyTo 0 = .ok (.aload_n 0, 1) := dk_42 (dk_at dksX11_applyTo_0 0 rfl rfl)
theorem dX11_applyTo_1 : decode cX11_applyTo 1 = .ok (.getfield 13, 3) := dk_180 0 13 (dk_at dksX11_applyTo_0 1 rfl rfl)
theorem dX11_applyTo_4 : decode cX11_applyTo 4 = .ok (.astore_n 2, 1) := dk_77 (dk_at dksX11_applyTo_0 4 rfl rfl)
theorem dX11_applyTo_5 : decode cX11_applyTo 5 = .ok (.iconst (-1), 1) := dk_2 (dk_at dksX11_applyTo_0 5 rfl rfl)
theorem dX11_applyTo_6 : decode cX11_applyTo 6 = .ok (.istore_n 3, 1) := dk_62 (dk_at dksX11_applyTo_0 6 rfl rfl)
theorem dX11_applyTo_7 : decode cX11_applyTo 7 = .ok (.aload_n 2, 1) := dk_44 (dk_at dksX11_applyTo_0 7 rfl rfl)
theorem dX11_applyTo_8 : decode cX11_applyTo 8 = .ok (.invokevirtual 21, 3) := dk_182 0 21 (dk_at dksX11_applyTo_0 8 rfl rfl)
theorem dX11_applyTo_11 : decode cX11_applyTo 11 = .ok (.lookupswitch 184 #[(-1887963714, 101), (-934610812, 115), (96673, 143), (104422, 73), (99469071, 157), (106434956, 87), (106934957, 129), (106940740, 172)], 73) := by decide +kernel
theorem dX11_applyTo_84 : decode cX11_applyTo 84 = .ok (.aload_n 2, 1) := dk_44 (dk_at dksX11_applyTo_2 0 rfl rfl)
theorem dX11_applyTo_85 : decode cX11_applyTo 85 = .ok (.ldc 27, 2) := dk_18 27 (dk_at dksX11_applyTo_2 1 rfl rfl)
theorem dX11_applyTo_87 : decode cX11_applyTo 87 = .ok (.invokevirtual 29, 3) := dk_182 0 29 (dk_at dksX11_applyTo_2 3 rfl rfl)
theorem dX11_applyTo_90 : decode cX11_applyTo 90 = .ok (.ifCond .eq 105, 3) := dk_153 0 105 (dk_at dksX11_applyTo_2 6 rfl rfl)
theorem dX11_applyTo_93 : decode cX11_applyTo 93 = .ok (.iconst 0, 1) := dk_3 (dk_at dksX11_applyTo_2 9 rfl rfl)
theorem dX11_applyTo_94 : decode cX11_applyTo 94 = .ok (.istore_n 3, 1) := dk_62 (dk_at dksX11_applyTo_2 10 rfl rfl)
theorem dX11_applyTo_95 : decode cX11_applyTo 95 = .ok (.goto 100, 3) := dk_167 0 100 (dk_at dksX11_applyTo_2 11 rfl rfl)
theorem dX11_applyTo_98 : decode cX11_applyTo 98 = .ok (.aload_n 2, 1) := dk_44 (dk_at dksX11_applyTo_2 14 rfl rfl)
theorem dX11_applyTo_99 : decode cX11_applyTo 99 = .ok (.ldc 33, 2) := dk_18 33 (dk_at dksX11_applyTo_2 15 rfl rfl)
theorem dX11_applyTo_101 : decode cX11_applyTo 101 = .ok (.invokevirtual 29, 3) := dk_182 0 29 (dk_at dksX11_applyTo_2 17 rfl rfl)
theorem dX11_applyTo_104 : decode cX11_applyTo 104 = .ok (.ifCond .eq 91, 3) := dk_153 0 91 (dk_at dksX11_applyTo_2 20 rfl rfl)
theorem dX11_applyTo_107 : decode cX11_applyTo 107 = .ok (.iconst 1, 1) := dk_4 (dk_at dksX11_applyTo_2 23 rfl rfl)
theorem dX11_applyTo_108 : decode cX11_applyTo 108 = .ok (.istore_n 3, 1) := dk_62 (dk_at dksX11_applyTo_3 0 rfl rfl)
theorem dX11_applyTo_109 : decode cX11_applyTo 109 = .ok (.goto 86, 3) := dk_167 0 86 (dk_at dksX11_applyTo_3 1 rfl rfl)
theorem dX11_applyTo_112 : decode cX11_applyTo 112 = .ok (.aload_n 2, 1) := dk_44 (dk_at dksX11_applyTo_3 4 rfl rfl)
theorem dX11_applyTo_113 : decode cX11_applyTo 113 = .ok (.ldc 35, 2) := dk_18 35 (dk_at dksX11_applyTo_3 5 rfl rfl)
theorem dX11_applyTo_115 : decode cX11_applyTo 115 = .ok (.invokevirtual 29, 3) := dk_182 0 29 (dk_at dksX11_applyTo_3 7 rfl rfl)
theorem dX11_applyTo_118 : decode cX11_applyTo 118 = .ok (.ifCond .eq 77, 3) := dk_153 0 77 (dk_at dksX11_applyTo_3 10 rfl rfl)
theorem dX11_applyTo_121 : decode cX11_applyTo 121 = .ok (.iconst 2, 1) := dk_5 (dk_at dksX11_applyTo_3 13 rfl rfl)
theorem dX11_applyTo_122 : decode cX11_applyTo 122 = .ok (.istore_n 3, 1) := dk_62 (dk_at dksX11_applyTo_3 14 rfl rfl)
theorem dX11_applyTo_123 : decode cX11_applyTo 123 = .ok (.goto 72, 3) := dk_167 0 72 (dk_at dksX11_applyTo_3 15 rfl rfl)
theorem dX11_applyTo_126 : decode cX11_applyTo 126 = .ok (.aload_n 2, 1) := dk_44 (dk_at dksX11_applyTo_3 18 rfl rfl)
theorem dX11_applyTo_127 : decode cX11_applyTo 127 = .ok (.ldc 37, 2) := dk_18 37 (dk_at dksX11_applyTo_3 19 rfl rfl)
theorem dX11_applyTo_129 : decode cX11_applyTo 129 = .ok (.invokevirtual 29, 3) := dk_182 0 29 (dk_at dksX11_applyTo_3 21 rfl rfl)
theorem dX11_applyTo_132 : decode cX11_applyTo 132 = .ok (.ifCond .eq 63, 3) := dk_153 0 63 (dk_at dksX11_applyTo_4 0 rfl rfl)
theorem dX11_applyTo_135 : decode cX11_applyTo 135 = .ok (.iconst 3, 1) := dk_6 (dk_at dksX11_applyTo_4 3 rfl rfl)
theorem dX11_applyTo_136 : decode cX11_applyTo 136 = .ok (.istore_n 3, 1) := dk_62 (dk_at dksX11_applyTo_4 4 rfl rfl)
theorem dX11_applyTo_137 : decode cX11_applyTo 137 = .ok (.goto 58, 3) := dk_167 0 58 (dk_at dksX11_applyTo_4 5 rfl rfl)
theorem dX11_applyTo_140 : decode cX11_applyTo 140 = .ok (.aload_n 2, 1) := dk_44 (dk_at dksX11_applyTo_4 8 rfl rfl)
theorem dX11_applyTo_141 : decode cX11_applyTo 141 = .ok (.ldc 39, 2) := dk_18 39 (dk_at dksX11_applyTo_4 9 rfl rfl)
theorem dX11_applyTo_143 : decode cX11_applyTo 143 = .ok (.invokevirtual 29, 3) := dk_182 0 29 (dk_at dksX11_applyTo_4 11 rfl rfl)
theorem dX11_applyTo_146 : decode cX11_applyTo 146 = .ok (.ifCond .eq 49, 3) := dk_153 0 49 (dk_at dksX11_applyTo_4 14 rfl rfl)
theorem dX11_applyTo_149 : decode cX11_applyTo 149 = .ok (.iconst 4, 1) := dk_7 (dk_at dksX11_applyTo_4 17 rfl rfl)
theorem dX11_applyTo_150 : decode cX11_applyTo 150 = .ok (.istore_n 3, 1) := dk_62 (dk_at dksX11_applyTo_4 18 rfl rfl)
theorem dX11_applyTo_151 : decode cX11_applyTo 151 = .ok (.goto 44, 3) := dk_167 0 44 (dk_at dksX11_applyTo_4 19 rfl rfl)
theorem dX11_applyTo_154 : decode cX11_applyTo 154 = .ok (.aload_n 2, 1) := dk_44 (dk_at dksX11_applyTo_4 22 rfl rfl)
theorem dX11_applyTo_155 : decode cX11_applyTo 155 = .ok (.ldc 41, 2) := dk_18 41 (dk_at dksX11_applyTo_5 0 rfl rfl)
theorem dX11_applyTo_157 : decode cX11_applyTo 157 = .ok (.invokevirtual 29, 3) := dk_182 0 29 (dk_at dksX11_applyTo_5 2 rfl rfl)
theorem dX11_applyTo_160 : decode cX11_applyTo 160 = .ok (.ifCond .eq 35, 3) := dk_153 0 35 (dk_at dksX11_applyTo_5 5 rfl rfl)
theorem dX11_applyTo_163 : decode cX11_applyTo 163 = .ok (.iconst 5, 1) := dk_8 (dk_at dksX11_applyTo_5 8 rfl rfl)
theorem dX11_applyTo_164 : decode cX11_applyTo 164 = .ok (.istore_n 3, 1) := dk_62 (dk_at dksX11_applyTo_5 9 rfl rfl)
theorem dX11_applyTo_165 : decode cX11_applyTo 165 = .ok (.goto 30, 3) := dk_167 0 30 (dk_at dksX11_applyTo_5 10 rfl rfl)
theorem dX11_applyTo_168 : decode cX11_applyTo 168 = .ok (.aload_n 2, 1) := dk_44 (dk_at dksX11_applyTo_5 13 rfl rfl)
theorem dX11_applyTo_169 : decode cX11_applyTo 169 = .ok (.ldc 43, 2) := dk_18 43 (dk_at dksX11_applyTo_5 14 rfl rfl)
theorem dX11_applyTo_171 : decode cX11_applyTo 171 = .ok (.invokevirtual 29, 3) := dk_182 0 29 (dk_at dksX11_applyTo_5 16 rfl rfl)
theorem dX11_applyTo_174 : decode cX11_applyTo 174 = .ok (.ifCond .eq 21, 3) := dk_153 0 21 (dk_at dksX11_applyTo_5 19 rfl rfl)
theorem dX11_applyTo_177 : decode cX11_applyTo 177 = .ok (.bipush 6, 2) := dk_16 6 (dk_at dksX11_applyTo_5 22 rfl rfl)
theorem dX11_applyTo_179 : decode cX11_applyTo 179 = .ok (.istore_n 3, 1) := dk_62 (dk_at dksX11_applyTo_6 0 rfl rfl)
theorem dX11_applyTo_180 : decode cX11_applyTo 180 = .ok (.goto 15, 3) := dk_167 0 15 (dk_at dksX11_applyTo_6 1 rfl rfl)
theorem dX11_applyTo_183 : decode cX11_applyTo 183 = .ok (.aload_n 2, 1) := dk_44 (dk_at dksX11_applyTo_6 4 rfl rfl)
theorem dX11_applyTo_184 : decode cX11_applyTo 184 = .ok (.ldc 45, 2) := dk_18 45 (dk_at dksX11_applyTo_6 5 rfl rfl)
theorem dX11_applyTo_186 : decode cX11_applyTo 186 = .ok (.invokevirtual 29, 3) := dk_182 0 29 (dk_at dksX11_applyTo_6 7 rfl rfl)
theorem dX11_applyTo_189 : decode cX11_applyTo 189 = .ok (.ifCond .eq 6, 3) := dk_153 0 6 (dk_at dksX11_applyTo_6 10 rfl rfl)
theorem dX11_applyTo_192 : decode cX11_applyTo 192 = .ok (.bipush 7, 2) := dk_16 7 (dk_at dksX11_applyTo_6 13 rfl rfl)
theorem dX11_applyTo_194 : decode cX11_applyTo 194 = .ok (.istore_n 3, 1) := dk_62 (dk_at dksX11_applyTo_6 15 rfl rfl)
theorem dX11_applyTo_195 : decode cX11_applyTo 195 = .ok (.iload_n 3, 1) := dk_29 (dk_at dksX11_applyTo_6 16 rfl rfl)
theorem dX11_applyTo_196 : decode cX11_applyTo 196 = .ok (.tableswitch 166 0 7 #[48, 68, 82, 102, 116, 130, 138, 152], 48) := by decide +kernel
theorem dX11_applyTo_244 : decode cX11_applyTo 244 = .ok (.aload_n 1, 1) := dk_43 (dk_at dksX11_applyTo_8 0 rfl rfl)
theorem dX11_applyTo_245 : decode cX11_applyTo 245 = .ok (.aload_n 0, 1) := dk_42 (dk_at dksX11_applyTo_8 1 rfl rfl)
theorem dX11_applyTo_246 : decode cX11_applyTo 246 = .ok (.getfield 7, 3) := dk_180 0 7 (dk_at dksX11_applyTo_8 2 rfl rfl)
theorem dX11_applyTo_249 : decode cX11_applyTo 249 = .ok (.iconst 0, 1) := dk_3 (dk_at dksX11_applyTo_8 5 rfl rfl)
theorem dX11_applyTo_250 : decode cX11_applyTo 250 = .ok (.iaload, 1) := dk_46 (dk_at dksX11_applyTo_8 6 rfl rfl)
theorem dX11_applyTo_251 : decode cX11_applyTo 251 = .ok (.aload_n 0, 1) := dk_42 (dk_at dksX11_applyTo_8 7 rfl rfl)
theorem dX11_applyTo_252 : decode cX11_applyTo 252 = .ok (.getfield 7, 3) := dk_180 0 7 (dk_at dksX11_applyTo_8 8 rfl rfl)
theorem dX11_applyTo_255 : decode cX11_applyTo 255 = .ok (.iconst 1, 1) := dk_4 (dk_at dksX11_applyTo_8 11 rfl rfl)
theorem dX11_applyTo_256 : decode cX11_applyTo 256 = .ok (.iaload, 1) := dk_46 (dk_at dksX11_applyTo_8 12 rfl rfl)
theorem dX11_applyTo_257 : decode cX11_applyTo 257 = .ok (.invokevirtual 47, 3) := dk_182 0 47 (dk_at dksX11_applyTo_8 13 rfl rfl)
theorem dX11_applyTo_260 : decode cX11_applyTo 260 = .ok (.pop, 1) := dk_87 (dk_at dksX11_applyTo_8 16 rfl rfl)
theorem dX11_applyTo_261 : decode cX11_applyTo 261 = .ok (.goto 112, 3) := dk_167 0 112 (dk_at dksX11_applyTo_8 17 rfl rfl)
theorem dX11_applyTo_264 : decode cX11_applyTo 264 = .ok (.aload_n 1, 1) := dk_43 (dk_at dksX11_applyTo_8 20 rfl rfl)
theorem dX11_applyTo_265 : decode cX11_applyTo 265 = .ok (.aload_n 0, 1) := dk_42 (dk_at dksX11_applyTo_8 21 rfl rfl)
theorem dX11_applyTo_266 : decode cX11_applyTo 266 = .ok (.getfield 7, 3) := dk_180 0 7 (dk_at dksX11_applyTo_9 0 rfl rfl)
theorem dX11_applyTo_269 : decode cX11_applyTo 269 = .ok (.iconst 0, 1) := dk_3 (dk_at dksX11_applyTo_9 3 rfl rfl)
theorem dX11_applyTo_270 : decode cX11_applyTo 270 = .ok (.iaload, 1) := dk_46 (dk_at dksX11_applyTo_9 4 rfl rfl)
theorem dX11_applyTo_271 : decode cX11_applyTo 271 = .ok (.invokevirtual 53, 3) := dk_182 0 53 (dk_at dksX11_applyTo_9 5 rfl rfl)
theorem dX11_applyTo_274 : decode cX11_applyTo 274 = .ok (.pop, 1) := dk_87 (dk_at dksX11_applyTo_9 8 rfl rfl)
theorem dX11_applyTo_275 : decode cX11_applyTo 275 = .ok (.goto 98, 3) := dk_167 0 98 (dk_at dksX11_applyTo_9 9 rfl rfl)
theorem dX11_applyTo_278 : decode cX11_applyTo 278 = .ok (.aload_n 1, 1) := dk_43 (dk_at dksX11_applyTo_9 12 rfl rfl)
theorem dX11_applyTo_279 : decode cX11_applyTo 279 = .ok (.aload_n 0, 1) := dk_42 (dk_at dksX11_applyTo_9 13 rfl rfl)
theorem dX11_applyTo_280 : decode cX11_applyTo 280 = .ok (.getfield 7, 3) := dk_180 0 7 (dk_at dksX11_applyTo_9 14 rfl rfl)
theorem dX11_applyTo_283 : decode cX11_applyTo 283 = .ok (.iconst 0, 1) := dk_3 (dk_at dksX11_applyTo_9 17 rfl rfl)
theorem dX11_applyTo_284 : decode cX11_applyTo 284 = .ok (.iaload, 1) := dk_46 (dk_at dksX11_applyTo_9 18 rfl rfl)
theorem dX11_applyTo_285 : decode cX11_applyTo 285 = .ok (.aload_n 0, 1) := dk_42 (dk_at dksX11_applyTo_9 19 rfl rfl)
theorem dX11_applyTo_286 : decode cX11_applyTo 286 = .ok (.getfield 7, 3) := dk_180 0 7 (dk_at dksX11_applyTo_9 20 rfl rfl)
theorem dX11_applyTo_289 : decode cX11_applyTo 289 = .ok (.iconst 1, 1) := dk_4 (dk_at dksX11_applyTo_9 23 rfl rfl)
theorem dX11_applyTo_290 : decode cX11_applyTo 290 = .ok (.iaload, 1) := dk_46 (dk_at dksX11_applyTo_10 0 rfl rfl)
theorem dX11_applyTo_291 : decode cX11_applyTo 291 = .ok (.invokevirtual 57, 3) := dk_182 0 57 (dk_at dksX11_applyTo_10 1 rfl rfl)
theorem dX11_applyTo_294 : decode cX11_applyTo 294 = .ok (.pop, 1) := dk_87 (dk_at dksX11_applyTo_10 4 rfl rfl)
theorem dX11_applyTo_295 : decode cX11_applyTo 295 = .ok (.goto 78, 3) := dk_167 0 78 (dk_at dksX11_applyTo_10 5 rfl rfl)
theorem dX11_applyTo_298 : decode cX11_applyTo 298 = .ok (.aload_n 1, 1) := dk_43 (dk_at dksX11_applyTo_10 8 rfl rfl)
theorem dX11_applyTo_299 : decode cX11_applyTo 299 = .ok (.aload_n 0, 1) := dk_42 (dk_at dksX11_applyTo_10 9 rfl rfl)
theorem dX11_applyTo_300 : decode cX11_applyTo 300 = .ok (.getfield 7, 3) := dk_180 0 7 (dk_at dksX11_applyTo_10 10 rfl rfl)
theorem dX11_applyTo_303 : decode cX11_applyTo 303 = .ok (.iconst 0, 1) := dk_3 (dk_at dksX11_applyTo_10 13 rfl rfl)
theorem dX11_applyTo_304 : decode cX11_applyTo 304 = .ok (.iaload, 1) := dk_46 (dk_at dksX11_applyTo_10 14 rfl rfl)
theorem dX11_applyTo_305 : decode cX11_applyTo 305 = .ok (.invokevirtual 60, 3) := dk_182 0 60 (dk_at dksX11_applyTo_10 15 rfl rfl)
theorem dX11_applyTo_308 : decode cX11_applyTo 308 = .ok (.pop, 1) := dk_87 (dk_at dksX11_applyTo_10 18 rfl rfl)
theorem dX11_applyTo_309 : decode cX11_applyTo 309 = .ok (.goto 64, 3) := dk_167 0 64 (dk_at dksX11_applyTo_10 19 rfl rfl)
theorem dX11_applyTo_312 : decode cX11_applyTo 312 = .ok (.aload_n 1, 1) := dk_43 (dk_at dksX11_applyTo_10 22 rfl rfl)
theorem dX11_applyTo_313 : decode cX11_applyTo 313 = .ok (.aload_n 0, 1) := dk_42 (dk_at dksX11_applyTo_10 23 rfl rfl)
theorem dX11_applyTo_314 : decode cX11_applyTo 314 = .ok (.getfield 7, 3) := dk_180 0 7 (dk_at dksX11_applyTo_11 0 rfl rfl)
theorem dX11_applyTo_317 : decode cX11_applyTo 317 = .ok (.iconst 0, 1) := dk_3 (dk_at dksX11_applyTo_11 3 rfl rfl)
theorem dX11_applyTo_318 : decode cX11_applyTo 318 = .ok (.iaload, 1) := dk_46 (dk_at dksX11_applyTo_11 4 rfl rfl)
theorem dX11_applyTo_319 : decode cX11_applyTo 319 = .ok (.invokevirtual 63, 3) := dk_182 0 63 (dk_at dksX11_applyTo_11 5 rfl rfl)
theorem dX11_applyTo_322 : decode cX11_applyTo 322 = .ok (.pop, 1) := dk_87 (dk_at dksX11_applyTo_11 8 rfl rfl)
theorem dX11_applyTo_323 : decode cX11_applyTo 323 = .ok (.goto 50, 3) := dk_167 0 50 (dk_at dksX11_applyTo_11 9 rfl rfl)
theorem dX11_applyTo_326 : decode cX11_applyTo 326 = .ok (.aload_n 1, 1) := dk_43 (dk_at dksX11_applyTo_11 12 rfl rfl)
theorem dX11_applyTo_327 : decode cX11_applyTo 327 = .ok (.invokevirtual 65, 3) := dk_182 0 65 (dk_at dksX11_applyTo_11 13 rfl rfl)
theorem dX11_applyTo_330 : decode cX11_applyTo 330 = .ok (.pop, 1) := dk_87 (dk_at dksX11_applyTo_11 16 rfl rfl)
theorem dX11_applyTo_331 : decode cX11_applyTo 331 = .ok (.goto 42, 3) := dk_167 0 42 (dk_at dksX11_applyTo_11 17 rfl rfl)
theorem dX11_applyTo_334 : decode cX11_applyTo 334 = .ok (.aload_n 1, 1) := dk_43 (dk_at dksX11_applyTo_11 20 rfl rfl)
theorem dX11_applyTo_335 : decode cX11_applyTo 335 = .ok (.aload_n 0, 1) := dk_42 (dk_at dksX11_applyTo_11 21 rfl rfl)
theorem dX11_applyTo_336 : decode cX11_applyTo 336 = .ok (.getfield 7, 3) := dk_180 0 7 (dk_at dksX11_applyTo_12 0 rfl rfl)
theorem dX11_applyTo_339 : decode cX11_applyTo 339 = .ok (.iconst 0, 1) := dk_3 (dk_at dksX11_applyTo_12 3 rfl rfl)
theorem dX11_applyTo_340 : decode cX11_applyTo 340 = .ok (.iaload, 1) := dk_46 (dk_at dksX11_applyTo_12 4 rfl rfl)
theorem dX11_applyTo_341 : decode cX11_applyTo 341 = .ok (.invokevirtual 68, 3) := dk_182 0 68 (dk_at dksX11_applyTo_12 5 rfl rfl)
theorem dX11_applyTo_344 : decode cX11_applyTo 344 = .ok (.pop, 1) := dk_87 (dk_at dksX11_applyTo_12 8 rfl rfl)
theorem dX11_applyTo_345 : decode cX11_applyTo 345 = .ok (.goto 28, 3) := dk_167 0 28 (dk_at dksX11_applyTo_12 9 rfl rfl)
theorem dX11_applyTo_348 : decode cX11_applyTo 348 = .ok (.aload_n 1, 1) := dk_43 (dk_at dksX11_applyTo_12 12 rfl rfl)
theorem dX11_applyTo_349 : decode cX11_applyTo 349 = .ok (.aload_n 0, 1) := dk_42 (dk_at dksX11_applyTo_12 13 rfl rfl)
theorem dX11_applyTo_350 : decode cX11_applyTo 350 = .ok (.getfield 7, 3) := dk_180 0 7 (dk_at dksX11_applyTo_12 14 rfl rfl)
theorem dX11_applyTo_353 : decode cX11_applyTo 353 = .ok (.iconst 0, 1) := dk_3 (dk_at dksX11_applyTo_12 17 rfl rfl)
theorem dX11_applyTo_354 : decode cX11_applyTo 354 = .ok (.iaload, 1) := dk_46 (dk_at dksX11_applyTo_12 18 rfl rfl)
theorem dX11_applyTo_355 : decode cX11_applyTo 355 = .ok (.invokevirtual 71, 3) := dk_182 0 71 (dk_at dksX11_applyTo_12 19 rfl rfl)
theorem dX11_applyTo_358 : decode cX11_applyTo 358 = .ok (.pop, 1) := dk_87 (dk_at dksX11_applyTo_12 22 rfl rfl)
theorem dX11_applyTo_359 : decode cX11_applyTo 359 = .ok (.goto 14, 3) := dk_167 0 14 (dk_at dksX11_applyTo_13 0 rfl rfl)
theorem dX11_applyTo_362 : decode cX11_applyTo 362 = .ok (.aload_n 1, 1) := dk_43 (dk_at dksX11_applyTo_13 3 rfl rfl)
theorem dX11_applyTo_363 : decode cX11_applyTo 363 = .ok (.aload_n 0, 1) := dk_42 (dk_at dksX11_applyTo_13 4 rfl rfl)
theorem dX11_applyTo_364 : decode cX11_applyTo 364 = .ok (.getfield 7, 3) := dk_180 0 7 (dk_at dksX11_applyTo_13 5 rfl rfl)
theorem dX11_applyTo_367 : decode cX11_applyTo 367 = .ok (.iconst 0, 1) := dk_3 (dk_at dksX11_applyTo_13 8 rfl rfl)
theorem dX11_applyTo_368 : decode cX11_applyTo 368 = .ok (.iaload, 1) := dk_46 (dk_at dksX11_applyTo_13 9 rfl rfl)
theorem dX11_applyTo_369 : decode cX11_applyTo 369 = .ok (.invokevirtual 74, 3) := dk_182 0 74 (dk_at dksX11_applyTo_13 10 rfl rfl)
theorem dX11_applyTo_372 : decode cX11_applyTo 372 = .ok (.pop, 1) := dk_87 (dk_at dksX11_applyTo_13 13 rfl rfl)
theorem dX11_applyTo_373 : decode cX11_applyTo 373 = .ok (.return_, 1) := dk_177 (dk_at dksX11_applyTo_13 14 rfl rfl)
theorem q134 : (Jvm.Cond.initialized "InkPrintery$Command") ∈ lw_all := lw_g (lw_at lw_m1 51 rfl) rfl
theorem q497 : (Jvm.Cond.selects "InkPrintery$Command" ({ cls := "java/lang/Object", name := "getClass", desc := "()Ljava/lang/Class;" } : Jvm.MethodName) ({ cls := "java/lang/Object", name := "getClass", desc := "()Ljava/lang/Class;" } : Jvm.MethodName)) ∈ lw_all := lw_g (lw_at lw_m2 174 rfl) rfl
theorem q1812 : (Jvm.Cond.instantiable "InkPrintery$Command" (3 : Nat)) ∈ lw_all := lw_g (lw_at lw_m8 49 rfl) rfl
theorem q1814 : (Jvm.Cond.instanceMethod ({ cls := "InkPrintery$Command", name := "<init>", desc := "(Ljava/lang/String;)V" } : Jvm.MethodName)) ∈ lw_all := lw_g (lw_at lw_m8 51 rfl) rfl
theorem q1815 : (Jvm.Cond.code ({ cls := "InkPrintery$Command", name := "<init>", desc := "(Ljava/lang/String;)V" } : Jvm.MethodName) prog_2_method_1_code (2 : Nat) (Option.none : Option Jvm.ClassFile.FieldType)) ∈ lw_all := lw_g (lw_at lw_m8 52 rfl) rfl
theorem q1816 : (Jvm.Cond.methodLink "InkPrintery$Command" (1 : Nat) ({ cls := "java/lang/Object", name := "<init>", desc := "()V" } : Jvm.MethodName)) ∈ lw_all := lw_g (lw_at lw_m8 53 rfl) rfl
theorem q1817 : (Jvm.Cond.fieldLink "InkPrintery$Command" (13 : Nat) "InkPrintery$Command" "word" "Ljava/lang/String;") ∈ lw_all := lw_g (lw_at lw_m8 54 rfl) rfl
theorem q1818 : (Jvm.Cond.fieldLink "InkPrintery$Command" (7 : Nat) "InkPrintery$Command" "numbers" "[I") ∈ lw_all := lw_g (lw_at lw_m8 55 rfl) rfl
theorem q1819 : (Jvm.Cond.fieldLink "InkPrintery$Command" (17 : Nat) "InkPrintery$Command" "count" "I") ∈ lw_all := lw_g (lw_at lw_m8 56 rfl) rfl
theorem q1820 : (Jvm.Cond.laysFinal "InkPrintery$Command" "InkPrintery$Command" "word" "Ljava/lang/String;") ∈ lw_all := lw_g (lw_at lw_m8 57 rfl) rfl
theorem q1821 : (Jvm.Cond.soleField "InkPrintery$Command" "word") ∈ lw_all := lw_g (lw_at lw_m8 58 rfl) rfl
theorem q1822 : (Jvm.Cond.laysFinal "InkPrintery$Command" "InkPrintery$Command" "numbers" "[I") ∈ lw_all := lw_g (lw_at lw_m8 59 rfl) rfl
theorem q1823 : (Jvm.Cond.soleField "InkPrintery$Command" "numbers") ∈ lw_all := lw_g (lw_at lw_m8 60 rfl) rfl
theorem q1824 : (Jvm.Cond.lays "InkPrintery$Command" "InkPrintery$Command" "count" "I") ∈ lw_all := lw_g (lw_at lw_m8 61 rfl) rfl
theorem q1825 : (Jvm.Cond.soleField "InkPrintery$Command" "count") ∈ lw_all := lw_g (lw_at lw_m8 62 rfl) rfl
theorem q1826 : (Jvm.Cond.superclass "InkPrintery$Command" "java/lang/Object") ∈ lw_all := lw_g (lw_at lw_m8 63 rfl) rfl
theorem q1837 : (Jvm.Cond.instanceMethod ({ cls := "InkPrintery$Command", name := "with", desc := "(I)LInkPrintery$Command;" } : Jvm.MethodName)) ∈ lw_all := lw_g (lw_at lw_m8 74 rfl) rfl
theorem q1838 : (Jvm.Cond.selects "InkPrintery$Command" ({ cls := "InkPrintery$Command", name := "with", desc := "(I)LInkPrintery$Command;" } : Jvm.MethodName) ({ cls := "InkPrintery$Command", name := "with", desc := "(I)LInkPrintery$Command;" } : Jvm.MethodName)) ∈ lw_all := lw_g (lw_at lw_m8 75 rfl) rfl
theorem q1839 : (Jvm.Cond.code ({ cls := "InkPrintery$Command", name := "with", desc := "(I)LInkPrintery$Command;" } : Jvm.MethodName) prog_2_method_2_code (2 : Nat) (Option.some (Jvm.ClassFile.FieldType.object "InkPrintery$Command"))) ∈ lw_all := lw_g (lw_at lw_m8 76 rfl) rfl
theorem q2107 : (Jvm.Cond.instanceMethod ({ cls := "InkPrintery$Command", name := "applyTo", desc := "(LInkPrintery$State;)V" } : Jvm.MethodName)) ∈ lw_all := lw_g (lw_at lw_m9 104 rfl) rfl
theorem q2108 : (Jvm.Cond.selects "InkPrintery$Command" ({ cls := "InkPrintery$Command", name := "applyTo", desc := "(LInkPrintery$State;)V" } : Jvm.MethodName) ({ cls := "InkPrintery$Command", name := "applyTo", desc := "(LInkPrintery$State;)V" } : Jvm.MethodName)) ∈ lw_all := lw_g (lw_at lw_m9 105 rfl) rfl
theorem q2109 : (Jvm.Cond.code ({ cls := "InkPrintery$Command", name := "applyTo", desc := "(LInkPrintery$State;)V" } : Jvm.MethodName) prog_2_method_3_code (4 : Nat) (Option.none : Option Jvm.ClassFile.FieldType)) ∈ lw_all := lw_g (lw_at lw_m9 106 rfl) rfl
theorem q2110 : (Jvm.Cond.methodLink "InkPrintery$Command" (21 : Nat) ({ cls := "java/lang/String", name := "hashCode", desc := "()I" } : Jvm.MethodName)) ∈ lw_all := lw_g (lw_at lw_m9 107 rfl) rfl
theorem q2167 : (Jvm.Cond.stringRef "InkPrintery$Command" (27 : Nat) "ink") ∈ lw_tbl := lw_at lw_m9 164 rfl
theorem q2168 : (Jvm.Cond.methodLink "InkPrintery$Command" (29 : Nat) ({ cls := "java/lang/String", name := "equals", desc := "(Ljava/lang/Object;)Z" } : Jvm.MethodName)) ∈ lw_all := lw_g (lw_at lw_m9 165 rfl) rfl
theorem q2176 : (Jvm.Cond.stringRef "InkPrintery$Command" (33 : Nat) "paper") ∈ lw_tbl := lw_at lw_m9 173 rfl
theorem q2177 : (Jvm.Cond.stringRef "InkPrintery$Command" (35 : Nat) "edition") ∈ lw_tbl := lw_at lw_m9 174 rfl
theorem q2178 : (Jvm.Cond.stringRef "InkPrintery$Command" (37 : Nat) "remove") ∈ lw_tbl := lw_at lw_m9 175 rfl
theorem q2179 : (Jvm.Cond.stringRef "InkPrintery$Command" (39 : Nat) "print") ∈ lw_tbl := lw_at lw_m9 176 rfl
theorem q2180 : (Jvm.Cond.stringRef "InkPrintery$Command" (41 : Nat) "all") ∈ lw_tbl := lw_at lw_m9 177 rfl
theorem q2181 : (Jvm.Cond.stringRef "InkPrintery$Command" (43 : Nat) "hours") ∈ lw_tbl := lw_at lw_m9 178 rfl
theorem q2182 : (Jvm.Cond.stringRef "InkPrintery$Command" (45 : Nat) "proof") ∈ lw_tbl := lw_at lw_m9 179 rfl
theorem q2183 : (Jvm.Cond.methodLink "InkPrintery$Command" (47 : Nat) ({ cls := "InkPrintery$State", name := "addInk", desc := "(II)I" } : Jvm.MethodName)) ∈ lw_all := lw_g (lw_at lw_m9 180 rfl) rfl
theorem q2184 : (Jvm.Cond.methodLink "InkPrintery$Command" (53 : Nat) ({ cls := "InkPrintery$State", name := "addPaper", desc := "(I)I" } : Jvm.MethodName)) ∈ lw_all := lw_g (lw_at lw_m9 181 rfl) rfl
theorem q2185 : (Jvm.Cond.methodLink "InkPrintery$Command" (57 : Nat) ({ cls := "InkPrintery$State", name := "addEdition", desc := "(II)I" } : Jvm.MethodName)) ∈ lw_all := lw_g (lw_at lw_m9 182 rfl) rfl
theorem q2186 : (Jvm.Cond.methodLink "InkPrintery$Command" (60 : Nat) ({ cls := "InkPrintery$State", name := "removeEdition", desc := "(I)I" } : Jvm.MethodName)) ∈ lw_all := lw_g (lw_at lw_m9 183 rfl) rfl
theorem q2187 : (Jvm.Cond.methodLink "InkPrintery$Command" (63 : Nat) ({ cls := "InkPrintery$State", name := "print", desc := "(I)I" } : Jvm.MethodName)) ∈ lw_all := lw_g (lw_at lw_m9 184 rfl) rfl
theorem q2188 : (Jvm.Cond.methodLink "InkPrintery$Command" (65 : Nat) ({ cls := "InkPrintery$State", name := "printAll", desc := "()I" } : Jvm.MethodName)) ∈ lw_all := lw_g (lw_at lw_m9 185 rfl) rfl
theorem q2189 : (Jvm.Cond.methodLink "InkPrintery$Command" (68 : Nat) ({ cls := "InkPrintery$State", name := "pass", desc := "(I)I" } : Jvm.MethodName)) ∈ lw_all := lw_g (lw_at lw_m9 186 rfl) rfl
theorem q2190 : (Jvm.Cond.methodLink "InkPrintery$Command" (71 : Nat) ({ cls := "InkPrintery$State", name := "addProof", desc := "(I)I" } : Jvm.MethodName)) ∈ lw_all := lw_g (lw_at lw_m9 187 rfl) rfl
theorem q2191 : (Jvm.Cond.methodLink "InkPrintery$Command" (74 : Nat) ({ cls := "InkPrintery$State", name := "dropProof", desc := "(I)I" } : Jvm.MethodName)) ∈ lw_all := lw_g (lw_at lw_m9 188 rfl) rfl
theorem q2813 : (Jvm.Cond.castable "InkPrintery$Command" "java/lang/Object") ∈ lw_tbl := lw_at lw_m12 90 rfl
theorem in_X11 : ∀ w ∈ wsX110, w ∈ lw_all := lw_in wsX110 [1820, 1822, 1824] (by decide +kernel) (by decide +kernel)
