/-! FilterWaterworksLaw -/
set_option maxRecDepth 100000
def RX0 : String := "FilterWaterworksLaw"
abbrev cX0_addTank : ByteArray := method_3_code
def yX0_addTank : MethodName := ⟨RX0, "addTank", "(LFilterWaterworks;I[J)I"⟩
def dkwX0_addTank_0 : List UInt8 := [44, 3, 42, 27, 182, 0, 7, 133, 80, 167, 0, 9, 78, 4, 172, 78, 5, 172, 3, 172]
abbrev dktX0_addTank_0 : List UInt8 := dkwX0_addTank_0 ++ []
theorem dksX0_addTank_0 : cX0_addTank.data.toList.drop 0 = dktX0_addTank_0 := by decide +kernel
theorem dX0_addTank_0 : decode cX0_addTank 0 = .ok (.aload_n 2, 1) := dk_44 (dk_at dksX0_addTank_0 0 rfl rfl)
theorem dX0_addTank_1 : decode cX0_addTank 1 = .ok (.iconst 0, 1) := dk_3 (dk_at dksX0_addTank_0 1 rfl rfl)
theorem dX0_addTank_2 : decode cX0_addTank 2 = .ok (.aload_n 0, 1) := dk_42 (dk_at dksX0_addTank_0 2 rfl rfl)
theorem dX0_addTank_3 : decode cX0_addTank 3 = .ok (.iload_n 1, 1) := dk_27 (dk_at dksX0_addTank_0 3 rfl rfl)
theorem dX0_addTank_4 : decode cX0_addTank 4 = .ok (.invokevirtual 7, 3) := dk_182 0 7 (dk_at dksX0_addTank_0 4 rfl rfl)
theorem dX0_addTank_7 : decode cX0_addTank 7 = .ok (.i2l, 1) := dk_133 (dk_at dksX0_addTank_0 7 rfl rfl)
theorem dX0_addTank_8 : decode cX0_addTank 8 = .ok (.lastore, 1) := dk_80 (dk_at dksX0_addTank_0 8 rfl rfl)
theorem dX0_addTank_9 : decode cX0_addTank 9 = .ok (.goto 9, 3) := dk_167 0 9 (dk_at dksX0_addTank_0 9 rfl rfl)
theorem dX0_addTank_12 : decode cX0_addTank 12 = .ok (.astore_n 3, 1) := dk_78 (dk_at dksX0_addTank_0 12 rfl rfl)
theorem dX0_addTank_13 : decode cX0_addTank 13 = .ok (.iconst 1, 1) := dk_4 (dk_at dksX0_addTank_0 13 rfl rfl)
theorem dX0_addTank_14 : decode cX0_addTank 14 = .ok (.ireturn, 1) := dk_172 (dk_at dksX0_addTank_0 14 rfl rfl)
theorem dX0_addTank_15 : decode cX0_addTank 15 = .ok (.astore_n 3, 1) := dk_78 (dk_at dksX0_addTank_0 15 rfl rfl)
theorem dX0_addTank_16 : decode cX0_addTank 16 = .ok (.iconst 2, 1) := dk_5 (dk_at dksX0_addTank_0 16 rfl rfl)
theorem dX0_addTank_17 : decode cX0_addTank 17 = .ok (.ireturn, 1) := dk_172 (dk_at dksX0_addTank_0 17 rfl rfl)
theorem dX0_addTank_18 : decode cX0_addTank 18 = .ok (.iconst 0, 1) := dk_3 (dk_at dksX0_addTank_0 18 rfl rfl)
theorem dX0_addTank_19 : decode cX0_addTank 19 = .ok (.ireturn, 1) := dk_172 (dk_at dksX0_addTank_0 19 rfl rfl)
abbrev cX0_addPipe : ByteArray := method_4_code
def yX0_addPipe : MethodName := ⟨RX0, "addPipe", "(LFilterWaterworks;III[J)I"⟩
def dkwX0_addPipe_1 : List UInt8 := [58, 5, 6, 172, 3, 172]
abbrev dktX0_addPipe_1 : List UInt8 := dkwX0_addPipe_1 ++ []
def dkwX0_addPipe_0 : List UInt8 := [25, 4, 3, 42, 27, 28, 29, 182, 0, 17, 133, 80, 167, 0, 15, 58, 5, 4, 172, 58, 5, 5, 172]
abbrev dktX0_addPipe_0 : List UInt8 := dkwX0_addPipe_0 ++ dktX0_addPipe_1
theorem dksX0_addPipe_0 : cX0_addPipe.data.toList.drop 0 = dktX0_addPipe_0 := by decide +kernel
theorem dksX0_addPipe_1 : cX0_addPipe.data.toList.drop 23 = dktX0_addPipe_1 := dk_seg dksX0_addPipe_0 23 rfl rfl
theorem dX0_addPipe_0 : decode cX0_addPipe 0 = .ok (.aload 4, 2) := dk_25 4 (dk_at dksX0_addPipe_0 0 rfl rfl)
theorem dX0_addPipe_2 : decode cX0_addPipe 2 = .ok (.iconst 0, 1) := dk_3 (dk_at dksX0_addPipe_0 2 rfl rfl)
theorem dX0_addPipe_3 : decode cX0_addPipe 3 = .ok (.aload_n 0, 1) := dk_42 (dk_at dksX0_addPipe_0 3 rfl rfl)
theorem dX0_addPipe_4 : decode cX0_addPipe 4 = .ok (.iload_n 1, 1) := dk_27 (dk_at dksX0_addPipe_0 4 rfl rfl)
theorem dX0_addPipe_5 : decode cX0_addPipe 5 = .ok (.iload_n 2, 1) := dk_28 (dk_at dksX0_addPipe_0 5 rfl rfl)
theorem dX0_addPipe_6 : decode cX0_addPipe 6 = .ok (.iload_n 3, 1) := dk_29 (dk_at dksX0_addPipe_0 6 rfl rfl)
theorem dX0_addPipe_7 : decode cX0_addPipe 7 = .ok (.invokevirtual 17, 3) := dk_182 0 17 (dk_at dksX0_addPipe_0 7 rfl rfl)
theorem dX0_addPipe_10 : decode cX0_addPipe 10 = .ok (.i2l, 1) := dk_133 (dk_at dksX0_addPipe_0 10 rfl rfl)
theorem dX0_addPipe_11 : decode cX0_addPipe 11 = .ok (.lastore, 1) := dk_80 (dk_at dksX0_addPipe_0 11 rfl rfl)
theorem dX0_addPipe_12 : decode cX0_addPipe 12 = .ok (.goto 15, 3) := dk_167 0 15 (dk_at dksX0_addPipe_0 12 rfl rfl)
theorem dX0_addPipe_15 : decode cX0_addPipe 15 = .ok (.astore 5, 2) := dk_58 5 (dk_at dksX0_addPipe_0 15 rfl rfl)
theorem dX0_addPipe_17 : decode cX0_addPipe 17 = .ok (.iconst 1, 1) := dk_4 (dk_at dksX0_addPipe_0 17 rfl rfl)
theorem dX0_addPipe_18 : decode cX0_addPipe 18 = .ok (.ireturn, 1) := dk_172 (dk_at dksX0_addPipe_0 18 rfl rfl)
theorem dX0_addPipe_19 : decode cX0_addPipe 19 = .ok (.astore 5, 2) := dk_58 5 (dk_at dksX0_addPipe_0 19 rfl rfl)
theorem dX0_addPipe_21 : decode cX0_addPipe 21 = .ok (.iconst 2, 1) := dk_5 (dk_at dksX0_addPipe_0 21 rfl rfl)
theorem dX0_addPipe_22 : decode cX0_addPipe 22 = .ok (.ireturn, 1) := dk_172 (dk_at dksX0_addPipe_0 22 rfl rfl)
theorem dX0_addPipe_23 : decode cX0_addPipe 23 = .ok (.astore 5, 2) := dk_58 5 (dk_at dksX0_addPipe_1 0 rfl rfl)
theorem dX0_addPipe_25 : decode cX0_addPipe 25 = .ok (.iconst 3, 1) := dk_6 (dk_at dksX0_addPipe_1 2 rfl rfl)
theorem dX0_addPipe_26 : decode cX0_addPipe 26 = .ok (.ireturn, 1) := dk_172 (dk_at dksX0_addPipe_1 3 rfl rfl)
theorem dX0_addPipe_27 : decode cX0_addPipe 27 = .ok (.iconst 0, 1) := dk_3 (dk_at dksX0_addPipe_1 4 rfl rfl)
theorem dX0_addPipe_28 : decode cX0_addPipe 28 = .ok (.ireturn, 1) := dk_172 (dk_at dksX0_addPipe_1 5 rfl rfl)
abbrev cX0_pour : ByteArray := method_5_code
def yX0_pour : MethodName := ⟨RX0, "pour", "(LFilterWaterworks;III[J)I"⟩
def dkwX0_pour_1 : List UInt8 := [58, 5, 6, 172, 3, 172]
abbrev dktX0_pour_1 : List UInt8 := dkwX0_pour_1 ++ []
def dkwX0_pour_0 : List UInt8 := [25, 4, 3, 42, 27, 28, 29, 182, 0, 23, 133, 80, 167, 0, 15, 58, 5, 4, 172, 58, 5, 5, 172]
abbrev dktX0_pour_0 : List UInt8 := dkwX0_pour_0 ++ dktX0_pour_1
theorem dksX0_pour_0 : cX0_pour.data.toList.drop 0 = dktX0_pour_0 := by decide +kernel
theorem dksX0_pour_1 : cX0_pour.data.toList.drop 23 = dktX0_pour_1 := dk_seg dksX0_pour_0 23 rfl rfl
theorem dX0_pour_0 : decode cX0_pour 0 = .ok (.aload 4, 2) := dk_25 4 (dk_at dksX0_pour_0 0 rfl rfl)
theorem dX0_pour_2 : decode cX0_pour 2 = .ok (.iconst 0, 1) := dk_3 (dk_at dksX0_pour_0 2 rfl rfl)
theorem dX0_pour_3 : decode cX0_pour 3 = .ok (.aload_n 0, 1) := dk_42 (dk_at dksX0_pour_0 3 rfl rfl)
theorem dX0_pour_4 : decode cX0_pour 4 = .ok (.iload_n 1, 1) := dk_27 (dk_at dksX0_pour_0 4 rfl rfl)
theorem dX0_pour_5 : decode cX0_pour 5 = .ok (.iload_n 2, 1) := dk_28 (dk_at dksX0_pour_0 5 rfl rfl)
theorem dX0_pour_6 : decode cX0_pour 6 = .ok (.iload_n 3, 1) := dk_29 (dk_at dksX0_pour_0 6 rfl rfl)
theorem dX0_pour_7 : decode cX0_pour 7 = .ok (.invokevirtual 23, 3) := dk_182 0 23 (dk_at dksX0_pour_0 7 rfl rfl)
theorem dX0_pour_10 : decode cX0_pour 10 = .ok (.i2l, 1) := dk_133 (dk_at dksX0_pour_0 10 rfl rfl)
theorem dX0_pour_11 : decode cX0_pour 11 = .ok (.lastore, 1) := dk_80 (dk_at dksX0_pour_0 11 rfl rfl)
theorem dX0_pour_12 : decode cX0_pour 12 = .ok (.goto 15, 3) := dk_167 0 15 (dk_at dksX0_pour_0 12 rfl rfl)
theorem dX0_pour_15 : decode cX0_pour 15 = .ok (.astore 5, 2) := dk_58 5 (dk_at dksX0_pour_0 15 rfl rfl)
theorem dX0_pour_17 : decode cX0_pour 17 = .ok (.iconst 1, 1) := dk_4 (dk_at dksX0_pour_0 17 rfl rfl)
theorem dX0_pour_18 : decode cX0_pour 18 = .ok (.ireturn, 1) := dk_172 (dk_at dksX0_pour_0 18 rfl rfl)
theorem dX0_pour_19 : decode cX0_pour 19 = .ok (.astore 5, 2) := dk_58 5 (dk_at dksX0_pour_0 19 rfl rfl)
theorem dX0_pour_21 : decode cX0_pour 21 = .ok (.iconst 2, 1) := dk_5 (dk_at dksX0_pour_0 21 rfl rfl)
theorem dX0_pour_22 : decode cX0_pour 22 = .ok (.ireturn, 1) := dk_172 (dk_at dksX0_pour_0 22 rfl rfl)
theorem dX0_pour_23 : decode cX0_pour 23 = .ok (.astore 5, 2) := dk_58 5 (dk_at dksX0_pour_1 0 rfl rfl)
theorem dX0_pour_25 : decode cX0_pour 25 = .ok (.iconst 3, 1) := dk_6 (dk_at dksX0_pour_1 2 rfl rfl)
theorem dX0_pour_26 : decode cX0_pour 26 = .ok (.ireturn, 1) := dk_172 (dk_at dksX0_pour_1 3 rfl rfl)
theorem dX0_pour_27 : decode cX0_pour 27 = .ok (.iconst 0, 1) := dk_3 (dk_at dksX0_pour_1 4 rfl rfl)
theorem dX0_pour_28 : decode cX0_pour 28 = .ok (.ireturn, 1) := dk_172 (dk_at dksX0_pour_1 5 rfl rfl)
abbrev cX0_draw : ByteArray := method_6_code
def yX0_draw : MethodName := ⟨RX0, "draw", "(LFilterWaterworks;II[J)I"⟩
def dkwX0_draw_1 : List UInt8 := [172, 3, 172]
abbrev dktX0_draw_1 : List UInt8 := dkwX0_draw_1 ++ []
def dkwX0_draw_0 : List UInt8 := [45, 3, 42, 27, 28, 182, 0, 28, 133, 80, 167, 0, 15, 58, 4, 4, 172, 58, 4, 5, 172, 58, 4, 6]
abbrev dktX0_draw_0 : List UInt8 := dkwX0_draw_0 ++ dktX0_draw_1
theorem dksX0_draw_0 : cX0_draw.data.toList.drop 0 = dktX0_draw_0 := by decide +kernel
theorem dksX0_draw_1 : cX0_draw.data.toList.drop 24 = dktX0_draw_1 := dk_seg dksX0_draw_0 24 rfl rfl
theorem dX0_draw_0 : decode cX0_draw 0 = .ok (.aload_n 3, 1) := dk_45 (dk_at dksX0_draw_0 0 rfl rfl)
theorem dX0_draw_1 : decode cX0_draw 1 = .ok (.iconst 0, 1) := dk_3 (dk_at dksX0_draw_0 1 rfl rfl)
theorem dX0_draw_2 : decode cX0_draw 2 = .ok (.aload_n 0, 1) := dk_42 (dk_at dksX0_draw_0 2 rfl rfl)
theorem dX0_draw_3 : decode cX0_draw 3 = .ok (.iload_n 1, 1) := dk_27 (dk_at dksX0_draw_0 3 rfl rfl)
theorem dX0_draw_4 : decode cX0_draw 4 = .ok (.iload_n 2, 1) := dk_28 (dk_at dksX0_draw_0 4 rfl rfl)
theorem dX0_draw_5 : decode cX0_draw 5 = .ok (.invokevirtual 28, 3) := dk_182 0 28 (dk_at dksX0_draw_0 5 rfl rfl)
theorem dX0_draw_8 : decode cX0_draw 8 = .ok (.i2l, 1) := dk_133 (dk_at dksX0_draw_0 8 rfl rfl)
theorem dX0_draw_9 : decode cX0_draw 9 = .ok (.lastore, 1) := dk_80 (dk_at dksX0_draw_0 9 rfl rfl)
theorem dX0_draw_10 : decode cX0_draw 10 = .ok (.goto 15, 3) := dk_167 0 15 (dk_at dksX0_draw_0 10 rfl rfl)
theorem dX0_draw_13 : decode cX0_draw 13 = .ok (.astore 4, 2) := dk_58 4 (dk_at dksX0_draw_0 13 rfl rfl)
theorem dX0_draw_15 : decode cX0_draw 15 = .ok (.iconst 1, 1) := dk_4 (dk_at dksX0_draw_0 15 rfl rfl)
theorem dX0_draw_16 : decode cX0_draw 16 = .ok (.ireturn, 1) := dk_172 (dk_at dksX0_draw_0 16 rfl rfl)
theorem dX0_draw_17 : decode cX0_draw 17 = .ok (.astore 4, 2) := dk_58 4 (dk_at dksX0_draw_0 17 rfl rfl)
theorem dX0_draw_19 : decode cX0_draw 19 = .ok (.iconst 2, 1) := dk_5 (dk_at dksX0_draw_0 19 rfl rfl)
theorem dX0_draw_20 : decode cX0_draw 20 = .ok (.ireturn, 1) := dk_172 (dk_at dksX0_draw_0 20 rfl rfl)
theorem dX0_draw_21 : decode cX0_draw 21 = .ok (.astore 4, 2) := dk_58 4 (dk_at dksX0_draw_0 21 rfl rfl)
theorem dX0_draw_23 : decode cX0_draw 23 = .ok (.iconst 3, 1) := dk_6 (dk_at dksX0_draw_0 23 rfl rfl)
theorem dX0_draw_24 : decode cX0_draw 24 = .ok (.ireturn, 1) := dk_172 (dk_at dksX0_draw_1 0 rfl rfl)
theorem dX0_draw_25 : decode cX0_draw 25 = .ok (.iconst 0, 1) := dk_3 (dk_at dksX0_draw_1 1 rfl rfl)
theorem dX0_draw_26 : decode cX0_draw 26 = .ok (.ireturn, 1) := dk_172 (dk_at dksX0_draw_1 2 rfl rfl)
abbrev cX0_setValve : ByteArray := method_7_code
def yX0_setValve : MethodName := ⟨RX0, "setValve", "(LFilterWaterworks;II[J)I"⟩
def dkwX0_setValve_0 : List UInt8 := [45, 3, 42, 27, 28, 182, 0, 32, 133, 80, 167, 0, 11, 58, 4, 4, 172, 58, 4, 5, 172, 3, 172]
abbrev dktX0_setValve_0 : List UInt8 := dkwX0_setValve_0 ++ []
theorem dksX0_setValve_0 : cX0_setValve.data.toList.drop 0 = dktX0_setValve_0 := by decide +kernel
theorem dX0_setValve_0 : decode cX0_setValve 0 = .ok (.aload_n 3, 1) := dk_45 (dk_at dksX0_setValve_0 0 rfl rfl)
theorem dX0_setValve_1 : decode cX0_setValve 1 = .ok (.iconst 0, 1) := dk_3 (dk_at dksX0_setValve_0 1 rfl rfl)
theorem dX0_setValve_2 : decode cX0_setValve 2 = .ok (.aload_n 0, 1) := dk_42 (dk_at dksX0_setValve_0 2 rfl rfl)
theorem dX0_setValve_3 : decode cX0_setValve 3 = .ok (.iload_n 1, 1) := dk_27 (dk_at dksX0_setValve_0 3 rfl rfl)
theorem dX0_setValve_4 : decode cX0_setValve 4 = .ok (.iload_n 2, 1) := dk_28 (dk_at dksX0_setValve_0 4 rfl rfl)
theorem dX0_setValve_5 : decode cX0_setValve 5 = .ok (.invokevirtual 32, 3) := dk_182 0 32 (dk_at dksX0_setValve_0 5 rfl rfl)
theorem dX0_setValve_8 : decode cX0_setValve 8 = .ok (.i2l, 1) := dk_133 (dk_at dksX0_setValve_0 8 rfl rfl)
theorem dX0_setValve_9 : decode cX0_setValve 9 = .ok (.lastore, 1) := dk_80 (dk_at dksX0_setValve_0 9 rfl rfl)
theorem dX0_setValve_10 : decode cX0_setValve 10 = .ok (.goto 11, 3) := dk_167 0 11 (dk_at dksX0_setValve_0 10 rfl rfl)
theorem dX0_setValve_13 : decode cX0_setValve 13 = .ok (.astore 4, 2) := dk_58 4 (dk_at dksX0_setValve_0 13 rfl rfl)
theorem dX0_setValve_15 : decode cX0_setValve 15 = .ok (.iconst 1, 1) := dk_4 (dk_at dksX0_setValve_0 15 rfl rfl)
theorem dX0_setValve_16 : decode cX0_setValve 16 = .ok (.ireturn, 1) := dk_172 (dk_at dksX0_setValve_0 16 rfl rfl)
theorem dX0_setValve_17 : decode cX0_setValve 17 = .ok (.astore 4, 2) := dk_58 4 (dk_at dksX0_setValve_0 17 rfl rfl)
theorem dX0_setValve_19 : decode cX0_setValve 19 = .ok (.iconst 2, 1) := dk_5 (dk_at dksX0_setValve_0 19 rfl rfl)
theorem dX0_setValve_20 : decode cX0_setValve 20 = .ok (.ireturn, 1) := dk_172 (dk_at dksX0_setValve_0 20 rfl rfl)
theorem dX0_setValve_21 : decode cX0_setValve 21 = .ok (.iconst 0, 1) := dk_3 (dk_at dksX0_setValve_0 21 rfl rfl)
theorem dX0_setValve_22 : decode cX0_setValve 22 = .ok (.ireturn, 1) := dk_172 (dk_at dksX0_setValve_0 22 rfl rfl)
abbrev cX0_setLeak : ByteArray := method_8_code
def yX0_setLeak : MethodName := ⟨RX0, "setLeak", "(LFilterWaterworks;II[J)I"⟩
def dkwX0_setLeak_0 : List UInt8 := [45, 3, 42, 27, 28, 182, 0, 35, 133, 80, 167, 0, 11, 58, 4, 4, 172, 58, 4, 5, 172, 3, 172]
abbrev dktX0_setLeak_0 : List UInt8 := dkwX0_setLeak_0 ++ []
theorem dksX0_setLeak_0 : cX0_setLeak.data.toList.drop 0 = dktX0_setLeak_0 := by decide +kernel
theorem dX0_setLeak_0 : decode cX0_setLeak 0 = .ok (.aload_n 3, 1) := dk_45 (dk_at dksX0_setLeak_0 0 rfl rfl)
theorem dX0_setLeak_1 : decode cX0_setLeak 1 = .ok (.iconst 0, 1) := dk_3 (dk_at dksX0_setLeak_0 1 rfl rfl)
theorem dX0_setLeak_2 : decode cX0_setLeak 2 = .ok (.aload_n 0, 1) := dk_42 (dk_at dksX0_setLeak_0 2 rfl rfl)
theorem dX0_setLeak_3 : decode cX0_setLeak 3 = .ok (.iload_n 1, 1) := dk_27 (dk_at dksX0_setLeak_0 3 rfl rfl)
theorem dX0_setLeak_4 : decode cX0_setLeak 4 = .ok (.iload_n 2, 1) := dk_28 (dk_at dksX0_setLeak_0 4 rfl rfl)
theorem dX0_setLeak_5 : decode cX0_setLeak 5 = .ok (.invokevirtual 35, 3) := dk_182 0 35 (dk_at dksX0_setLeak_0 5 rfl rfl)
theorem dX0_setLeak_8 : decode cX0_setLeak 8 = .ok (.i2l, 1) := dk_133 (dk_at dksX0_setLeak_0 8 rfl rfl)
theorem dX0_setLeak_9 : decode cX0_setLeak 9 = .ok (.lastore, 1) := dk_80 (dk_at dksX0_setLeak_0 9 rfl rfl)
theorem dX0_setLeak_10 : decode cX0_setLeak 10 = .ok (.goto 11, 3) := dk_167 0 11 (dk_at dksX0_setLeak_0 10 rfl rfl)
theorem dX0_setLeak_13 : decode cX0_setLeak 13 = .ok (.astore 4, 2) := dk_58 4 (dk_at dksX0_setLeak_0 13 rfl rfl)
theorem dX0_setLeak_15 : decode cX0_setLeak 15 = .ok (.iconst 1, 1) := dk_4 (dk_at dksX0_setLeak_0 15 rfl rfl)
theorem dX0_setLeak_16 : decode cX0_setLeak 16 = .ok (.ireturn, 1) := dk_172 (dk_at dksX0_setLeak_0 16 rfl rfl)
theorem dX0_setLeak_17 : decode cX0_setLeak 17 = .ok (.astore 4, 2) := dk_58 4 (dk_at dksX0_setLeak_0 17 rfl rfl)
theorem dX0_setLeak_19 : decode cX0_setLeak 19 = .ok (.iconst 2, 1) := dk_5 (dk_at dksX0_setLeak_0 19 rfl rfl)
theorem dX0_setLeak_20 : decode cX0_setLeak 20 = .ok (.ireturn, 1) := dk_172 (dk_at dksX0_setLeak_0 20 rfl rfl)
theorem dX0_setLeak_21 : decode cX0_setLeak 21 = .ok (.iconst 0, 1) := dk_3 (dk_at dksX0_setLeak_0 21 rfl rfl)
theorem dX0_setLeak_22 : decode cX0_setLeak 22 = .ok (.ireturn, 1) := dk_172 (dk_at dksX0_setLeak_0 22 rfl rfl)
abbrev cX0_cleanFilter : ByteArray := method_9_code
def yX0_cleanFilter : MethodName := ⟨RX0, "cleanFilter", "(LFilterWaterworks;I[J)I"⟩
def dkwX0_cleanFilter_0 : List UInt8 := [44, 3, 42, 27, 182, 0, 38, 133, 80, 167, 0, 6, 78, 4, 172, 3, 172]
abbrev dktX0_cleanFilter_0 : List UInt8 := dkwX0_cleanFilter_0 ++ []
theorem dksX0_cleanFilter_0 : cX0_cleanFilter.data.toList.drop 0 = dktX0_cleanFilter_0 := by decide +kernel
theorem dX0_cleanFilter_0 : decode cX0_cleanFilter 0 = .ok (.aload_n 2, 1) := dk_44 (dk_at dksX0_cleanFilter_0 0 rfl rfl)
theorem dX0_cleanFilter_1 : decode cX0_cleanFilter 1 = .ok (.iconst 0, 1) := dk_3 (dk_at dksX0_cleanFilter_0 1 rfl rfl)
theorem dX0_cleanFilter_2 : decode cX0_cleanFilter 2 = .ok (.aload_n 0, 1) := dk_42 (dk_at dksX0_cleanFilter_0 2 rfl rfl)
theorem dX0_cleanFilter_3 : decode cX0_cleanFilter 3 = .ok (.iload_n 1, 1) := dk_27 (dk_at dksX0_cleanFilter_0 3 rfl rfl)
theorem dX0_cleanFilter_4 : decode cX0_cleanFilter 4 = .ok (.invokevirtual 38, 3) := dk_182 0 38 (dk_at dksX0_cleanFilter_0 4 rfl rfl)
theorem dX0_cleanFilter_7 : decode cX0_cleanFilter 7 = .ok (.i2l, 1) := dk_133 (dk_at dksX0_cleanFilter_0 7 rfl rfl)
theorem dX0_cleanFilter_8 : decode cX0_cleanFilter 8 = .ok (.lastore, 1) := dk_80 (dk_at dksX0_cleanFilter_0 8 rfl rfl)
theorem dX0_cleanFilter_9 : decode cX0_cleanFilter 9 = .ok (.goto 6, 3) := dk_167 0 6 (dk_at dksX0_cleanFilter_0 9 rfl rfl)
theorem dX0_cleanFilter_12 : decode cX0_cleanFilter 12 = .ok (.astore_n 3, 1) := dk_78 (dk_at dksX0_cleanFilter_0 12 rfl rfl)
theorem dX0_cleanFilter_13 : decode cX0_cleanFilter 13 = .ok (.iconst 1, 1) := dk_4 (dk_at dksX0_cleanFilter_0 13 rfl rfl)
theorem dX0_cleanFilter_14 : decode cX0_cleanFilter 14 = .ok (.ireturn, 1) := dk_172 (dk_at dksX0_cleanFilter_0 14 rfl rfl)
theorem dX0_cleanFilter_15 : decode cX0_cleanFilter 15 = .ok (.iconst 0, 1) := dk_3 (dk_at dksX0_cleanFilter_0 15 rfl rfl)
theorem dX0_cleanFilter_16 : decode cX0_cleanFilter 16 = .ok (.ireturn, 1) := dk_172 (dk_at dksX0_cleanFilter_0 16 rfl rfl)
abbrev cX0_advance : ByteArray := method_10_code
def yX0_advance : MethodName := ⟨RX0, "advance", "(LFilterWaterworks;I[J)I"⟩
def dkwX0_advance_0 : List UInt8 := [44, 3, 42, 27, 182, 0, 41, 133, 80, 167, 0, 6, 78, 4, 172, 3, 172]
abbrev dktX0_advance_0 : List UInt8 := dkwX0_advance_0 ++ []
theorem dksX0_advance_0 : cX0_advance.data.toList.drop 0 = dktX0_advance_0 := by decide +kernel
theorem dX0_advance_0 : decode cX0_advance 0 = .ok (.aload_n 2, 1) := dk_44 (dk_at dksX0_advance_0 0 rfl rfl)
theorem dX0_advance_1 : decode cX0_advance 1 = .ok (.iconst 0, 1) := dk_3 (dk_at dksX0_advance_0 1 rfl rfl)
theorem dX0_advance_2 : decode cX0_advance 2 = .ok (.aload_n 0, 1) := dk_42 (dk_at dksX0_advance_0 2 rfl rfl)
theorem dX0_advance_3 : decode cX0_advance 3 = .ok (.iload_n 1, 1) := dk_27 (dk_at dksX0_advance_0 3 rfl rfl)
theorem dX0_advance_4 : decode cX0_advance 4 = .ok (.invokevirtual 41, 3) := dk_182 0 41 (dk_at dksX0_advance_0 4 rfl rfl)
theorem dX0_advance_7 : decode cX0_advance 7 = .ok (.i2l, 1) := dk_133 (dk_at dksX0_advance_0 7 rfl rfl)
theorem dX0_advance_8 : decode cX0_advance 8 = .ok (.lastore, 1) := dk_80 (dk_at dksX0_advance_0 8 rfl rfl)
theorem dX0_advance_9 : decode cX0_advance 9 = .ok (.goto 6, 3) := dk_167 0 6 (dk_at dksX0_advance_0 9 rfl rfl)
theorem dX0_advance_12 : decode cX0_advance 12 = .ok (.astore_n 3, 1) := dk_78 (dk_at dksX0_advance_0 12 rfl rfl)
theorem dX0_advance_13 : decode cX0_advance 13 = .ok (.iconst 1, 1) := dk_4 (dk_at dksX0_advance_0 13 rfl rfl)
theorem dX0_advance_14 : decode cX0_advance 14 = .ok (.ireturn, 1) := dk_172 (dk_at dksX0_advance_0 14 rfl rfl)
theorem dX0_advance_15 : decode cX0_advance 15 = .ok (.iconst 0, 1) := dk_3 (dk_at dksX0_advance_0 15 rfl rfl)
theorem dX0_advance_16 : decode cX0_advance 16 = .ok (.ireturn, 1) := dk_172 (dk_at dksX0_advance_0 16 rfl rfl)
abbrev cX0_capacity : ByteArray := method_11_code
def yX0_capacity : MethodName := ⟨RX0, "capacity", "(LFilterWaterworks;I[J)I"⟩
def dkwX0_capacity_0 : List UInt8 := [44, 3, 42, 27, 182, 0, 44, 133, 80, 167, 0, 6, 78, 4, 172, 3, 172]
abbrev dktX0_capacity_0 : List UInt8 := dkwX0_capacity_0 ++ []
theorem dksX0_capacity_0 : cX0_capacity.data.toList.drop 0 = dktX0_capacity_0 := by decide +kernel
theorem dX0_capacity_0 : decode cX0_capacity 0 = .ok (.aload_n 2, 1) := dk_44 (dk_at dksX0_capacity_0 0 rfl rfl)
theorem dX0_capacity_1 : decode cX0_capacity 1 = .ok (.iconst 0, 1) := dk_3 (dk_at dksX0_capacity_0 1 rfl rfl)
theorem dX0_capacity_2 : decode cX0_capacity 2 = .ok (.aload_n 0, 1) := dk_42 (dk_at dksX0_capacity_0 2 rfl rfl)
theorem dX0_capacity_3 : decode cX0_capacity 3 = .ok (.iload_n 1, 1) := dk_27 (dk_at dksX0_capacity_0 3 rfl rfl)
theorem dX0_capacity_4 : decode cX0_capacity 4 = .ok (.invokevirtual 44, 3) := dk_182 0 44 (dk_at dksX0_capacity_0 4 rfl rfl)
theorem dX0_capacity_7 : decode cX0_capacity 7 = .ok (.i2l, 1) := dk_133 (dk_at dksX0_capacity_0 7 rfl rfl)
theorem dX0_capacity_8 : decode cX0_capacity 8 = .ok (.lastore, 1) := dk_80 (dk_at dksX0_capacity_0 8 rfl rfl)
theorem dX0_capacity_9 : decode cX0_capacity 9 = .ok (.goto 6, 3) := dk_167 0 6 (dk_at dksX0_capacity_0 9 rfl rfl)
theorem dX0_capacity_12 : decode cX0_capacity 12 = .ok (.astore_n 3, 1) := dk_78 (dk_at dksX0_capacity_0 12 rfl rfl)
theorem dX0_capacity_13 : decode cX0_capacity 13 = .ok (.iconst 1, 1) := dk_4 (dk_at dksX0_capacity_0 13 rfl rfl)
theorem dX0_capacity_14 : decode cX0_capacity 14 = .ok (.ireturn, 1) := dk_172 (dk_at dksX0_capacity_0 14 rfl rfl)
theorem dX0_capacity_15 : decode cX0_capacity 15 = .ok (.iconst 0, 1) := dk_3 (dk_at dksX0_capacity_0 15 rfl rfl)
theorem dX0_capacity_16 : decode cX0_capacity 16 = .ok (.ireturn, 1) := dk_172 (dk_at dksX0_capacity_0 16 rfl rfl)
abbrev cX0_content : ByteArray := method_12_code
def yX0_content : MethodName := ⟨RX0, "content", "(LFilterWaterworks;I[J)I"⟩
def dkwX0_content_0 : List UInt8 := [44, 3, 42, 27, 182, 0, 47, 133, 80, 167, 0, 6, 78, 4, 172, 3, 172]
abbrev dktX0_content_0 : List UInt8 := dkwX0_content_0 ++ []
theorem dksX0_content_0 : cX0_content.data.toList.drop 0 = dktX0_content_0 := by decide +kernel
theorem dX0_content_0 : decode cX0_content 0 = .ok (.aload_n 2, 1) := dk_44 (dk_at dksX0_content_0 0 rfl rfl)
theorem dX0_content_1 : decode cX0_content 1 = .ok (.iconst 0, 1) := dk_3 (dk_at dksX0_content_0 1 rfl rfl)
theorem dX0_content_2 : decode cX0_content 2 = .ok (.aload_n 0, 1) := dk_42 (dk_at dksX0_content_0 2 rfl rfl)
theorem dX0_content_3 : decode cX0_content 3 = .ok (.iload_n 1, 1) := dk_27 (dk_at dksX0_content_0 3 rfl rfl)
theorem dX0_content_4 : decode cX0_content 4 = .ok (.invokevirtual 47, 3) := dk_182 0 47 (dk_at dksX0_content_0 4 rfl rfl)
theorem dX0_content_7 : decode cX0_content 7 = .ok (.i2l, 1) := dk_133 (dk_at dksX0_content_0 7 rfl rfl)
theorem dX0_content_8 : decode cX0_content 8 = .ok (.lastore, 1) := dk_80 (dk_at dksX0_content_0 8 rfl rfl)
theorem dX0_content_9 : decode cX0_content 9 = .ok (.goto 6, 3) := dk_167 0 6 (dk_at dksX0_content_0 9 rfl rfl)
theorem dX0_content_12 : decode cX0_content 12 = .ok (.astore_n 3, 1) := dk_78 (dk_at dksX0_content_0 12 rfl rfl)
theorem dX0_content_13 : decode cX0_content 13 = .ok (.iconst 1, 1) := dk_4 (dk_at dksX0_content_0 13 rfl rfl)
theorem dX0_content_14 : decode cX0_content 14 = .ok (.ireturn, 1) := dk_172 (dk_at dksX0_content_0 14 rfl rfl)
theorem dX0_content_15 : decode cX0_content 15 = .ok (.iconst 0, 1) := dk_3 (dk_at dksX0_content_0 15 rfl rfl)
theorem dX0_content_16 : decode cX0_content 16 = .ok (.ireturn, 1) := dk_172 (dk_at dksX0_content_0 16 rfl rfl)
abbrev cX0_impurities : ByteArray := method_13_code
def yX0_impurities : MethodName := ⟨RX0, "impurities", "(LFilterWaterworks;I[J)I"⟩
def dkwX0_impurities_0 : List UInt8 := [44, 3, 42, 27, 182, 0, 50, 133, 80, 167, 0, 6, 78, 4, 172, 3, 172]
abbrev dktX0_impurities_0 : List UInt8 := dkwX0_impurities_0 ++ []
theorem dksX0_impurities_0 : cX0_impurities.data.toList.drop 0 = dktX0_impurities_0 := by decide +kernel
theorem dX0_impurities_0 : decode cX0_impurities 0 = .ok (.aload_n 2, 1) := dk_44 (dk_at dksX0_impurities_0 0 rfl rfl)
theorem dX0_impurities_1 : decode cX0_impurities 1 = .ok (.iconst 0, 1) := dk_3 (dk_at dksX0_impurities_0 1 rfl rfl)
theorem dX0_impurities_2 : decode cX0_impurities 2 = .ok (.aload_n 0, 1) := dk_42 (dk_at dksX0_impurities_0 2 rfl rfl)
theorem dX0_impurities_3 : decode cX0_impurities 3 = .ok (.iload_n 1, 1) := dk_27 (dk_at dksX0_impurities_0 3 rfl rfl)
theorem dX0_impurities_4 : decode cX0_impurities 4 = .ok (.invokevirtual 50, 3) := dk_182 0 50 (dk_at dksX0_impurities_0 4 rfl rfl)
theorem dX0_impurities_7 : decode cX0_impurities 7 = .ok (.i2l, 1) := dk_133 (dk_at dksX0_impurities_0 7 rfl rfl)
theorem dX0_impurities_8 : decode cX0_impurities 8 = .ok (.lastore, 1) := dk_80 (dk_at dksX0_impurities_0 8 rfl rfl)
theorem dX0_impurities_9 : decode cX0_impurities 9 = .ok (.goto 6, 3) := dk_167 0 6 (dk_at dksX0_impurities_0 9 rfl rfl)
theorem dX0_impurities_12 : decode cX0_impurities 12 = .ok (.astore_n 3, 1) := dk_78 (dk_at dksX0_impurities_0 12 rfl rfl)
theorem dX0_impurities_13 : decode cX0_impurities 13 = .ok (.iconst 1, 1) := dk_4 (dk_at dksX0_impurities_0 13 rfl rfl)
theorem dX0_impurities_14 : decode cX0_impurities 14 = .ok (.ireturn, 1) := dk_172 (dk_at dksX0_impurities_0 14 rfl rfl)
theorem dX0_impurities_15 : decode cX0_impurities 15 = .ok (.iconst 0, 1) := dk_3 (dk_at dksX0_impurities_0 15 rfl rfl)
theorem dX0_impurities_16 : decode cX0_impurities 16 = .ok (.ireturn, 1) := dk_172 (dk_at dksX0_impurities_0 16 rfl rfl)
abbrev cX0_hasImpurity : ByteArray := method_14_code
def yX0_hasImpurity : MethodName := ⟨RX0, "hasImpurity", "(LFilterWaterworks;IC[J)I"⟩
def dkwX0_hasImpurity_1 : List UInt8 := [58, 4, 5, 172, 3, 172]
abbrev dktX0_hasImpurity_1 : List UInt8 := dkwX0_hasImpurity_1 ++ []
def dkwX0_hasImpurity_0 : List UInt8 := [45, 3, 42, 27, 28, 182, 0, 53, 153, 0, 7, 10, 167, 0, 4, 9, 80, 167, 0, 11, 58, 4, 4, 172]
abbrev dktX0_hasImpurity_0 : List UInt8 := dkwX0_hasImpurity_0 ++ dktX0_hasImpurity_1
theorem dksX0_hasImpurity_0 : cX0_hasImpurity.data.toList.drop 0 = dktX0_hasImpurity_0 := by decide +kernel
theorem dksX0_hasImpurity_1 : cX0_hasImpurity.data.toList.drop 24 = dktX0_hasImpurity_1 := dk_seg dksX0_hasImpurity_0 24 rfl rfl
theorem dX0_hasImpurity_0 : decode cX0_hasImpurity 0 = .ok (.aload_n 3, 1) := dk_45 (dk_at dksX0_hasImpurity_0 0 rfl rfl)
theorem dX0_hasImpurity_1 : decode cX0_hasImpurity 1 = .ok (.iconst 0, 1) := dk_3 (dk_at dksX0_hasImpurity_0 1 rfl rfl)
theorem dX0_hasImpurity_2 : decode cX0_hasImpurity 2 = .ok (.aload_n 0, 1) := dk_42 (dk_at dksX0_hasImpurity_0 2 rfl rfl)
theorem dX0_hasImpurity_3 : decode cX0_hasImpurity 3 = .ok (.iload_n 1, 1) := dk_27 (dk_at dksX0_hasImpurity_0 3 rfl rfl)
theorem dX0_hasImpurity_4 : decode cX0_hasImpurity 4 = .ok (.iload_n 2, 1) := dk_28 (dk_at dksX0_hasImpurity_0 4 rfl rfl)
theorem dX0_hasImpurity_5 : decode cX0_hasImpurity 5 = .ok (.invokevirtual 53, 3) := dk_182 0 53 (dk_at dksX0_hasImpurity_0 5 rfl rfl)
theorem dX0_hasImpurity_8 : decode cX0_hasImpurity 8 = .ok (.ifCond .eq 7, 3) := dk_153 0 7 (dk_at dksX0_hasImpurity_0 8 rfl rfl)
theorem dX0_hasImpurity_11 : decode cX0_hasImpurity 11 = .ok (.lconst 1, 1) := dk_10 (dk_at dksX0_hasImpurity_0 11 rfl rfl)
theorem dX0_hasImpurity_12 : decode cX0_hasImpurity 12 = .ok (.goto 4, 3) := dk_167 0 4 (dk_at dksX0_hasImpurity_0 12 rfl rfl)
theorem dX0_hasImpurity_15 : decode cX0_hasImpurity 15 = .ok (.lconst 0, 1) := dk_9 (dk_at dksX0_hasImpurity_0 15 rfl rfl)
theorem dX0_hasImpurity_16 : decode cX0_hasImpurity 16 = .ok (.lastore, 1) := dk_80 (dk_at dksX0_hasImpurity_0 16 rfl rfl)
theorem dX0_hasImpurity_17 : decode cX0_hasImpurity 17 = .ok (.goto 11, 3) := dk_167 0 11 (dk_at dksX0_hasImpurity_0 17 rfl rfl)
theorem dX0_hasImpurity_20 : decode cX0_hasImpurity 20 = .ok (.astore 4, 2) := dk_58 4 (dk_at dksX0_hasImpurity_0 20 rfl rfl)
theorem dX0_hasImpurity_22 : decode cX0_hasImpurity 22 = .ok (.iconst 1, 1) := dk_4 (dk_at dksX0_hasImpurity_0 22 rfl rfl)
theorem dX0_hasImpurity_23 : decode cX0_hasImpurity 23 = .ok (.ireturn, 1) := dk_172 (dk_at dksX0_hasImpurity_0 23 rfl rfl)
theorem dX0_hasImpurity_24 : decode cX0_hasImpurity 24 = .ok (.astore 4, 2) := dk_58 4 (dk_at dksX0_hasImpurity_1 0 rfl rfl)
theorem dX0_hasImpurity_26 : decode cX0_hasImpurity 26 = .ok (.iconst 2, 1) := dk_5 (dk_at dksX0_hasImpurity_1 2 rfl rfl)
theorem dX0_hasImpurity_27 : decode cX0_hasImpurity 27 = .ok (.ireturn, 1) := dk_172 (dk_at dksX0_hasImpurity_1 3 rfl rfl)
theorem dX0_hasImpurity_28 : decode cX0_hasImpurity 28 = .ok (.iconst 0, 1) := dk_3 (dk_at dksX0_hasImpurity_1 4 rfl rfl)
theorem dX0_hasImpurity_29 : decode cX0_hasImpurity 29 = .ok (.ireturn, 1) := dk_172 (dk_at dksX0_hasImpurity_1 5 rfl rfl)
abbrev cX0_tankByContent : ByteArray := method_15_code
def yX0_tankByContent : MethodName := ⟨RX0, "tankByContent", "(LFilterWaterworks;I[J)I"⟩
def dkwX0_tankByContent_0 : List UInt8 := [44, 3, 42, 27, 182, 0, 57, 133, 80, 167, 0, 6, 78, 4, 172, 3, 172]
abbrev dktX0_tankByContent_0 : List UInt8 := dkwX0_tankByContent_0 ++ []
theorem dksX0_tankByContent_0 : cX0_tankByContent.data.toList.drop 0 = dktX0_tankByContent_0 := by decide +kernel
theorem dX0_tankByContent_0 : decode cX0_tankByContent 0 = .ok (.aload_n 2, 1) := dk_44 (dk_at dksX0_tankByContent_0 0 rfl rfl)
theorem dX0_tankByContent_1 : decode cX0_tankByContent 1 = .ok (.iconst 0, 1) := dk_3 (dk_at dksX0_tankByContent_0 1 rfl rfl)
theorem dX0_tankByContent_2 : decode cX0_tankByContent 2 = .ok (.aload_n 0, 1) := dk_42 (dk_at dksX0_tankByContent_0 2 rfl rfl)
theorem dX0_tankByContent_3 : decode cX0_tankByContent 3 = .ok (.iload_n 1, 1) := dk_27 (dk_at dksX0_tankByContent_0 3 rfl rfl)
theorem dX0_tankByContent_4 : decode cX0_tankByContent 4 = .ok (.invokevirtual 57, 3) := dk_182 0 57 (dk_at dksX0_tankByContent_0 4 rfl rfl)
theorem dX0_tankByContent_7 : decode cX0_tankByContent 7 = .ok (.i2l, 1) := dk_133 (dk_at dksX0_tankByContent_0 7 rfl rfl)
theorem dX0_tankByContent_8 : decode cX0_tankByContent 8 = .ok (.lastore, 1) := dk_80 (dk_at dksX0_tankByContent_0 8 rfl rfl)
theorem dX0_tankByContent_9 : decode cX0_tankByContent 9 = .ok (.goto 6, 3) := dk_167 0 6 (dk_at dksX0_tankByContent_0 9 rfl rfl)
theorem dX0_tankByContent_12 : decode cX0_tankByContent 12 = .ok (.astore_n 3, 1) := dk_78 (dk_at dksX0_tankByContent_0 12 rfl rfl)
theorem dX0_tankByContent_13 : decode cX0_tankByContent 13 = .ok (.iconst 1, 1) := dk_4 (dk_at dksX0_tankByContent_0 13 rfl rfl)
theorem dX0_tankByContent_14 : decode cX0_tankByContent 14 = .ok (.ireturn, 1) := dk_172 (dk_at dksX0_tankByContent_0 14 rfl rfl)
theorem dX0_tankByContent_15 : decode cX0_tankByContent 15 = .ok (.iconst 0, 1) := dk_3 (dk_at dksX0_tankByContent_0 15 rfl rfl)
theorem dX0_tankByContent_16 : decode cX0_tankByContent 16 = .ok (.ireturn, 1) := dk_172 (dk_at dksX0_tankByContent_0 16 rfl rfl)
abbrev cX0_fillShare : ByteArray := method_16_code
def yX0_fillShare : MethodName := ⟨RX0, "fillShare", "(LFilterWaterworks;I[D)I"⟩
def dkwX0_fillShare_0 : List UInt8 := [44, 3, 42, 27, 182, 0, 62, 141, 82, 167, 0, 6, 78, 4, 172, 3, 172]
abbrev dktX0_fillShare_0 : List UInt8 := dkwX0_fillShare_0 ++ []
theorem dksX0_fillShare_0 : cX0_fillShare.data.toList.drop 0 = dktX0_fillShare_0 := by decide +kernel
theorem dX0_fillShare_0 : decode cX0_fillShare 0 = .ok (.aload_n 2, 1) := dk_44 (dk_at dksX0_fillShare_0 0 rfl rfl)
theorem dX0_fillShare_1 : decode cX0_fillShare 1 = .ok (.iconst 0, 1) := dk_3 (dk_at dksX0_fillShare_0 1 rfl rfl)
theorem dX0_fillShare_2 : decode cX0_fillShare 2 = .ok (.aload_n 0, 1) := dk_42 (dk_at dksX0_fillShare_0 2 rfl rfl)
theorem dX0_fillShare_3 : decode cX0_fillShare 3 = .ok (.iload_n 1, 1) := dk_27 (dk_at dksX0_fillShare_0 3 rfl rfl)
theorem dX0_fillShare_4 : decode cX0_fillShare 4 = .ok (.invokevirtual 62, 3) := dk_182 0 62 (dk_at dksX0_fillShare_0 4 rfl rfl)
theorem dX0_fillShare_7 : decode cX0_fillShare 7 = .ok (.f2d, 1) := dk_141 (dk_at dksX0_fillShare_0 7 rfl rfl)
theorem dX0_fillShare_8 : decode cX0_fillShare 8 = .ok (.dastore, 1) := dk_82 (dk_at dksX0_fillShare_0 8 rfl rfl)
theorem dX0_fillShare_9 : decode cX0_fillShare 9 = .ok (.goto 6, 3) := dk_167 0 6 (dk_at dksX0_fillShare_0 9 rfl rfl)
theorem dX0_fillShare_12 : decode cX0_fillShare 12 = .ok (.astore_n 3, 1) := dk_78 (dk_at dksX0_fillShare_0 12 rfl rfl)
theorem dX0_fillShare_13 : decode cX0_fillShare 13 = .ok (.iconst 1, 1) := dk_4 (dk_at dksX0_fillShare_0 13 rfl rfl)
theorem dX0_fillShare_14 : decode cX0_fillShare 14 = .ok (.ireturn, 1) := dk_172 (dk_at dksX0_fillShare_0 14 rfl rfl)
theorem dX0_fillShare_15 : decode cX0_fillShare 15 = .ok (.iconst 0, 1) := dk_3 (dk_at dksX0_fillShare_0 15 rfl rfl)
theorem dX0_fillShare_16 : decode cX0_fillShare 16 = .ok (.ireturn, 1) := dk_172 (dk_at dksX0_fillShare_0 16 rfl rfl)
abbrev cX0_fillShareBits : ByteArray := method_17_code
def yX0_fillShareBits : MethodName := ⟨RX0, "fillShareBits", "(LFilterWaterworks;I[J)I"⟩
def dkwX0_fillShareBits_0 : List UInt8 := [44, 3, 42, 27, 182, 0, 66, 133, 80, 167, 0, 6, 78, 4, 172, 3, 172]
abbrev dktX0_fillShareBits_0 : List UInt8 := dkwX0_fillShareBits_0 ++ []
theorem dksX0_fillShareBits_0 : cX0_fillShareBits.data.toList.drop 0 = dktX0_fillShareBits_0 := by decide +kernel
theorem dX0_fillShareBits_0 : decode cX0_fillShareBits 0 = .ok (.aload_n 2, 1) := dk_44 (dk_at dksX0_fillShareBits_0 0 rfl rfl)
theorem dX0_fillShareBits_1 : decode cX0_fillShareBits 1 = .ok (.iconst 0, 1) := dk_3 (dk_at dksX0_fillShareBits_0 1 rfl rfl)
theorem dX0_fillShareBits_2 : decode cX0_fillShareBits 2 = .ok (.aload_n 0, 1) := dk_42 (dk_at dksX0_fillShareBits_0 2 rfl rfl)
theorem dX0_fillShareBits_3 : decode cX0_fillShareBits 3 = .ok (.iload_n 1, 1) := dk_27 (dk_at dksX0_fillShareBits_0 3 rfl rfl)
theorem dX0_fillShareBits_4 : decode cX0_fillShareBits 4 = .ok (.invokevirtual 66, 3) := dk_182 0 66 (dk_at dksX0_fillShareBits_0 4 rfl rfl)
theorem dX0_fillShareBits_7 : decode cX0_fillShareBits 7 = .ok (.i2l, 1) := dk_133 (dk_at dksX0_fillShareBits_0 7 rfl rfl)
theorem dX0_fillShareBits_8 : decode cX0_fillShareBits 8 = .ok (.lastore, 1) := dk_80 (dk_at dksX0_fillShareBits_0 8 rfl rfl)
theorem dX0_fillShareBits_9 : decode cX0_fillShareBits 9 = .ok (.goto 6, 3) := dk_167 0 6 (dk_at dksX0_fillShareBits_0 9 rfl rfl)
theorem dX0_fillShareBits_12 : decode cX0_fillShareBits 12 = .ok (.astore_n 3, 1) := dk_78 (dk_at dksX0_fillShareBits_0 12 rfl rfl)
theorem dX0_fillShareBits_13 : decode cX0_fillShareBits 13 = .ok (.iconst 1, 1) := dk_4 (dk_at dksX0_fillShareBits_0 13 rfl rfl)
theorem dX0_fillShareBits_14 : decode cX0_fillShareBits 14 = .ok (.ireturn, 1) := dk_172 (dk_at dksX0_fillShareBits_0 14 rfl rfl)
theorem dX0_fillShareBits_15 : decode cX0_fillShareBits 15 = .ok (.iconst 0, 1) := dk_3 (dk_at dksX0_fillShareBits_0 15 rfl rfl)
theorem dX0_fillShareBits_16 : decode cX0_fillShareBits 16 = .ok (.ireturn, 1) := dk_172 (dk_at dksX0_fillShareBits_0 16 rfl rfl)
abbrev cX0_firstOf : ByteArray := method_18_code
def yX0_firstOf : MethodName := ⟨RX0, "firstOf", "(LFilterWaterworks;I[J)I"⟩
def dkwX0_firstOf_0 : List UInt8 := [44, 3, 42, 27, 182, 0, 69, 133, 80, 167, 0, 6, 78, 4, 172, 3, 172]
abbrev dktX0_firstOf_0 : List UInt8 := dkwX0_firstOf_0 ++ []
theorem dksX0_firstOf_0 : cX0_firstOf.data.toList.drop 0 = dktX0_firstOf_0 := by decide +kernel
theorem dX0_firstOf_0 : decode cX0_firstOf 0 = .ok (.aload_n 2, 1) := dk_44 (dk_at dksX0_firstOf_0 0 rfl rfl)
theorem dX0_firstOf_1 : decode cX0_firstOf 1 = .ok (.iconst 0, 1) := dk_3 (dk_at dksX0_firstOf_0 1 rfl rfl)
theorem dX0_firstOf_2 : decode cX0_firstOf 2 = .ok (.aload_n 0, 1) := dk_42 (dk_at dksX0_firstOf_0 2 rfl rfl)
theorem dX0_firstOf_3 : decode cX0_firstOf 3 = .ok (.iload_n 1, 1) := dk_27 (dk_at dksX0_firstOf_0 3 rfl rfl)
theorem dX0_firstOf_4 : decode cX0_firstOf 4 = .ok (.invokevirtual 69, 3) := dk_182 0 69 (dk_at dksX0_firstOf_0 4 rfl rfl)
theorem dX0_firstOf_7 : decode cX0_firstOf 7 = .ok (.i2l, 1) := dk_133 (dk_at dksX0_firstOf_0 7 rfl rfl)
theorem dX0_firstOf_8 : decode cX0_firstOf 8 = .ok (.lastore, 1) := dk_80 (dk_at dksX0_firstOf_0 8 rfl rfl)
theorem dX0_firstOf_9 : decode cX0_firstOf 9 = .ok (.goto 6, 3) := dk_167 0 6 (dk_at dksX0_firstOf_0 9 rfl rfl)
theorem dX0_firstOf_12 : decode cX0_firstOf 12 = .ok (.astore_n 3, 1) := dk_78 (dk_at dksX0_firstOf_0 12 rfl rfl)
theorem dX0_firstOf_13 : decode cX0_firstOf 13 = .ok (.iconst 1, 1) := dk_4 (dk_at dksX0_firstOf_0 13 rfl rfl)
theorem dX0_firstOf_14 : decode cX0_firstOf 14 = .ok (.ireturn, 1) := dk_172 (dk_at dksX0_firstOf_0 14 rfl rfl)
theorem dX0_firstOf_15 : decode cX0_firstOf 15 = .ok (.iconst 0, 1) := dk_3 (dk_at dksX0_firstOf_0 15 rfl rfl)
theorem dX0_firstOf_16 : decode cX0_firstOf 16 = .ok (.ireturn, 1) := dk_172 (dk_at dksX0_firstOf_0 16 rfl rfl)
abbrev cX0_secondOf : ByteArray := method_19_code
def yX0_secondOf : MethodName := ⟨RX0, "secondOf", "(LFilterWaterworks;I[J)I"⟩
def dkwX0_secondOf_0 : List UInt8 := [44, 3, 42, 27, 182, 0, 72, 133, 80, 167, 0, 6, 78, 4, 172, 3, 172]
abbrev dktX0_secondOf_0 : List UInt8 := dkwX0_secondOf_0 ++ []
theorem dksX0_secondOf_0 : cX0_secondOf.data.toList.drop 0 = dktX0_secondOf_0 := by decide +kernel
theorem dX0_secondOf_0 : decode cX0_secondOf 0 = .ok (.aload_n 2, 1) := dk_44 (dk_at dksX0_secondOf_0 0 rfl rfl)
theorem dX0_secondOf_1 : decode cX0_secondOf 1 = .ok (.iconst 0, 1) := dk_3 (dk_at dksX0_secondOf_0 1 rfl rfl)
theorem dX0_secondOf_2 : decode cX0_secondOf 2 = .ok (.aload_n 0, 1) := dk_42 (dk_at dksX0_secondOf_0 2 rfl rfl)
theorem dX0_secondOf_3 : decode cX0_secondOf 3 = .ok (.iload_n 1, 1) := dk_27 (dk_at dksX0_secondOf_0 3 rfl rfl)
theorem dX0_secondOf_4 : decode cX0_secondOf 4 = .ok (.invokevirtual 72, 3) := dk_182 0 72 (dk_at dksX0_secondOf_0 4 rfl rfl)
theorem dX0_secondOf_7 : decode cX0_secondOf 7 = .ok (.i2l, 1) := dk_133 (dk_at dksX0_secondOf_0 7 rfl rfl)
theorem dX0_secondOf_8 : decode cX0_secondOf 8 = .ok (.lastore, 1) := dk_80 (dk_at dksX0_secondOf_0 8 rfl rfl)
theorem dX0_secondOf_9 : decode cX0_secondOf 9 = .ok (.goto 6, 3) := dk_167 0 6 (dk_at dksX0_secondOf_0 9 rfl rfl)
theorem dX0_secondOf_12 : decode cX0_secondOf 12 = .ok (.astore_n 3, 1) := dk_78 (dk_at dksX0_secondOf_0 12 rfl rfl)
theorem dX0_secondOf_13 : decode cX0_secondOf 13 = .ok (.iconst 1, 1) := dk_4 (dk_at dksX0_secondOf_0 13 rfl rfl)
theorem dX0_secondOf_14 : decode cX0_secondOf 14 = .ok (.ireturn, 1) := dk_172 (dk_at dksX0_secondOf_0 14 rfl rfl)
theorem dX0_secondOf_15 : decode cX0_secondOf 15 = .ok (.iconst 0, 1) := dk_3 (dk_at dksX0_secondOf_0 15 rfl rfl)
theorem dX0_secondOf_16 : decode cX0_secondOf 16 = .ok (.ireturn, 1) := dk_172 (dk_at dksX0_secondOf_0 16 rfl rfl)
abbrev cX0_valve : ByteArray := method_20_code
def yX0_valve : MethodName := ⟨RX0, "valve", "(LFilterWaterworks;I[J)I"⟩
def dkwX0_valve_0 : List UInt8 := [44, 3, 42, 27, 182, 0, 75, 133, 80, 167, 0, 6, 78, 4, 172, 3, 172]
abbrev dktX0_valve_0 : List UInt8 := dkwX0_valve_0 ++ []
theorem dksX0_valve_0 : cX0_valve.data.toList.drop 0 = dktX0_valve_0 := by decide +kernel
theorem dX0_valve_0 : decode cX0_valve 0 = .ok (.aload_n 2, 1) := dk_44 (dk_at dksX0_valve_0 0 rfl rfl)
theorem dX0_valve_1 : decode cX0_valve 1 = .ok (.iconst 0, 1) := dk_3 (dk_at dksX0_valve_0 1 rfl rfl)
theorem dX0_valve_2 : decode cX0_valve 2 = .ok (.aload_n 0, 1) := dk_42 (dk_at dksX0_valve_0 2 rfl rfl)
theorem dX0_valve_3 : decode cX0_valve 3 = .ok (.iload_n 1, 1) := dk_27 (dk_at dksX0_valve_0 3 rfl rfl)
theorem dX0_valve_4 : decode cX0_valve 4 = .ok (.invokevirtual 75, 3) := dk_182 0 75 (dk_at dksX0_valve_0 4 rfl rfl)
theorem dX0_valve_7 : decode cX0_valve 7 = .ok (.i2l, 1) := dk_133 (dk_at dksX0_valve_0 7 rfl rfl)
theorem dX0_valve_8 : decode cX0_valve 8 = .ok (.lastore, 1) := dk_80 (dk_at dksX0_valve_0 8 rfl rfl)
theorem dX0_valve_9 : decode cX0_valve 9 = .ok (.goto 6, 3) := dk_167 0 6 (dk_at dksX0_valve_0 9 rfl rfl)
theorem dX0_valve_12 : decode cX0_valve 12 = .ok (.astore_n 3, 1) := dk_78 (dk_at dksX0_valve_0 12 rfl rfl)
theorem dX0_valve_13 : decode cX0_valve 13 = .ok (.iconst 1, 1) := dk_4 (dk_at dksX0_valve_0 13 rfl rfl)
theorem dX0_valve_14 : decode cX0_valve 14 = .ok (.ireturn, 1) := dk_172 (dk_at dksX0_valve_0 14 rfl rfl)
theorem dX0_valve_15 : decode cX0_valve 15 = .ok (.iconst 0, 1) := dk_3 (dk_at dksX0_valve_0 15 rfl rfl)
theorem dX0_valve_16 : decode cX0_valve 16 = .ok (.ireturn, 1) := dk_172 (dk_at dksX0_valve_0 16 rfl rfl)
abbrev cX0_leak : ByteArray := method_21_code
def yX0_leak : MethodName := ⟨RX0, "leak", "(LFilterWaterworks;I[J)I"⟩
def dkwX0_leak_0 : List UInt8 := [44, 3, 42, 27, 182, 0, 78, 133, 80, 167, 0, 6, 78, 4, 172, 3, 172]
abbrev dktX0_leak_0 : List UInt8 := dkwX0_leak_0 ++ []
theorem dksX0_leak_0 : cX0_leak.data.toList.drop 0 = dktX0_leak_0 := by decide +kernel
theorem dX0_leak_0 : decode cX0_leak 0 = .ok (.aload_n 2, 1) := dk_44 (dk_at dksX0_leak_0 0 rfl rfl)
theorem dX0_leak_1 : decode cX0_leak 1 = .ok (.iconst 0, 1) := dk_3 (dk_at dksX0_leak_0 1 rfl rfl)
theorem dX0_leak_2 : decode cX0_leak 2 = .ok (.aload_n 0, 1) := dk_42 (dk_at dksX0_leak_0 2 rfl rfl)
theorem dX0_leak_3 : decode cX0_leak 3 = .ok (.iload_n 1, 1) := dk_27 (dk_at dksX0_leak_0 3 rfl rfl)
theorem dX0_leak_4 : decode cX0_leak 4 = .ok (.invokevirtual 78, 3) := dk_182 0 78 (dk_at dksX0_leak_0 4 rfl rfl)
theorem dX0_leak_7 : decode cX0_leak 7 = .ok (.i2l, 1) := dk_133 (dk_at dksX0_leak_0 7 rfl rfl)
theorem dX0_leak_8 : decode cX0_leak 8 = .ok (.lastore, 1) := dk_80 (dk_at dksX0_leak_0 8 rfl rfl)
theorem dX0_leak_9 : decode cX0_leak 9 = .ok (.goto 6, 3) := dk_167 0 6 (dk_at dksX0_leak_0 9 rfl rfl)
theorem dX0_leak_12 : decode cX0_leak 12 = .ok (.astore_n 3, 1) := dk_78 (dk_at dksX0_leak_0 12 rfl rfl)
theorem dX0_leak_13 : decode cX0_leak 13 = .ok (.iconst 1, 1) := dk_4 (dk_at dksX0_leak_0 13 rfl rfl)
theorem dX0_leak_14 : decode cX0_leak 14 = .ok (.ireturn, 1) := dk_172 (dk_at dksX0_leak_0 14 rfl rfl)
theorem dX0_leak_15 : decode cX0_leak 15 = .ok (.iconst 0, 1) := dk_3 (dk_at dksX0_leak_0 15 rfl rfl)
theorem dX0_leak_16 : decode cX0_leak 16 = .ok (.ireturn, 1) := dk_172 (dk_at dksX0_leak_0 16 rfl rfl)
abbrev cX0_mesh : ByteArray := method_22_code
def yX0_mesh : MethodName := ⟨RX0, "mesh", "(LFilterWaterworks;I[J)I"⟩
def dkwX0_mesh_0 : List UInt8 := [44, 3, 42, 27, 182, 0, 81, 133, 80, 167, 0, 6, 78, 4, 172, 3, 172]
abbrev dktX0_mesh_0 : List UInt8 := dkwX0_mesh_0 ++ []
theorem dksX0_mesh_0 : cX0_mesh.data.toList.drop 0 = dktX0_mesh_0 := by decide +kernel
theorem dX0_mesh_0 : decode cX0_mesh 0 = .ok (.aload_n 2, 1) := dk_44 (dk_at dksX0_mesh_0 0 rfl rfl)
theorem dX0_mesh_1 : decode cX0_mesh 1 = .ok (.iconst 0, 1) := dk_3 (dk_at dksX0_mesh_0 1 rfl rfl)
theorem dX0_mesh_2 : decode cX0_mesh 2 = .ok (.aload_n 0, 1) := dk_42 (dk_at dksX0_mesh_0 2 rfl rfl)
theorem dX0_mesh_3 : decode cX0_mesh 3 = .ok (.iload_n 1, 1) := dk_27 (dk_at dksX0_mesh_0 3 rfl rfl)
theorem dX0_mesh_4 : decode cX0_mesh 4 = .ok (.invokevirtual 81, 3) := dk_182 0 81 (dk_at dksX0_mesh_0 4 rfl rfl)
theorem dX0_mesh_7 : decode cX0_mesh 7 = .ok (.i2l, 1) := dk_133 (dk_at dksX0_mesh_0 7 rfl rfl)
theorem dX0_mesh_8 : decode cX0_mesh 8 = .ok (.lastore, 1) := dk_80 (dk_at dksX0_mesh_0 8 rfl rfl)
theorem dX0_mesh_9 : decode cX0_mesh 9 = .ok (.goto 6, 3) := dk_167 0 6 (dk_at dksX0_mesh_0 9 rfl rfl)
theorem dX0_mesh_12 : decode cX0_mesh 12 = .ok (.astore_n 3, 1) := dk_78 (dk_at dksX0_mesh_0 12 rfl rfl)
theorem dX0_mesh_13 : decode cX0_mesh 13 = .ok (.iconst 1, 1) := dk_4 (dk_at dksX0_mesh_0 13 rfl rfl)
theorem dX0_mesh_14 : decode cX0_mesh 14 = .ok (.ireturn, 1) := dk_172 (dk_at dksX0_mesh_0 14 rfl rfl)
theorem dX0_mesh_15 : decode cX0_mesh 15 = .ok (.iconst 0, 1) := dk_3 (dk_at dksX0_mesh_0 15 rfl rfl)
theorem dX0_mesh_16 : decode cX0_mesh 16 = .ok (.ireturn, 1) := dk_172 (dk_at dksX0_mesh_0 16 rfl rfl)
abbrev cX0_dirt : ByteArray := method_23_code
def yX0_dirt : MethodName := ⟨RX0, "dirt", "(LFilterWaterworks;I[J)I"⟩
def dkwX0_dirt_0 : List UInt8 := [44, 3, 42, 27, 182, 0, 84, 133, 80, 167, 0, 6, 78, 4, 172, 3, 172]
abbrev dktX0_dirt_0 : List UInt8 := dkwX0_dirt_0 ++ []
theorem dksX0_dirt_0 : cX0_dirt.data.toList.drop 0 = dktX0_dirt_0 := by decide +kernel
theorem dX0_dirt_0 : decode cX0_dirt 0 = .ok (.aload_n 2, 1) := dk_44 (dk_at dksX0_dirt_0 0 rfl rfl)
theorem dX0_dirt_1 : decode cX0_dirt 1 = .ok (.iconst 0, 1) := dk_3 (dk_at dksX0_dirt_0 1 rfl rfl)
theorem dX0_dirt_2 : decode cX0_dirt 2 = .ok (.aload_n 0, 1) := dk_42 (dk_at dksX0_dirt_0 2 rfl rfl)
theorem dX0_dirt_3 : decode cX0_dirt 3 = .ok (.iload_n 1, 1) := dk_27 (dk_at dksX0_dirt_0 3 rfl rfl)
theorem dX0_dirt_4 : decode cX0_dirt 4 = .ok (.invokevirtual 84, 3) := dk_182 0 84 (dk_at dksX0_dirt_0 4 rfl rfl)
theorem dX0_dirt_7 : decode cX0_dirt 7 = .ok (.i2l, 1) := dk_133 (dk_at dksX0_dirt_0 7 rfl rfl)
theorem dX0_dirt_8 : decode cX0_dirt 8 = .ok (.lastore, 1) := dk_80 (dk_at dksX0_dirt_0 8 rfl rfl)
theorem dX0_dirt_9 : decode cX0_dirt 9 = .ok (.goto 6, 3) := dk_167 0 6 (dk_at dksX0_dirt_0 9 rfl rfl)
theorem dX0_dirt_12 : decode cX0_dirt 12 = .ok (.astore_n 3, 1) := dk_78 (dk_at dksX0_dirt_0 12 rfl rfl)
theorem dX0_dirt_13 : decode cX0_dirt 13 = .ok (.iconst 1, 1) := dk_4 (dk_at dksX0_dirt_0 13 rfl rfl)
theorem dX0_dirt_14 : decode cX0_dirt 14 = .ok (.ireturn, 1) := dk_172 (dk_at dksX0_dirt_0 14 rfl rfl)
theorem dX0_dirt_15 : decode cX0_dirt 15 = .ok (.iconst 0, 1) := dk_3 (dk_at dksX0_dirt_0 15 rfl rfl)
theorem dX0_dirt_16 : decode cX0_dirt 16 = .ok (.ireturn, 1) := dk_172 (dk_at dksX0_dirt_0 16 rfl rfl)
abbrev cX0_isOpen : ByteArray := method_24_code
def yX0_isOpen : MethodName := ⟨RX0, "isOpen", "(LFilterWaterworks;I[J)I"⟩
def dkwX0_isOpen_0 : List UInt8 := [44, 3, 42, 27, 182, 0, 87, 153, 0, 7, 10, 167, 0, 4, 9, 80, 167, 0, 6, 78, 4, 172, 3, 172]
abbrev dktX0_isOpen_0 : List UInt8 := dkwX0_isOpen_0 ++ []
theorem dksX0_isOpen_0 : cX0_isOpen.data.toList.drop 0 = dktX0_isOpen_0 := by decide +kernel
theorem dX0_isOpen_0 : decode cX0_isOpen 0 = .ok (.aload_n 2, 1) := dk_44 (dk_at dksX0_isOpen_0 0 rfl rfl)
theorem dX0_isOpen_1 : decode cX0_isOpen 1 = .ok (.iconst 0, 1) := dk_3 (dk_at dksX0_isOpen_0 1 rfl rfl)
theorem dX0_isOpen_2 : decode cX0_isOpen 2 = .ok (.aload_n 0, 1) := dk_42 (dk_at dksX0_isOpen_0 2 rfl rfl)
theorem dX0_isOpen_3 : decode cX0_isOpen 3 = .ok (.iload_n 1, 1) := dk_27 (dk_at dksX0_isOpen_0 3 rfl rfl)
theorem dX0_isOpen_4 : decode cX0_isOpen 4 = .ok (.invokevirtual 87, 3) := dk_182 0 87 (dk_at dksX0_isOpen_0 4 rfl rfl)
theorem dX0_isOpen_7 : decode cX0_isOpen 7 = .ok (.ifCond .eq 7, 3) := dk_153 0 7 (dk_at dksX0_isOpen_0 7 rfl rfl)
theorem dX0_isOpen_10 : decode cX0_isOpen 10 = .ok (.lconst 1, 1) := dk_10 (dk_at dksX0_isOpen_0 10 rfl rfl)
theorem dX0_isOpen_11 : decode cX0_isOpen 11 = .ok (.goto 4, 3) := dk_167 0 4 (dk_at dksX0_isOpen_0 11 rfl rfl)
theorem dX0_isOpen_14 : decode cX0_isOpen 14 = .ok (.lconst 0, 1) := dk_9 (dk_at dksX0_isOpen_0 14 rfl rfl)
theorem dX0_isOpen_15 : decode cX0_isOpen 15 = .ok (.lastore, 1) := dk_80 (dk_at dksX0_isOpen_0 15 rfl rfl)
theorem dX0_isOpen_16 : decode cX0_isOpen 16 = .ok (.goto 6, 3) := dk_167 0 6 (dk_at dksX0_isOpen_0 16 rfl rfl)
theorem dX0_isOpen_19 : decode cX0_isOpen 19 = .ok (.astore_n 3, 1) := dk_78 (dk_at dksX0_isOpen_0 19 rfl rfl)
theorem dX0_isOpen_20 : decode cX0_isOpen 20 = .ok (.iconst 1, 1) := dk_4 (dk_at dksX0_isOpen_0 20 rfl rfl)
theorem dX0_isOpen_21 : decode cX0_isOpen 21 = .ok (.ireturn, 1) := dk_172 (dk_at dksX0_isOpen_0 21 rfl rfl)
theorem dX0_isOpen_22 : decode cX0_isOpen 22 = .ok (.iconst 0, 1) := dk_3 (dk_at dksX0_isOpen_0 22 rfl rfl)
theorem dX0_isOpen_23 : decode cX0_isOpen 23 = .ok (.ireturn, 1) := dk_172 (dk_at dksX0_isOpen_0 23 rfl rfl)
abbrev cX0_flow : ByteArray := method_25_code
def yX0_flow : MethodName := ⟨RX0, "flow", "(LFilterWaterworks;I[J)I"⟩
def dkwX0_flow_0 : List UInt8 := [44, 3, 42, 27, 182, 0, 91, 133, 80, 167, 0, 6, 78, 4, 172, 3, 172]
abbrev dktX0_flow_0 : List UInt8 := dkwX0_flow_0 ++ []
theorem dksX0_flow_0 : cX0_flow.data.toList.drop 0 = dktX0_flow_0 := by decide +kernel
theorem dX0_flow_0 : decode cX0_flow 0 = .ok (.aload_n 2, 1) := dk_44 (dk_at dksX0_flow_0 0 rfl rfl)
theorem dX0_flow_1 : decode cX0_flow 1 = .ok (.iconst 0, 1) := dk_3 (dk_at dksX0_flow_0 1 rfl rfl)
theorem dX0_flow_2 : decode cX0_flow 2 = .ok (.aload_n 0, 1) := dk_42 (dk_at dksX0_flow_0 2 rfl rfl)
theorem dX0_flow_3 : decode cX0_flow 3 = .ok (.iload_n 1, 1) := dk_27 (dk_at dksX0_flow_0 3 rfl rfl)
theorem dX0_flow_4 : decode cX0_flow 4 = .ok (.invokevirtual 91, 3) := dk_182 0 91 (dk_at dksX0_flow_0 4 rfl rfl)
theorem dX0_flow_7 : decode cX0_flow 7 = .ok (.i2l, 1) := dk_133 (dk_at dksX0_flow_0 7 rfl rfl)
theorem dX0_flow_8 : decode cX0_flow 8 = .ok (.lastore, 1) := dk_80 (dk_at dksX0_flow_0 8 rfl rfl)
theorem dX0_flow_9 : decode cX0_flow 9 = .ok (.goto 6, 3) := dk_167 0 6 (dk_at dksX0_flow_0 9 rfl rfl)
theorem dX0_flow_12 : decode cX0_flow 12 = .ok (.astore_n 3, 1) := dk_78 (dk_at dksX0_flow_0 12 rfl rfl)
theorem dX0_flow_13 : decode cX0_flow 13 = .ok (.iconst 1, 1) := dk_4 (dk_at dksX0_flow_0 13 rfl rfl)
theorem dX0_flow_14 : decode cX0_flow 14 = .ok (.ireturn, 1) := dk_172 (dk_at dksX0_flow_0 14 rfl rfl)
theorem dX0_flow_15 : decode cX0_flow 15 = .ok (.iconst 0, 1) := dk_3 (dk_at dksX0_flow_0 15 rfl rfl)
theorem dX0_flow_16 : decode cX0_flow 16 = .ok (.ireturn, 1) := dk_172 (dk_at dksX0_flow_0 16 rfl rfl)
abbrev cX0_litresThrough : ByteArray := method_26_code
def yX0_litresThrough : MethodName := ⟨RX0, "litresThrough", "(LFilterWaterworks;I[J)I"⟩
def dkwX0_litresThrough_0 : List UInt8 := [44, 3, 42, 27, 182, 0, 94, 133, 80, 167, 0, 6, 78, 4, 172, 3, 172]
abbrev dktX0_litresThrough_0 : List UInt8 := dkwX0_litresThrough_0 ++ []
theorem dksX0_litresThrough_0 : cX0_litresThrough.data.toList.drop 0 = dktX0_litresThrough_0 := by decide +kernel
theorem dX0_litresThrough_0 : decode cX0_litresThrough 0 = .ok (.aload_n 2, 1) := dk_44 (dk_at dksX0_litresThrough_0 0 rfl rfl)
theorem dX0_litresThrough_1 : decode cX0_litresThrough 1 = .ok (.iconst 0, 1) := dk_3 (dk_at dksX0_litresThrough_0 1 rfl rfl)
theorem dX0_litresThrough_2 : decode cX0_litresThrough 2 = .ok (.aload_n 0, 1) := dk_42 (dk_at dksX0_litresThrough_0 2 rfl rfl)
theorem dX0_litresThrough_3 : decode cX0_litresThrough 3 = .ok (.iload_n 1, 1) := dk_27 (dk_at dksX0_litresThrough_0 3 rfl rfl)
theorem dX0_litresThrough_4 : decode cX0_litresThrough 4 = .ok (.invokevirtual 94, 3) := dk_182 0 94 (dk_at dksX0_litresThrough_0 4 rfl rfl)
theorem dX0_litresThrough_7 : decode cX0_litresThrough 7 = .ok (.i2l, 1) := dk_133 (dk_at dksX0_litresThrough_0 7 rfl rfl)
theorem dX0_litresThrough_8 : decode cX0_litresThrough 8 = .ok (.lastore, 1) := dk_80 (dk_at dksX0_litresThrough_0 8 rfl rfl)
theorem dX0_litresThrough_9 : decode cX0_litresThrough 9 = .ok (.goto 6, 3) := dk_167 0 6 (dk_at dksX0_litresThrough_0 9 rfl rfl)
theorem dX0_litresThrough_12 : decode cX0_litresThrough 12 = .ok (.astore_n 3, 1) := dk_78 (dk_at dksX0_litresThrough_0 12 rfl rfl)
theorem dX0_litresThrough_13 : decode cX0_litresThrough 13 = .ok (.iconst 1, 1) := dk_4 (dk_at dksX0_litresThrough_0 13 rfl rfl)
theorem dX0_litresThrough_14 : decode cX0_litresThrough 14 = .ok (.ireturn, 1) := dk_172 (dk_at dksX0_litresThrough_0 14 rfl rfl)
theorem dX0_litresThrough_15 : decode cX0_litresThrough 15 = .ok (.iconst 0, 1) := dk_3 (dk_at dksX0_litresThrough_0 15 rfl rfl)
theorem dX0_litresThrough_16 : decode cX0_litresThrough 16 = .ok (.ireturn, 1) := dk_172 (dk_at dksX0_litresThrough_0 16 rfl rfl)
abbrev cX0_pipeByDirt : ByteArray := method_27_code
def yX0_pipeByDirt : MethodName := ⟨RX0, "pipeByDirt", "(LFilterWaterworks;I[J)I"⟩
def dkwX0_pipeByDirt_0 : List UInt8 := [44, 3, 42, 27, 182, 0, 97, 133, 80, 167, 0, 6, 78, 4, 172, 3, 172]
abbrev dktX0_pipeByDirt_0 : List UInt8 := dkwX0_pipeByDirt_0 ++ []
theorem dksX0_pipeByDirt_0 : cX0_pipeByDirt.data.toList.drop 0 = dktX0_pipeByDirt_0 := by decide +kernel
theorem dX0_pipeByDirt_0 : decode cX0_pipeByDirt 0 = .ok (.aload_n 2, 1) := dk_44 (dk_at dksX0_pipeByDirt_0 0 rfl rfl)
theorem dX0_pipeByDirt_1 : decode cX0_pipeByDirt 1 = .ok (.iconst 0, 1) := dk_3 (dk_at dksX0_pipeByDirt_0 1 rfl rfl)
theorem dX0_pipeByDirt_2 : decode cX0_pipeByDirt 2 = .ok (.aload_n 0, 1) := dk_42 (dk_at dksX0_pipeByDirt_0 2 rfl rfl)
theorem dX0_pipeByDirt_3 : decode cX0_pipeByDirt 3 = .ok (.iload_n 1, 1) := dk_27 (dk_at dksX0_pipeByDirt_0 3 rfl rfl)
theorem dX0_pipeByDirt_4 : decode cX0_pipeByDirt 4 = .ok (.invokevirtual 97, 3) := dk_182 0 97 (dk_at dksX0_pipeByDirt_0 4 rfl rfl)
theorem dX0_pipeByDirt_7 : decode cX0_pipeByDirt 7 = .ok (.i2l, 1) := dk_133 (dk_at dksX0_pipeByDirt_0 7 rfl rfl)
theorem dX0_pipeByDirt_8 : decode cX0_pipeByDirt 8 = .ok (.lastore, 1) := dk_80 (dk_at dksX0_pipeByDirt_0 8 rfl rfl)
theorem dX0_pipeByDirt_9 : decode cX0_pipeByDirt 9 = .ok (.goto 6, 3) := dk_167 0 6 (dk_at dksX0_pipeByDirt_0 9 rfl rfl)
theorem dX0_pipeByDirt_12 : decode cX0_pipeByDirt 12 = .ok (.astore_n 3, 1) := dk_78 (dk_at dksX0_pipeByDirt_0 12 rfl rfl)
theorem dX0_pipeByDirt_13 : decode cX0_pipeByDirt 13 = .ok (.iconst 1, 1) := dk_4 (dk_at dksX0_pipeByDirt_0 13 rfl rfl)
theorem dX0_pipeByDirt_14 : decode cX0_pipeByDirt 14 = .ok (.ireturn, 1) := dk_172 (dk_at dksX0_pipeByDirt_0 14 rfl rfl)
theorem dX0_pipeByDirt_15 : decode cX0_pipeByDirt 15 = .ok (.iconst 0, 1) := dk_3 (dk_at dksX0_pipeByDirt_0 15 rfl rfl)
theorem dX0_pipeByDirt_16 : decode cX0_pipeByDirt 16 = .ok (.ireturn, 1) := dk_172 (dk_at dksX0_pipeByDirt_0 16 rfl rfl)
abbrev cX0_areConnected : ByteArray := method_28_code
def yX0_areConnected : MethodName := ⟨RX0, "areConnected", "(LFilterWaterworks;II[J)I"⟩
def dkwX0_areConnected_1 : List UInt8 := [3, 172]
abbrev dktX0_areConnected_1 : List UInt8 := dkwX0_areConnected_1 ++ []
def dkwX0_areConnected_0 : List UInt8 := [45, 3, 42, 27, 28, 182, 0, 100, 153, 0, 7, 10, 167, 0, 4, 9, 80, 167, 0, 7, 58, 4, 4, 172]
abbrev dktX0_areConnected_0 : List UInt8 := dkwX0_areConnected_0 ++ dktX0_areConnected_1
theorem dksX0_areConnected_0 : cX0_areConnected.data.toList.drop 0 = dktX0_areConnected_0 := by decide +kernel
theorem dksX0_areConnected_1 : cX0_areConnected.data.toList.drop 24 = dktX0_areConnected_1 := dk_seg dksX0_areConnected_0 24 rfl rfl
theorem dX0_areConnected_0 : decode cX0_areConnected 0 = .ok (.aload_n 3, 1) := dk_45 (dk_at dksX0_areConnected_0 0 rfl rfl)
theorem dX0_areConnected_1 : decode cX0_areConnected 1 = .ok (.iconst 0, 1) := dk_3 (dk_at dksX0_areConnected_0 1 rfl rfl)
theorem dX0_areConnected_2 : decode cX0_areConnected 2 = .ok (.aload_n 0, 1) := dk_42 (dk_at dksX0_areConnected_0 2 rfl rfl)
theorem dX0_areConnected_3 : decode cX0_areConnected 3 = .ok (.iload_n 1, 1) := dk_27 (dk_at dksX0_areConnected_0 3 rfl rfl)
theorem dX0_areConnected_4 : decode cX0_areConnected 4 = .ok (.iload_n 2, 1) := dk_28 (dk_at dksX0_areConnected_0 4 rfl rfl)
theorem dX0_areConnected_5 : decode cX0_areConnected 5 = .ok (.invokevirtual 100, 3) := dk_182 0 100 (dk_at dksX0_areConnected_0 5 rfl rfl)
theorem dX0_areConnected_8 : decode cX0_areConnected 8 = .ok (.ifCond .eq 7, 3) := dk_153 0 7 (dk_at dksX0_areConnected_0 8 rfl rfl)
theorem dX0_areConnected_11 : decode cX0_areConnected 11 = .ok (.lconst 1, 1) := dk_10 (dk_at dksX0_areConnected_0 11 rfl rfl)
theorem dX0_areConnected_12 : decode cX0_areConnected 12 = .ok (.goto 4, 3) := dk_167 0 4 (dk_at dksX0_areConnected_0 12 rfl rfl)
theorem dX0_areConnected_15 : decode cX0_areConnected 15 = .ok (.lconst 0, 1) := dk_9 (dk_at dksX0_areConnected_0 15 rfl rfl)
theorem dX0_areConnected_16 : decode cX0_areConnected 16 = .ok (.lastore, 1) := dk_80 (dk_at dksX0_areConnected_0 16 rfl rfl)
theorem dX0_areConnected_17 : decode cX0_areConnected 17 = .ok (.goto 7, 3) := dk_167 0 7 (dk_at dksX0_areConnected_0 17 rfl rfl)
theorem dX0_areConnected_20 : decode cX0_areConnected 20 = .ok (.astore 4, 2) := dk_58 4 (dk_at dksX0_areConnected_0 20 rfl rfl)
theorem dX0_areConnected_22 : decode cX0_areConnected 22 = .ok (.iconst 1, 1) := dk_4 (dk_at dksX0_areConnected_0 22 rfl rfl)
theorem dX0_areConnected_23 : decode cX0_areConnected 23 = .ok (.ireturn, 1) := dk_172 (dk_at dksX0_areConnected_0 23 rfl rfl)
theorem dX0_areConnected_24 : decode cX0_areConnected 24 = .ok (.iconst 0, 1) := dk_3 (dk_at dksX0_areConnected_1 0 rfl rfl)
theorem dX0_areConnected_25 : decode cX0_areConnected 25 = .ok (.ireturn, 1) := dk_172 (dk_at dksX0_areConnected_1 1 rfl rfl)
abbrev cX0_isBridge : ByteArray := method_29_code
def yX0_isBridge : MethodName := ⟨RX0, "isBridge", "(LFilterWaterworks;I[J)I"⟩
def dkwX0_isBridge_0 : List UInt8 := [44, 3, 42, 27, 182, 0, 104, 153, 0, 7, 10, 167, 0, 4, 9, 80, 167, 0, 6, 78, 4, 172, 3, 172]
abbrev dktX0_isBridge_0 : List UInt8 := dkwX0_isBridge_0 ++ []
theorem dksX0_isBridge_0 : cX0_isBridge.data.toList.drop 0 = dktX0_isBridge_0 := by decide +kernel
theorem dX0_isBridge_0 : decode cX0_isBridge 0 = .ok (.aload_n 2, 1) := dk_44 (dk_at dksX0_isBridge_0 0 rfl rfl)
theorem dX0_isBridge_1 : decode cX0_isBridge 1 = .ok (.iconst 0, 1) := dk_3 (dk_at dksX0_isBridge_0 1 rfl rfl)
theorem dX0_isBridge_2 : decode cX0_isBridge 2 = .ok (.aload_n 0, 1) := dk_42 (dk_at dksX0_isBridge_0 2 rfl rfl)
theorem dX0_isBridge_3 : decode cX0_isBridge 3 = .ok (.iload_n 1, 1) := dk_27 (dk_at dksX0_isBridge_0 3 rfl rfl)
theorem dX0_isBridge_4 : decode cX0_isBridge 4 = .ok (.invokevirtual 104, 3) := dk_182 0 104 (dk_at dksX0_isBridge_0 4 rfl rfl)
theorem dX0_isBridge_7 : decode cX0_isBridge 7 = .ok (.ifCond .eq 7, 3) := dk_153 0 7 (dk_at dksX0_isBridge_0 7 rfl rfl)
theorem dX0_isBridge_10 : decode cX0_isBridge 10 = .ok (.lconst 1, 1) := dk_10 (dk_at dksX0_isBridge_0 10 rfl rfl)
theorem dX0_isBridge_11 : decode cX0_isBridge 11 = .ok (.goto 4, 3) := dk_167 0 4 (dk_at dksX0_isBridge_0 11 rfl rfl)
theorem dX0_isBridge_14 : decode cX0_isBridge 14 = .ok (.lconst 0, 1) := dk_9 (dk_at dksX0_isBridge_0 14 rfl rfl)
theorem dX0_isBridge_15 : decode cX0_isBridge 15 = .ok (.lastore, 1) := dk_80 (dk_at dksX0_isBridge_0 15 rfl rfl)
theorem dX0_isBridge_16 : decode cX0_isBridge 16 = .ok (.goto 6, 3) := dk_167 0 6 (dk_at dksX0_isBridge_0 16 rfl rfl)
theorem dX0_isBridge_19 : decode cX0_isBridge 19 = .ok (.astore_n 3, 1) := dk_78 (dk_at dksX0_isBridge_0 19 rfl rfl)
theorem dX0_isBridge_20 : decode cX0_isBridge 20 = .ok (.iconst 1, 1) := dk_4 (dk_at dksX0_isBridge_0 20 rfl rfl)
theorem dX0_isBridge_21 : decode cX0_isBridge 21 = .ok (.ireturn, 1) := dk_172 (dk_at dksX0_isBridge_0 21 rfl rfl)
theorem dX0_isBridge_22 : decode cX0_isBridge 22 = .ok (.iconst 0, 1) := dk_3 (dk_at dksX0_isBridge_0 22 rfl rfl)
theorem dX0_isBridge_23 : decode cX0_isBridge 23 = .ok (.ireturn, 1) := dk_172 (dk_at dksX0_isBridge_0 23 rfl rfl)
abbrev cX0_width : ByteArray := method_30_code
def yX0_width : MethodName := ⟨RX0, "width", "(LFilterWaterworks;II[J)I"⟩
def dkwX0_width_0 : List UInt8 := [45, 3, 42, 27, 28, 182, 0, 107, 133, 80, 167, 0, 7, 58, 4, 4, 172, 3, 172]
abbrev dktX0_width_0 : List UInt8 := dkwX0_width_0 ++ []
theorem dksX0_width_0 : cX0_width.data.toList.drop 0 = dktX0_width_0 := by decide +kernel
theorem dX0_width_0 : decode cX0_width 0 = .ok (.aload_n 3, 1) := dk_45 (dk_at dksX0_width_0 0 rfl rfl)
theorem dX0_width_1 : decode cX0_width 1 = .ok (.iconst 0, 1) := dk_3 (dk_at dksX0_width_0 1 rfl rfl)
theorem dX0_width_2 : decode cX0_width 2 = .ok (.aload_n 0, 1) := dk_42 (dk_at dksX0_width_0 2 rfl rfl)
theorem dX0_width_3 : decode cX0_width 3 = .ok (.iload_n 1, 1) := dk_27 (dk_at dksX0_width_0 3 rfl rfl)
theorem dX0_width_4 : decode cX0_width 4 = .ok (.iload_n 2, 1) := dk_28 (dk_at dksX0_width_0 4 rfl rfl)
theorem dX0_width_5 : decode cX0_width 5 = .ok (.invokevirtual 107, 3) := dk_182 0 107 (dk_at dksX0_width_0 5 rfl rfl)
theorem dX0_width_8 : decode cX0_width 8 = .ok (.i2l, 1) := dk_133 (dk_at dksX0_width_0 8 rfl rfl)
theorem dX0_width_9 : decode cX0_width 9 = .ok (.lastore, 1) := dk_80 (dk_at dksX0_width_0 9 rfl rfl)
theorem dX0_width_10 : decode cX0_width 10 = .ok (.goto 7, 3) := dk_167 0 7 (dk_at dksX0_width_0 10 rfl rfl)
theorem dX0_width_13 : decode cX0_width 13 = .ok (.astore 4, 2) := dk_58 4 (dk_at dksX0_width_0 13 rfl rfl)
theorem dX0_width_15 : decode cX0_width 15 = .ok (.iconst 1, 1) := dk_4 (dk_at dksX0_width_0 15 rfl rfl)
theorem dX0_width_16 : decode cX0_width 16 = .ok (.ireturn, 1) := dk_172 (dk_at dksX0_width_0 16 rfl rfl)
theorem dX0_width_17 : decode cX0_width 17 = .ok (.iconst 0, 1) := dk_3 (dk_at dksX0_width_0 17 rfl rfl)
theorem dX0_width_18 : decode cX0_width 18 = .ok (.ireturn, 1) := dk_172 (dk_at dksX0_width_0 18 rfl rfl)
abbrev cX0_widthBySettings : ByteArray := method_31_code
def yX0_widthBySettings : MethodName := ⟨RX0, "widthBySettings", "(LFilterWaterworks;II[J)I"⟩
def dkwX0_widthBySettings_0 : List UInt8 := [45, 3, 42, 27, 28, 182, 0, 110, 133, 80, 167, 0, 7, 58, 4, 4, 172, 3, 172]
abbrev dktX0_widthBySettings_0 : List UInt8 := dkwX0_widthBySettings_0 ++ []
theorem dksX0_widthBySettings_0 : cX0_widthBySettings.data.toList.drop 0 = dktX0_widthBySettings_0 := by decide +kernel
theorem dX0_widthBySettings_0 : decode cX0_widthBySettings 0 = .ok (.aload_n 3, 1) := dk_45 (dk_at dksX0_widthBySettings_0 0 rfl rfl)
theorem dX0_widthBySettings_1 : decode cX0_widthBySettings 1 = .ok (.iconst 0, 1) := dk_3 (dk_at dksX0_widthBySettings_0 1 rfl rfl)
theorem dX0_widthBySettings_2 : decode cX0_widthBySettings 2 = .ok (.aload_n 0, 1) := dk_42 (dk_at dksX0_widthBySettings_0 2 rfl rfl)
theorem dX0_widthBySettings_3 : decode cX0_widthBySettings 3 = .ok (.iload_n 1, 1) := dk_27 (dk_at dksX0_widthBySettings_0 3 rfl rfl)
theorem dX0_widthBySettings_4 : decode cX0_widthBySettings 4 = .ok (.iload_n 2, 1) := dk_28 (dk_at dksX0_widthBySettings_0 4 rfl rfl)
theorem dX0_widthBySettings_5 : decode cX0_widthBySettings 5 = .ok (.invokevirtual 110, 3) := dk_182 0 110 (dk_at dksX0_widthBySettings_0 5 rfl rfl)
theorem dX0_widthBySettings_8 : decode cX0_widthBySettings 8 = .ok (.i2l, 1) := dk_133 (dk_at dksX0_widthBySettings_0 8 rfl rfl)
theorem dX0_widthBySettings_9 : decode cX0_widthBySettings 9 = .ok (.lastore, 1) := dk_80 (dk_at dksX0_widthBySettings_0 9 rfl rfl)
theorem dX0_widthBySettings_10 : decode cX0_widthBySettings 10 = .ok (.goto 7, 3) := dk_167 0 7 (dk_at dksX0_widthBySettings_0 10 rfl rfl)
theorem dX0_widthBySettings_13 : decode cX0_widthBySettings 13 = .ok (.astore 4, 2) := dk_58 4 (dk_at dksX0_widthBySettings_0 13 rfl rfl)
theorem dX0_widthBySettings_15 : decode cX0_widthBySettings 15 = .ok (.iconst 1, 1) := dk_4 (dk_at dksX0_widthBySettings_0 15 rfl rfl)
theorem dX0_widthBySettings_16 : decode cX0_widthBySettings 16 = .ok (.ireturn, 1) := dk_172 (dk_at dksX0_widthBySettings_0 16 rfl rfl)
theorem dX0_widthBySettings_17 : decode cX0_widthBySettings 17 = .ok (.iconst 0, 1) := dk_3 (dk_at dksX0_widthBySettings_0 17 rfl rfl)
theorem dX0_widthBySettings_18 : decode cX0_widthBySettings 18 = .ok (.ireturn, 1) := dk_172 (dk_at dksX0_widthBySettings_0 18 rfl rfl)
abbrev cX0_cleanest : ByteArray := method_32_code
def yX0_cleanest : MethodName := ⟨RX0, "cleanest", "(LFilterWaterworks;II[J)I"⟩
def dkwX0_cleanest_0 : List UInt8 := [45, 3, 42, 27, 28, 182, 0, 113, 133, 80, 167, 0, 11, 58, 4, 4, 172, 58, 4, 5, 172, 3, 172]
abbrev dktX0_cleanest_0 : List UInt8 := dkwX0_cleanest_0 ++ []
theorem dksX0_cleanest_0 : cX0_cleanest.data.toList.drop 0 = dktX0_cleanest_0 := by decide +kernel
theorem dX0_cleanest_0 : decode cX0_cleanest 0 = .ok (.aload_n 3, 1) := dk_45 (dk_at dksX0_cleanest_0 0 rfl rfl)
theorem dX0_cleanest_1 : decode cX0_cleanest 1 = .ok (.iconst 0, 1) := dk_3 (dk_at dksX0_cleanest_0 1 rfl rfl)
theorem dX0_cleanest_2 : decode cX0_cleanest 2 = .ok (.aload_n 0, 1) := dk_42 (dk_at dksX0_cleanest_0 2 rfl rfl)
theorem dX0_cleanest_3 : decode cX0_cleanest 3 = .ok (.iload_n 1, 1) := dk_27 (dk_at dksX0_cleanest_0 3 rfl rfl)
theorem dX0_cleanest_4 : decode cX0_cleanest 4 = .ok (.iload_n 2, 1) := dk_28 (dk_at dksX0_cleanest_0 4 rfl rfl)
theorem dX0_cleanest_5 : decode cX0_cleanest 5 = .ok (.invokevirtual 113, 3) := dk_182 0 113 (dk_at dksX0_cleanest_0 5 rfl rfl)
theorem dX0_cleanest_8 : decode cX0_cleanest 8 = .ok (.i2l, 1) := dk_133 (dk_at dksX0_cleanest_0 8 rfl rfl)
theorem dX0_cleanest_9 : decode cX0_cleanest 9 = .ok (.lastore, 1) := dk_80 (dk_at dksX0_cleanest_0 9 rfl rfl)
theorem dX0_cleanest_10 : decode cX0_cleanest 10 = .ok (.goto 11, 3) := dk_167 0 11 (dk_at dksX0_cleanest_0 10 rfl rfl)
theorem dX0_cleanest_13 : decode cX0_cleanest 13 = .ok (.astore 4, 2) := dk_58 4 (dk_at dksX0_cleanest_0 13 rfl rfl)
theorem dX0_cleanest_15 : decode cX0_cleanest 15 = .ok (.iconst 1, 1) := dk_4 (dk_at dksX0_cleanest_0 15 rfl rfl)
theorem dX0_cleanest_16 : decode cX0_cleanest 16 = .ok (.ireturn, 1) := dk_172 (dk_at dksX0_cleanest_0 16 rfl rfl)
theorem dX0_cleanest_17 : decode cX0_cleanest 17 = .ok (.astore 4, 2) := dk_58 4 (dk_at dksX0_cleanest_0 17 rfl rfl)
theorem dX0_cleanest_19 : decode cX0_cleanest 19 = .ok (.iconst 2, 1) := dk_5 (dk_at dksX0_cleanest_0 19 rfl rfl)
theorem dX0_cleanest_20 : decode cX0_cleanest 20 = .ok (.ireturn, 1) := dk_172 (dk_at dksX0_cleanest_0 20 rfl rfl)
theorem dX0_cleanest_21 : decode cX0_cleanest 21 = .ok (.iconst 0, 1) := dk_3 (dk_at dksX0_cleanest_0 21 rfl rfl)
theorem dX0_cleanest_22 : decode cX0_cleanest 22 = .ok (.ireturn, 1) := dk_172 (dk_at dksX0_cleanest_0 22 rfl rfl)
abbrev cX0_cleanestByPasses : ByteArray := method_33_code
def yX0_cleanestByPasses : MethodName := ⟨RX0, "cleanestByPasses", "(LFilterWaterworks;II[J)I"⟩
def dkwX0_cleanestByPasses_0 : List UInt8 := [45, 3, 42, 27, 28, 182, 0, 116, 133, 80, 167, 0, 11, 58, 4, 4, 172, 58, 4, 5, 172, 3, 172]
abbrev dktX0_cleanestByPasses_0 : List UInt8 := dkwX0_cleanestByPasses_0 ++ []
theorem dksX0_cleanestByPasses_0 : cX0_cleanestByPasses.data.toList.drop 0 = dktX0_cleanestByPasses_0 := by decide +kernel
theorem dX0_cleanestByPasses_0 : decode cX0_cleanestByPasses 0 = .ok (.aload_n 3, 1) := dk_45 (dk_at dksX0_cleanestByPasses_0 0 rfl rfl)
theorem dX0_cleanestByPasses_1 : decode cX0_cleanestByPasses 1 = .ok (.iconst 0, 1) := dk_3 (dk_at dksX0_cleanestByPasses_0 1 rfl rfl)
theorem dX0_cleanestByPasses_2 : decode cX0_cleanestByPasses 2 = .ok (.aload_n 0, 1) := dk_42 (dk_at dksX0_cleanestByPasses_0 2 rfl rfl)
theorem dX0_cleanestByPasses_3 : decode cX0_cleanestByPasses 3 = .ok (.iload_n 1, 1) := dk_27 (dk_at dksX0_cleanestByPasses_0 3 rfl rfl)
theorem dX0_cleanestByPasses_4 : decode cX0_cleanestByPasses 4 = .ok (.iload_n 2, 1) := dk_28 (dk_at dksX0_cleanestByPasses_0 4 rfl rfl)
theorem dX0_cleanestByPasses_5 : decode cX0_cleanestByPasses 5 = .ok (.invokevirtual 116, 3) := dk_182 0 116 (dk_at dksX0_cleanestByPasses_0 5 rfl rfl)
theorem dX0_cleanestByPasses_8 : decode cX0_cleanestByPasses 8 = .ok (.i2l, 1) := dk_133 (dk_at dksX0_cleanestByPasses_0 8 rfl rfl)
theorem dX0_cleanestByPasses_9 : decode cX0_cleanestByPasses 9 = .ok (.lastore, 1) := dk_80 (dk_at dksX0_cleanestByPasses_0 9 rfl rfl)
theorem dX0_cleanestByPasses_10 : decode cX0_cleanestByPasses 10 = .ok (.goto 11, 3) := dk_167 0 11 (dk_at dksX0_cleanestByPasses_0 10 rfl rfl)
theorem dX0_cleanestByPasses_13 : decode cX0_cleanestByPasses 13 = .ok (.astore 4, 2) := dk_58 4 (dk_at dksX0_cleanestByPasses_0 13 rfl rfl)
theorem dX0_cleanestByPasses_15 : decode cX0_cleanestByPasses 15 = .ok (.iconst 1, 1) := dk_4 (dk_at dksX0_cleanestByPasses_0 15 rfl rfl)
theorem dX0_cleanestByPasses_16 : decode cX0_cleanestByPasses 16 = .ok (.ireturn, 1) := dk_172 (dk_at dksX0_cleanestByPasses_0 16 rfl rfl)
theorem dX0_cleanestByPasses_17 : decode cX0_cleanestByPasses 17 = .ok (.astore 4, 2) := dk_58 4 (dk_at dksX0_cleanestByPasses_0 17 rfl rfl)
theorem dX0_cleanestByPasses_19 : decode cX0_cleanestByPasses 19 = .ok (.iconst 2, 1) := dk_5 (dk_at dksX0_cleanestByPasses_0 19 rfl rfl)
theorem dX0_cleanestByPasses_20 : decode cX0_cleanestByPasses 20 = .ok (.ireturn, 1) := dk_172 (dk_at dksX0_cleanestByPasses_0 20 rfl rfl)
theorem dX0_cleanestByPasses_21 : decode cX0_cleanestByPasses 21 = .ok (.iconst 0, 1) := dk_3 (dk_at dksX0_cleanestByPasses_0 21 rfl rfl)
theorem dX0_cleanestByPasses_22 : decode cX0_cleanestByPasses 22 = .ok (.ireturn, 1) := dk_172 (dk_at dksX0_cleanestByPasses_0 22 rfl rfl)
abbrev cX0_minutesUntilStill : ByteArray := method_34_code
def yX0_minutesUntilStill : MethodName := ⟨RX0, "minutesUntilStill", "(LFilterWaterworks;[J)I"⟩
def dkwX0_minutesUntilStill_0 : List UInt8 := [43, 3, 42, 182, 0, 119, 133, 80, 167, 0, 6, 77, 4, 172, 3, 172]
abbrev dktX0_minutesUntilStill_0 : List UInt8 := dkwX0_minutesUntilStill_0 ++ []
theorem dksX0_minutesUntilStill_0 : cX0_minutesUntilStill.data.toList.drop 0 = dktX0_minutesUntilStill_0 := by decide +kernel
theorem dX0_minutesUntilStill_0 : decode cX0_minutesUntilStill 0 = .ok (.aload_n 1, 1) := dk_43 (dk_at dksX0_minutesUntilStill_0 0 rfl rfl)
theorem dX0_minutesUntilStill_1 : decode cX0_minutesUntilStill 1 = .ok (.iconst 0, 1) := dk_3 (dk_at dksX0_minutesUntilStill_0 1 rfl rfl)
theorem dX0_minutesUntilStill_2 : decode cX0_minutesUntilStill 2 = .ok (.aload_n 0, 1) := dk_42 (dk_at dksX0_minutesUntilStill_0 2 rfl rfl)
theorem dX0_minutesUntilStill_3 : decode cX0_minutesUntilStill 3 = .ok (.invokevirtual 119, 3) := dk_182 0 119 (dk_at dksX0_minutesUntilStill_0 3 rfl rfl)
theorem dX0_minutesUntilStill_6 : decode cX0_minutesUntilStill 6 = .ok (.i2l, 1) := dk_133 (dk_at dksX0_minutesUntilStill_0 6 rfl rfl)
theorem dX0_minutesUntilStill_7 : decode cX0_minutesUntilStill 7 = .ok (.lastore, 1) := dk_80 (dk_at dksX0_minutesUntilStill_0 7 rfl rfl)
theorem dX0_minutesUntilStill_8 : decode cX0_minutesUntilStill 8 = .ok (.goto 6, 3) := dk_167 0 6 (dk_at dksX0_minutesUntilStill_0 8 rfl rfl)
theorem dX0_minutesUntilStill_11 : decode cX0_minutesUntilStill 11 = .ok (.astore_n 2, 1) := dk_77 (dk_at dksX0_minutesUntilStill_0 11 rfl rfl)
theorem dX0_minutesUntilStill_12 : decode cX0_minutesUntilStill 12 = .ok (.iconst 1, 1) := dk_4 (dk_at dksX0_minutesUntilStill_0 12 rfl rfl)
theorem dX0_minutesUntilStill_13 : decode cX0_minutesUntilStill 13 = .ok (.ireturn, 1) := dk_172 (dk_at dksX0_minutesUntilStill_0 13 rfl rfl)
theorem dX0_minutesUntilStill_14 : decode cX0_minutesUntilStill 14 = .ok (.iconst 0, 1) := dk_3 (dk_at dksX0_minutesUntilStill_0 14 rfl rfl)
theorem dX0_minutesUntilStill_15 : decode cX0_minutesUntilStill 15 = .ok (.ireturn, 1) := dk_172 (dk_at dksX0_minutesUntilStill_0 15 rfl rfl)
abbrev cX0_meanContent : ByteArray := method_35_code
def yX0_meanContent : MethodName := ⟨RX0, "meanContent", "(LFilterWaterworks;[D)I"⟩
def dkwX0_meanContent_0 : List UInt8 := [43, 3, 42, 182, 0, 123, 82, 167, 0, 6, 77, 4, 172, 3, 172]
abbrev dktX0_meanContent_0 : List UInt8 := dkwX0_meanContent_0 ++ []
theorem dksX0_meanContent_0 : cX0_meanContent.data.toList.drop 0 = dktX0_meanContent_0 := by decide +kernel
theorem dX0_meanContent_0 : decode cX0_meanContent 0 = .ok (.aload_n 1, 1) := dk_43 (dk_at dksX0_meanContent_0 0 rfl rfl)
theorem dX0_meanContent_1 : decode cX0_meanContent 1 = .ok (.iconst 0, 1) := dk_3 (dk_at dksX0_meanContent_0 1 rfl rfl)
theorem dX0_meanContent_2 : decode cX0_meanContent 2 = .ok (.aload_n 0, 1) := dk_42 (dk_at dksX0_meanContent_0 2 rfl rfl)
theorem dX0_meanContent_3 : decode cX0_meanContent 3 = .ok (.invokevirtual 123, 3) := dk_182 0 123 (dk_at dksX0_meanContent_0 3 rfl rfl)
theorem dX0_meanContent_6 : decode cX0_meanContent 6 = .ok (.dastore, 1) := dk_82 (dk_at dksX0_meanContent_0 6 rfl rfl)
theorem dX0_meanContent_7 : decode cX0_meanContent 7 = .ok (.goto 6, 3) := dk_167 0 6 (dk_at dksX0_meanContent_0 7 rfl rfl)
theorem dX0_meanContent_10 : decode cX0_meanContent 10 = .ok (.astore_n 2, 1) := dk_77 (dk_at dksX0_meanContent_0 10 rfl rfl)
theorem dX0_meanContent_11 : decode cX0_meanContent 11 = .ok (.iconst 1, 1) := dk_4 (dk_at dksX0_meanContent_0 11 rfl rfl)
theorem dX0_meanContent_12 : decode cX0_meanContent 12 = .ok (.ireturn, 1) := dk_172 (dk_at dksX0_meanContent_0 12 rfl rfl)
theorem dX0_meanContent_13 : decode cX0_meanContent 13 = .ok (.iconst 0, 1) := dk_3 (dk_at dksX0_meanContent_0 13 rfl rfl)
theorem dX0_meanContent_14 : decode cX0_meanContent 14 = .ok (.ireturn, 1) := dk_172 (dk_at dksX0_meanContent_0 14 rfl rfl)
abbrev cX0_meanContentBits : ByteArray := method_36_code
def yX0_meanContentBits : MethodName := ⟨RX0, "meanContentBits", "(LFilterWaterworks;[J)I"⟩
def dkwX0_meanContentBits_0 : List UInt8 := [43, 3, 42, 182, 0, 129, 80, 167, 0, 6, 77, 4, 172, 3, 172]
abbrev dktX0_meanContentBits_0 : List UInt8 := dkwX0_meanContentBits_0 ++ []
theorem dksX0_meanContentBits_0 : cX0_meanContentBits.data.toList.drop 0 = dktX0_meanContentBits_0 := by decide +kernel
theorem dX0_meanContentBits_0 : decode cX0_meanContentBits 0 = .ok (.aload_n 1, 1) := dk_43 (dk_at dksX0_meanContentBits_0 0 rfl rfl)
theorem dX0_meanContentBits_1 : decode cX0_meanContentBits 1 = .ok (.iconst 0, 1) := dk_3 (dk_at dksX0_meanContentBits_0 1 rfl rfl)
theorem dX0_meanContentBits_2 : decode cX0_meanContentBits 2 = .ok (.aload_n 0, 1) := dk_42 (dk_at dksX0_meanContentBits_0 2 rfl rfl)
theorem dX0_meanContentBits_3 : decode cX0_meanContentBits 3 = .ok (.invokevirtual 129, 3) := dk_182 0 129 (dk_at dksX0_meanContentBits_0 3 rfl rfl)
theorem dX0_meanContentBits_6 : decode cX0_meanContentBits 6 = .ok (.lastore, 1) := dk_80 (dk_at dksX0_meanContentBits_0 6 rfl rfl)
theorem dX0_meanContentBits_7 : decode cX0_meanContentBits 7 = .ok (.goto 6, 3) := dk_167 0 6 (dk_at dksX0_meanContentBits_0 7 rfl rfl)
theorem dX0_meanContentBits_10 : decode cX0_meanContentBits 10 = .ok (.astore_n 2, 1) := dk_77 (dk_at dksX0_meanContentBits_0 10 rfl rfl)
theorem dX0_meanContentBits_11 : decode cX0_meanContentBits 11 = .ok (.iconst 1, 1) := dk_4 (dk_at dksX0_meanContentBits_0 11 rfl rfl)
theorem dX0_meanContentBits_12 : decode cX0_meanContentBits 12 = .ok (.ireturn, 1) := dk_172 (dk_at dksX0_meanContentBits_0 12 rfl rfl)
theorem dX0_meanContentBits_13 : decode cX0_meanContentBits 13 = .ok (.iconst 0, 1) := dk_3 (dk_at dksX0_meanContentBits_0 13 rfl rfl)
theorem dX0_meanContentBits_14 : decode cX0_meanContentBits 14 = .ok (.ireturn, 1) := dk_172 (dk_at dksX0_meanContentBits_0 14 rfl rfl)
abbrev cX0_renderTank : ByteArray := method_37_code
def yX0_renderTank : MethodName := ⟨RX0, "renderTank", "(LFilterWaterworks;I[J)I"⟩
def dkwX0_renderTank_0 : List UInt8 := [44, 3, 42, 27, 182, 0, 133, 133, 80, 167, 0, 6, 78, 4, 172, 3, 172]
abbrev dktX0_renderTank_0 : List UInt8 := dkwX0_renderTank_0 ++ []
theorem dksX0_renderTank_0 : cX0_renderTank.data.toList.drop 0 = dktX0_renderTank_0 := by decide +kernel
theorem dX0_renderTank_0 : decode cX0_renderTank 0 = .ok (.aload_n 2, 1) := dk_44 (dk_at dksX0_renderTank_0 0 rfl rfl)
theorem dX0_renderTank_1 : decode cX0_renderTank 1 = .ok (.iconst 0, 1) := dk_3 (dk_at dksX0_renderTank_0 1 rfl rfl)
theorem dX0_renderTank_2 : decode cX0_renderTank 2 = .ok (.aload_n 0, 1) := dk_42 (dk_at dksX0_renderTank_0 2 rfl rfl)
theorem dX0_renderTank_3 : decode cX0_renderTank 3 = .ok (.iload_n 1, 1) := dk_27 (dk_at dksX0_renderTank_0 3 rfl rfl)
theorem dX0_renderTank_4 : decode cX0_renderTank 4 = .ok (.invokevirtual 133, 3) := dk_182 0 133 (dk_at dksX0_renderTank_0 4 rfl rfl)
theorem dX0_renderTank_7 : decode cX0_renderTank 7 = .ok (.i2l, 1) := dk_133 (dk_at dksX0_renderTank_0 7 rfl rfl)
theorem dX0_renderTank_8 : decode cX0_renderTank 8 = .ok (.lastore, 1) := dk_80 (dk_at dksX0_renderTank_0 8 rfl rfl)
theorem dX0_renderTank_9 : decode cX0_renderTank 9 = .ok (.goto 6, 3) := dk_167 0 6 (dk_at dksX0_renderTank_0 9 rfl rfl)
theorem dX0_renderTank_12 : decode cX0_renderTank 12 = .ok (.astore_n 3, 1) := dk_78 (dk_at dksX0_renderTank_0 12 rfl rfl)
theorem dX0_renderTank_13 : decode cX0_renderTank 13 = .ok (.iconst 1, 1) := dk_4 (dk_at dksX0_renderTank_0 13 rfl rfl)
theorem dX0_renderTank_14 : decode cX0_renderTank 14 = .ok (.ireturn, 1) := dk_172 (dk_at dksX0_renderTank_0 14 rfl rfl)
theorem dX0_renderTank_15 : decode cX0_renderTank 15 = .ok (.iconst 0, 1) := dk_3 (dk_at dksX0_renderTank_0 15 rfl rfl)
theorem dX0_renderTank_16 : decode cX0_renderTank 16 = .ok (.ireturn, 1) := dk_172 (dk_at dksX0_renderTank_0 16 rfl rfl)
abbrev cX0_renderPipe : ByteArray := method_38_code
def yX0_renderPipe : MethodName := ⟨RX0, "renderPipe", "(LFilterWaterworks;I[J)I"⟩
def dkwX0_renderPipe_0 : List UInt8 := [44, 3, 42, 27, 182, 0, 136, 133, 80, 167, 0, 6, 78, 4, 172, 3, 172]
abbrev dktX0_renderPipe_0 : List UInt8 := dkwX0_renderPipe_0 ++ []
theorem dksX0_renderPipe_0 : cX0_renderPipe.data.toList.drop 0 = dktX0_renderPipe_0 := by decide +kernel
theorem dX0_renderPipe_0 : decode cX0_renderPipe 0 = .ok (.aload_n 2, 1) := dk_44 (dk_at dksX0_renderPipe_0 0 rfl rfl)
theorem dX0_renderPipe_1 : decode cX0_renderPipe 1 = .ok (.iconst 0, 1) := dk_3 (dk_at dksX0_renderPipe_0 1 rfl rfl)
theorem dX0_renderPipe_2 : decode cX0_renderPipe 2 = .ok (.aload_n 0, 1) := dk_42 (dk_at dksX0_renderPipe_0 2 rfl rfl)
theorem dX0_renderPipe_3 : decode cX0_renderPipe 3 = .ok (.iload_n 1, 1) := dk_27 (dk_at dksX0_renderPipe_0 3 rfl rfl)
theorem dX0_renderPipe_4 : decode cX0_renderPipe 4 = .ok (.invokevirtual 136, 3) := dk_182 0 136 (dk_at dksX0_renderPipe_0 4 rfl rfl)
theorem dX0_renderPipe_7 : decode cX0_renderPipe 7 = .ok (.i2l, 1) := dk_133 (dk_at dksX0_renderPipe_0 7 rfl rfl)
theorem dX0_renderPipe_8 : decode cX0_renderPipe 8 = .ok (.lastore, 1) := dk_80 (dk_at dksX0_renderPipe_0 8 rfl rfl)
theorem dX0_renderPipe_9 : decode cX0_renderPipe 9 = .ok (.goto 6, 3) := dk_167 0 6 (dk_at dksX0_renderPipe_0 9 rfl rfl)
theorem dX0_renderPipe_12 : decode cX0_renderPipe 12 = .ok (.astore_n 3, 1) := dk_78 (dk_at dksX0_renderPipe_0 12 rfl rfl)
theorem dX0_renderPipe_13 : decode cX0_renderPipe 13 = .ok (.iconst 1, 1) := dk_4 (dk_at dksX0_renderPipe_0 13 rfl rfl)
theorem dX0_renderPipe_14 : decode cX0_renderPipe 14 = .ok (.ireturn, 1) := dk_172 (dk_at dksX0_renderPipe_0 14 rfl rfl)
theorem dX0_renderPipe_15 : decode cX0_renderPipe 15 = .ok (.iconst 0, 1) := dk_3 (dk_at dksX0_renderPipe_0 15 rfl rfl)
theorem dX0_renderPipe_16 : decode cX0_renderPipe 16 = .ok (.ireturn, 1) := dk_172 (dk_at dksX0_renderPipe_0 16 rfl rfl)
abbrev cX0_outputAt : ByteArray := method_39_code
def yX0_outputAt : MethodName := ⟨RX0, "outputAt", "(LFilterWaterworks;I[J)I"⟩
def dkwX0_outputAt_0 : List UInt8 := [44, 3, 42, 27, 182, 0, 139, 133, 80, 167, 0, 6, 78, 4, 172, 3, 172]
abbrev dktX0_outputAt_0 : List UInt8 := dkwX0_outputAt_0 ++ []
theorem dksX0_outputAt_0 : cX0_outputAt.data.toList.drop 0 = dktX0_outputAt_0 := by decide +kernel
theorem dX0_outputAt_0 : decode cX0_outputAt 0 = .ok (.aload_n 2, 1) := dk_44 (dk_at dksX0_outputAt_0 0 rfl rfl)
theorem dX0_outputAt_1 : decode cX0_outputAt 1 = .ok (.iconst 0, 1) := dk_3 (dk_at dksX0_outputAt_0 1 rfl rfl)
theorem dX0_outputAt_2 : decode cX0_outputAt 2 = .ok (.aload_n 0, 1) := dk_42 (dk_at dksX0_outputAt_0 2 rfl rfl)
theorem dX0_outputAt_3 : decode cX0_outputAt 3 = .ok (.iload_n 1, 1) := dk_27 (dk_at dksX0_outputAt_0 3 rfl rfl)
theorem dX0_outputAt_4 : decode cX0_outputAt 4 = .ok (.invokevirtual 139, 3) := dk_182 0 139 (dk_at dksX0_outputAt_0 4 rfl rfl)
theorem dX0_outputAt_7 : decode cX0_outputAt 7 = .ok (.i2l, 1) := dk_133 (dk_at dksX0_outputAt_0 7 rfl rfl)
theorem dX0_outputAt_8 : decode cX0_outputAt 8 = .ok (.lastore, 1) := dk_80 (dk_at dksX0_outputAt_0 8 rfl rfl)
theorem dX0_outputAt_9 : decode cX0_outputAt 9 = .ok (.goto 6, 3) := dk_167 0 6 (dk_at dksX0_outputAt_0 9 rfl rfl)
theorem dX0_outputAt_12 : decode cX0_outputAt 12 = .ok (.astore_n 3, 1) := dk_78 (dk_at dksX0_outputAt_0 12 rfl rfl)
theorem dX0_outputAt_13 : decode cX0_outputAt 13 = .ok (.iconst 1, 1) := dk_4 (dk_at dksX0_outputAt_0 13 rfl rfl)
theorem dX0_outputAt_14 : decode cX0_outputAt 14 = .ok (.ireturn, 1) := dk_172 (dk_at dksX0_outputAt_0 14 rfl rfl)
theorem dX0_outputAt_15 : decode cX0_outputAt 15 = .ok (.iconst 0, 1) := dk_3 (dk_at dksX0_outputAt_0 15 rfl rfl)
theorem dX0_outputAt_16 : decode cX0_outputAt 16 = .ok (.ireturn, 1) := dk_172 (dk_at dksX0_outputAt_0 16 rfl rfl)
abbrev cX0_type : ByteArray := method_40_code
def yX0_type : MethodName := ⟨RX0, "type", "(LFilterWaterworks;C[J)I"⟩
def dkwX0_type_0 : List UInt8 := [44, 3, 42, 27, 182, 0, 143, 133, 80, 167, 0, 9, 78, 4, 172, 78, 5, 172, 3, 172]
abbrev dktX0_type_0 : List UInt8 := dkwX0_type_0 ++ []
theorem dksX0_type_0 : cX0_type.data.toList.drop 0 = dktX0_type_0 := by decide +kernel
theorem dX0_type_0 : decode cX0_type 0 = .ok (.aload_n 2, 1) := dk_44 (dk_at dksX0_type_0 0 rfl rfl)
theorem dX0_type_1 : decode cX0_type 1 = .ok (.iconst 0, 1) := dk_3 (dk_at dksX0_type_0 1 rfl rfl)
theorem dX0_type_2 : decode cX0_type 2 = .ok (.aload_n 0, 1) := dk_42 (dk_at dksX0_type_0 2 rfl rfl)
theorem dX0_type_3 : decode cX0_type 3 = .ok (.iload_n 1, 1) := dk_27 (dk_at dksX0_type_0 3 rfl rfl)
theorem dX0_type_4 : decode cX0_type 4 = .ok (.invokevirtual 143, 3) := dk_182 0 143 (dk_at dksX0_type_0 4 rfl rfl)
theorem dX0_type_7 : decode cX0_type 7 = .ok (.i2l, 1) := dk_133 (dk_at dksX0_type_0 7 rfl rfl)
theorem dX0_type_8 : decode cX0_type 8 = .ok (.lastore, 1) := dk_80 (dk_at dksX0_type_0 8 rfl rfl)
theorem dX0_type_9 : decode cX0_type 9 = .ok (.goto 9, 3) := dk_167 0 9 (dk_at dksX0_type_0 9 rfl rfl)
theorem dX0_type_12 : decode cX0_type 12 = .ok (.astore_n 3, 1) := dk_78 (dk_at dksX0_type_0 12 rfl rfl)
theorem dX0_type_13 : decode cX0_type 13 = .ok (.iconst 1, 1) := dk_4 (dk_at dksX0_type_0 13 rfl rfl)
theorem dX0_type_14 : decode cX0_type 14 = .ok (.ireturn, 1) := dk_172 (dk_at dksX0_type_0 14 rfl rfl)
theorem dX0_type_15 : decode cX0_type 15 = .ok (.astore_n 3, 1) := dk_78 (dk_at dksX0_type_0 15 rfl rfl)
theorem dX0_type_16 : decode cX0_type 16 = .ok (.iconst 2, 1) := dk_5 (dk_at dksX0_type_0 16 rfl rfl)
theorem dX0_type_17 : decode cX0_type 17 = .ok (.ireturn, 1) := dk_172 (dk_at dksX0_type_0 17 rfl rfl)
theorem dX0_type_18 : decode cX0_type 18 = .ok (.iconst 0, 1) := dk_3 (dk_at dksX0_type_0 18 rfl rfl)
theorem dX0_type_19 : decode cX0_type 19 = .ok (.ireturn, 1) := dk_172 (dk_at dksX0_type_0 19 rfl rfl)
abbrev cX0_runScript : ByteArray := method_41_code
def yX0_runScript : MethodName := ⟨RX0, "runScript", "(LFilterWaterworks;[J)I"⟩
def dkwX0_runScript_0 : List UInt8 := [43, 3, 42, 182, 0, 147, 133, 80, 167, 0, 9, 77, 4, 172, 77, 5, 172, 3, 172]
abbrev dktX0_runScript_0 : List UInt8 := dkwX0_runScript_0 ++ []
theorem dksX0_runScript_0 : cX0_runScript.data.toList.drop 0 = dktX0_runScript_0 := by decide +kernel
theorem dX0_runScript_0 : decode cX0_runScript 0 = .ok (.aload_n 1, 1) := dk_43 (dk_at dksX0_runScript_0 0 rfl rfl)
theorem dX0_runScript_1 : decode cX0_runScript 1 = .ok (.iconst 0, 1) := dk_3 (dk_at dksX0_runScript_0 1 rfl rfl)
theorem dX0_runScript_2 : decode cX0_runScript 2 = .ok (.aload_n 0, 1) := dk_42 (dk_at dksX0_runScript_0 2 rfl rfl)
theorem dX0_runScript_3 : decode cX0_runScript 3 = .ok (.invokevirtual 147, 3) := dk_182 0 147 (dk_at dksX0_runScript_0 3 rfl rfl)
theorem dX0_runScript_6 : decode cX0_runScript 6 = .ok (.i2l, 1) := dk_133 (dk_at dksX0_runScript_0 6 rfl rfl)
theorem dX0_runScript_7 : decode cX0_runScript 7 = .ok (.lastore, 1) := dk_80 (dk_at dksX0_runScript_0 7 rfl rfl)
theorem dX0_runScript_8 : decode cX0_runScript 8 = .ok (.goto 9, 3) := dk_167 0 9 (dk_at dksX0_runScript_0 8 rfl rfl)
theorem dX0_runScript_11 : decode cX0_runScript 11 = .ok (.astore_n 2, 1) := dk_77 (dk_at dksX0_runScript_0 11 rfl rfl)
theorem dX0_runScript_12 : decode cX0_runScript 12 = .ok (.iconst 1, 1) := dk_4 (dk_at dksX0_runScript_0 12 rfl rfl)
theorem dX0_runScript_13 : decode cX0_runScript 13 = .ok (.ireturn, 1) := dk_172 (dk_at dksX0_runScript_0 13 rfl rfl)
theorem dX0_runScript_14 : decode cX0_runScript 14 = .ok (.astore_n 2, 1) := dk_77 (dk_at dksX0_runScript_0 14 rfl rfl)
theorem dX0_runScript_15 : decode cX0_runScript 15 = .ok (.iconst 2, 1) := dk_5 (dk_at dksX0_runScript_0 15 rfl rfl)
theorem dX0_runScript_16 : decode cX0_runScript 16 = .ok (.ireturn, 1) := dk_172 (dk_at dksX0_runScript_0 16 rfl rfl)
theorem dX0_runScript_17 : decode cX0_runScript 17 = .ok (.iconst 0, 1) := dk_3 (dk_at dksX0_runScript_0 17 rfl rfl)
theorem dX0_runScript_18 : decode cX0_runScript 18 = .ok (.ireturn, 1) := dk_172 (dk_at dksX0_runScript_0 18 rfl rfl)
abbrev cX0_errorPosition : ByteArray := method_42_code
def yX0_errorPosition : MethodName := ⟨RX0, "errorPosition", "(LFilterWaterworks;[J)I"⟩
def dkwX0_errorPosition_0 : List UInt8 := [43, 3, 42, 182, 0, 150, 133, 80, 167, 0, 6, 77, 4, 172, 3, 172]
abbrev dktX0_errorPosition_0 : List UInt8 := dkwX0_errorPosition_0 ++ []
theorem dksX0_errorPosition_0 : cX0_errorPosition.data.toList.drop 0 = dktX0_errorPosition_0 := by decide +kernel
theorem dX0_errorPosition_0 : decode cX0_errorPosition 0 = .ok (.aload_n 1, 1) := dk_43 (dk_at dksX0_errorPosition_0 0 rfl rfl)
theorem dX0_errorPosition_1 : decode cX0_errorPosition 1 = .ok (.iconst 0, 1) := dk_3 (dk_at dksX0_errorPosition_0 1 rfl rfl)
theorem dX0_errorPosition_2 : decode cX0_errorPosition 2 = .ok (.aload_n 0, 1) := dk_42 (dk_at dksX0_errorPosition_0 2 rfl rfl)
theorem dX0_errorPosition_3 : decode cX0_errorPosition 3 = .ok (.invokevirtual 150, 3) := dk_182 0 150 (dk_at dksX0_errorPosition_0 3 rfl rfl)
theorem dX0_errorPosition_6 : decode cX0_errorPosition 6 = .ok (.i2l, 1) := dk_133 (dk_at dksX0_errorPosition_0 6 rfl rfl)
theorem dX0_errorPosition_7 : decode cX0_errorPosition 7 = .ok (.lastore, 1) := dk_80 (dk_at dksX0_errorPosition_0 7 rfl rfl)
theorem dX0_errorPosition_8 : decode cX0_errorPosition 8 = .ok (.goto 6, 3) := dk_167 0 6 (dk_at dksX0_errorPosition_0 8 rfl rfl)
theorem dX0_errorPosition_11 : decode cX0_errorPosition 11 = .ok (.astore_n 2, 1) := dk_77 (dk_at dksX0_errorPosition_0 11 rfl rfl)
theorem dX0_errorPosition_12 : decode cX0_errorPosition 12 = .ok (.iconst 1, 1) := dk_4 (dk_at dksX0_errorPosition_0 12 rfl rfl)
theorem dX0_errorPosition_13 : decode cX0_errorPosition 13 = .ok (.ireturn, 1) := dk_172 (dk_at dksX0_errorPosition_0 13 rfl rfl)
theorem dX0_errorPosition_14 : decode cX0_errorPosition 14 = .ok (.iconst 0, 1) := dk_3 (dk_at dksX0_errorPosition_0 14 rfl rfl)
theorem dX0_errorPosition_15 : decode cX0_errorPosition 15 = .ok (.ireturn, 1) := dk_172 (dk_at dksX0_errorPosition_0 15 rfl rfl)
abbrev cX0_failedCommand : ByteArray := method_43_code
def yX0_failedCommand : MethodName := ⟨RX0, "failedCommand", "(LFilterWaterworks;[J)I"⟩
def dkwX0_failedCommand_0 : List UInt8 := [43, 3, 42, 182, 0, 153, 133, 80, 167, 0, 6, 77, 4, 172, 3, 172]
abbrev dktX0_failedCommand_0 : List UInt8 := dkwX0_failedCommand_0 ++ []
theorem dksX0_failedCommand_0 : cX0_failedCommand.data.toList.drop 0 = dktX0_failedCommand_0 := by decide +kernel
theorem dX0_failedCommand_0 : decode cX0_failedCommand 0 = .ok (.aload_n 1, 1) := dk_43 (dk_at dksX0_failedCommand_0 0 rfl rfl)
theorem dX0_failedCommand_1 : decode cX0_failedCommand 1 = .ok (.iconst 0, 1) := dk_3 (dk_at dksX0_failedCommand_0 1 rfl rfl)
theorem dX0_failedCommand_2 : decode cX0_failedCommand 2 = .ok (.aload_n 0, 1) := dk_42 (dk_at dksX0_failedCommand_0 2 rfl rfl)
theorem dX0_failedCommand_3 : decode cX0_failedCommand 3 = .ok (.invokevirtual 153, 3) := dk_182 0 153 (dk_at dksX0_failedCommand_0 3 rfl rfl)
theorem dX0_failedCommand_6 : decode cX0_failedCommand 6 = .ok (.i2l, 1) := dk_133 (dk_at dksX0_failedCommand_0 6 rfl rfl)
theorem dX0_failedCommand_7 : decode cX0_failedCommand 7 = .ok (.lastore, 1) := dk_80 (dk_at dksX0_failedCommand_0 7 rfl rfl)
theorem dX0_failedCommand_8 : decode cX0_failedCommand 8 = .ok (.goto 6, 3) := dk_167 0 6 (dk_at dksX0_failedCommand_0 8 rfl rfl)
theorem dX0_failedCommand_11 : decode cX0_failedCommand 11 = .ok (.astore_n 2, 1) := dk_77 (dk_at dksX0_failedCommand_0 11 rfl rfl)
theorem dX0_failedCommand_12 : decode cX0_failedCommand 12 = .ok (.iconst 1, 1) := dk_4 (dk_at dksX0_failedCommand_0 12 rfl rfl)
theorem dX0_failedCommand_13 : decode cX0_failedCommand 13 = .ok (.ireturn, 1) := dk_172 (dk_at dksX0_failedCommand_0 13 rfl rfl)
theorem dX0_failedCommand_14 : decode cX0_failedCommand 14 = .ok (.iconst 0, 1) := dk_3 (dk_at dksX0_failedCommand_0 14 rfl rfl)
theorem dX0_failedCommand_15 : decode cX0_failedCommand 15 = .ok (.ireturn, 1) := dk_172 (dk_at dksX0_failedCommand_0 15 rfl rfl)
abbrev cX0_undo : ByteArray := method_44_code
def yX0_undo : MethodName := ⟨RX0, "undo", "(LFilterWaterworks;[J)I"⟩
def dkwX0_undo_0 : List UInt8 := [43, 3, 42, 182, 0, 156, 133, 80, 167, 0, 6, 77, 4, 172, 3, 172]
abbrev dktX0_undo_0 : List UInt8 := dkwX0_undo_0 ++ []
theorem dksX0_undo_0 : cX0_undo.data.toList.drop 0 = dktX0_undo_0 := by decide +kernel
theorem dX0_undo_0 : decode cX0_undo 0 = .ok (.aload_n 1, 1) := dk_43 (dk_at dksX0_undo_0 0 rfl rfl)
theorem dX0_undo_1 : decode cX0_undo 1 = .ok (.iconst 0, 1) := dk_3 (dk_at dksX0_undo_0 1 rfl rfl)
theorem dX0_undo_2 : decode cX0_undo 2 = .ok (.aload_n 0, 1) := dk_42 (dk_at dksX0_undo_0 2 rfl rfl)
theorem dX0_undo_3 : decode cX0_undo 3 = .ok (.invokevirtual 156, 3) := dk_182 0 156 (dk_at dksX0_undo_0 3 rfl rfl)
theorem dX0_undo_6 : decode cX0_undo 6 = .ok (.i2l, 1) := dk_133 (dk_at dksX0_undo_0 6 rfl rfl)
theorem dX0_undo_7 : decode cX0_undo 7 = .ok (.lastore, 1) := dk_80 (dk_at dksX0_undo_0 7 rfl rfl)
theorem dX0_undo_8 : decode cX0_undo 8 = .ok (.goto 6, 3) := dk_167 0 6 (dk_at dksX0_undo_0 8 rfl rfl)
theorem dX0_undo_11 : decode cX0_undo 11 = .ok (.astore_n 2, 1) := dk_77 (dk_at dksX0_undo_0 11 rfl rfl)
theorem dX0_undo_12 : decode cX0_undo 12 = .ok (.iconst 1, 1) := dk_4 (dk_at dksX0_undo_0 12 rfl rfl)
theorem dX0_undo_13 : decode cX0_undo 13 = .ok (.ireturn, 1) := dk_172 (dk_at dksX0_undo_0 13 rfl rfl)
theorem dX0_undo_14 : decode cX0_undo 14 = .ok (.iconst 0, 1) := dk_3 (dk_at dksX0_undo_0 14 rfl rfl)
theorem dX0_undo_15 : decode cX0_undo 15 = .ok (.ireturn, 1) := dk_172 (dk_at dksX0_undo_0 15 rfl rfl)
abbrev cX0_restore : ByteArray := method_45_code
def yX0_restore : MethodName := ⟨RX0, "restore", "(LFilterWaterworks;[J)I"⟩
def dkwX0_restore_0 : List UInt8 := [43, 3, 42, 182, 0, 159, 133, 80, 167, 0, 6, 77, 4, 172, 3, 172]
abbrev dktX0_restore_0 : List UInt8 := dkwX0_restore_0 ++ []
theorem dksX0_restore_0 : cX0_restore.data.toList.drop 0 = dktX0_restore_0 := by decide +kernel
theorem dX0_restore_0 : decode cX0_restore 0 = .ok (.aload_n 1, 1) := dk_43 (dk_at dksX0_restore_0 0 rfl rfl)
theorem dX0_restore_1 : decode cX0_restore 1 = .ok (.iconst 0, 1) := dk_3 (dk_at dksX0_restore_0 1 rfl rfl)
theorem dX0_restore_2 : decode cX0_restore 2 = .ok (.aload_n 0, 1) := dk_42 (dk_at dksX0_restore_0 2 rfl rfl)
theorem dX0_restore_3 : decode cX0_restore 3 = .ok (.invokevirtual 159, 3) := dk_182 0 159 (dk_at dksX0_restore_0 3 rfl rfl)
theorem dX0_restore_6 : decode cX0_restore 6 = .ok (.i2l, 1) := dk_133 (dk_at dksX0_restore_0 6 rfl rfl)
theorem dX0_restore_7 : decode cX0_restore 7 = .ok (.lastore, 1) := dk_80 (dk_at dksX0_restore_0 7 rfl rfl)
theorem dX0_restore_8 : decode cX0_restore 8 = .ok (.goto 6, 3) := dk_167 0 6 (dk_at dksX0_restore_0 8 rfl rfl)
theorem dX0_restore_11 : decode cX0_restore 11 = .ok (.astore_n 2, 1) := dk_77 (dk_at dksX0_restore_0 11 rfl rfl)
theorem dX0_restore_12 : decode cX0_restore 12 = .ok (.iconst 1, 1) := dk_4 (dk_at dksX0_restore_0 12 rfl rfl)
theorem dX0_restore_13 : decode cX0_restore 13 = .ok (.ireturn, 1) := dk_172 (dk_at dksX0_restore_0 13 rfl rfl)
theorem dX0_restore_14 : decode cX0_restore 14 = .ok (.iconst 0, 1) := dk_3 (dk_at dksX0_restore_0 14 rfl rfl)
theorem dX0_restore_15 : decode cX0_restore 15 = .ok (.ireturn, 1) := dk_172 (dk_at dksX0_restore_0 15 rfl rfl)
theorem q67 : (Jvm.Cond.initialized "FilterWaterworksLaw") ∈ lw_all := lw_g (lw_at lw_m1 0 rfl) rfl
theorem q117 : (Jvm.Cond.classLink "FilterWaterworksLaw" (8 : Nat) "FilterWaterworks") ∈ lw_all := lw_g (lw_at lw_m1 50 rfl) rfl
theorem q119 : (Jvm.Cond.methodLink "FilterWaterworksLaw" (162 : Nat) ({ cls := "FilterWaterworks", name := "<init>", desc := "()V" } : Jvm.MethodName)) ∈ lw_all := lw_g (lw_at lw_m1 52 rfl) rfl
theorem q263 : (Jvm.Cond.methodLink "FilterWaterworksLaw" (198 : Nat) ({ cls := "FilterWaterworks", name := "tankCount", desc := "()I" } : Jvm.MethodName)) ∈ lw_all := lw_g (lw_at lw_m1 196 rfl) rfl
theorem q283 : (Jvm.Cond.methodLink "FilterWaterworksLaw" (225 : Nat) ({ cls := "FilterWaterworks", name := "pipeCount", desc := "()I" } : Jvm.MethodName)) ∈ lw_all := lw_g (lw_at lw_m1 216 rfl) rfl
theorem q287 : (Jvm.Cond.methodLink "FilterWaterworksLaw" (262 : Nat) ({ cls := "FilterWaterworks", name := "groupCount", desc := "()I" } : Jvm.MethodName)) ∈ lw_all := lw_g (lw_at lw_m1 220 rfl) rfl
theorem q684 : (Jvm.Cond.methodLink "FilterWaterworksLaw" (266 : Nat) ({ cls := "FilterWaterworks", name := "groupCountByUnions", desc := "()I" } : Jvm.MethodName)) ∈ lw_all := lw_g (lw_at lw_m3 137 rfl) rfl
theorem q700 : (Jvm.Cond.methodLink "FilterWaterworksLaw" (273 : Nat) ({ cls := "FilterWaterworks", name := "bridgeCount", desc := "()I" } : Jvm.MethodName)) ∈ lw_all := lw_g (lw_at lw_m3 153 rfl) rfl
theorem q750 : (Jvm.Cond.methodLink "FilterWaterworksLaw" (277 : Nat) ({ cls := "FilterWaterworks", name := "bridgeCountByLeavingOut", desc := "()I" } : Jvm.MethodName)) ∈ lw_all := lw_g (lw_at lw_m3 203 rfl) rfl
theorem q766 : (Jvm.Cond.methodLink "FilterWaterworksLaw" (297 : Nat) ({ cls := "FilterWaterworks", name := "time", desc := "()I" } : Jvm.MethodName)) ∈ lw_all := lw_g (lw_at lw_m3 219 rfl) rfl
theorem q770 : (Jvm.Cond.methodLink "FilterWaterworksLaw" (301 : Nat) ({ cls := "FilterWaterworks", name := "pouredTotal", desc := "()I" } : Jvm.MethodName)) ∈ lw_all := lw_g (lw_at lw_m3 223 rfl) rfl
theorem q774 : (Jvm.Cond.methodLink "FilterWaterworksLaw" (305 : Nat) ({ cls := "FilterWaterworks", name := "drawnTotal", desc := "()I" } : Jvm.MethodName)) ∈ lw_all := lw_g (lw_at lw_m3 227 rfl) rfl
theorem q778 : (Jvm.Cond.methodLink "FilterWaterworksLaw" (309 : Nat) ({ cls := "FilterWaterworks", name := "spilledTotal", desc := "()I" } : Jvm.MethodName)) ∈ lw_all := lw_g (lw_at lw_m3 231 rfl) rfl
theorem q782 : (Jvm.Cond.methodLink "FilterWaterworksLaw" (313 : Nat) ({ cls := "FilterWaterworks", name := "totalContent", desc := "()I" } : Jvm.MethodName)) ∈ lw_all := lw_g (lw_at lw_m3 235 rfl) rfl
theorem q791 : (Jvm.Cond.methodLink "FilterWaterworksLaw" (317 : Nat) ({ cls := "FilterWaterworks", name := "totalContentByAccounts", desc := "()I" } : Jvm.MethodName)) ∈ lw_all := lw_g (lw_at lw_m4 4 rfl) rfl
theorem q799 : (Jvm.Cond.methodLink "FilterWaterworksLaw" (328 : Nat) ({ cls := "FilterWaterworks", name := "fingerprint", desc := "()J" } : Jvm.MethodName)) ∈ lw_all := lw_g (lw_at lw_m4 12 rfl) rfl
theorem q821 : (Jvm.Cond.methodLink "FilterWaterworksLaw" (332 : Nat) ({ cls := "FilterWaterworks", name := "isConsistent", desc := "()Z" } : Jvm.MethodName)) ∈ lw_all := lw_g (lw_at lw_m4 34 rfl) rfl
theorem q912 : (Jvm.Cond.methodLink "FilterWaterworksLaw" (362 : Nat) ({ cls := "FilterWaterworks", name := "save", desc := "()I" } : Jvm.MethodName)) ∈ lw_all := lw_g (lw_at lw_m4 125 rfl) rfl
theorem q917 : (Jvm.Cond.methodLink "FilterWaterworksLaw" (166 : Nat) ({ cls := "FilterWaterworksLaw", name := "addTank", desc := "(LFilterWaterworks;I[J)I" } : Jvm.MethodName)) ∈ lw_all := lw_g (lw_at lw_m4 130 rfl) rfl
theorem q918 : (Jvm.Cond.static ({ cls := "FilterWaterworksLaw", name := "addTank", desc := "(LFilterWaterworks;I[J)I" } : Jvm.MethodName)) ∈ lw_all := lw_g (lw_at lw_m4 131 rfl) rfl
theorem q919 : (Jvm.Cond.codeWith ({ cls := "FilterWaterworksLaw", name := "addTank", desc := "(LFilterWaterworks;I[J)I" } : Jvm.MethodName) method_3_code (4 : Nat) (Option.some Jvm.ClassFile.FieldType.int) [((0 : Nat), (9 : Nat), (12 : Nat), (13 : Nat)), ((0 : Nat), (9 : Nat), (15 : Nat), (15 : Nat))]) ∈ lw_all := lw_g (lw_at lw_m4 132 rfl) rfl
theorem q920 : (Jvm.Cond.classLink "FilterWaterworksLaw" (13 : Nat) "java/lang/IllegalArgumentException") ∈ lw_all := lw_g (lw_at lw_m4 133 rfl) rfl
theorem q921 : (Jvm.Cond.classLink "FilterWaterworksLaw" (15 : Nat) "java/lang/IllegalStateException") ∈ lw_all := lw_g (lw_at lw_m4 134 rfl) rfl
theorem q922 : (Jvm.Cond.methodLink "FilterWaterworksLaw" (7 : Nat) ({ cls := "FilterWaterworks", name := "addTank", desc := "(I)I" } : Jvm.MethodName)) ∈ lw_all := lw_g (lw_at lw_m4 135 rfl) rfl
theorem q1428 : (Jvm.Cond.methodLink "FilterWaterworksLaw" (175 : Nat) ({ cls := "FilterWaterworksLaw", name := "addPipe", desc := "(LFilterWaterworks;III[J)I" } : Jvm.MethodName)) ∈ lw_all := lw_g (lw_at lw_m6 161 rfl) rfl
theorem q1429 : (Jvm.Cond.static ({ cls := "FilterWaterworksLaw", name := "addPipe", desc := "(LFilterWaterworks;III[J)I" } : Jvm.MethodName)) ∈ lw_all := lw_g (lw_at lw_m6 162 rfl) rfl
theorem q1430 : (Jvm.Cond.codeWith ({ cls := "FilterWaterworksLaw", name := "addPipe", desc := "(LFilterWaterworks;III[J)I" } : Jvm.MethodName) method_4_code (6 : Nat) (Option.some Jvm.ClassFile.FieldType.int) [((0 : Nat), (12 : Nat), (15 : Nat), (21 : Nat)), ((0 : Nat), (12 : Nat), (19 : Nat), (13 : Nat)), ((0 : Nat), (12 : Nat), (23 : Nat), (15 : Nat))]) ∈ lw_all := lw_g (lw_at lw_m6 163 rfl) rfl
theorem q1431 : (Jvm.Cond.classLink "FilterWaterworksLaw" (21 : Nat) "java/lang/IndexOutOfBoundsException") ∈ lw_all := lw_g (lw_at lw_m6 164 rfl) rfl
theorem q1447 : (Jvm.Cond.methodLink "FilterWaterworksLaw" (17 : Nat) ({ cls := "FilterWaterworks", name := "addPipe", desc := "(III)I" } : Jvm.MethodName)) ∈ lw_all := lw_g (lw_at lw_m6 180 rfl) rfl
theorem q1452 : (Jvm.Cond.methodLink "FilterWaterworksLaw" (179 : Nat) ({ cls := "FilterWaterworksLaw", name := "pour", desc := "(LFilterWaterworks;III[J)I" } : Jvm.MethodName)) ∈ lw_all := lw_g (lw_at lw_m6 185 rfl) rfl
theorem q1453 : (Jvm.Cond.static ({ cls := "FilterWaterworksLaw", name := "pour", desc := "(LFilterWaterworks;III[J)I" } : Jvm.MethodName)) ∈ lw_all := lw_g (lw_at lw_m6 186 rfl) rfl
theorem q1454 : (Jvm.Cond.codeWith ({ cls := "FilterWaterworksLaw", name := "pour", desc := "(LFilterWaterworks;III[J)I" } : Jvm.MethodName) method_5_code (6 : Nat) (Option.some Jvm.ClassFile.FieldType.int) [((0 : Nat), (12 : Nat), (15 : Nat), (21 : Nat)), ((0 : Nat), (12 : Nat), (19 : Nat), (13 : Nat)), ((0 : Nat), (12 : Nat), (23 : Nat), (26 : Nat))]) ∈ lw_all := lw_g (lw_at lw_m6 187 rfl) rfl
theorem q1455 : (Jvm.Cond.classLink "FilterWaterworksLaw" (26 : Nat) "java/lang/UnsupportedOperationException") ∈ lw_all := lw_g (lw_at lw_m6 188 rfl) rfl
theorem q1456 : (Jvm.Cond.methodLink "FilterWaterworksLaw" (23 : Nat) ({ cls := "FilterWaterworks", name := "pour", desc := "(III)I" } : Jvm.MethodName)) ∈ lw_all := lw_g (lw_at lw_m6 189 rfl) rfl
theorem q1461 : (Jvm.Cond.methodLink "FilterWaterworksLaw" (182 : Nat) ({ cls := "FilterWaterworksLaw", name := "draw", desc := "(LFilterWaterworks;II[J)I" } : Jvm.MethodName)) ∈ lw_all := lw_g (lw_at lw_m6 194 rfl) rfl
theorem q1462 : (Jvm.Cond.static ({ cls := "FilterWaterworksLaw", name := "draw", desc := "(LFilterWaterworks;II[J)I" } : Jvm.MethodName)) ∈ lw_all := lw_g (lw_at lw_m6 195 rfl) rfl
theorem q1463 : (Jvm.Cond.codeWith ({ cls := "FilterWaterworksLaw", name := "draw", desc := "(LFilterWaterworks;II[J)I" } : Jvm.MethodName) method_6_code (5 : Nat) (Option.some Jvm.ClassFile.FieldType.int) [((0 : Nat), (10 : Nat), (13 : Nat), (21 : Nat)), ((0 : Nat), (10 : Nat), (17 : Nat), (13 : Nat)), ((0 : Nat), (10 : Nat), (21 : Nat), (26 : Nat))]) ∈ lw_all := lw_g (lw_at lw_m6 196 rfl) rfl
theorem q1464 : (Jvm.Cond.methodLink "FilterWaterworksLaw" (28 : Nat) ({ cls := "FilterWaterworks", name := "draw", desc := "(II)I" } : Jvm.MethodName)) ∈ lw_all := lw_g (lw_at lw_m6 197 rfl) rfl
theorem q1469 : (Jvm.Cond.methodLink "FilterWaterworksLaw" (186 : Nat) ({ cls := "FilterWaterworksLaw", name := "setValve", desc := "(LFilterWaterworks;II[J)I" } : Jvm.MethodName)) ∈ lw_all := lw_g (lw_at lw_m6 202 rfl) rfl
theorem q1470 : (Jvm.Cond.static ({ cls := "FilterWaterworksLaw", name := "setValve", desc := "(LFilterWaterworks;II[J)I" } : Jvm.MethodName)) ∈ lw_all := lw_g (lw_at lw_m6 203 rfl) rfl
theorem q1471 : (Jvm.Cond.codeWith ({ cls := "FilterWaterworksLaw", name := "setValve", desc := "(LFilterWaterworks;II[J)I" } : Jvm.MethodName) method_7_code (5 : Nat) (Option.some Jvm.ClassFile.FieldType.int) [((0 : Nat), (10 : Nat), (13 : Nat), (21 : Nat)), ((0 : Nat), (10 : Nat), (17 : Nat), (13 : Nat))]) ∈ lw_all := lw_g (lw_at lw_m6 204 rfl) rfl
theorem q1472 : (Jvm.Cond.methodLink "FilterWaterworksLaw" (32 : Nat) ({ cls := "FilterWaterworks", name := "setValve", desc := "(II)I" } : Jvm.MethodName)) ∈ lw_all := lw_g (lw_at lw_m6 205 rfl) rfl
theorem q1477 : (Jvm.Cond.methodLink "FilterWaterworksLaw" (189 : Nat) ({ cls := "FilterWaterworksLaw", name := "setLeak", desc := "(LFilterWaterworks;II[J)I" } : Jvm.MethodName)) ∈ lw_all := lw_g (lw_at lw_m6 210 rfl) rfl
theorem q1478 : (Jvm.Cond.static ({ cls := "FilterWaterworksLaw", name := "setLeak", desc := "(LFilterWaterworks;II[J)I" } : Jvm.MethodName)) ∈ lw_all := lw_g (lw_at lw_m6 211 rfl) rfl
theorem q1479 : (Jvm.Cond.codeWith ({ cls := "FilterWaterworksLaw", name := "setLeak", desc := "(LFilterWaterworks;II[J)I" } : Jvm.MethodName) method_8_code (5 : Nat) (Option.some Jvm.ClassFile.FieldType.int) [((0 : Nat), (10 : Nat), (13 : Nat), (21 : Nat)), ((0 : Nat), (10 : Nat), (17 : Nat), (13 : Nat))]) ∈ lw_all := lw_g (lw_at lw_m6 212 rfl) rfl
theorem q1480 : (Jvm.Cond.methodLink "FilterWaterworksLaw" (35 : Nat) ({ cls := "FilterWaterworks", name := "setLeak", desc := "(II)I" } : Jvm.MethodName)) ∈ lw_all := lw_g (lw_at lw_m6 213 rfl) rfl
theorem q1485 : (Jvm.Cond.methodLink "FilterWaterworksLaw" (192 : Nat) ({ cls := "FilterWaterworksLaw", name := "cleanFilter", desc := "(LFilterWaterworks;I[J)I" } : Jvm.MethodName)) ∈ lw_all := lw_g (lw_at lw_m6 218 rfl) rfl
theorem q1486 : (Jvm.Cond.static ({ cls := "FilterWaterworksLaw", name := "cleanFilter", desc := "(LFilterWaterworks;I[J)I" } : Jvm.MethodName)) ∈ lw_all := lw_g (lw_at lw_m6 219 rfl) rfl
theorem q1487 : (Jvm.Cond.codeWith ({ cls := "FilterWaterworksLaw", name := "cleanFilter", desc := "(LFilterWaterworks;I[J)I" } : Jvm.MethodName) method_9_code (4 : Nat) (Option.some Jvm.ClassFile.FieldType.int) [((0 : Nat), (9 : Nat), (12 : Nat), (21 : Nat))]) ∈ lw_all := lw_g (lw_at lw_m6 220 rfl) rfl
theorem q1488 : (Jvm.Cond.methodLink "FilterWaterworksLaw" (38 : Nat) ({ cls := "FilterWaterworks", name := "cleanFilter", desc := "(I)I" } : Jvm.MethodName)) ∈ lw_all := lw_g (lw_at lw_m6 221 rfl) rfl
theorem q1493 : (Jvm.Cond.methodLink "FilterWaterworksLaw" (195 : Nat) ({ cls := "FilterWaterworksLaw", name := "advance", desc := "(LFilterWaterworks;I[J)I" } : Jvm.MethodName)) ∈ lw_all := lw_g (lw_at lw_m6 226 rfl) rfl
theorem q1494 : (Jvm.Cond.static ({ cls := "FilterWaterworksLaw", name := "advance", desc := "(LFilterWaterworks;I[J)I" } : Jvm.MethodName)) ∈ lw_all := lw_g (lw_at lw_m6 227 rfl) rfl
theorem q1495 : (Jvm.Cond.codeWith ({ cls := "FilterWaterworksLaw", name := "advance", desc := "(LFilterWaterworks;I[J)I" } : Jvm.MethodName) method_10_code (4 : Nat) (Option.some Jvm.ClassFile.FieldType.int) [((0 : Nat), (9 : Nat), (12 : Nat), (13 : Nat))]) ∈ lw_all := lw_g (lw_at lw_m6 228 rfl) rfl
theorem q1496 : (Jvm.Cond.methodLink "FilterWaterworksLaw" (41 : Nat) ({ cls := "FilterWaterworks", name := "advance", desc := "(I)I" } : Jvm.MethodName)) ∈ lw_all := lw_g (lw_at lw_m6 229 rfl) rfl
theorem q1501 : (Jvm.Cond.methodLink "FilterWaterworksLaw" (202 : Nat) ({ cls := "FilterWaterworksLaw", name := "capacity", desc := "(LFilterWaterworks;I[J)I" } : Jvm.MethodName)) ∈ lw_all := lw_g (lw_at lw_m6 234 rfl) rfl
theorem q1502 : (Jvm.Cond.static ({ cls := "FilterWaterworksLaw", name := "capacity", desc := "(LFilterWaterworks;I[J)I" } : Jvm.MethodName)) ∈ lw_all := lw_g (lw_at lw_m6 235 rfl) rfl
theorem q1503 : (Jvm.Cond.codeWith ({ cls := "FilterWaterworksLaw", name := "capacity", desc := "(LFilterWaterworks;I[J)I" } : Jvm.MethodName) method_11_code (4 : Nat) (Option.some Jvm.ClassFile.FieldType.int) [((0 : Nat), (9 : Nat), (12 : Nat), (21 : Nat))]) ∈ lw_all := lw_g (lw_at lw_m6 236 rfl) rfl
theorem q1504 : (Jvm.Cond.methodLink "FilterWaterworksLaw" (44 : Nat) ({ cls := "FilterWaterworks", name := "capacity", desc := "(I)I" } : Jvm.MethodName)) ∈ lw_all := lw_g (lw_at lw_m6 237 rfl) rfl
theorem q1521 : (Jvm.Cond.methodLink "FilterWaterworksLaw" (205 : Nat) ({ cls := "FilterWaterworksLaw", name := "content", desc := "(LFilterWaterworks;I[J)I" } : Jvm.MethodName)) ∈ lw_all := lw_g (lw_at lw_m7 14 rfl) rfl
theorem q1522 : (Jvm.Cond.static ({ cls := "FilterWaterworksLaw", name := "content", desc := "(LFilterWaterworks;I[J)I" } : Jvm.MethodName)) ∈ lw_all := lw_g (lw_at lw_m7 15 rfl) rfl
theorem q1523 : (Jvm.Cond.codeWith ({ cls := "FilterWaterworksLaw", name := "content", desc := "(LFilterWaterworks;I[J)I" } : Jvm.MethodName) method_12_code (4 : Nat) (Option.some Jvm.ClassFile.FieldType.int) [((0 : Nat), (9 : Nat), (12 : Nat), (21 : Nat))]) ∈ lw_all := lw_g (lw_at lw_m7 16 rfl) rfl
theorem q1524 : (Jvm.Cond.methodLink "FilterWaterworksLaw" (47 : Nat) ({ cls := "FilterWaterworks", name := "content", desc := "(I)I" } : Jvm.MethodName)) ∈ lw_all := lw_g (lw_at lw_m7 17 rfl) rfl
theorem q1528 : (Jvm.Cond.methodLink "FilterWaterworksLaw" (208 : Nat) ({ cls := "FilterWaterworksLaw", name := "impurities", desc := "(LFilterWaterworks;I[J)I" } : Jvm.MethodName)) ∈ lw_all := lw_g (lw_at lw_m7 21 rfl) rfl
theorem q1529 : (Jvm.Cond.static ({ cls := "FilterWaterworksLaw", name := "impurities", desc := "(LFilterWaterworks;I[J)I" } : Jvm.MethodName)) ∈ lw_all := lw_g (lw_at lw_m7 22 rfl) rfl
theorem q1530 : (Jvm.Cond.codeWith ({ cls := "FilterWaterworksLaw", name := "impurities", desc := "(LFilterWaterworks;I[J)I" } : Jvm.MethodName) method_13_code (4 : Nat) (Option.some Jvm.ClassFile.FieldType.int) [((0 : Nat), (9 : Nat), (12 : Nat), (21 : Nat))]) ∈ lw_all := lw_g (lw_at lw_m7 23 rfl) rfl
theorem q1531 : (Jvm.Cond.methodLink "FilterWaterworksLaw" (50 : Nat) ({ cls := "FilterWaterworks", name := "impurities", desc := "(I)I" } : Jvm.MethodName)) ∈ lw_all := lw_g (lw_at lw_m7 24 rfl) rfl
theorem q1535 : (Jvm.Cond.methodLink "FilterWaterworksLaw" (211 : Nat) ({ cls := "FilterWaterworksLaw", name := "hasImpurity", desc := "(LFilterWaterworks;IC[J)I" } : Jvm.MethodName)) ∈ lw_all := lw_g (lw_at lw_m7 28 rfl) rfl
theorem q1536 : (Jvm.Cond.static ({ cls := "FilterWaterworksLaw", name := "hasImpurity", desc := "(LFilterWaterworks;IC[J)I" } : Jvm.MethodName)) ∈ lw_all := lw_g (lw_at lw_m7 29 rfl) rfl
theorem q1537 : (Jvm.Cond.codeWith ({ cls := "FilterWaterworksLaw", name := "hasImpurity", desc := "(LFilterWaterworks;IC[J)I" } : Jvm.MethodName) method_14_code (5 : Nat) (Option.some Jvm.ClassFile.FieldType.int) [((0 : Nat), (17 : Nat), (20 : Nat), (21 : Nat)), ((0 : Nat), (17 : Nat), (24 : Nat), (13 : Nat))]) ∈ lw_all := lw_g (lw_at lw_m7 30 rfl) rfl
theorem q1538 : (Jvm.Cond.methodLink "FilterWaterworksLaw" (53 : Nat) ({ cls := "FilterWaterworks", name := "hasImpurity", desc := "(IC)Z" } : Jvm.MethodName)) ∈ lw_all := lw_g (lw_at lw_m7 31 rfl) rfl
theorem q1547 : (Jvm.Cond.methodLink "FilterWaterworksLaw" (215 : Nat) ({ cls := "FilterWaterworksLaw", name := "tankByContent", desc := "(LFilterWaterworks;I[J)I" } : Jvm.MethodName)) ∈ lw_all := lw_g (lw_at lw_m7 40 rfl) rfl
theorem q1548 : (Jvm.Cond.static ({ cls := "FilterWaterworksLaw", name := "tankByContent", desc := "(LFilterWaterworks;I[J)I" } : Jvm.MethodName)) ∈ lw_all := lw_g (lw_at lw_m7 41 rfl) rfl
theorem q1549 : (Jvm.Cond.codeWith ({ cls := "FilterWaterworksLaw", name := "tankByContent", desc := "(LFilterWaterworks;I[J)I" } : Jvm.MethodName) method_15_code (4 : Nat) (Option.some Jvm.ClassFile.FieldType.int) [((0 : Nat), (9 : Nat), (12 : Nat), (60 : Nat))]) ∈ lw_all := lw_g (lw_at lw_m7 42 rfl) rfl
theorem q1550 : (Jvm.Cond.classLink "FilterWaterworksLaw" (60 : Nat) "java/util/NoSuchElementException") ∈ lw_all := lw_g (lw_at lw_m7 43 rfl) rfl
theorem q1551 : (Jvm.Cond.methodLink "FilterWaterworksLaw" (57 : Nat) ({ cls := "FilterWaterworks", name := "tankByContent", desc := "(I)I" } : Jvm.MethodName)) ∈ lw_all := lw_g (lw_at lw_m7 44 rfl) rfl
theorem q1576 : (Jvm.Cond.methodLink "FilterWaterworksLaw" (218 : Nat) ({ cls := "FilterWaterworksLaw", name := "fillShare", desc := "(LFilterWaterworks;I[D)I" } : Jvm.MethodName)) ∈ lw_all := lw_g (lw_at lw_m7 69 rfl) rfl
theorem q1577 : (Jvm.Cond.static ({ cls := "FilterWaterworksLaw", name := "fillShare", desc := "(LFilterWaterworks;I[D)I" } : Jvm.MethodName)) ∈ lw_all := lw_g (lw_at lw_m7 70 rfl) rfl
theorem q1578 : (Jvm.Cond.codeWith ({ cls := "FilterWaterworksLaw", name := "fillShare", desc := "(LFilterWaterworks;I[D)I" } : Jvm.MethodName) method_16_code (4 : Nat) (Option.some Jvm.ClassFile.FieldType.int) [((0 : Nat), (9 : Nat), (12 : Nat), (21 : Nat))]) ∈ lw_all := lw_g (lw_at lw_m7 71 rfl) rfl
theorem q1579 : (Jvm.Cond.methodLink "FilterWaterworksLaw" (62 : Nat) ({ cls := "FilterWaterworks", name := "fillShare", desc := "(I)F" } : Jvm.MethodName)) ∈ lw_all := lw_g (lw_at lw_m7 72 rfl) rfl
theorem q1583 : (Jvm.Cond.methodLink "FilterWaterworksLaw" (222 : Nat) ({ cls := "FilterWaterworksLaw", name := "fillShareBits", desc := "(LFilterWaterworks;I[J)I" } : Jvm.MethodName)) ∈ lw_all := lw_g (lw_at lw_m7 76 rfl) rfl
theorem q1584 : (Jvm.Cond.static ({ cls := "FilterWaterworksLaw", name := "fillShareBits", desc := "(LFilterWaterworks;I[J)I" } : Jvm.MethodName)) ∈ lw_all := lw_g (lw_at lw_m7 77 rfl) rfl
theorem q1585 : (Jvm.Cond.codeWith ({ cls := "FilterWaterworksLaw", name := "fillShareBits", desc := "(LFilterWaterworks;I[J)I" } : Jvm.MethodName) method_17_code (4 : Nat) (Option.some Jvm.ClassFile.FieldType.int) [((0 : Nat), (9 : Nat), (12 : Nat), (21 : Nat))]) ∈ lw_all := lw_g (lw_at lw_m7 78 rfl) rfl
theorem q1586 : (Jvm.Cond.methodLink "FilterWaterworksLaw" (66 : Nat) ({ cls := "FilterWaterworks", name := "fillShareBits", desc := "(I)I" } : Jvm.MethodName)) ∈ lw_all := lw_g (lw_at lw_m7 79 rfl) rfl
theorem q1601 : (Jvm.Cond.methodLink "FilterWaterworksLaw" (229 : Nat) ({ cls := "FilterWaterworksLaw", name := "firstOf", desc := "(LFilterWaterworks;I[J)I" } : Jvm.MethodName)) ∈ lw_all := lw_g (lw_at lw_m7 94 rfl) rfl
theorem q1602 : (Jvm.Cond.static ({ cls := "FilterWaterworksLaw", name := "firstOf", desc := "(LFilterWaterworks;I[J)I" } : Jvm.MethodName)) ∈ lw_all := lw_g (lw_at lw_m7 95 rfl) rfl
theorem q1603 : (Jvm.Cond.codeWith ({ cls := "FilterWaterworksLaw", name := "firstOf", desc := "(LFilterWaterworks;I[J)I" } : Jvm.MethodName) method_18_code (4 : Nat) (Option.some Jvm.ClassFile.FieldType.int) [((0 : Nat), (9 : Nat), (12 : Nat), (21 : Nat))]) ∈ lw_all := lw_g (lw_at lw_m7 96 rfl) rfl
theorem q1604 : (Jvm.Cond.methodLink "FilterWaterworksLaw" (69 : Nat) ({ cls := "FilterWaterworks", name := "firstOf", desc := "(I)I" } : Jvm.MethodName)) ∈ lw_all := lw_g (lw_at lw_m7 97 rfl) rfl
theorem q1614 : (Jvm.Cond.methodLink "FilterWaterworksLaw" (232 : Nat) ({ cls := "FilterWaterworksLaw", name := "secondOf", desc := "(LFilterWaterworks;I[J)I" } : Jvm.MethodName)) ∈ lw_all := lw_g (lw_at lw_m7 107 rfl) rfl
theorem q1615 : (Jvm.Cond.static ({ cls := "FilterWaterworksLaw", name := "secondOf", desc := "(LFilterWaterworks;I[J)I" } : Jvm.MethodName)) ∈ lw_all := lw_g (lw_at lw_m7 108 rfl) rfl
theorem q1616 : (Jvm.Cond.codeWith ({ cls := "FilterWaterworksLaw", name := "secondOf", desc := "(LFilterWaterworks;I[J)I" } : Jvm.MethodName) method_19_code (4 : Nat) (Option.some Jvm.ClassFile.FieldType.int) [((0 : Nat), (9 : Nat), (12 : Nat), (21 : Nat))]) ∈ lw_all := lw_g (lw_at lw_m7 109 rfl) rfl
theorem q1617 : (Jvm.Cond.methodLink "FilterWaterworksLaw" (72 : Nat) ({ cls := "FilterWaterworks", name := "secondOf", desc := "(I)I" } : Jvm.MethodName)) ∈ lw_all := lw_g (lw_at lw_m7 110 rfl) rfl
theorem q1621 : (Jvm.Cond.methodLink "FilterWaterworksLaw" (235 : Nat) ({ cls := "FilterWaterworksLaw", name := "valve", desc := "(LFilterWaterworks;I[J)I" } : Jvm.MethodName)) ∈ lw_all := lw_g (lw_at lw_m7 114 rfl) rfl
theorem q1622 : (Jvm.Cond.static ({ cls := "FilterWaterworksLaw", name := "valve", desc := "(LFilterWaterworks;I[J)I" } : Jvm.MethodName)) ∈ lw_all := lw_g (lw_at lw_m7 115 rfl) rfl
theorem q1623 : (Jvm.Cond.codeWith ({ cls := "FilterWaterworksLaw", name := "valve", desc := "(LFilterWaterworks;I[J)I" } : Jvm.MethodName) method_20_code (4 : Nat) (Option.some Jvm.ClassFile.FieldType.int) [((0 : Nat), (9 : Nat), (12 : Nat), (21 : Nat))]) ∈ lw_all := lw_g (lw_at lw_m7 116 rfl) rfl
theorem q1624 : (Jvm.Cond.methodLink "FilterWaterworksLaw" (75 : Nat) ({ cls := "FilterWaterworks", name := "valve", desc := "(I)I" } : Jvm.MethodName)) ∈ lw_all := lw_g (lw_at lw_m7 117 rfl) rfl
theorem q1628 : (Jvm.Cond.methodLink "FilterWaterworksLaw" (238 : Nat) ({ cls := "FilterWaterworksLaw", name := "leak", desc := "(LFilterWaterworks;I[J)I" } : Jvm.MethodName)) ∈ lw_all := lw_g (lw_at lw_m7 121 rfl) rfl
theorem q1629 : (Jvm.Cond.static ({ cls := "FilterWaterworksLaw", name := "leak", desc := "(LFilterWaterworks;I[J)I" } : Jvm.MethodName)) ∈ lw_all := lw_g (lw_at lw_m7 122 rfl) rfl
theorem q1630 : (Jvm.Cond.codeWith ({ cls := "FilterWaterworksLaw", name := "leak", desc := "(LFilterWaterworks;I[J)I" } : Jvm.MethodName) method_21_code (4 : Nat) (Option.some Jvm.ClassFile.FieldType.int) [((0 : Nat), (9 : Nat), (12 : Nat), (21 : Nat))]) ∈ lw_all := lw_g (lw_at lw_m7 123 rfl) rfl
theorem q1631 : (Jvm.Cond.methodLink "FilterWaterworksLaw" (78 : Nat) ({ cls := "FilterWaterworks", name := "leak", desc := "(I)I" } : Jvm.MethodName)) ∈ lw_all := lw_g (lw_at lw_m7 124 rfl) rfl
theorem q1635 : (Jvm.Cond.methodLink "FilterWaterworksLaw" (241 : Nat) ({ cls := "FilterWaterworksLaw", name := "mesh", desc := "(LFilterWaterworks;I[J)I" } : Jvm.MethodName)) ∈ lw_all := lw_g (lw_at lw_m7 128 rfl) rfl
theorem q1636 : (Jvm.Cond.static ({ cls := "FilterWaterworksLaw", name := "mesh", desc := "(LFilterWaterworks;I[J)I" } : Jvm.MethodName)) ∈ lw_all := lw_g (lw_at lw_m7 129 rfl) rfl
theorem q1637 : (Jvm.Cond.codeWith ({ cls := "FilterWaterworksLaw", name := "mesh", desc := "(LFilterWaterworks;I[J)I" } : Jvm.MethodName) method_22_code (4 : Nat) (Option.some Jvm.ClassFile.FieldType.int) [((0 : Nat), (9 : Nat), (12 : Nat), (21 : Nat))]) ∈ lw_all := lw_g (lw_at lw_m7 130 rfl) rfl
theorem q1638 : (Jvm.Cond.methodLink "FilterWaterworksLaw" (81 : Nat) ({ cls := "FilterWaterworks", name := "mesh", desc := "(I)I" } : Jvm.MethodName)) ∈ lw_all := lw_g (lw_at lw_m7 131 rfl) rfl
theorem q1642 : (Jvm.Cond.methodLink "FilterWaterworksLaw" (244 : Nat) ({ cls := "FilterWaterworksLaw", name := "dirt", desc := "(LFilterWaterworks;I[J)I" } : Jvm.MethodName)) ∈ lw_all := lw_g (lw_at lw_m7 135 rfl) rfl
theorem q1643 : (Jvm.Cond.static ({ cls := "FilterWaterworksLaw", name := "dirt", desc := "(LFilterWaterworks;I[J)I" } : Jvm.MethodName)) ∈ lw_all := lw_g (lw_at lw_m7 136 rfl) rfl
theorem q1644 : (Jvm.Cond.codeWith ({ cls := "FilterWaterworksLaw", name := "dirt", desc := "(LFilterWaterworks;I[J)I" } : Jvm.MethodName) method_23_code (4 : Nat) (Option.some Jvm.ClassFile.FieldType.int) [((0 : Nat), (9 : Nat), (12 : Nat), (21 : Nat))]) ∈ lw_all := lw_g (lw_at lw_m7 137 rfl) rfl
theorem q1645 : (Jvm.Cond.methodLink "FilterWaterworksLaw" (84 : Nat) ({ cls := "FilterWaterworks", name := "dirt", desc := "(I)I" } : Jvm.MethodName)) ∈ lw_all := lw_g (lw_at lw_m7 138 rfl) rfl
theorem q1649 : (Jvm.Cond.methodLink "FilterWaterworksLaw" (247 : Nat) ({ cls := "FilterWaterworksLaw", name := "isOpen", desc := "(LFilterWaterworks;I[J)I" } : Jvm.MethodName)) ∈ lw_all := lw_g (lw_at lw_m7 142 rfl) rfl
theorem q1650 : (Jvm.Cond.static ({ cls := "FilterWaterworksLaw", name := "isOpen", desc := "(LFilterWaterworks;I[J)I" } : Jvm.MethodName)) ∈ lw_all := lw_g (lw_at lw_m7 143 rfl) rfl
theorem q1651 : (Jvm.Cond.codeWith ({ cls := "FilterWaterworksLaw", name := "isOpen", desc := "(LFilterWaterworks;I[J)I" } : Jvm.MethodName) method_24_code (4 : Nat) (Option.some Jvm.ClassFile.FieldType.int) [((0 : Nat), (16 : Nat), (19 : Nat), (21 : Nat))]) ∈ lw_all := lw_g (lw_at lw_m7 144 rfl) rfl
theorem q1652 : (Jvm.Cond.methodLink "FilterWaterworksLaw" (87 : Nat) ({ cls := "FilterWaterworks", name := "isOpen", desc := "(I)Z" } : Jvm.MethodName)) ∈ lw_all := lw_g (lw_at lw_m7 145 rfl) rfl
theorem q1657 : (Jvm.Cond.methodLink "FilterWaterworksLaw" (250 : Nat) ({ cls := "FilterWaterworksLaw", name := "flow", desc := "(LFilterWaterworks;I[J)I" } : Jvm.MethodName)) ∈ lw_all := lw_g (lw_at lw_m7 150 rfl) rfl
theorem q1658 : (Jvm.Cond.static ({ cls := "FilterWaterworksLaw", name := "flow", desc := "(LFilterWaterworks;I[J)I" } : Jvm.MethodName)) ∈ lw_all := lw_g (lw_at lw_m7 151 rfl) rfl
theorem q1659 : (Jvm.Cond.codeWith ({ cls := "FilterWaterworksLaw", name := "flow", desc := "(LFilterWaterworks;I[J)I" } : Jvm.MethodName) method_25_code (4 : Nat) (Option.some Jvm.ClassFile.FieldType.int) [((0 : Nat), (9 : Nat), (12 : Nat), (21 : Nat))]) ∈ lw_all := lw_g (lw_at lw_m7 152 rfl) rfl
theorem q1660 : (Jvm.Cond.methodLink "FilterWaterworksLaw" (91 : Nat) ({ cls := "FilterWaterworks", name := "flow", desc := "(I)I" } : Jvm.MethodName)) ∈ lw_all := lw_g (lw_at lw_m7 153 rfl) rfl
theorem q1677 : (Jvm.Cond.methodLink "FilterWaterworksLaw" (253 : Nat) ({ cls := "FilterWaterworksLaw", name := "litresThrough", desc := "(LFilterWaterworks;I[J)I" } : Jvm.MethodName)) ∈ lw_all := lw_g (lw_at lw_m7 170 rfl) rfl
theorem q1678 : (Jvm.Cond.static ({ cls := "FilterWaterworksLaw", name := "litresThrough", desc := "(LFilterWaterworks;I[J)I" } : Jvm.MethodName)) ∈ lw_all := lw_g (lw_at lw_m7 171 rfl) rfl
theorem q1679 : (Jvm.Cond.codeWith ({ cls := "FilterWaterworksLaw", name := "litresThrough", desc := "(LFilterWaterworks;I[J)I" } : Jvm.MethodName) method_26_code (4 : Nat) (Option.some Jvm.ClassFile.FieldType.int) [((0 : Nat), (9 : Nat), (12 : Nat), (21 : Nat))]) ∈ lw_all := lw_g (lw_at lw_m7 172 rfl) rfl
theorem q1680 : (Jvm.Cond.methodLink "FilterWaterworksLaw" (94 : Nat) ({ cls := "FilterWaterworks", name := "litresThrough", desc := "(I)I" } : Jvm.MethodName)) ∈ lw_all := lw_g (lw_at lw_m7 173 rfl) rfl
theorem q1684 : (Jvm.Cond.methodLink "FilterWaterworksLaw" (256 : Nat) ({ cls := "FilterWaterworksLaw", name := "pipeByDirt", desc := "(LFilterWaterworks;I[J)I" } : Jvm.MethodName)) ∈ lw_all := lw_g (lw_at lw_m7 177 rfl) rfl
theorem q1685 : (Jvm.Cond.static ({ cls := "FilterWaterworksLaw", name := "pipeByDirt", desc := "(LFilterWaterworks;I[J)I" } : Jvm.MethodName)) ∈ lw_all := lw_g (lw_at lw_m7 178 rfl) rfl
theorem q1686 : (Jvm.Cond.codeWith ({ cls := "FilterWaterworksLaw", name := "pipeByDirt", desc := "(LFilterWaterworks;I[J)I" } : Jvm.MethodName) method_27_code (4 : Nat) (Option.some Jvm.ClassFile.FieldType.int) [((0 : Nat), (9 : Nat), (12 : Nat), (60 : Nat))]) ∈ lw_all := lw_g (lw_at lw_m7 179 rfl) rfl
theorem q1687 : (Jvm.Cond.methodLink "FilterWaterworksLaw" (97 : Nat) ({ cls := "FilterWaterworks", name := "pipeByDirt", desc := "(I)I" } : Jvm.MethodName)) ∈ lw_all := lw_g (lw_at lw_m7 180 rfl) rfl
theorem q1695 : (Jvm.Cond.methodLink "FilterWaterworksLaw" (259 : Nat) ({ cls := "FilterWaterworksLaw", name := "areConnected", desc := "(LFilterWaterworks;II[J)I" } : Jvm.MethodName)) ∈ lw_all := lw_g (lw_at lw_m7 188 rfl) rfl
theorem q1696 : (Jvm.Cond.static ({ cls := "FilterWaterworksLaw", name := "areConnected", desc := "(LFilterWaterworks;II[J)I" } : Jvm.MethodName)) ∈ lw_all := lw_g (lw_at lw_m7 189 rfl) rfl
theorem q1697 : (Jvm.Cond.codeWith ({ cls := "FilterWaterworksLaw", name := "areConnected", desc := "(LFilterWaterworks;II[J)I" } : Jvm.MethodName) method_28_code (5 : Nat) (Option.some Jvm.ClassFile.FieldType.int) [((0 : Nat), (17 : Nat), (20 : Nat), (21 : Nat))]) ∈ lw_all := lw_g (lw_at lw_m7 190 rfl) rfl
theorem q1698 : (Jvm.Cond.methodLink "FilterWaterworksLaw" (100 : Nat) ({ cls := "FilterWaterworks", name := "areConnected", desc := "(II)Z" } : Jvm.MethodName)) ∈ lw_all := lw_g (lw_at lw_m7 191 rfl) rfl
theorem q1710 : (Jvm.Cond.methodLink "FilterWaterworksLaw" (270 : Nat) ({ cls := "FilterWaterworksLaw", name := "isBridge", desc := "(LFilterWaterworks;I[J)I" } : Jvm.MethodName)) ∈ lw_all := lw_g (lw_at lw_m7 203 rfl) rfl
theorem q1711 : (Jvm.Cond.static ({ cls := "FilterWaterworksLaw", name := "isBridge", desc := "(LFilterWaterworks;I[J)I" } : Jvm.MethodName)) ∈ lw_all := lw_g (lw_at lw_m7 204 rfl) rfl
theorem q1712 : (Jvm.Cond.codeWith ({ cls := "FilterWaterworksLaw", name := "isBridge", desc := "(LFilterWaterworks;I[J)I" } : Jvm.MethodName) method_29_code (4 : Nat) (Option.some Jvm.ClassFile.FieldType.int) [((0 : Nat), (16 : Nat), (19 : Nat), (21 : Nat))]) ∈ lw_all := lw_g (lw_at lw_m7 205 rfl) rfl
theorem q1713 : (Jvm.Cond.methodLink "FilterWaterworksLaw" (104 : Nat) ({ cls := "FilterWaterworks", name := "isBridge", desc := "(I)Z" } : Jvm.MethodName)) ∈ lw_all := lw_g (lw_at lw_m7 206 rfl) rfl
theorem q1718 : (Jvm.Cond.methodLink "FilterWaterworksLaw" (281 : Nat) ({ cls := "FilterWaterworksLaw", name := "width", desc := "(LFilterWaterworks;II[J)I" } : Jvm.MethodName)) ∈ lw_all := lw_g (lw_at lw_m7 211 rfl) rfl
theorem q1719 : (Jvm.Cond.static ({ cls := "FilterWaterworksLaw", name := "width", desc := "(LFilterWaterworks;II[J)I" } : Jvm.MethodName)) ∈ lw_all := lw_g (lw_at lw_m7 212 rfl) rfl
theorem q1720 : (Jvm.Cond.codeWith ({ cls := "FilterWaterworksLaw", name := "width", desc := "(LFilterWaterworks;II[J)I" } : Jvm.MethodName) method_30_code (5 : Nat) (Option.some Jvm.ClassFile.FieldType.int) [((0 : Nat), (10 : Nat), (13 : Nat), (21 : Nat))]) ∈ lw_all := lw_g (lw_at lw_m7 213 rfl) rfl
theorem q1721 : (Jvm.Cond.methodLink "FilterWaterworksLaw" (107 : Nat) ({ cls := "FilterWaterworks", name := "width", desc := "(II)I" } : Jvm.MethodName)) ∈ lw_all := lw_g (lw_at lw_m7 214 rfl) rfl
theorem q1726 : (Jvm.Cond.methodLink "FilterWaterworksLaw" (284 : Nat) ({ cls := "FilterWaterworksLaw", name := "widthBySettings", desc := "(LFilterWaterworks;II[J)I" } : Jvm.MethodName)) ∈ lw_all := lw_g (lw_at lw_m7 219 rfl) rfl
theorem q1727 : (Jvm.Cond.static ({ cls := "FilterWaterworksLaw", name := "widthBySettings", desc := "(LFilterWaterworks;II[J)I" } : Jvm.MethodName)) ∈ lw_all := lw_g (lw_at lw_m7 220 rfl) rfl
theorem q1728 : (Jvm.Cond.codeWith ({ cls := "FilterWaterworksLaw", name := "widthBySettings", desc := "(LFilterWaterworks;II[J)I" } : Jvm.MethodName) method_31_code (5 : Nat) (Option.some Jvm.ClassFile.FieldType.int) [((0 : Nat), (10 : Nat), (13 : Nat), (21 : Nat))]) ∈ lw_all := lw_g (lw_at lw_m7 221 rfl) rfl
theorem q1729 : (Jvm.Cond.methodLink "FilterWaterworksLaw" (110 : Nat) ({ cls := "FilterWaterworks", name := "widthBySettings", desc := "(II)I" } : Jvm.MethodName)) ∈ lw_all := lw_g (lw_at lw_m7 222 rfl) rfl
theorem q1734 : (Jvm.Cond.methodLink "FilterWaterworksLaw" (287 : Nat) ({ cls := "FilterWaterworksLaw", name := "cleanest", desc := "(LFilterWaterworks;II[J)I" } : Jvm.MethodName)) ∈ lw_all := lw_g (lw_at lw_m7 227 rfl) rfl
theorem q1735 : (Jvm.Cond.static ({ cls := "FilterWaterworksLaw", name := "cleanest", desc := "(LFilterWaterworks;II[J)I" } : Jvm.MethodName)) ∈ lw_all := lw_g (lw_at lw_m7 228 rfl) rfl
theorem q1736 : (Jvm.Cond.codeWith ({ cls := "FilterWaterworksLaw", name := "cleanest", desc := "(LFilterWaterworks;II[J)I" } : Jvm.MethodName) method_32_code (5 : Nat) (Option.some Jvm.ClassFile.FieldType.int) [((0 : Nat), (10 : Nat), (13 : Nat), (21 : Nat)), ((0 : Nat), (10 : Nat), (17 : Nat), (60 : Nat))]) ∈ lw_all := lw_g (lw_at lw_m7 229 rfl) rfl
theorem q1737 : (Jvm.Cond.methodLink "FilterWaterworksLaw" (113 : Nat) ({ cls := "FilterWaterworks", name := "cleanest", desc := "(II)I" } : Jvm.MethodName)) ∈ lw_all := lw_g (lw_at lw_m7 230 rfl) rfl
theorem q1743 : (Jvm.Cond.methodLink "FilterWaterworksLaw" (290 : Nat) ({ cls := "FilterWaterworksLaw", name := "cleanestByPasses", desc := "(LFilterWaterworks;II[J)I" } : Jvm.MethodName)) ∈ lw_all := lw_g (lw_at lw_m7 236 rfl) rfl
theorem q1744 : (Jvm.Cond.static ({ cls := "FilterWaterworksLaw", name := "cleanestByPasses", desc := "(LFilterWaterworks;II[J)I" } : Jvm.MethodName)) ∈ lw_all := lw_g (lw_at lw_m7 237 rfl) rfl
theorem q1745 : (Jvm.Cond.codeWith ({ cls := "FilterWaterworksLaw", name := "cleanestByPasses", desc := "(LFilterWaterworks;II[J)I" } : Jvm.MethodName) method_33_code (5 : Nat) (Option.some Jvm.ClassFile.FieldType.int) [((0 : Nat), (10 : Nat), (13 : Nat), (21 : Nat)), ((0 : Nat), (10 : Nat), (17 : Nat), (60 : Nat))]) ∈ lw_all := lw_g (lw_at lw_m7 238 rfl) rfl
theorem q1746 : (Jvm.Cond.methodLink "FilterWaterworksLaw" (116 : Nat) ({ cls := "FilterWaterworks", name := "cleanestByPasses", desc := "(II)I" } : Jvm.MethodName)) ∈ lw_all := lw_g (lw_at lw_m7 239 rfl) rfl
theorem q1751 : (Jvm.Cond.methodLink "FilterWaterworksLaw" (293 : Nat) ({ cls := "FilterWaterworksLaw", name := "minutesUntilStill", desc := "(LFilterWaterworks;[J)I" } : Jvm.MethodName)) ∈ lw_all := lw_g (lw_at lw_m8 4 rfl) rfl
theorem q1752 : (Jvm.Cond.static ({ cls := "FilterWaterworksLaw", name := "minutesUntilStill", desc := "(LFilterWaterworks;[J)I" } : Jvm.MethodName)) ∈ lw_all := lw_g (lw_at lw_m8 5 rfl) rfl
theorem q1753 : (Jvm.Cond.codeWith ({ cls := "FilterWaterworksLaw", name := "minutesUntilStill", desc := "(LFilterWaterworks;[J)I" } : Jvm.MethodName) method_34_code (3 : Nat) (Option.some Jvm.ClassFile.FieldType.int) [((0 : Nat), (8 : Nat), (11 : Nat), (15 : Nat))]) ∈ lw_all := lw_g (lw_at lw_m8 6 rfl) rfl
theorem q1754 : (Jvm.Cond.methodLink "FilterWaterworksLaw" (119 : Nat) ({ cls := "FilterWaterworks", name := "minutesUntilStill", desc := "()I" } : Jvm.MethodName)) ∈ lw_all := lw_g (lw_at lw_m8 7 rfl) rfl
theorem q1771 : (Jvm.Cond.methodLink "FilterWaterworksLaw" (321 : Nat) ({ cls := "FilterWaterworksLaw", name := "meanContent", desc := "(LFilterWaterworks;[D)I" } : Jvm.MethodName)) ∈ lw_all := lw_g (lw_at lw_m8 24 rfl) rfl
theorem q1772 : (Jvm.Cond.static ({ cls := "FilterWaterworksLaw", name := "meanContent", desc := "(LFilterWaterworks;[D)I" } : Jvm.MethodName)) ∈ lw_all := lw_g (lw_at lw_m8 25 rfl) rfl
theorem q1773 : (Jvm.Cond.codeWith ({ cls := "FilterWaterworksLaw", name := "meanContent", desc := "(LFilterWaterworks;[D)I" } : Jvm.MethodName) method_35_code (3 : Nat) (Option.some Jvm.ClassFile.FieldType.int) [((0 : Nat), (7 : Nat), (10 : Nat), (127 : Nat))]) ∈ lw_all := lw_g (lw_at lw_m8 26 rfl) rfl
theorem q1774 : (Jvm.Cond.classLink "FilterWaterworksLaw" (127 : Nat) "java/lang/ArithmeticException") ∈ lw_all := lw_g (lw_at lw_m8 27 rfl) rfl
theorem q1788 : (Jvm.Cond.methodLink "FilterWaterworksLaw" (123 : Nat) ({ cls := "FilterWaterworks", name := "meanContent", desc := "()D" } : Jvm.MethodName)) ∈ lw_all := lw_g (lw_at lw_m8 41 rfl) rfl
theorem q1797 : (Jvm.Cond.methodLink "FilterWaterworksLaw" (325 : Nat) ({ cls := "FilterWaterworksLaw", name := "meanContentBits", desc := "(LFilterWaterworks;[J)I" } : Jvm.MethodName)) ∈ lw_all := lw_g (lw_at lw_m8 50 rfl) rfl
theorem q1798 : (Jvm.Cond.static ({ cls := "FilterWaterworksLaw", name := "meanContentBits", desc := "(LFilterWaterworks;[J)I" } : Jvm.MethodName)) ∈ lw_all := lw_g (lw_at lw_m8 51 rfl) rfl
theorem q1799 : (Jvm.Cond.codeWith ({ cls := "FilterWaterworksLaw", name := "meanContentBits", desc := "(LFilterWaterworks;[J)I" } : Jvm.MethodName) method_36_code (3 : Nat) (Option.some Jvm.ClassFile.FieldType.int) [((0 : Nat), (7 : Nat), (10 : Nat), (127 : Nat))]) ∈ lw_all := lw_g (lw_at lw_m8 52 rfl) rfl
theorem q1800 : (Jvm.Cond.methodLink "FilterWaterworksLaw" (129 : Nat) ({ cls := "FilterWaterworks", name := "meanContentBits", desc := "()J" } : Jvm.MethodName)) ∈ lw_all := lw_g (lw_at lw_m8 53 rfl) rfl
theorem q1815 : (Jvm.Cond.methodLink "FilterWaterworksLaw" (337 : Nat) ({ cls := "FilterWaterworksLaw", name := "renderTank", desc := "(LFilterWaterworks;I[J)I" } : Jvm.MethodName)) ∈ lw_all := lw_g (lw_at lw_m8 68 rfl) rfl
theorem q1816 : (Jvm.Cond.static ({ cls := "FilterWaterworksLaw", name := "renderTank", desc := "(LFilterWaterworks;I[J)I" } : Jvm.MethodName)) ∈ lw_all := lw_g (lw_at lw_m8 69 rfl) rfl
theorem q1817 : (Jvm.Cond.codeWith ({ cls := "FilterWaterworksLaw", name := "renderTank", desc := "(LFilterWaterworks;I[J)I" } : Jvm.MethodName) method_37_code (4 : Nat) (Option.some Jvm.ClassFile.FieldType.int) [((0 : Nat), (9 : Nat), (12 : Nat), (21 : Nat))]) ∈ lw_all := lw_g (lw_at lw_m8 70 rfl) rfl
theorem q1818 : (Jvm.Cond.methodLink "FilterWaterworksLaw" (133 : Nat) ({ cls := "FilterWaterworks", name := "renderTank", desc := "(I)I" } : Jvm.MethodName)) ∈ lw_all := lw_g (lw_at lw_m8 71 rfl) rfl
theorem q1862 : (Jvm.Cond.methodLink "FilterWaterworksLaw" (340 : Nat) ({ cls := "FilterWaterworksLaw", name := "renderPipe", desc := "(LFilterWaterworks;I[J)I" } : Jvm.MethodName)) ∈ lw_all := lw_g (lw_at lw_m8 115 rfl) rfl
theorem q1863 : (Jvm.Cond.static ({ cls := "FilterWaterworksLaw", name := "renderPipe", desc := "(LFilterWaterworks;I[J)I" } : Jvm.MethodName)) ∈ lw_all := lw_g (lw_at lw_m8 116 rfl) rfl
theorem q1864 : (Jvm.Cond.codeWith ({ cls := "FilterWaterworksLaw", name := "renderPipe", desc := "(LFilterWaterworks;I[J)I" } : Jvm.MethodName) method_38_code (4 : Nat) (Option.some Jvm.ClassFile.FieldType.int) [((0 : Nat), (9 : Nat), (12 : Nat), (21 : Nat))]) ∈ lw_all := lw_g (lw_at lw_m8 117 rfl) rfl
theorem q1865 : (Jvm.Cond.methodLink "FilterWaterworksLaw" (136 : Nat) ({ cls := "FilterWaterworks", name := "renderPipe", desc := "(I)I" } : Jvm.MethodName)) ∈ lw_all := lw_g (lw_at lw_m8 118 rfl) rfl
theorem q1885 : (Jvm.Cond.methodLink "FilterWaterworksLaw" (343 : Nat) ({ cls := "FilterWaterworksLaw", name := "outputAt", desc := "(LFilterWaterworks;I[J)I" } : Jvm.MethodName)) ∈ lw_all := lw_g (lw_at lw_m8 138 rfl) rfl
theorem q1886 : (Jvm.Cond.static ({ cls := "FilterWaterworksLaw", name := "outputAt", desc := "(LFilterWaterworks;I[J)I" } : Jvm.MethodName)) ∈ lw_all := lw_g (lw_at lw_m8 139 rfl) rfl
theorem q1887 : (Jvm.Cond.codeWith ({ cls := "FilterWaterworksLaw", name := "outputAt", desc := "(LFilterWaterworks;I[J)I" } : Jvm.MethodName) method_39_code (4 : Nat) (Option.some Jvm.ClassFile.FieldType.int) [((0 : Nat), (9 : Nat), (12 : Nat), (21 : Nat))]) ∈ lw_all := lw_g (lw_at lw_m8 140 rfl) rfl
theorem q1888 : (Jvm.Cond.methodLink "FilterWaterworksLaw" (139 : Nat) ({ cls := "FilterWaterworks", name := "outputAt", desc := "(I)C" } : Jvm.MethodName)) ∈ lw_all := lw_g (lw_at lw_m8 141 rfl) rfl
theorem q1903 : (Jvm.Cond.methodLink "FilterWaterworksLaw" (346 : Nat) ({ cls := "FilterWaterworksLaw", name := "type", desc := "(LFilterWaterworks;C[J)I" } : Jvm.MethodName)) ∈ lw_all := lw_g (lw_at lw_m8 156 rfl) rfl
theorem q1904 : (Jvm.Cond.static ({ cls := "FilterWaterworksLaw", name := "type", desc := "(LFilterWaterworks;C[J)I" } : Jvm.MethodName)) ∈ lw_all := lw_g (lw_at lw_m8 157 rfl) rfl
theorem q1905 : (Jvm.Cond.codeWith ({ cls := "FilterWaterworksLaw", name := "type", desc := "(LFilterWaterworks;C[J)I" } : Jvm.MethodName) method_40_code (4 : Nat) (Option.some Jvm.ClassFile.FieldType.int) [((0 : Nat), (9 : Nat), (12 : Nat), (13 : Nat)), ((0 : Nat), (9 : Nat), (15 : Nat), (15 : Nat))]) ∈ lw_all := lw_g (lw_at lw_m8 158 rfl) rfl
theorem q1906 : (Jvm.Cond.methodLink "FilterWaterworksLaw" (143 : Nat) ({ cls := "FilterWaterworks", name := "type", desc := "(C)I" } : Jvm.MethodName)) ∈ lw_all := lw_g (lw_at lw_m8 159 rfl) rfl
theorem q1912 : (Jvm.Cond.methodLink "FilterWaterworksLaw" (350 : Nat) ({ cls := "FilterWaterworksLaw", name := "runScript", desc := "(LFilterWaterworks;[J)I" } : Jvm.MethodName)) ∈ lw_all := lw_g (lw_at lw_m8 165 rfl) rfl
theorem q1913 : (Jvm.Cond.static ({ cls := "FilterWaterworksLaw", name := "runScript", desc := "(LFilterWaterworks;[J)I" } : Jvm.MethodName)) ∈ lw_all := lw_g (lw_at lw_m8 166 rfl) rfl
theorem q1914 : (Jvm.Cond.codeWith ({ cls := "FilterWaterworksLaw", name := "runScript", desc := "(LFilterWaterworks;[J)I" } : Jvm.MethodName) method_41_code (3 : Nat) (Option.some Jvm.ClassFile.FieldType.int) [((0 : Nat), (8 : Nat), (11 : Nat), (13 : Nat)), ((0 : Nat), (8 : Nat), (14 : Nat), (15 : Nat))]) ∈ lw_all := lw_g (lw_at lw_m8 167 rfl) rfl
theorem q1915 : (Jvm.Cond.methodLink "FilterWaterworksLaw" (147 : Nat) ({ cls := "FilterWaterworks", name := "runScript", desc := "()I" } : Jvm.MethodName)) ∈ lw_all := lw_g (lw_at lw_m8 168 rfl) rfl
theorem q2221 : (Jvm.Cond.methodLink "FilterWaterworksLaw" (353 : Nat) ({ cls := "FilterWaterworksLaw", name := "errorPosition", desc := "(LFilterWaterworks;[J)I" } : Jvm.MethodName)) ∈ lw_all := lw_g (lw_at lw_m9 234 rfl) rfl
theorem q2222 : (Jvm.Cond.static ({ cls := "FilterWaterworksLaw", name := "errorPosition", desc := "(LFilterWaterworks;[J)I" } : Jvm.MethodName)) ∈ lw_all := lw_g (lw_at lw_m9 235 rfl) rfl
theorem q2223 : (Jvm.Cond.codeWith ({ cls := "FilterWaterworksLaw", name := "errorPosition", desc := "(LFilterWaterworks;[J)I" } : Jvm.MethodName) method_42_code (3 : Nat) (Option.some Jvm.ClassFile.FieldType.int) [((0 : Nat), (8 : Nat), (11 : Nat), (60 : Nat))]) ∈ lw_all := lw_g (lw_at lw_m9 236 rfl) rfl
theorem q2224 : (Jvm.Cond.methodLink "FilterWaterworksLaw" (150 : Nat) ({ cls := "FilterWaterworks", name := "errorPosition", desc := "()I" } : Jvm.MethodName)) ∈ lw_all := lw_g (lw_at lw_m9 237 rfl) rfl
theorem q2228 : (Jvm.Cond.methodLink "FilterWaterworksLaw" (356 : Nat) ({ cls := "FilterWaterworksLaw", name := "failedCommand", desc := "(LFilterWaterworks;[J)I" } : Jvm.MethodName)) ∈ lw_all := lw_g (lw_at lw_m10 1 rfl) rfl
theorem q2229 : (Jvm.Cond.static ({ cls := "FilterWaterworksLaw", name := "failedCommand", desc := "(LFilterWaterworks;[J)I" } : Jvm.MethodName)) ∈ lw_all := lw_g (lw_at lw_m10 2 rfl) rfl
theorem q2230 : (Jvm.Cond.codeWith ({ cls := "FilterWaterworksLaw", name := "failedCommand", desc := "(LFilterWaterworks;[J)I" } : Jvm.MethodName) method_43_code (3 : Nat) (Option.some Jvm.ClassFile.FieldType.int) [((0 : Nat), (8 : Nat), (11 : Nat), (60 : Nat))]) ∈ lw_all := lw_g (lw_at lw_m10 3 rfl) rfl
theorem q2231 : (Jvm.Cond.methodLink "FilterWaterworksLaw" (153 : Nat) ({ cls := "FilterWaterworks", name := "failedCommand", desc := "()I" } : Jvm.MethodName)) ∈ lw_all := lw_g (lw_at lw_m10 4 rfl) rfl
theorem q2235 : (Jvm.Cond.methodLink "FilterWaterworksLaw" (359 : Nat) ({ cls := "FilterWaterworksLaw", name := "undo", desc := "(LFilterWaterworks;[J)I" } : Jvm.MethodName)) ∈ lw_all := lw_g (lw_at lw_m10 8 rfl) rfl
theorem q2236 : (Jvm.Cond.static ({ cls := "FilterWaterworksLaw", name := "undo", desc := "(LFilterWaterworks;[J)I" } : Jvm.MethodName)) ∈ lw_all := lw_g (lw_at lw_m10 9 rfl) rfl
theorem q2237 : (Jvm.Cond.codeWith ({ cls := "FilterWaterworksLaw", name := "undo", desc := "(LFilterWaterworks;[J)I" } : Jvm.MethodName) method_44_code (3 : Nat) (Option.some Jvm.ClassFile.FieldType.int) [((0 : Nat), (8 : Nat), (11 : Nat), (60 : Nat))]) ∈ lw_all := lw_g (lw_at lw_m10 10 rfl) rfl
theorem q2238 : (Jvm.Cond.methodLink "FilterWaterworksLaw" (156 : Nat) ({ cls := "FilterWaterworks", name := "undo", desc := "()I" } : Jvm.MethodName)) ∈ lw_all := lw_g (lw_at lw_m10 11 rfl) rfl
theorem q2261 : (Jvm.Cond.methodLink "FilterWaterworksLaw" (366 : Nat) ({ cls := "FilterWaterworksLaw", name := "restore", desc := "(LFilterWaterworks;[J)I" } : Jvm.MethodName)) ∈ lw_all := lw_g (lw_at lw_m10 34 rfl) rfl
theorem q2262 : (Jvm.Cond.static ({ cls := "FilterWaterworksLaw", name := "restore", desc := "(LFilterWaterworks;[J)I" } : Jvm.MethodName)) ∈ lw_all := lw_g (lw_at lw_m10 35 rfl) rfl
theorem q2263 : (Jvm.Cond.codeWith ({ cls := "FilterWaterworksLaw", name := "restore", desc := "(LFilterWaterworks;[J)I" } : Jvm.MethodName) method_45_code (3 : Nat) (Option.some Jvm.ClassFile.FieldType.int) [((0 : Nat), (8 : Nat), (11 : Nat), (15 : Nat))]) ∈ lw_all := lw_g (lw_at lw_m10 36 rfl) rfl
theorem q2264 : (Jvm.Cond.methodLink "FilterWaterworksLaw" (159 : Nat) ({ cls := "FilterWaterworks", name := "restore", desc := "()I" } : Jvm.MethodName)) ∈ lw_all := lw_g (lw_at lw_m10 37 rfl) rfl
theorem q2272 : (Jvm.Cond.classLink "FilterWaterworksLaw" (163 : Nat) "FilterWaterworksModel") ∈ lw_all := lw_g (lw_at lw_m10 45 rfl) rfl
theorem q2274 : (Jvm.Cond.methodLink "FilterWaterworksLaw" (165 : Nat) ({ cls := "FilterWaterworksModel", name := "<init>", desc := "()V" } : Jvm.MethodName)) ∈ lw_all := lw_g (lw_at lw_m10 47 rfl) rfl
theorem q2335 : (Jvm.Cond.methodLink "FilterWaterworksLaw" (172 : Nat) ({ cls := "FilterWaterworksModel", name := "thrown", desc := "()I" } : Jvm.MethodName)) ∈ lw_all := lw_g (lw_at lw_m10 108 rfl) rfl
theorem q2339 : (Jvm.Cond.methodLink "FilterWaterworksLaw" (171 : Nat) ({ cls := "FilterWaterworksModel", name := "addTank", desc := "(I)I" } : Jvm.MethodName)) ∈ lw_all := lw_g (lw_at lw_m10 112 rfl) rfl
theorem q2366 : (Jvm.Cond.methodLink "FilterWaterworksLaw" (178 : Nat) ({ cls := "FilterWaterworksModel", name := "addPipe", desc := "(III)I" } : Jvm.MethodName)) ∈ lw_all := lw_g (lw_at lw_m10 139 rfl) rfl
theorem q2378 : (Jvm.Cond.methodLink "FilterWaterworksLaw" (181 : Nat) ({ cls := "FilterWaterworksModel", name := "pour", desc := "(III)I" } : Jvm.MethodName)) ∈ lw_all := lw_g (lw_at lw_m10 151 rfl) rfl
theorem q2386 : (Jvm.Cond.methodLink "FilterWaterworksLaw" (185 : Nat) ({ cls := "FilterWaterworksModel", name := "draw", desc := "(II)I" } : Jvm.MethodName)) ∈ lw_all := lw_g (lw_at lw_m10 159 rfl) rfl
theorem q2394 : (Jvm.Cond.methodLink "FilterWaterworksLaw" (188 : Nat) ({ cls := "FilterWaterworksModel", name := "setValve", desc := "(II)I" } : Jvm.MethodName)) ∈ lw_all := lw_g (lw_at lw_m10 167 rfl) rfl
theorem q2410 : (Jvm.Cond.methodLink "FilterWaterworksLaw" (191 : Nat) ({ cls := "FilterWaterworksModel", name := "setLeak", desc := "(II)I" } : Jvm.MethodName)) ∈ lw_all := lw_g (lw_at lw_m10 183 rfl) rfl
theorem q2414 : (Jvm.Cond.methodLink "FilterWaterworksLaw" (194 : Nat) ({ cls := "FilterWaterworksModel", name := "cleanFilter", desc := "(I)I" } : Jvm.MethodName)) ∈ lw_all := lw_g (lw_at lw_m10 187 rfl) rfl
theorem q2418 : (Jvm.Cond.methodLink "FilterWaterworksLaw" (197 : Nat) ({ cls := "FilterWaterworksModel", name := "advance", desc := "(I)I" } : Jvm.MethodName)) ∈ lw_all := lw_g (lw_at lw_m10 191 rfl) rfl
theorem q2452 : (Jvm.Cond.methodLink "FilterWaterworksLaw" (201 : Nat) ({ cls := "FilterWaterworksModel", name := "tankCount", desc := "()I" } : Jvm.MethodName)) ∈ lw_all := lw_g (lw_at lw_m10 225 rfl) rfl
theorem q2456 : (Jvm.Cond.methodLink "FilterWaterworksLaw" (204 : Nat) ({ cls := "FilterWaterworksModel", name := "capacity", desc := "(I)I" } : Jvm.MethodName)) ∈ lw_all := lw_g (lw_at lw_m10 229 rfl) rfl
theorem q2464 : (Jvm.Cond.methodLink "FilterWaterworksLaw" (207 : Nat) ({ cls := "FilterWaterworksModel", name := "content", desc := "(I)I" } : Jvm.MethodName)) ∈ lw_all := lw_g (lw_at lw_m10 237 rfl) rfl
theorem q2468 : (Jvm.Cond.methodLink "FilterWaterworksLaw" (210 : Nat) ({ cls := "FilterWaterworksModel", name := "impurities", desc := "(I)I" } : Jvm.MethodName)) ∈ lw_all := lw_g (lw_at lw_m11 1 rfl) rfl
theorem q2472 : (Jvm.Cond.methodLink "FilterWaterworksLaw" (214 : Nat) ({ cls := "FilterWaterworksModel", name := "hasImpurity", desc := "(IC)Z" } : Jvm.MethodName)) ∈ lw_all := lw_g (lw_at lw_m11 5 rfl) rfl
theorem q2476 : (Jvm.Cond.methodLink "FilterWaterworksLaw" (217 : Nat) ({ cls := "FilterWaterworksModel", name := "tankByContent", desc := "(I)I" } : Jvm.MethodName)) ∈ lw_all := lw_g (lw_at lw_m11 9 rfl) rfl
theorem q2480 : (Jvm.Cond.methodLink "FilterWaterworksLaw" (221 : Nat) ({ cls := "FilterWaterworksModel", name := "fillShare", desc := "(I)F" } : Jvm.MethodName)) ∈ lw_all := lw_g (lw_at lw_m11 13 rfl) rfl
theorem q2484 : (Jvm.Cond.methodLink "FilterWaterworksLaw" (224 : Nat) ({ cls := "FilterWaterworksModel", name := "fillShareBits", desc := "(I)I" } : Jvm.MethodName)) ∈ lw_all := lw_g (lw_at lw_m11 17 rfl) rfl
theorem q2490 : (Jvm.Cond.methodLink "FilterWaterworksLaw" (228 : Nat) ({ cls := "FilterWaterworksModel", name := "pipeCount", desc := "()I" } : Jvm.MethodName)) ∈ lw_all := lw_g (lw_at lw_m11 23 rfl) rfl
theorem q2494 : (Jvm.Cond.methodLink "FilterWaterworksLaw" (231 : Nat) ({ cls := "FilterWaterworksModel", name := "firstOf", desc := "(I)I" } : Jvm.MethodName)) ∈ lw_all := lw_g (lw_at lw_m11 27 rfl) rfl
theorem q2502 : (Jvm.Cond.methodLink "FilterWaterworksLaw" (234 : Nat) ({ cls := "FilterWaterworksModel", name := "secondOf", desc := "(I)I" } : Jvm.MethodName)) ∈ lw_all := lw_g (lw_at lw_m11 35 rfl) rfl
theorem q2506 : (Jvm.Cond.methodLink "FilterWaterworksLaw" (237 : Nat) ({ cls := "FilterWaterworksModel", name := "valve", desc := "(I)I" } : Jvm.MethodName)) ∈ lw_all := lw_g (lw_at lw_m11 39 rfl) rfl
theorem q2510 : (Jvm.Cond.methodLink "FilterWaterworksLaw" (240 : Nat) ({ cls := "FilterWaterworksModel", name := "leak", desc := "(I)I" } : Jvm.MethodName)) ∈ lw_all := lw_g (lw_at lw_m11 43 rfl) rfl
theorem q2514 : (Jvm.Cond.methodLink "FilterWaterworksLaw" (243 : Nat) ({ cls := "FilterWaterworksModel", name := "mesh", desc := "(I)I" } : Jvm.MethodName)) ∈ lw_all := lw_g (lw_at lw_m11 47 rfl) rfl
theorem q2518 : (Jvm.Cond.methodLink "FilterWaterworksLaw" (246 : Nat) ({ cls := "FilterWaterworksModel", name := "dirt", desc := "(I)I" } : Jvm.MethodName)) ∈ lw_all := lw_g (lw_at lw_m11 51 rfl) rfl
theorem q2522 : (Jvm.Cond.methodLink "FilterWaterworksLaw" (249 : Nat) ({ cls := "FilterWaterworksModel", name := "isOpen", desc := "(I)Z" } : Jvm.MethodName)) ∈ lw_all := lw_g (lw_at lw_m11 55 rfl) rfl
theorem q2526 : (Jvm.Cond.methodLink "FilterWaterworksLaw" (252 : Nat) ({ cls := "FilterWaterworksModel", name := "flow", desc := "(I)I" } : Jvm.MethodName)) ∈ lw_all := lw_g (lw_at lw_m11 59 rfl) rfl
theorem q2530 : (Jvm.Cond.methodLink "FilterWaterworksLaw" (255 : Nat) ({ cls := "FilterWaterworksModel", name := "litresThrough", desc := "(I)I" } : Jvm.MethodName)) ∈ lw_all := lw_g (lw_at lw_m11 63 rfl) rfl
theorem q2534 : (Jvm.Cond.methodLink "FilterWaterworksLaw" (258 : Nat) ({ cls := "FilterWaterworksModel", name := "pipeByDirt", desc := "(I)I" } : Jvm.MethodName)) ∈ lw_all := lw_g (lw_at lw_m11 67 rfl) rfl
theorem q2538 : (Jvm.Cond.methodLink "FilterWaterworksLaw" (261 : Nat) ({ cls := "FilterWaterworksModel", name := "areConnected", desc := "(II)Z" } : Jvm.MethodName)) ∈ lw_all := lw_g (lw_at lw_m11 71 rfl) rfl
theorem q2554 : (Jvm.Cond.methodLink "FilterWaterworksLaw" (265 : Nat) ({ cls := "FilterWaterworksModel", name := "groupCount", desc := "()I" } : Jvm.MethodName)) ∈ lw_all := lw_g (lw_at lw_m11 87 rfl) rfl
theorem q2558 : (Jvm.Cond.methodLink "FilterWaterworksLaw" (269 : Nat) ({ cls := "FilterWaterworksModel", name := "groupCountByUnions", desc := "()I" } : Jvm.MethodName)) ∈ lw_all := lw_g (lw_at lw_m11 91 rfl) rfl
theorem q2563 : (Jvm.Cond.methodLink "FilterWaterworksLaw" (272 : Nat) ({ cls := "FilterWaterworksModel", name := "isBridge", desc := "(I)Z" } : Jvm.MethodName)) ∈ lw_all := lw_g (lw_at lw_m11 96 rfl) rfl
theorem q2571 : (Jvm.Cond.methodLink "FilterWaterworksLaw" (276 : Nat) ({ cls := "FilterWaterworksModel", name := "bridgeCount", desc := "()I" } : Jvm.MethodName)) ∈ lw_all := lw_g (lw_at lw_m11 104 rfl) rfl
theorem q2575 : (Jvm.Cond.methodLink "FilterWaterworksLaw" (280 : Nat) ({ cls := "FilterWaterworksModel", name := "bridgeCountByLeavingOut", desc := "()I" } : Jvm.MethodName)) ∈ lw_all := lw_g (lw_at lw_m11 108 rfl) rfl
theorem q2580 : (Jvm.Cond.methodLink "FilterWaterworksLaw" (283 : Nat) ({ cls := "FilterWaterworksModel", name := "width", desc := "(II)I" } : Jvm.MethodName)) ∈ lw_all := lw_g (lw_at lw_m11 113 rfl) rfl
theorem q2584 : (Jvm.Cond.methodLink "FilterWaterworksLaw" (286 : Nat) ({ cls := "FilterWaterworksModel", name := "widthBySettings", desc := "(II)I" } : Jvm.MethodName)) ∈ lw_all := lw_g (lw_at lw_m11 117 rfl) rfl
theorem q2589 : (Jvm.Cond.methodLink "FilterWaterworksLaw" (289 : Nat) ({ cls := "FilterWaterworksModel", name := "cleanest", desc := "(II)I" } : Jvm.MethodName)) ∈ lw_all := lw_g (lw_at lw_m11 122 rfl) rfl
theorem q2597 : (Jvm.Cond.methodLink "FilterWaterworksLaw" (292 : Nat) ({ cls := "FilterWaterworksModel", name := "cleanestByPasses", desc := "(II)I" } : Jvm.MethodName)) ∈ lw_all := lw_g (lw_at lw_m11 130 rfl) rfl
theorem q2602 : (Jvm.Cond.methodLink "FilterWaterworksLaw" (296 : Nat) ({ cls := "FilterWaterworksModel", name := "minutesUntilStill", desc := "()I" } : Jvm.MethodName)) ∈ lw_all := lw_g (lw_at lw_m11 135 rfl) rfl
theorem q2610 : (Jvm.Cond.methodLink "FilterWaterworksLaw" (300 : Nat) ({ cls := "FilterWaterworksModel", name := "time", desc := "()I" } : Jvm.MethodName)) ∈ lw_all := lw_g (lw_at lw_m11 143 rfl) rfl
theorem q2614 : (Jvm.Cond.methodLink "FilterWaterworksLaw" (304 : Nat) ({ cls := "FilterWaterworksModel", name := "pouredTotal", desc := "()I" } : Jvm.MethodName)) ∈ lw_all := lw_g (lw_at lw_m11 147 rfl) rfl
theorem q2618 : (Jvm.Cond.methodLink "FilterWaterworksLaw" (308 : Nat) ({ cls := "FilterWaterworksModel", name := "drawnTotal", desc := "()I" } : Jvm.MethodName)) ∈ lw_all := lw_g (lw_at lw_m11 151 rfl) rfl
theorem q2622 : (Jvm.Cond.methodLink "FilterWaterworksLaw" (312 : Nat) ({ cls := "FilterWaterworksModel", name := "spilledTotal", desc := "()I" } : Jvm.MethodName)) ∈ lw_all := lw_g (lw_at lw_m11 155 rfl) rfl
theorem q2626 : (Jvm.Cond.methodLink "FilterWaterworksLaw" (316 : Nat) ({ cls := "FilterWaterworksModel", name := "totalContent", desc := "()I" } : Jvm.MethodName)) ∈ lw_all := lw_g (lw_at lw_m11 159 rfl) rfl
theorem q2630 : (Jvm.Cond.methodLink "FilterWaterworksLaw" (320 : Nat) ({ cls := "FilterWaterworksModel", name := "totalContentByAccounts", desc := "()I" } : Jvm.MethodName)) ∈ lw_all := lw_g (lw_at lw_m11 163 rfl) rfl
theorem q2635 : (Jvm.Cond.methodLink "FilterWaterworksLaw" (324 : Nat) ({ cls := "FilterWaterworksModel", name := "meanContent", desc := "()D" } : Jvm.MethodName)) ∈ lw_all := lw_g (lw_at lw_m11 168 rfl) rfl
theorem q2639 : (Jvm.Cond.methodLink "FilterWaterworksLaw" (327 : Nat) ({ cls := "FilterWaterworksModel", name := "meanContentBits", desc := "()J" } : Jvm.MethodName)) ∈ lw_all := lw_g (lw_at lw_m11 172 rfl) rfl
theorem q2645 : (Jvm.Cond.methodLink "FilterWaterworksLaw" (331 : Nat) ({ cls := "FilterWaterworksModel", name := "fingerprint", desc := "()J" } : Jvm.MethodName)) ∈ lw_all := lw_g (lw_at lw_m11 178 rfl) rfl
theorem q2654 : (Jvm.Cond.methodLink "FilterWaterworksLaw" (336 : Nat) ({ cls := "FilterWaterworksModel", name := "isConsistent", desc := "()Z" } : Jvm.MethodName)) ∈ lw_all := lw_g (lw_at lw_m11 187 rfl) rfl
theorem q2658 : (Jvm.Cond.methodLink "FilterWaterworksLaw" (339 : Nat) ({ cls := "FilterWaterworksModel", name := "renderTank", desc := "(I)I" } : Jvm.MethodName)) ∈ lw_all := lw_g (lw_at lw_m11 191 rfl) rfl
theorem q2674 : (Jvm.Cond.methodLink "FilterWaterworksLaw" (342 : Nat) ({ cls := "FilterWaterworksModel", name := "renderPipe", desc := "(I)I" } : Jvm.MethodName)) ∈ lw_all := lw_g (lw_at lw_m11 207 rfl) rfl
theorem q2678 : (Jvm.Cond.methodLink "FilterWaterworksLaw" (345 : Nat) ({ cls := "FilterWaterworksModel", name := "outputAt", desc := "(I)C" } : Jvm.MethodName)) ∈ lw_all := lw_g (lw_at lw_m11 211 rfl) rfl
theorem q2682 : (Jvm.Cond.methodLink "FilterWaterworksLaw" (349 : Nat) ({ cls := "FilterWaterworksModel", name := "type", desc := "(C)I" } : Jvm.MethodName)) ∈ lw_all := lw_g (lw_at lw_m11 215 rfl) rfl
theorem q2686 : (Jvm.Cond.methodLink "FilterWaterworksLaw" (352 : Nat) ({ cls := "FilterWaterworksModel", name := "runScript", desc := "()I" } : Jvm.MethodName)) ∈ lw_all := lw_g (lw_at lw_m11 219 rfl) rfl
theorem q2793 : (Jvm.Cond.methodLink "FilterWaterworksLaw" (355 : Nat) ({ cls := "FilterWaterworksModel", name := "errorPosition", desc := "()I" } : Jvm.MethodName)) ∈ lw_all := lw_g (lw_at lw_m12 86 rfl) rfl
theorem q2797 : (Jvm.Cond.methodLink "FilterWaterworksLaw" (358 : Nat) ({ cls := "FilterWaterworksModel", name := "failedCommand", desc := "()I" } : Jvm.MethodName)) ∈ lw_all := lw_g (lw_at lw_m12 90 rfl) rfl
theorem q2801 : (Jvm.Cond.methodLink "FilterWaterworksLaw" (361 : Nat) ({ cls := "FilterWaterworksModel", name := "undo", desc := "()I" } : Jvm.MethodName)) ∈ lw_all := lw_g (lw_at lw_m12 94 rfl) rfl
theorem q2805 : (Jvm.Cond.methodLink "FilterWaterworksLaw" (365 : Nat) ({ cls := "FilterWaterworksModel", name := "save", desc := "()I" } : Jvm.MethodName)) ∈ lw_all := lw_g (lw_at lw_m12 98 rfl) rfl
theorem q2809 : (Jvm.Cond.methodLink "FilterWaterworksLaw" (368 : Nat) ({ cls := "FilterWaterworksModel", name := "restore", desc := "()I" } : Jvm.MethodName)) ∈ lw_all := lw_g (lw_at lw_m12 102 rfl) rfl

/-! the law's own entry -/
set_option maxRecDepth 100000
abbrev cL_law : ByteArray := code
def dkwL_law_121 : List UInt8 := [4, 172]
abbrev dktL_law_121 : List UInt8 := dkwL_law_121 ++ []
def dkwL_law_120 : List UInt8 := [154, 0, 15, 45, 3, 47, 21, 7, 133, 148, 153, 0, 5, 3, 172, 167, 0, 3, 132, 5, 4, 167, 244, 67]
abbrev dktL_law_120 : List UInt8 := dkwL_law_120 ++ dktL_law_121
def dkwL_law_119 : List UInt8 := [184, 1, 110, 54, 6, 44, 182, 1, 112, 54, 7, 44, 182, 0, 172, 21, 6, 159, 0, 5, 3, 172, 21, 6]
abbrev dktL_law_119 : List UInt8 := dkwL_law_119 ++ dktL_law_120
def dkwL_law_118 : List UInt8 := [153, 0, 5, 3, 172, 167, 0, 60, 43, 182, 1, 106, 44, 182, 1, 109, 159, 0, 49, 3, 172, 43, 45]
abbrev dktL_law_118 : List UInt8 := dkwL_law_118 ++ dktL_law_119
def dkwL_law_117 : List UInt8 := [182, 0, 172, 21, 6, 159, 0, 5, 3, 172, 21, 6, 154, 0, 15, 45, 3, 47, 21, 7, 133, 148]
abbrev dktL_law_117 : List UInt8 := dkwL_law_117 ++ dktL_law_118
def dkwL_law_116 : List UInt8 := [153, 0, 5, 3, 172, 167, 0, 104, 43, 45, 184, 1, 103, 54, 6, 44, 182, 1, 105, 54, 7, 44]
abbrev dktL_law_116 : List UInt8 := dkwL_law_116 ++ dktL_law_117
def dkwL_law_115 : List UInt8 := [182, 0, 172, 21, 6, 159, 0, 5, 3, 172, 21, 6, 154, 0, 15, 45, 3, 47, 21, 7, 133, 148]
abbrev dktL_law_115 : List UInt8 := dkwL_law_115 ++ dktL_law_116
def dkwL_law_114 : List UInt8 := [153, 0, 5, 3, 172, 167, 0, 148, 43, 45, 184, 1, 100, 54, 6, 44, 182, 1, 102, 54, 7, 44]
abbrev dktL_law_114 : List UInt8 := dkwL_law_114 ++ dktL_law_115
def dkwL_law_113 : List UInt8 := [182, 0, 172, 21, 6, 159, 0, 5, 3, 172, 21, 6, 154, 0, 15, 45, 3, 47, 21, 7, 133, 148]
abbrev dktL_law_113 : List UInt8 := dkwL_law_113 ++ dktL_law_114
def dkwL_law_112 : List UInt8 := [153, 0, 5, 3, 172, 167, 0, 192, 43, 45, 184, 1, 97, 54, 6, 44, 182, 1, 99, 54, 7, 44]
abbrev dktL_law_112 : List UInt8 := dkwL_law_112 ++ dktL_law_113
def dkwL_law_111 : List UInt8 := [182, 0, 172, 21, 6, 159, 0, 5, 3, 172, 21, 6, 154, 0, 15, 45, 3, 47, 21, 7, 133, 148]
abbrev dktL_law_111 : List UInt8 := dkwL_law_111 ++ dktL_law_112
def dkwL_law_110 : List UInt8 := [153, 0, 5, 3, 172, 167, 0, 236, 43, 45, 184, 1, 94, 54, 6, 44, 182, 1, 96, 54, 7, 44]
abbrev dktL_law_110 : List UInt8 := dkwL_law_110 ++ dktL_law_111
def dkwL_law_109 : List UInt8 := [182, 0, 172, 21, 6, 159, 0, 5, 3, 172, 21, 6, 154, 0, 15, 45, 3, 47, 21, 7, 133, 148]
abbrev dktL_law_109 : List UInt8 := dkwL_law_109 ++ dktL_law_110
def dkwL_law_108 : List UInt8 := [46, 146, 45, 184, 1, 90, 54, 6, 44, 42, 21, 5, 4, 96, 46, 146, 182, 1, 93, 54, 7, 44]
abbrev dktL_law_108 : List UInt8 := dkwL_law_108 ++ dktL_law_109
def dkwL_law_107 : List UInt8 := [154, 0, 15, 45, 3, 47, 21, 7, 133, 148, 153, 0, 5, 3, 172, 167, 1, 38, 43, 42, 21, 5, 4, 96]
abbrev dktL_law_107 : List UInt8 := dkwL_law_107 ++ dktL_law_108
def dkwL_law_106 : List UInt8 := [21, 5, 4, 96, 46, 182, 1, 89, 54, 7, 44, 182, 0, 172, 21, 6, 159, 0, 5, 3, 172, 21, 6]
abbrev dktL_law_106 : List UInt8 := dkwL_law_106 ++ dktL_law_107
def dkwL_law_105 : List UInt8 := [153, 0, 5, 3, 172, 167, 1, 94, 43, 42, 21, 5, 4, 96, 46, 45, 184, 1, 87, 54, 6, 44, 42]
abbrev dktL_law_105 : List UInt8 := dkwL_law_105 ++ dktL_law_106
def dkwL_law_104 : List UInt8 := [182, 0, 172, 21, 6, 159, 0, 5, 3, 172, 21, 6, 154, 0, 15, 45, 3, 47, 21, 7, 133, 148]
abbrev dktL_law_104 : List UInt8 := dkwL_law_104 ++ dktL_law_105
def dkwL_law_103 : List UInt8 := [21, 5, 4, 96, 46, 45, 184, 1, 84, 54, 6, 44, 42, 21, 5, 4, 96, 46, 182, 1, 86, 54, 7, 44]
abbrev dktL_law_103 : List UInt8 := dkwL_law_103 ++ dktL_law_104
def dkwL_law_102 : List UInt8 := [172, 21, 6, 154, 0, 15, 45, 3, 47, 21, 7, 133, 148, 153, 0, 5, 3, 172, 167, 1, 150, 43, 42]
abbrev dktL_law_102 : List UInt8 := dkwL_law_102 ++ dktL_law_103
def dkwL_law_101 : List UInt8 := [54, 6, 44, 42, 21, 5, 4, 96, 46, 182, 1, 83, 54, 7, 44, 182, 0, 172, 21, 6, 159, 0, 5, 3]
abbrev dktL_law_101 : List UInt8 := dkwL_law_101 ++ dktL_law_102
def dkwL_law_100 : List UInt8 := [182, 1, 76, 44, 182, 1, 80, 159, 1, 208, 3, 172, 43, 42, 21, 5, 4, 96, 46, 45, 184, 1, 81]
abbrev dktL_law_100 : List UInt8 := dkwL_law_100 ++ dktL_law_101
def dkwL_law_99 : List UInt8 := [153, 0, 5, 3, 172, 167, 1, 233, 43, 182, 1, 72, 44, 182, 1, 75, 148, 153, 1, 221, 3, 172, 43]
abbrev dktL_law_99 : List UInt8 := dkwL_law_99 ++ dktL_law_100
def dkwL_law_98 : List UInt8 := [44, 182, 0, 172, 21, 6, 159, 0, 5, 3, 172, 21, 6, 154, 0, 14, 45, 3, 47, 22, 7, 148]
abbrev dktL_law_98 : List UInt8 := dkwL_law_98 ++ dktL_law_99
def dkwL_law_97 : List UInt8 := [24, 7, 151, 154, 0, 5, 3, 172, 167, 2, 20, 43, 45, 184, 1, 69, 54, 6, 44, 182, 1, 71, 55, 7]
abbrev dktL_law_97 : List UInt8 := dkwL_law_97 ++ dktL_law_98
def dkwL_law_96 : List UInt8 := [25, 4, 3, 49, 24, 7, 151, 153, 0, 25, 25, 4, 3, 49, 25, 4, 3, 49, 151, 153, 0, 11, 24, 7]
abbrev dktL_law_96 : List UInt8 := dkwL_law_96 ++ dktL_law_97
def dkwL_law_95 : List UInt8 := [54, 6, 44, 182, 1, 68, 57, 7, 44, 182, 0, 172, 21, 6, 159, 0, 5, 3, 172, 21, 6, 154, 0, 35]
abbrev dktL_law_95 : List UInt8 := dkwL_law_95 ++ dktL_law_96
def dkwL_law_94 : List UInt8 := [159, 2, 100, 3, 172, 43, 182, 1, 61, 44, 182, 1, 64, 159, 2, 87, 3, 172, 43, 25, 4, 184, 1, 65]
abbrev dktL_law_94 : List UInt8 := dkwL_law_94 ++ dktL_law_95
def dkwL_law_93 : List UInt8 := [172, 43, 182, 1, 53, 44, 182, 1, 56, 159, 2, 113, 3, 172, 43, 182, 1, 57, 44, 182, 1, 60]
abbrev dktL_law_93 : List UInt8 := dkwL_law_93 ++ dktL_law_94
def dkwL_law_92 : List UInt8 := [182, 1, 45, 44, 182, 1, 48, 159, 2, 139, 3, 172, 43, 182, 1, 49, 44, 182, 1, 52, 159, 2, 126, 3]
abbrev dktL_law_92 : List UInt8 := dkwL_law_92 ++ dktL_law_93
def dkwL_law_91 : List UInt8 := [153, 0, 5, 3, 172, 167, 2, 163, 43, 182, 1, 41, 44, 182, 1, 44, 159, 2, 152, 3, 172, 43]
abbrev dktL_law_91 : List UInt8 := dkwL_law_91 ++ dktL_law_92
def dkwL_law_90 : List UInt8 := [182, 0, 172, 21, 6, 159, 0, 5, 3, 172, 21, 6, 154, 0, 15, 45, 3, 47, 21, 7, 133, 148]
abbrev dktL_law_90 : List UInt8 := dkwL_law_90 ++ dktL_law_91
def dkwL_law_89 : List UInt8 := [148, 153, 0, 5, 3, 172, 167, 2, 207, 43, 45, 184, 1, 37, 54, 6, 44, 182, 1, 40, 54, 7, 44]
abbrev dktL_law_89 : List UInt8 := dkwL_law_89 ++ dktL_law_90
def dkwL_law_88 : List UInt8 := [54, 7, 44, 182, 0, 172, 21, 6, 159, 0, 5, 3, 172, 21, 6, 154, 0, 15, 45, 3, 47, 21, 7, 133]
abbrev dktL_law_88 : List UInt8 := dkwL_law_88 ++ dktL_law_89
def dkwL_law_87 : List UInt8 := [46, 45, 184, 1, 34, 54, 6, 44, 42, 21, 5, 4, 96, 46, 42, 21, 5, 5, 96, 46, 182, 1, 36]
abbrev dktL_law_87 : List UInt8 := dkwL_law_87 ++ dktL_law_88
def dkwL_law_86 : List UInt8 := [21, 7, 133, 148, 153, 0, 5, 3, 172, 167, 3, 19, 43, 42, 21, 5, 4, 96, 46, 42, 21, 5, 5, 96]
abbrev dktL_law_86 : List UInt8 := dkwL_law_86 ++ dktL_law_87
def dkwL_law_85 : List UInt8 := [182, 1, 33, 54, 7, 44, 182, 0, 172, 21, 6, 159, 0, 5, 3, 172, 21, 6, 154, 0, 15, 45, 3, 47]
abbrev dktL_law_85 : List UInt8 := dkwL_law_85 ++ dktL_law_86
def dkwL_law_84 : List UInt8 := [5, 96, 46, 45, 184, 1, 31, 54, 6, 44, 42, 21, 5, 4, 96, 46, 42, 21, 5, 5, 96, 46]
abbrev dktL_law_84 : List UInt8 := dkwL_law_84 ++ dktL_law_85
def dkwL_law_83 : List UInt8 := [3, 47, 21, 7, 133, 148, 153, 0, 5, 3, 172, 167, 3, 87, 43, 42, 21, 5, 4, 96, 46, 42, 21, 5]
abbrev dktL_law_83 : List UInt8 := dkwL_law_83 ++ dktL_law_84
def dkwL_law_82 : List UInt8 := [96, 46, 182, 1, 30, 54, 7, 44, 182, 0, 172, 21, 6, 159, 0, 5, 3, 172, 21, 6, 154, 0, 15, 45]
abbrev dktL_law_82 : List UInt8 := dkwL_law_82 ++ dktL_law_83
def dkwL_law_81 : List UInt8 := [46, 42, 21, 5, 5, 96, 46, 45, 184, 1, 28, 54, 6, 44, 42, 21, 5, 4, 96, 46, 42, 21, 5, 5]
abbrev dktL_law_81 : List UInt8 := dkwL_law_81 ++ dktL_law_82
def dkwL_law_80 : List UInt8 := [154, 0, 15, 45, 3, 47, 21, 7, 133, 148, 153, 0, 5, 3, 172, 167, 3, 155, 43, 42, 21, 5, 4, 96]
abbrev dktL_law_80 : List UInt8 := dkwL_law_80 ++ dktL_law_81
def dkwL_law_79 : List UInt8 := [42, 21, 5, 5, 96, 46, 182, 1, 27, 54, 7, 44, 182, 0, 172, 21, 6, 159, 0, 5, 3, 172, 21, 6]
abbrev dktL_law_79 : List UInt8 := dkwL_law_79 ++ dktL_law_80
def dkwL_law_78 : List UInt8 := [21, 5, 4, 96, 46, 42, 21, 5, 5, 96, 46, 45, 184, 1, 25, 54, 6, 44, 42, 21, 5, 4, 96, 46]
abbrev dktL_law_78 : List UInt8 := dkwL_law_78 ++ dktL_law_79
def dkwL_law_77 : List UInt8 := [44, 182, 1, 20, 159, 3, 238, 3, 172, 43, 182, 1, 21, 44, 182, 1, 24, 159, 3, 225, 3, 172, 43, 42]
abbrev dktL_law_77 : List UInt8 := dkwL_law_77 ++ dktL_law_78
def dkwL_law_76 : List UInt8 := [47, 21, 7, 153, 0, 7, 10, 167, 0, 4, 9, 148, 153, 0, 5, 3, 172, 167, 3, 249, 43, 182, 1, 17]
abbrev dktL_law_76 : List UInt8 := dkwL_law_76 ++ dktL_law_77
def dkwL_law_75 : List UInt8 := [46, 182, 1, 16, 54, 7, 44, 182, 0, 172, 21, 6, 159, 0, 5, 3, 172, 21, 6, 154, 0, 22, 45, 3]
abbrev dktL_law_75 : List UInt8 := dkwL_law_75 ++ dktL_law_76
def dkwL_law_74 : List UInt8 := [159, 4, 58, 3, 172, 43, 42, 21, 5, 4, 96, 46, 45, 184, 1, 14, 54, 6, 44, 42, 21, 5, 4, 96]
abbrev dktL_law_74 : List UInt8 := dkwL_law_74 ++ dktL_law_75
def dkwL_law_73 : List UInt8 := [167, 4, 82, 43, 182, 1, 6, 44, 182, 1, 9, 159, 4, 71, 3, 172, 43, 182, 1, 10, 44, 182, 1, 13]
abbrev dktL_law_73 : List UInt8 := dkwL_law_73 ++ dktL_law_74
def dkwL_law_72 : List UInt8 := [154, 0, 22, 45, 3, 47, 21, 7, 153, 0, 7, 10, 167, 0, 4, 9, 148, 153, 0, 5, 3, 172]
abbrev dktL_law_72 : List UInt8 := dkwL_law_72 ++ dktL_law_73
def dkwL_law_71 : List UInt8 := [42, 21, 5, 5, 96, 46, 182, 1, 5, 54, 7, 44, 182, 0, 172, 21, 6, 159, 0, 5, 3, 172, 21, 6]
abbrev dktL_law_71 : List UInt8 := dkwL_law_71 ++ dktL_law_72
def dkwL_law_70 : List UInt8 := [21, 5, 4, 96, 46, 42, 21, 5, 5, 96, 46, 45, 184, 1, 3, 54, 6, 44, 42, 21, 5, 4, 96, 46]
abbrev dktL_law_70 : List UInt8 := dkwL_law_70 ++ dktL_law_71
def dkwL_law_69 : List UInt8 := [172, 21, 6, 154, 0, 15, 45, 3, 47, 21, 7, 133, 148, 153, 0, 5, 3, 172, 167, 4, 157, 43, 42]
abbrev dktL_law_69 : List UInt8 := dkwL_law_69 ++ dktL_law_70
def dkwL_law_68 : List UInt8 := [54, 6, 44, 42, 21, 5, 4, 96, 46, 182, 1, 2, 54, 7, 44, 182, 0, 172, 21, 6, 159, 0, 5, 3]
abbrev dktL_law_68 : List UInt8 := dkwL_law_68 ++ dktL_law_69
def dkwL_law_67 : List UInt8 := [21, 7, 133, 148, 153, 0, 5, 3, 172, 167, 4, 213, 43, 42, 21, 5, 4, 96, 46, 45, 184, 1, 0]
abbrev dktL_law_67 : List UInt8 := dkwL_law_67 ++ dktL_law_68
def dkwL_law_66 : List UInt8 := [182, 0, 255, 54, 7, 44, 182, 0, 172, 21, 6, 159, 0, 5, 3, 172, 21, 6, 154, 0, 15, 45, 3, 47]
abbrev dktL_law_66 : List UInt8 := dkwL_law_66 ++ dktL_law_67
def dkwL_law_65 : List UInt8 := [167, 5, 13, 43, 42, 21, 5, 4, 96, 46, 45, 184, 0, 253, 54, 6, 44, 42, 21, 5, 4, 96, 46]
abbrev dktL_law_65 : List UInt8 := dkwL_law_65 ++ dktL_law_66
def dkwL_law_64 : List UInt8 := [21, 6, 159, 0, 5, 3, 172, 21, 6, 154, 0, 15, 45, 3, 47, 21, 7, 133, 148, 153, 0, 5, 3, 172]
abbrev dktL_law_64 : List UInt8 := dkwL_law_64 ++ dktL_law_65
def dkwL_law_63 : List UInt8 := [96, 46, 45, 184, 0, 250, 54, 6, 44, 42, 21, 5, 4, 96, 46, 182, 0, 252, 54, 7, 44, 182, 0, 172]
abbrev dktL_law_63 : List UInt8 := dkwL_law_63 ++ dktL_law_64
def dkwL_law_62 : List UInt8 := [21, 7, 153, 0, 7, 10, 167, 0, 4, 9, 148, 153, 0, 5, 3, 172, 167, 5, 69, 43, 42, 21, 5, 4]
abbrev dktL_law_62 : List UInt8 := dkwL_law_62 ++ dktL_law_63
def dkwL_law_61 : List UInt8 := [182, 0, 249, 54, 7, 44, 182, 0, 172, 21, 6, 159, 0, 5, 3, 172, 21, 6, 154, 0, 22, 45, 3, 47]
abbrev dktL_law_61 : List UInt8 := dkwL_law_61 ++ dktL_law_62
def dkwL_law_60 : List UInt8 := [167, 5, 132, 43, 42, 21, 5, 4, 96, 46, 45, 184, 0, 247, 54, 6, 44, 42, 21, 5, 4, 96, 46]
abbrev dktL_law_60 : List UInt8 := dkwL_law_60 ++ dktL_law_61
def dkwL_law_59 : List UInt8 := [21, 6, 159, 0, 5, 3, 172, 21, 6, 154, 0, 15, 45, 3, 47, 21, 7, 133, 148, 153, 0, 5, 3, 172]
abbrev dktL_law_59 : List UInt8 := dkwL_law_59 ++ dktL_law_60
def dkwL_law_58 : List UInt8 := [46, 45, 184, 0, 244, 54, 6, 44, 42, 21, 5, 4, 96, 46, 182, 0, 246, 54, 7, 44, 182, 0, 172]
abbrev dktL_law_58 : List UInt8 := dkwL_law_58 ++ dktL_law_59
def dkwL_law_57 : List UInt8 := [154, 0, 15, 45, 3, 47, 21, 7, 133, 148, 153, 0, 5, 3, 172, 167, 5, 188, 43, 42, 21, 5, 4, 96]
abbrev dktL_law_57 : List UInt8 := dkwL_law_57 ++ dktL_law_58
def dkwL_law_56 : List UInt8 := [21, 5, 4, 96, 46, 182, 0, 243, 54, 7, 44, 182, 0, 172, 21, 6, 159, 0, 5, 3, 172, 21, 6]
abbrev dktL_law_56 : List UInt8 := dkwL_law_56 ++ dktL_law_57
def dkwL_law_55 : List UInt8 := [153, 0, 5, 3, 172, 167, 5, 244, 43, 42, 21, 5, 4, 96, 46, 45, 184, 0, 241, 54, 6, 44, 42]
abbrev dktL_law_55 : List UInt8 := dkwL_law_55 ++ dktL_law_56
def dkwL_law_54 : List UInt8 := [182, 0, 172, 21, 6, 159, 0, 5, 3, 172, 21, 6, 154, 0, 15, 45, 3, 47, 21, 7, 133, 148]
abbrev dktL_law_54 : List UInt8 := dkwL_law_54 ++ dktL_law_55
def dkwL_law_53 : List UInt8 := [21, 5, 4, 96, 46, 45, 184, 0, 238, 54, 6, 44, 42, 21, 5, 4, 96, 46, 182, 0, 240, 54, 7, 44]
abbrev dktL_law_53 : List UInt8 := dkwL_law_53 ++ dktL_law_54
def dkwL_law_52 : List UInt8 := [172, 21, 6, 154, 0, 15, 45, 3, 47, 21, 7, 133, 148, 153, 0, 5, 3, 172, 167, 6, 44, 43, 42]
abbrev dktL_law_52 : List UInt8 := dkwL_law_52 ++ dktL_law_53
def dkwL_law_51 : List UInt8 := [54, 6, 44, 42, 21, 5, 4, 96, 46, 182, 0, 237, 54, 7, 44, 182, 0, 172, 21, 6, 159, 0, 5, 3]
abbrev dktL_law_51 : List UInt8 := dkwL_law_51 ++ dktL_law_52
def dkwL_law_50 : List UInt8 := [21, 7, 133, 148, 153, 0, 5, 3, 172, 167, 6, 100, 43, 42, 21, 5, 4, 96, 46, 45, 184, 0, 235]
abbrev dktL_law_50 : List UInt8 := dkwL_law_50 ++ dktL_law_51
def dkwL_law_49 : List UInt8 := [182, 0, 234, 54, 7, 44, 182, 0, 172, 21, 6, 159, 0, 5, 3, 172, 21, 6, 154, 0, 15, 45, 3, 47]
abbrev dktL_law_49 : List UInt8 := dkwL_law_49 ++ dktL_law_50
def dkwL_law_48 : List UInt8 := [167, 6, 156, 43, 42, 21, 5, 4, 96, 46, 45, 184, 0, 232, 54, 6, 44, 42, 21, 5, 4, 96, 46]
abbrev dktL_law_48 : List UInt8 := dkwL_law_48 ++ dktL_law_49
def dkwL_law_47 : List UInt8 := [159, 0, 5, 3, 172, 21, 6, 154, 0, 15, 45, 3, 47, 21, 7, 133, 148, 153, 0, 5, 3, 172]
abbrev dktL_law_47 : List UInt8 := dkwL_law_47 ++ dktL_law_48
def dkwL_law_46 : List UInt8 := [184, 0, 229, 54, 6, 44, 42, 21, 5, 4, 96, 46, 182, 0, 231, 54, 7, 44, 182, 0, 172, 21, 6]
abbrev dktL_law_46 : List UInt8 := dkwL_law_46 ++ dktL_law_47
def dkwL_law_45 : List UInt8 := [167, 6, 225, 43, 182, 0, 225, 44, 182, 0, 228, 159, 6, 214, 3, 172, 43, 42, 21, 5, 4, 96, 46, 45]
abbrev dktL_law_45 : List UInt8 := dkwL_law_45 ++ dktL_law_46
def dkwL_law_44 : List UInt8 := [21, 6, 159, 0, 5, 3, 172, 21, 6, 154, 0, 15, 45, 3, 47, 21, 7, 133, 148, 153, 0, 5, 3, 172]
abbrev dktL_law_44 : List UInt8 := dkwL_law_44 ++ dktL_law_45
def dkwL_law_43 : List UInt8 := [46, 45, 184, 0, 222, 54, 6, 44, 42, 21, 5, 4, 96, 46, 182, 0, 224, 54, 7, 44, 182, 0, 172]
abbrev dktL_law_43 : List UInt8 := dkwL_law_43 ++ dktL_law_44
def dkwL_law_42 : List UInt8 := [49, 151, 153, 0, 11, 23, 7, 23, 7, 149, 154, 0, 5, 3, 172, 167, 7, 25, 43, 42, 21, 5, 4, 96]
abbrev dktL_law_42 : List UInt8 := dkwL_law_42 ++ dktL_law_43
def dkwL_law_41 : List UInt8 := [172, 21, 6, 154, 0, 36, 25, 4, 3, 49, 23, 7, 141, 151, 153, 0, 25, 25, 4, 3, 49, 25, 4, 3]
abbrev dktL_law_41 : List UInt8 := dkwL_law_41 ++ dktL_law_42
def dkwL_law_40 : List UInt8 := [54, 6, 44, 42, 21, 5, 4, 96, 46, 182, 0, 221, 56, 7, 44, 182, 0, 172, 21, 6, 159, 0, 5, 3]
abbrev dktL_law_40 : List UInt8 := dkwL_law_40 ++ dktL_law_41
def dkwL_law_39 : List UInt8 := [21, 7, 133, 148, 153, 0, 5, 3, 172, 167, 7, 103, 43, 42, 21, 5, 4, 96, 46, 25, 4, 184, 0, 218]
abbrev dktL_law_39 : List UInt8 := dkwL_law_39 ++ dktL_law_40
def dkwL_law_38 : List UInt8 := [182, 0, 217, 54, 7, 44, 182, 0, 172, 21, 6, 159, 0, 5, 3, 172, 21, 6, 154, 0, 15, 45, 3, 47]
abbrev dktL_law_38 : List UInt8 := dkwL_law_38 ++ dktL_law_39
def dkwL_law_37 : List UInt8 := [167, 7, 159, 43, 42, 21, 5, 4, 96, 46, 45, 184, 0, 215, 54, 6, 44, 42, 21, 5, 4, 96, 46]
abbrev dktL_law_37 : List UInt8 := dkwL_law_37 ++ dktL_law_38
def dkwL_law_36 : List UInt8 := [154, 0, 22, 45, 3, 47, 21, 7, 153, 0, 7, 10, 167, 0, 4, 9, 148, 153, 0, 5, 3, 172]
abbrev dktL_law_36 : List UInt8 := dkwL_law_36 ++ dktL_law_37
def dkwL_law_35 : List UInt8 := [5, 96, 46, 146, 182, 0, 214, 54, 7, 44, 182, 0, 172, 21, 6, 159, 0, 5, 3, 172, 21, 6]
abbrev dktL_law_35 : List UInt8 := dkwL_law_35 ++ dktL_law_36
def dkwL_law_34 : List UInt8 := [46, 42, 21, 5, 5, 96, 46, 146, 45, 184, 0, 211, 54, 6, 44, 42, 21, 5, 4, 96, 46, 42, 21, 5]
abbrev dktL_law_34 : List UInt8 := dkwL_law_34 ++ dktL_law_35
def dkwL_law_33 : List UInt8 := [154, 0, 15, 45, 3, 47, 21, 7, 133, 148, 153, 0, 5, 3, 172, 167, 7, 236, 43, 42, 21, 5, 4, 96]
abbrev dktL_law_33 : List UInt8 := dkwL_law_33 ++ dktL_law_34
def dkwL_law_32 : List UInt8 := [21, 5, 4, 96, 46, 182, 0, 210, 54, 7, 44, 182, 0, 172, 21, 6, 159, 0, 5, 3, 172, 21, 6]
abbrev dktL_law_32 : List UInt8 := dkwL_law_32 ++ dktL_law_33
def dkwL_law_31 : List UInt8 := [153, 0, 5, 3, 172, 167, 8, 36, 43, 42, 21, 5, 4, 96, 46, 45, 184, 0, 208, 54, 6, 44, 42]
abbrev dktL_law_31 : List UInt8 := dkwL_law_31 ++ dktL_law_32
def dkwL_law_30 : List UInt8 := [182, 0, 172, 21, 6, 159, 0, 5, 3, 172, 21, 6, 154, 0, 15, 45, 3, 47, 21, 7, 133, 148]
abbrev dktL_law_30 : List UInt8 := dkwL_law_30 ++ dktL_law_31
def dkwL_law_29 : List UInt8 := [21, 5, 4, 96, 46, 45, 184, 0, 205, 54, 6, 44, 42, 21, 5, 4, 96, 46, 182, 0, 207, 54, 7, 44]
abbrev dktL_law_29 : List UInt8 := dkwL_law_29 ++ dktL_law_30
def dkwL_law_28 : List UInt8 := [172, 21, 6, 154, 0, 15, 45, 3, 47, 21, 7, 133, 148, 153, 0, 5, 3, 172, 167, 8, 92, 43, 42]
abbrev dktL_law_28 : List UInt8 := dkwL_law_28 ++ dktL_law_29
def dkwL_law_27 : List UInt8 := [54, 6, 44, 42, 21, 5, 4, 96, 46, 182, 0, 204, 54, 7, 44, 182, 0, 172, 21, 6, 159, 0, 5, 3]
abbrev dktL_law_27 : List UInt8 := dkwL_law_27 ++ dktL_law_28
def dkwL_law_26 : List UInt8 := [182, 0, 198, 44, 182, 0, 201, 159, 8, 150, 3, 172, 43, 42, 21, 5, 4, 96, 46, 45, 184, 0, 202]
abbrev dktL_law_26 : List UInt8 := dkwL_law_26 ++ dktL_law_27
def dkwL_law_25 : List UInt8 := [172, 21, 6, 154, 0, 15, 45, 3, 47, 21, 7, 133, 148, 153, 0, 5, 3, 172, 167, 8, 161, 43]
abbrev dktL_law_25 : List UInt8 := dkwL_law_25 ++ dktL_law_26
def dkwL_law_24 : List UInt8 := [54, 6, 44, 42, 21, 5, 4, 96, 46, 182, 0, 197, 54, 7, 44, 182, 0, 172, 21, 6, 159, 0, 5, 3]
abbrev dktL_law_24 : List UInt8 := dkwL_law_24 ++ dktL_law_25
def dkwL_law_23 : List UInt8 := [21, 7, 133, 148, 153, 0, 5, 3, 172, 167, 8, 217, 43, 42, 21, 5, 4, 96, 46, 45, 184, 0, 195]
abbrev dktL_law_23 : List UInt8 := dkwL_law_23 ++ dktL_law_24
def dkwL_law_22 : List UInt8 := [182, 0, 194, 54, 7, 44, 182, 0, 172, 21, 6, 159, 0, 5, 3, 172, 21, 6, 154, 0, 15, 45, 3, 47]
abbrev dktL_law_22 : List UInt8 := dkwL_law_22 ++ dktL_law_23
def dkwL_law_21 : List UInt8 := [167, 9, 17, 43, 42, 21, 5, 4, 96, 46, 45, 184, 0, 192, 54, 6, 44, 42, 21, 5, 4, 96, 46]
abbrev dktL_law_21 : List UInt8 := dkwL_law_21 ++ dktL_law_22
def dkwL_law_20 : List UInt8 := [159, 0, 5, 3, 172, 21, 6, 154, 0, 15, 45, 3, 47, 21, 7, 133, 148, 153, 0, 5, 3, 172]
abbrev dktL_law_20 : List UInt8 := dkwL_law_20 ++ dktL_law_21
def dkwL_law_19 : List UInt8 := [21, 5, 4, 96, 46, 42, 21, 5, 5, 96, 46, 182, 0, 191, 54, 7, 44, 182, 0, 172, 21, 6]
abbrev dktL_law_19 : List UInt8 := dkwL_law_19 ++ dktL_law_20
def dkwL_law_18 : List UInt8 := [167, 9, 85, 43, 42, 21, 5, 4, 96, 46, 42, 21, 5, 5, 96, 46, 45, 184, 0, 189, 54, 6, 44, 42]
abbrev dktL_law_18 : List UInt8 := dkwL_law_18 ++ dktL_law_19
def dkwL_law_17 : List UInt8 := [159, 0, 5, 3, 172, 21, 6, 154, 0, 15, 45, 3, 47, 21, 7, 133, 148, 153, 0, 5, 3, 172]
abbrev dktL_law_17 : List UInt8 := dkwL_law_17 ++ dktL_law_18
def dkwL_law_16 : List UInt8 := [21, 5, 4, 96, 46, 42, 21, 5, 5, 96, 46, 182, 0, 188, 54, 7, 44, 182, 0, 172, 21, 6]
abbrev dktL_law_16 : List UInt8 := dkwL_law_16 ++ dktL_law_17
def dkwL_law_15 : List UInt8 := [167, 9, 153, 43, 42, 21, 5, 4, 96, 46, 42, 21, 5, 5, 96, 46, 45, 184, 0, 186, 54, 6, 44, 42]
abbrev dktL_law_15 : List UInt8 := dkwL_law_15 ++ dktL_law_16
def dkwL_law_14 : List UInt8 := [159, 0, 5, 3, 172, 21, 6, 154, 0, 15, 45, 3, 47, 21, 7, 133, 148, 153, 0, 5, 3, 172]
abbrev dktL_law_14 : List UInt8 := dkwL_law_14 ++ dktL_law_15
def dkwL_law_13 : List UInt8 := [21, 5, 4, 96, 46, 42, 21, 5, 5, 96, 46, 182, 0, 185, 54, 7, 44, 182, 0, 172, 21, 6]
abbrev dktL_law_13 : List UInt8 := dkwL_law_13 ++ dktL_law_14
def dkwL_law_12 : List UInt8 := [167, 9, 221, 43, 42, 21, 5, 4, 96, 46, 42, 21, 5, 5, 96, 46, 45, 184, 0, 182, 54, 6, 44, 42]
abbrev dktL_law_12 : List UInt8 := dkwL_law_12 ++ dktL_law_13
def dkwL_law_11 : List UInt8 := [21, 6, 159, 0, 5, 3, 172, 21, 6, 154, 0, 15, 45, 3, 47, 21, 7, 133, 148, 153, 0, 5, 3, 172]
abbrev dktL_law_11 : List UInt8 := dkwL_law_11 ++ dktL_law_12
def dkwL_law_10 : List UInt8 := [96, 46, 42, 21, 5, 5, 96, 46, 42, 21, 5, 6, 96, 46, 182, 0, 181, 54, 7, 44, 182, 0, 172]
abbrev dktL_law_10 : List UInt8 := dkwL_law_10 ++ dktL_law_11
def dkwL_law_9 : List UInt8 := [46, 42, 21, 5, 5, 96, 46, 42, 21, 5, 6, 96, 46, 45, 184, 0, 179, 54, 6, 44, 42, 21, 5, 4]
abbrev dktL_law_9 : List UInt8 := dkwL_law_9 ++ dktL_law_10
def dkwL_law_8 : List UInt8 := [154, 0, 15, 45, 3, 47, 21, 7, 133, 148, 153, 0, 5, 3, 172, 167, 10, 45, 43, 42, 21, 5, 4, 96]
abbrev dktL_law_8 : List UInt8 := dkwL_law_8 ++ dktL_law_9
def dkwL_law_7 : List UInt8 := [42, 21, 5, 6, 96, 46, 182, 0, 178, 54, 7, 44, 182, 0, 172, 21, 6, 159, 0, 5, 3, 172, 21, 6]
abbrev dktL_law_7 : List UInt8 := dkwL_law_7 ++ dktL_law_8
def dkwL_law_6 : List UInt8 := [21, 5, 6, 96, 46, 45, 184, 0, 175, 54, 6, 44, 42, 21, 5, 4, 96, 46, 42, 21, 5, 5, 96, 46]
abbrev dktL_law_6 : List UInt8 := dkwL_law_6 ++ dktL_law_7
def dkwL_law_5 : List UInt8 := [148, 153, 0, 5, 3, 172, 167, 10, 125, 43, 42, 21, 5, 4, 96, 46, 42, 21, 5, 5, 96, 46, 42]
abbrev dktL_law_5 : List UInt8 := dkwL_law_5 ++ dktL_law_6
def dkwL_law_4 : List UInt8 := [54, 7, 44, 182, 0, 172, 21, 6, 159, 0, 5, 3, 172, 21, 6, 154, 0, 15, 45, 3, 47, 21, 7, 133]
abbrev dktL_law_4 : List UInt8 := dkwL_law_4 ++ dktL_law_5
def dkwL_law_3 : List UInt8 := [43, 42, 21, 5, 4, 96, 46, 45, 184, 0, 166, 54, 6, 44, 42, 21, 5, 4, 96, 46, 182, 0, 171]
abbrev dktL_law_3 : List UInt8 := dkwL_law_3 ++ dktL_law_4
def dkwL_law_2 : List UInt8 := [170, 0, 0, 0, 0, 0, 11, 170, 0, 0, 0, 0, 0, 0, 0, 57, 0, 0, 0, 248, 0, 0, 1, 48, 0, 0, 1, 128, 0, 0, 1, 208, 0, 0, 2, 20, 0, 0, 2, 88, 0, 0, 2, 156, 0, 0, 2, 212, 0, 0, 3, 12, 0, 0, 3, 25, 0, 0, 3, 81, 0, 0, 3, 137, 0, 0, 3, 193, 0, 0, 4, 14, 0, 0, 4, 70, 0, 0, 4, 148, 0, 0, 4, 204, 0, 0, 4, 217, 0, 0, 5, 17, 0, 0, 5, 73, 0, 0, 5, 129, 0, 0, 5, 185, 0, 0, 5, 241, 0, 0, 6, 41, 0, 0, 6, 104, 0, 0, 6, 160, 0, 0, 6, 216, 0, 0, 7, 16, 0, 0, 7, 91, 0, 0, 7, 104, 0, 0, 7, 117, 0, 0, 7, 180, 0, 0, 7, 193, 0, 0, 7, 206, 0, 0, 8, 18, 0, 0, 8, 86, 0, 0, 8, 154, 0, 0, 8, 222, 0, 0, 9, 10, 0, 0, 9, 23, 0, 0, 9, 36, 0, 0, 9, 49, 0, 0, 9, 62, 0, 0, 9, 75, 0, 0, 9, 88, 0, 0, 9, 153, 0, 0, 9, 196, 0, 0, 9, 210, 0, 0, 9, 223, 0, 0, 10, 23, 0, 0, 10, 79, 0, 0, 10, 135, 0, 0, 10, 193, 0, 0, 10, 237, 0, 0, 11, 25, 0, 0, 11, 69, 0, 0, 11, 113, 0, 0, 11, 126]
abbrev dktL_law_2 : List UInt8 := dkwL_law_2 ++ dktL_law_3
def dkwL_law_1 : List UInt8 := [58, 4, 3, 54, 5, 21, 5, 42, 190, 7, 100, 163, 11, 186, 42, 21, 5, 46, 16, 63, 126]
abbrev dktL_law_1 : List UInt8 := dkwL_law_1 ++ dktL_law_2
def dkwL_law_0 : List UInt8 := [187, 0, 8, 89, 183, 0, 162, 76, 187, 0, 163, 89, 183, 0, 165, 77, 4, 188, 11, 78, 4, 188, 7]
abbrev dktL_law_0 : List UInt8 := dkwL_law_0 ++ dktL_law_1
theorem dksL_law_0 : cL_law.data.toList.drop 0 = dktL_law_0 := by decide +kernel
theorem dksL_law_1 : cL_law.data.toList.drop 23 = dktL_law_1 := dk_seg dksL_law_0 23 rfl rfl
theorem dksL_law_2 : cL_law.data.toList.drop 44 = dktL_law_2 := dk_seg dksL_law_1 21 rfl rfl
theorem dksL_law_3 : cL_law.data.toList.drop 292 = dktL_law_3 := dk_seg dksL_law_2 248 rfl rfl
theorem dksL_law_4 : cL_law.data.toList.drop 315 = dktL_law_4 := dk_seg dksL_law_3 23 rfl rfl
theorem dksL_law_5 : cL_law.data.toList.drop 339 = dktL_law_5 := dk_seg dksL_law_4 24 rfl rfl
theorem dksL_law_6 : cL_law.data.toList.drop 362 = dktL_law_6 := dk_seg dksL_law_5 23 rfl rfl
theorem dksL_law_7 : cL_law.data.toList.drop 386 = dktL_law_7 := dk_seg dksL_law_6 24 rfl rfl
theorem dksL_law_8 : cL_law.data.toList.drop 410 = dktL_law_8 := dk_seg dksL_law_7 24 rfl rfl
theorem dksL_law_9 : cL_law.data.toList.drop 434 = dktL_law_9 := dk_seg dksL_law_8 24 rfl rfl
theorem dksL_law_10 : cL_law.data.toList.drop 458 = dktL_law_10 := dk_seg dksL_law_9 24 rfl rfl
theorem dksL_law_11 : cL_law.data.toList.drop 481 = dktL_law_11 := dk_seg dksL_law_10 23 rfl rfl
theorem dksL_law_12 : cL_law.data.toList.drop 505 = dktL_law_12 := dk_seg dksL_law_11 24 rfl rfl
theorem dksL_law_13 : cL_law.data.toList.drop 529 = dktL_law_13 := dk_seg dksL_law_12 24 rfl rfl
theorem dksL_law_14 : cL_law.data.toList.drop 551 = dktL_law_14 := dk_seg dksL_law_13 22 rfl rfl
theorem dksL_law_15 : cL_law.data.toList.drop 573 = dktL_law_15 := dk_seg dksL_law_14 22 rfl rfl
theorem dksL_law_16 : cL_law.data.toList.drop 597 = dktL_law_16 := dk_seg dksL_law_15 24 rfl rfl
theorem dksL_law_17 : cL_law.data.toList.drop 619 = dktL_law_17 := dk_seg dksL_law_16 22 rfl rfl
theorem dksL_law_18 : cL_law.data.toList.drop 641 = dktL_law_18 := dk_seg dksL_law_17 22 rfl rfl
theorem dksL_law_19 : cL_law.data.toList.drop 665 = dktL_law_19 := dk_seg dksL_law_18 24 rfl rfl
theorem dksL_law_20 : cL_law.data.toList.drop 687 = dktL_law_20 := dk_seg dksL_law_19 22 rfl rfl
theorem dksL_law_21 : cL_law.data.toList.drop 709 = dktL_law_21 := dk_seg dksL_law_20 22 rfl rfl
theorem dksL_law_22 : cL_law.data.toList.drop 732 = dktL_law_22 := dk_seg dksL_law_21 23 rfl rfl
theorem dksL_law_23 : cL_law.data.toList.drop 756 = dktL_law_23 := dk_seg dksL_law_22 24 rfl rfl
theorem dksL_law_24 : cL_law.data.toList.drop 779 = dktL_law_24 := dk_seg dksL_law_23 23 rfl rfl
theorem dksL_law_25 : cL_law.data.toList.drop 803 = dktL_law_25 := dk_seg dksL_law_24 24 rfl rfl
theorem dksL_law_26 : cL_law.data.toList.drop 825 = dktL_law_26 := dk_seg dksL_law_25 22 rfl rfl
theorem dksL_law_27 : cL_law.data.toList.drop 848 = dktL_law_27 := dk_seg dksL_law_26 23 rfl rfl
theorem dksL_law_28 : cL_law.data.toList.drop 872 = dktL_law_28 := dk_seg dksL_law_27 24 rfl rfl
theorem dksL_law_29 : cL_law.data.toList.drop 895 = dktL_law_29 := dk_seg dksL_law_28 23 rfl rfl
theorem dksL_law_30 : cL_law.data.toList.drop 919 = dktL_law_30 := dk_seg dksL_law_29 24 rfl rfl
theorem dksL_law_31 : cL_law.data.toList.drop 941 = dktL_law_31 := dk_seg dksL_law_30 22 rfl rfl
theorem dksL_law_32 : cL_law.data.toList.drop 964 = dktL_law_32 := dk_seg dksL_law_31 23 rfl rfl
theorem dksL_law_33 : cL_law.data.toList.drop 987 = dktL_law_33 := dk_seg dksL_law_32 23 rfl rfl
theorem dksL_law_34 : cL_law.data.toList.drop 1011 = dktL_law_34 := dk_seg dksL_law_33 24 rfl rfl
theorem dksL_law_35 : cL_law.data.toList.drop 1035 = dktL_law_35 := dk_seg dksL_law_34 24 rfl rfl
theorem dksL_law_36 : cL_law.data.toList.drop 1057 = dktL_law_36 := dk_seg dksL_law_35 22 rfl rfl
theorem dksL_law_37 : cL_law.data.toList.drop 1079 = dktL_law_37 := dk_seg dksL_law_36 22 rfl rfl
theorem dksL_law_38 : cL_law.data.toList.drop 1102 = dktL_law_38 := dk_seg dksL_law_37 23 rfl rfl
theorem dksL_law_39 : cL_law.data.toList.drop 1126 = dktL_law_39 := dk_seg dksL_law_38 24 rfl rfl
theorem dksL_law_40 : cL_law.data.toList.drop 1150 = dktL_law_40 := dk_seg dksL_law_39 24 rfl rfl
theorem dksL_law_41 : cL_law.data.toList.drop 1174 = dktL_law_41 := dk_seg dksL_law_40 24 rfl rfl
theorem dksL_law_42 : cL_law.data.toList.drop 1198 = dktL_law_42 := dk_seg dksL_law_41 24 rfl rfl
theorem dksL_law_43 : cL_law.data.toList.drop 1222 = dktL_law_43 := dk_seg dksL_law_42 24 rfl rfl
theorem dksL_law_44 : cL_law.data.toList.drop 1245 = dktL_law_44 := dk_seg dksL_law_43 23 rfl rfl
theorem dksL_law_45 : cL_law.data.toList.drop 1269 = dktL_law_45 := dk_seg dksL_law_44 24 rfl rfl
theorem dksL_law_46 : cL_law.data.toList.drop 1293 = dktL_law_46 := dk_seg dksL_law_45 24 rfl rfl
theorem dksL_law_47 : cL_law.data.toList.drop 1316 = dktL_law_47 := dk_seg dksL_law_46 23 rfl rfl
theorem dksL_law_48 : cL_law.data.toList.drop 1338 = dktL_law_48 := dk_seg dksL_law_47 22 rfl rfl
theorem dksL_law_49 : cL_law.data.toList.drop 1361 = dktL_law_49 := dk_seg dksL_law_48 23 rfl rfl
theorem dksL_law_50 : cL_law.data.toList.drop 1385 = dktL_law_50 := dk_seg dksL_law_49 24 rfl rfl
theorem dksL_law_51 : cL_law.data.toList.drop 1408 = dktL_law_51 := dk_seg dksL_law_50 23 rfl rfl
theorem dksL_law_52 : cL_law.data.toList.drop 1432 = dktL_law_52 := dk_seg dksL_law_51 24 rfl rfl
theorem dksL_law_53 : cL_law.data.toList.drop 1455 = dktL_law_53 := dk_seg dksL_law_52 23 rfl rfl
theorem dksL_law_54 : cL_law.data.toList.drop 1479 = dktL_law_54 := dk_seg dksL_law_53 24 rfl rfl
theorem dksL_law_55 : cL_law.data.toList.drop 1501 = dktL_law_55 := dk_seg dksL_law_54 22 rfl rfl
theorem dksL_law_56 : cL_law.data.toList.drop 1524 = dktL_law_56 := dk_seg dksL_law_55 23 rfl rfl
theorem dksL_law_57 : cL_law.data.toList.drop 1547 = dktL_law_57 := dk_seg dksL_law_56 23 rfl rfl
theorem dksL_law_58 : cL_law.data.toList.drop 1571 = dktL_law_58 := dk_seg dksL_law_57 24 rfl rfl
theorem dksL_law_59 : cL_law.data.toList.drop 1594 = dktL_law_59 := dk_seg dksL_law_58 23 rfl rfl
theorem dksL_law_60 : cL_law.data.toList.drop 1618 = dktL_law_60 := dk_seg dksL_law_59 24 rfl rfl
theorem dksL_law_61 : cL_law.data.toList.drop 1641 = dktL_law_61 := dk_seg dksL_law_60 23 rfl rfl
theorem dksL_law_62 : cL_law.data.toList.drop 1665 = dktL_law_62 := dk_seg dksL_law_61 24 rfl rfl
theorem dksL_law_63 : cL_law.data.toList.drop 1689 = dktL_law_63 := dk_seg dksL_law_62 24 rfl rfl
theorem dksL_law_64 : cL_law.data.toList.drop 1713 = dktL_law_64 := dk_seg dksL_law_63 24 rfl rfl
theorem dksL_law_65 : cL_law.data.toList.drop 1737 = dktL_law_65 := dk_seg dksL_law_64 24 rfl rfl
theorem dksL_law_66 : cL_law.data.toList.drop 1760 = dktL_law_66 := dk_seg dksL_law_65 23 rfl rfl
theorem dksL_law_67 : cL_law.data.toList.drop 1784 = dktL_law_67 := dk_seg dksL_law_66 24 rfl rfl
theorem dksL_law_68 : cL_law.data.toList.drop 1807 = dktL_law_68 := dk_seg dksL_law_67 23 rfl rfl
theorem dksL_law_69 : cL_law.data.toList.drop 1831 = dktL_law_69 := dk_seg dksL_law_68 24 rfl rfl
theorem dksL_law_70 : cL_law.data.toList.drop 1854 = dktL_law_70 := dk_seg dksL_law_69 23 rfl rfl
theorem dksL_law_71 : cL_law.data.toList.drop 1878 = dktL_law_71 := dk_seg dksL_law_70 24 rfl rfl
theorem dksL_law_72 : cL_law.data.toList.drop 1902 = dktL_law_72 := dk_seg dksL_law_71 24 rfl rfl
theorem dksL_law_73 : cL_law.data.toList.drop 1924 = dktL_law_73 := dk_seg dksL_law_72 22 rfl rfl
theorem dksL_law_74 : cL_law.data.toList.drop 1948 = dktL_law_74 := dk_seg dksL_law_73 24 rfl rfl
theorem dksL_law_75 : cL_law.data.toList.drop 1972 = dktL_law_75 := dk_seg dksL_law_74 24 rfl rfl
theorem dksL_law_76 : cL_law.data.toList.drop 1996 = dktL_law_76 := dk_seg dksL_law_75 24 rfl rfl
theorem dksL_law_77 : cL_law.data.toList.drop 2020 = dktL_law_77 := dk_seg dksL_law_76 24 rfl rfl
theorem dksL_law_78 : cL_law.data.toList.drop 2044 = dktL_law_78 := dk_seg dksL_law_77 24 rfl rfl
theorem dksL_law_79 : cL_law.data.toList.drop 2068 = dktL_law_79 := dk_seg dksL_law_78 24 rfl rfl
theorem dksL_law_80 : cL_law.data.toList.drop 2092 = dktL_law_80 := dk_seg dksL_law_79 24 rfl rfl
theorem dksL_law_81 : cL_law.data.toList.drop 2116 = dktL_law_81 := dk_seg dksL_law_80 24 rfl rfl
theorem dksL_law_82 : cL_law.data.toList.drop 2140 = dktL_law_82 := dk_seg dksL_law_81 24 rfl rfl
theorem dksL_law_83 : cL_law.data.toList.drop 2164 = dktL_law_83 := dk_seg dksL_law_82 24 rfl rfl
theorem dksL_law_84 : cL_law.data.toList.drop 2188 = dktL_law_84 := dk_seg dksL_law_83 24 rfl rfl
theorem dksL_law_85 : cL_law.data.toList.drop 2210 = dktL_law_85 := dk_seg dksL_law_84 22 rfl rfl
theorem dksL_law_86 : cL_law.data.toList.drop 2234 = dktL_law_86 := dk_seg dksL_law_85 24 rfl rfl
theorem dksL_law_87 : cL_law.data.toList.drop 2258 = dktL_law_87 := dk_seg dksL_law_86 24 rfl rfl
theorem dksL_law_88 : cL_law.data.toList.drop 2281 = dktL_law_88 := dk_seg dksL_law_87 23 rfl rfl
theorem dksL_law_89 : cL_law.data.toList.drop 2305 = dktL_law_89 := dk_seg dksL_law_88 24 rfl rfl
theorem dksL_law_90 : cL_law.data.toList.drop 2328 = dktL_law_90 := dk_seg dksL_law_89 23 rfl rfl
theorem dksL_law_91 : cL_law.data.toList.drop 2350 = dktL_law_91 := dk_seg dksL_law_90 22 rfl rfl
theorem dksL_law_92 : cL_law.data.toList.drop 2372 = dktL_law_92 := dk_seg dksL_law_91 22 rfl rfl
theorem dksL_law_93 : cL_law.data.toList.drop 2396 = dktL_law_93 := dk_seg dksL_law_92 24 rfl rfl
theorem dksL_law_94 : cL_law.data.toList.drop 2418 = dktL_law_94 := dk_seg dksL_law_93 22 rfl rfl
theorem dksL_law_95 : cL_law.data.toList.drop 2442 = dktL_law_95 := dk_seg dksL_law_94 24 rfl rfl
theorem dksL_law_96 : cL_law.data.toList.drop 2466 = dktL_law_96 := dk_seg dksL_law_95 24 rfl rfl
theorem dksL_law_97 : cL_law.data.toList.drop 2490 = dktL_law_97 := dk_seg dksL_law_96 24 rfl rfl
theorem dksL_law_98 : cL_law.data.toList.drop 2514 = dktL_law_98 := dk_seg dksL_law_97 24 rfl rfl
theorem dksL_law_99 : cL_law.data.toList.drop 2536 = dktL_law_99 := dk_seg dksL_law_98 22 rfl rfl
theorem dksL_law_100 : cL_law.data.toList.drop 2559 = dktL_law_100 := dk_seg dksL_law_99 23 rfl rfl
theorem dksL_law_101 : cL_law.data.toList.drop 2582 = dktL_law_101 := dk_seg dksL_law_100 23 rfl rfl
theorem dksL_law_102 : cL_law.data.toList.drop 2606 = dktL_law_102 := dk_seg dksL_law_101 24 rfl rfl
theorem dksL_law_103 : cL_law.data.toList.drop 2629 = dktL_law_103 := dk_seg dksL_law_102 23 rfl rfl
theorem dksL_law_104 : cL_law.data.toList.drop 2653 = dktL_law_104 := dk_seg dksL_law_103 24 rfl rfl
theorem dksL_law_105 : cL_law.data.toList.drop 2675 = dktL_law_105 := dk_seg dksL_law_104 22 rfl rfl
theorem dksL_law_106 : cL_law.data.toList.drop 2698 = dktL_law_106 := dk_seg dksL_law_105 23 rfl rfl
theorem dksL_law_107 : cL_law.data.toList.drop 2721 = dktL_law_107 := dk_seg dksL_law_106 23 rfl rfl
theorem dksL_law_108 : cL_law.data.toList.drop 2745 = dktL_law_108 := dk_seg dksL_law_107 24 rfl rfl
theorem dksL_law_109 : cL_law.data.toList.drop 2767 = dktL_law_109 := dk_seg dksL_law_108 22 rfl rfl
theorem dksL_law_110 : cL_law.data.toList.drop 2789 = dktL_law_110 := dk_seg dksL_law_109 22 rfl rfl
theorem dksL_law_111 : cL_law.data.toList.drop 2811 = dktL_law_111 := dk_seg dksL_law_110 22 rfl rfl
theorem dksL_law_112 : cL_law.data.toList.drop 2833 = dktL_law_112 := dk_seg dksL_law_111 22 rfl rfl
theorem dksL_law_113 : cL_law.data.toList.drop 2855 = dktL_law_113 := dk_seg dksL_law_112 22 rfl rfl
theorem dksL_law_114 : cL_law.data.toList.drop 2877 = dktL_law_114 := dk_seg dksL_law_113 22 rfl rfl
theorem dksL_law_115 : cL_law.data.toList.drop 2899 = dktL_law_115 := dk_seg dksL_law_114 22 rfl rfl
theorem dksL_law_116 : cL_law.data.toList.drop 2921 = dktL_law_116 := dk_seg dksL_law_115 22 rfl rfl
theorem dksL_law_117 : cL_law.data.toList.drop 2943 = dktL_law_117 := dk_seg dksL_law_116 22 rfl rfl
theorem dksL_law_118 : cL_law.data.toList.drop 2965 = dktL_law_118 := dk_seg dksL_law_117 22 rfl rfl
theorem dksL_law_119 : cL_law.data.toList.drop 2988 = dktL_law_119 := dk_seg dksL_law_118 23 rfl rfl
theorem dksL_law_120 : cL_law.data.toList.drop 3012 = dktL_law_120 := dk_seg dksL_law_119 24 rfl rfl
theorem dksL_law_121 : cL_law.data.toList.drop 3036 = dktL_law_121 := dk_seg dksL_law_120 24 rfl rfl
theorem dL_law_0 : decode cL_law 0 = .ok (.new 8, 3) := dk_187 0 8 (dk_at dksL_law_0 0 rfl rfl)
theorem dL_law_3 : decode cL_law 3 = .ok (.dup, 1) := dk_89 (dk_at dksL_law_0 3 rfl rfl)
theorem dL_law_4 : decode cL_law 4 = .ok (.invokespecial 162, 3) := dk_183 0 162 (dk_at dksL_law_0 4 rfl rfl)
theorem dL_law_7 : decode cL_law 7 = .ok (.astore_n 1, 1) := dk_76 (dk_at dksL_law_0 7 rfl rfl)
theorem dL_law_8 : decode cL_law 8 = .ok (.new 163, 3) := dk_187 0 163 (dk_at dksL_law_0 8 rfl rfl)
theorem dL_law_11 : decode cL_law 11 = .ok (.dup, 1) := dk_89 (dk_at dksL_law_0 11 rfl rfl)
theorem dL_law_12 : decode cL_law 12 = .ok (.invokespecial 165, 3) := dk_183 0 165 (dk_at dksL_law_0 12 rfl rfl)
theorem dL_law_15 : decode cL_law 15 = .ok (.astore_n 2, 1) := dk_77 (dk_at dksL_law_0 15 rfl rfl)
theorem dL_law_16 : decode cL_law 16 = .ok (.iconst 1, 1) := dk_4 (dk_at dksL_law_0 16 rfl rfl)
theorem dL_law_17 : decode cL_law 17 = .ok (.newarray .long, 2) := dk_188_11 (dk_at dksL_law_0 17 rfl rfl)
theorem dL_law_19 : decode cL_law 19 = .ok (.astore_n 3, 1) := dk_78 (dk_at dksL_law_0 19 rfl rfl)
theorem dL_law_20 : decode cL_law 20 = .ok (.iconst 1, 1) := dk_4 (dk_at dksL_law_0 20 rfl rfl)
theorem dL_law_21 : decode cL_law 21 = .ok (.newarray .double, 2) := dk_188_7 (dk_at dksL_law_0 21 rfl rfl)
theorem dL_law_23 : decode cL_law 23 = .ok (.astore 4, 2) := dk_58 4 (dk_at dksL_law_1 0 rfl rfl)
theorem dL_law_25 : decode cL_law 25 = .ok (.iconst 0, 1) := dk_3 (dk_at dksL_law_1 2 rfl rfl)
theorem dL_law_26 : decode cL_law 26 = .ok (.istore 5, 2) := dk_54 5 (dk_at dksL_law_1 3 rfl rfl)
theorem dL_law_28 : decode cL_law 28 = .ok (.iload 5, 2) := dk_21 5 (dk_at dksL_law_1 5 rfl rfl)
theorem dL_law_30 : decode cL_law 30 = .ok (.aload_n 0, 1) := dk_42 (dk_at dksL_law_1 7 rfl rfl)
theorem dL_law_31 : decode cL_law 31 = .ok (.arraylength, 1) := dk_190 (dk_at dksL_law_1 8 rfl rfl)
theorem dL_law_32 : decode cL_law 32 = .ok (.iconst 4, 1) := dk_7 (dk_at dksL_law_1 9 rfl rfl)
theorem dL_law_33 : decode cL_law 33 = .ok (.isub, 1) := dk_100 (dk_at dksL_law_1 10 rfl rfl)
theorem dL_law_34 : decode cL_law 34 = .ok (.if_icmp .gt 3002, 3) := dk_163 11 186 (dk_at dksL_law_1 11 rfl rfl)
theorem dL_law_37 : decode cL_law 37 = .ok (.aload_n 0, 1) := dk_42 (dk_at dksL_law_1 14 rfl rfl)
theorem dL_law_38 : decode cL_law 38 = .ok (.iload 5, 2) := dk_21 5 (dk_at dksL_law_1 15 rfl rfl)
theorem dL_law_40 : decode cL_law 40 = .ok (.iaload, 1) := dk_46 (dk_at dksL_law_1 17 rfl rfl)
theorem dL_law_41 : decode cL_law 41 = .ok (.bipush 63, 2) := dk_16 63 (dk_at dksL_law_1 18 rfl rfl)
theorem dL_law_43 : decode cL_law 43 = .ok (.iand, 1) := dk_126 (dk_at dksL_law_1 20 rfl rfl)
theorem dL_law_44 : decode cL_law 44 = .ok (.tableswitch 2986 0 57 #[248, 304, 384, 464, 532, 600, 668, 724, 780, 793, 849, 905, 961, 1038, 1094, 1172, 1228, 1241, 1297, 1353, 1409, 1465, 1521, 1577, 1640, 1696, 1752, 1808, 1883, 1896, 1909, 1972, 1985, 1998, 2066, 2134, 2202, 2270, 2314, 2327, 2340, 2353, 2366, 2379, 2392, 2457, 2500, 2514, 2527, 2583, 2639, 2695, 2753, 2797, 2841, 2885, 2929, 2942], 248) := by decide +kernel
theorem dL_law_292 : decode cL_law 292 = .ok (.aload_n 1, 1) := dk_43 (dk_at dksL_law_3 0 rfl rfl)
theorem dL_law_293 : decode cL_law 293 = .ok (.aload_n 0, 1) := dk_42 (dk_at dksL_law_3 1 rfl rfl)
theorem dL_law_294 : decode cL_law 294 = .ok (.iload 5, 2) := dk_21 5 (dk_at dksL_law_3 2 rfl rfl)
theorem dL_law_296 : decode cL_law 296 = .ok (.iconst 1, 1) := dk_4 (dk_at dksL_law_3 4 rfl rfl)
theorem dL_law_297 : decode cL_law 297 = .ok (.iadd, 1) := dk_96 (dk_at dksL_law_3 5 rfl rfl)
theorem dL_law_298 : decode cL_law 298 = .ok (.iaload, 1) := dk_46 (dk_at dksL_law_3 6 rfl rfl)
theorem dL_law_299 : decode cL_law 299 = .ok (.aload_n 3, 1) := dk_45 (dk_at dksL_law_3 7 rfl rfl)
theorem dL_law_300 : decode cL_law 300 = .ok (.invokestatic 166, 3) := dk_184 0 166 (dk_at dksL_law_3 8 rfl rfl)
theorem dL_law_303 : decode cL_law 303 = .ok (.istore 6, 2) := dk_54 6 (dk_at dksL_law_3 11 rfl rfl)
theorem dL_law_305 : decode cL_law 305 = .ok (.aload_n 2, 1) := dk_44 (dk_at dksL_law_3 13 rfl rfl)
theorem dL_law_306 : decode cL_law 306 = .ok (.aload_n 0, 1) := dk_42 (dk_at dksL_law_3 14 rfl rfl)
theorem dL_law_307 : decode cL_law 307 = .ok (.iload 5, 2) := dk_21 5 (dk_at dksL_law_3 15 rfl rfl)
theorem dL_law_309 : decode cL_law 309 = .ok (.iconst 1, 1) := dk_4 (dk_at dksL_law_3 17 rfl rfl)
theorem dL_law_310 : decode cL_law 310 = .ok (.iadd, 1) := dk_96 (dk_at dksL_law_3 18 rfl rfl)
theorem dL_law_311 : decode cL_law 311 = .ok (.iaload, 1) := dk_46 (dk_at dksL_law_3 19 rfl rfl)
theorem dL_law_312 : decode cL_law 312 = .ok (.invokevirtual 171, 3) := dk_182 0 171 (dk_at dksL_law_3 20 rfl rfl)
theorem dL_law_315 : decode cL_law 315 = .ok (.istore 7, 2) := dk_54 7 (dk_at dksL_law_4 0 rfl rfl)
theorem dL_law_317 : decode cL_law 317 = .ok (.aload_n 2, 1) := dk_44 (dk_at dksL_law_4 2 rfl rfl)
theorem dL_law_318 : decode cL_law 318 = .ok (.invokevirtual 172, 3) := dk_182 0 172 (dk_at dksL_law_4 3 rfl rfl)
theorem dL_law_321 : decode cL_law 321 = .ok (.iload 6, 2) := dk_21 6 (dk_at dksL_law_4 6 rfl rfl)
theorem dL_law_323 : decode cL_law 323 = .ok (.if_icmp .eq 5, 3) := dk_159 0 5 (dk_at dksL_law_4 8 rfl rfl)
theorem dL_law_326 : decode cL_law 326 = .ok (.iconst 0, 1) := dk_3 (dk_at dksL_law_4 11 rfl rfl)
theorem dL_law_327 : decode cL_law 327 = .ok (.ireturn, 1) := dk_172 (dk_at dksL_law_4 12 rfl rfl)
theorem dL_law_328 : decode cL_law 328 = .ok (.iload 6, 2) := dk_21 6 (dk_at dksL_law_4 13 rfl rfl)
theorem dL_law_330 : decode cL_law 330 = .ok (.ifCond .ne 15, 3) := dk_154 0 15 (dk_at dksL_law_4 15 rfl rfl)
theorem dL_law_333 : decode cL_law 333 = .ok (.aload_n 3, 1) := dk_45 (dk_at dksL_law_4 18 rfl rfl)
theorem dL_law_334 : decode cL_law 334 = .ok (.iconst 0, 1) := dk_3 (dk_at dksL_law_4 19 rfl rfl)
theorem dL_law_335 : decode cL_law 335 = .ok (.laload, 1) := dk_47 (dk_at dksL_law_4 20 rfl rfl)
theorem dL_law_336 : decode cL_law 336 = .ok (.iload 7, 2) := dk_21 7 (dk_at dksL_law_4 21 rfl rfl)
theorem dL_law_338 : decode cL_law 338 = .ok (.i2l, 1) := dk_133 (dk_at dksL_law_4 23 rfl rfl)
theorem dL_law_339 : decode cL_law 339 = .ok (.lcmp, 1) := dk_148 (dk_at dksL_law_5 0 rfl rfl)
theorem dL_law_340 : decode cL_law 340 = .ok (.ifCond .eq 5, 3) := dk_153 0 5 (dk_at dksL_law_5 1 rfl rfl)
theorem dL_law_343 : decode cL_law 343 = .ok (.iconst 0, 1) := dk_3 (dk_at dksL_law_5 4 rfl rfl)
theorem dL_law_344 : decode cL_law 344 = .ok (.ireturn, 1) := dk_172 (dk_at dksL_law_5 5 rfl rfl)
theorem dL_law_345 : decode cL_law 345 = .ok (.goto 2685, 3) := dk_167 10 125 (dk_at dksL_law_5 6 rfl rfl)
theorem dL_law_348 : decode cL_law 348 = .ok (.aload_n 1, 1) := dk_43 (dk_at dksL_law_5 9 rfl rfl)
theorem dL_law_349 : decode cL_law 349 = .ok (.aload_n 0, 1) := dk_42 (dk_at dksL_law_5 10 rfl rfl)
theorem dL_law_350 : decode cL_law 350 = .ok (.iload 5, 2) := dk_21 5 (dk_at dksL_law_5 11 rfl rfl)
theorem dL_law_352 : decode cL_law 352 = .ok (.iconst 1, 1) := dk_4 (dk_at dksL_law_5 13 rfl rfl)
theorem dL_law_353 : decode cL_law 353 = .ok (.iadd, 1) := dk_96 (dk_at dksL_law_5 14 rfl rfl)
theorem dL_law_354 : decode cL_law 354 = .ok (.iaload, 1) := dk_46 (dk_at dksL_law_5 15 rfl rfl)
theorem dL_law_355 : decode cL_law 355 = .ok (.aload_n 0, 1) := dk_42 (dk_at dksL_law_5 16 rfl rfl)
theorem dL_law_356 : decode cL_law 356 = .ok (.iload 5, 2) := dk_21 5 (dk_at dksL_law_5 17 rfl rfl)
theorem dL_law_358 : decode cL_law 358 = .ok (.iconst 2, 1) := dk_5 (dk_at dksL_law_5 19 rfl rfl)
theorem dL_law_359 : decode cL_law 359 = .ok (.iadd, 1) := dk_96 (dk_at dksL_law_5 20 rfl rfl)
theorem dL_law_360 : decode cL_law 360 = .ok (.iaload, 1) := dk_46 (dk_at dksL_law_5 21 rfl rfl)
theorem dL_law_361 : decode cL_law 361 = .ok (.aload_n 0, 1) := dk_42 (dk_at dksL_law_5 22 rfl rfl)
theorem dL_law_362 : decode cL_law 362 = .ok (.iload 5, 2) := dk_21 5 (dk_at dksL_law_6 0 rfl rfl)
theorem dL_law_364 : decode cL_law 364 = .ok (.iconst 3, 1) := dk_6 (dk_at dksL_law_6 2 rfl rfl)
theorem dL_law_365 : decode cL_law 365 = .ok (.iadd, 1) := dk_96 (dk_at dksL_law_6 3 rfl rfl)
theorem dL_law_366 : decode cL_law 366 = .ok (.iaload, 1) := dk_46 (dk_at dksL_law_6 4 rfl rfl)
theorem dL_law_367 : decode cL_law 367 = .ok (.aload_n 3, 1) := dk_45 (dk_at dksL_law_6 5 rfl rfl)
theorem dL_law_368 : decode cL_law 368 = .ok (.invokestatic 175, 3) := dk_184 0 175 (dk_at dksL_law_6 6 rfl rfl)
theorem dL_law_371 : decode cL_law 371 = .ok (.istore 6, 2) := dk_54 6 (dk_at dksL_law_6 9 rfl rfl)
theorem dL_law_373 : decode cL_law 373 = .ok (.aload_n 2, 1) := dk_44 (dk_at dksL_law_6 11 rfl rfl)
theorem dL_law_374 : decode cL_law 374 = .ok (.aload_n 0, 1) := dk_42 (dk_at dksL_law_6 12 rfl rfl)
theorem dL_law_375 : decode cL_law 375 = .ok (.iload 5, 2) := dk_21 5 (dk_at dksL_law_6 13 rfl rfl)
theorem dL_law_377 : decode cL_law 377 = .ok (.iconst 1, 1) := dk_4 (dk_at dksL_law_6 15 rfl rfl)
theorem dL_law_378 : decode cL_law 378 = .ok (.iadd, 1) := dk_96 (dk_at dksL_law_6 16 rfl rfl)
theorem dL_law_379 : decode cL_law 379 = .ok (.iaload, 1) := dk_46 (dk_at dksL_law_6 17 rfl rfl)
theorem dL_law_380 : decode cL_law 380 = .ok (.aload_n 0, 1) := dk_42 (dk_at dksL_law_6 18 rfl rfl)
theorem dL_law_381 : decode cL_law 381 = .ok (.iload 5, 2) := dk_21 5 (dk_at dksL_law_6 19 rfl rfl)
theorem dL_law_383 : decode cL_law 383 = .ok (.iconst 2, 1) := dk_5 (dk_at dksL_law_6 21 rfl rfl)
theorem dL_law_384 : decode cL_law 384 = .ok (.iadd, 1) := dk_96 (dk_at dksL_law_6 22 rfl rfl)
theorem dL_law_385 : decode cL_law 385 = .ok (.iaload, 1) := dk_46 (dk_at dksL_law_6 23 rfl rfl)
theorem dL_law_386 : decode cL_law 386 = .ok (.aload_n 0, 1) := dk_42 (dk_at dksL_law_7 0 rfl rfl)
theorem dL_law_387 : decode cL_law 387 = .ok (.iload 5, 2) := dk_21 5 (dk_at dksL_law_7 1 rfl rfl)
theorem dL_law_389 : decode cL_law 389 = .ok (.iconst 3, 1) := dk_6 (dk_at dksL_law_7 3 rfl rfl)
theorem dL_law_390 : decode cL_law 390 = .ok (.iadd, 1) := dk_96 (dk_at dksL_law_7 4 rfl rfl)
theorem dL_law_391 : decode cL_law 391 = .ok (.iaload, 1) := dk_46 (dk_at dksL_law_7 5 rfl rfl)
theorem dL_law_392 : decode cL_law 392 = .ok (.invokevirtual 178, 3) := dk_182 0 178 (dk_at dksL_law_7 6 rfl rfl)
theorem dL_law_395 : decode cL_law 395 = .ok (.istore 7, 2) := dk_54 7 (dk_at dksL_law_7 9 rfl rfl)
theorem dL_law_397 : decode cL_law 397 = .ok (.aload_n 2, 1) := dk_44 (dk_at dksL_law_7 11 rfl rfl)
theorem dL_law_398 : decode cL_law 398 = .ok (.invokevirtual 172, 3) := dk_182 0 172 (dk_at dksL_law_7 12 rfl rfl)
theorem dL_law_401 : decode cL_law 401 = .ok (.iload 6, 2) := dk_21 6 (dk_at dksL_law_7 15 rfl rfl)
theorem dL_law_403 : decode cL_law 403 = .ok (.if_icmp .eq 5, 3) := dk_159 0 5 (dk_at dksL_law_7 17 rfl rfl)
theorem dL_law_406 : decode cL_law 406 = .ok (.iconst 0, 1) := dk_3 (dk_at dksL_law_7 20 rfl rfl)
theorem dL_law_407 : decode cL_law 407 = .ok (.ireturn, 1) := dk_172 (dk_at dksL_law_7 21 rfl rfl)
theorem dL_law_408 : decode cL_law 408 = .ok (.iload 6, 2) := dk_21 6 (dk_at dksL_law_7 22 rfl rfl)
theorem dL_law_410 : decode cL_law 410 = .ok (.ifCond .ne 15, 3) := dk_154 0 15 (dk_at dksL_law_8 0 rfl rfl)
theorem dL_law_413 : decode cL_law 413 = .ok (.aload_n 3, 1) := dk_45 (dk_at dksL_law_8 3 rfl rfl)
theorem dL_law_414 : decode cL_law 414 = .ok (.iconst 0, 1) := dk_3 (dk_at dksL_law_8 4 rfl rfl)
theorem dL_law_415 : decode cL_law 415 = .ok (.laload, 1) := dk_47 (dk_at dksL_law_8 5 rfl rfl)
theorem dL_law_416 : decode cL_law 416 = .ok (.iload 7, 2) := dk_21 7 (dk_at dksL_law_8 6 rfl rfl)
theorem dL_law_418 : decode cL_law 418 = .ok (.i2l, 1) := dk_133 (dk_at dksL_law_8 8 rfl rfl)
theorem dL_law_419 : decode cL_law 419 = .ok (.lcmp, 1) := dk_148 (dk_at dksL_law_8 9 rfl rfl)
theorem dL_law_420 : decode cL_law 420 = .ok (.ifCond .eq 5, 3) := dk_153 0 5 (dk_at dksL_law_8 10 rfl rfl)
theorem dL_law_423 : decode cL_law 423 = .ok (.iconst 0, 1) := dk_3 (dk_at dksL_law_8 13 rfl rfl)
theorem dL_law_424 : decode cL_law 424 = .ok (.ireturn, 1) := dk_172 (dk_at dksL_law_8 14 rfl rfl)
theorem dL_law_425 : decode cL_law 425 = .ok (.goto 2605, 3) := dk_167 10 45 (dk_at dksL_law_8 15 rfl rfl)
theorem dL_law_428 : decode cL_law 428 = .ok (.aload_n 1, 1) := dk_43 (dk_at dksL_law_8 18 rfl rfl)
theorem dL_law_429 : decode cL_law 429 = .ok (.aload_n 0, 1) := dk_42 (dk_at dksL_law_8 19 rfl rfl)
theorem dL_law_430 : decode cL_law 430 = .ok (.iload 5, 2) := dk_21 5 (dk_at dksL_law_8 20 rfl rfl)
theorem dL_law_432 : decode cL_law 432 = .ok (.iconst 1, 1) := dk_4 (dk_at dksL_law_8 22 rfl rfl)
theorem dL_law_433 : decode cL_law 433 = .ok (.iadd, 1) := dk_96 (dk_at dksL_law_8 23 rfl rfl)
theorem dL_law_434 : decode cL_law 434 = .ok (.iaload, 1) := dk_46 (dk_at dksL_law_9 0 rfl rfl)
theorem dL_law_435 : decode cL_law 435 = .ok (.aload_n 0, 1) := dk_42 (dk_at dksL_law_9 1 rfl rfl)
theorem dL_law_436 : decode cL_law 436 = .ok (.iload 5, 2) := dk_21 5 (dk_at dksL_law_9 2 rfl rfl)
theorem dL_law_438 : decode cL_law 438 = .ok (.iconst 2, 1) := dk_5 (dk_at dksL_law_9 4 rfl rfl)
theorem dL_law_439 : decode cL_law 439 = .ok (.iadd, 1) := dk_96 (dk_at dksL_law_9 5 rfl rfl)
theorem dL_law_440 : decode cL_law 440 = .ok (.iaload, 1) := dk_46 (dk_at dksL_law_9 6 rfl rfl)
theorem dL_law_441 : decode cL_law 441 = .ok (.aload_n 0, 1) := dk_42 (dk_at dksL_law_9 7 rfl rfl)
theorem dL_law_442 : decode cL_law 442 = .ok (.iload 5, 2) := dk_21 5 (dk_at dksL_law_9 8 rfl rfl)
theorem dL_law_444 : decode cL_law 444 = .ok (.iconst 3, 1) := dk_6 (dk_at dksL_law_9 10 rfl rfl)
theorem dL_law_445 : decode cL_law 445 = .ok (.iadd, 1) := dk_96 (dk_at dksL_law_9 11 rfl rfl)
theorem dL_law_446 : decode cL_law 446 = .ok (.iaload, 1) := dk_46 (dk_at dksL_law_9 12 rfl rfl)
theorem dL_law_447 : decode cL_law 447 = .ok (.aload_n 3, 1) := dk_45 (dk_at dksL_law_9 13 rfl rfl)
theorem dL_law_448 : decode cL_law 448 = .ok (.invokestatic 179, 3) := dk_184 0 179 (dk_at dksL_law_9 14 rfl rfl)
theorem dL_law_451 : decode cL_law 451 = .ok (.istore 6, 2) := dk_54 6 (dk_at dksL_law_9 17 rfl rfl)
theorem dL_law_453 : decode cL_law 453 = .ok (.aload_n 2, 1) := dk_44 (dk_at dksL_law_9 19 rfl rfl)
theorem dL_law_454 : decode cL_law 454 = .ok (.aload_n 0, 1) := dk_42 (dk_at dksL_law_9 20 rfl rfl)
theorem dL_law_455 : decode cL_law 455 = .ok (.iload 5, 2) := dk_21 5 (dk_at dksL_law_9 21 rfl rfl)
theorem dL_law_457 : decode cL_law 457 = .ok (.iconst 1, 1) := dk_4 (dk_at dksL_law_9 23 rfl rfl)
theorem dL_law_458 : decode cL_law 458 = .ok (.iadd, 1) := dk_96 (dk_at dksL_law_10 0 rfl rfl)
theorem dL_law_459 : decode cL_law 459 = .ok (.iaload, 1) := dk_46 (dk_at dksL_law_10 1 rfl rfl)
theorem dL_law_460 : decode cL_law 460 = .ok (.aload_n 0, 1) := dk_42 (dk_at dksL_law_10 2 rfl rfl)
theorem dL_law_461 : decode cL_law 461 = .ok (.iload 5, 2) := dk_21 5 (dk_at dksL_law_10 3 rfl rfl)
theorem dL_law_463 : decode cL_law 463 = .ok (.iconst 2, 1) := dk_5 (dk_at dksL_law_10 5 rfl rfl)
theorem dL_law_464 : decode cL_law 464 = .ok (.iadd, 1) := dk_96 (dk_at dksL_law_10 6 rfl rfl)
theorem dL_law_465 : decode cL_law 465 = .ok (.iaload, 1) := dk_46 (dk_at dksL_law_10 7 rfl rfl)
theorem dL_law_466 : decode cL_law 466 = .ok (.aload_n 0, 1) := dk_42 (dk_at dksL_law_10 8 rfl rfl)
theorem dL_law_467 : decode cL_law 467 = .ok (.iload 5, 2) := dk_21 5 (dk_at dksL_law_10 9 rfl rfl)
theorem dL_law_469 : decode cL_law 469 = .ok (.iconst 3, 1) := dk_6 (dk_at dksL_law_10 11 rfl rfl)
theorem dL_law_470 : decode cL_law 470 = .ok (.iadd, 1) := dk_96 (dk_at dksL_law_10 12 rfl rfl)
theorem dL_law_471 : decode cL_law 471 = .ok (.iaload, 1) := dk_46 (dk_at dksL_law_10 13 rfl rfl)
theorem dL_law_472 : decode cL_law 472 = .ok (.invokevirtual 181, 3) := dk_182 0 181 (dk_at dksL_law_10 14 rfl rfl)
theorem dL_law_475 : decode cL_law 475 = .ok (.istore 7, 2) := dk_54 7 (dk_at dksL_law_10 17 rfl rfl)
theorem dL_law_477 : decode cL_law 477 = .ok (.aload_n 2, 1) := dk_44 (dk_at dksL_law_10 19 rfl rfl)
theorem dL_law_478 : decode cL_law 478 = .ok (.invokevirtual 172, 3) := dk_182 0 172 (dk_at dksL_law_10 20 rfl rfl)
theorem dL_law_481 : decode cL_law 481 = .ok (.iload 6, 2) := dk_21 6 (dk_at dksL_law_11 0 rfl rfl)
theorem dL_law_483 : decode cL_law 483 = .ok (.if_icmp .eq 5, 3) := dk_159 0 5 (dk_at dksL_law_11 2 rfl rfl)
theorem dL_law_486 : decode cL_law 486 = .ok (.iconst 0, 1) := dk_3 (dk_at dksL_law_11 5 rfl rfl)
theorem dL_law_487 : decode cL_law 487 = .ok (.ireturn, 1) := dk_172 (dk_at dksL_law_11 6 rfl rfl)
theorem dL_law_488 : decode cL_law 488 = .ok (.iload 6, 2) := dk_21 6 (dk_at dksL_law_11 7 rfl rfl)
theorem dL_law_490 : decode cL_law 490 = .ok (.ifCond .ne 15, 3) := dk_154 0 15 (dk_at dksL_law_11 9 rfl rfl)
theorem dL_law_493 : decode cL_law 493 = .ok (.aload_n 3, 1) := dk_45 (dk_at dksL_law_11 12 rfl rfl)
theorem dL_law_494 : decode cL_law 494 = .ok (.iconst 0, 1) := dk_3 (dk_at dksL_law_11 13 rfl rfl)
theorem dL_law_495 : decode cL_law 495 = .ok (.laload, 1) := dk_47 (dk_at dksL_law_11 14 rfl rfl)
theorem dL_law_496 : decode cL_law 496 = .ok (.iload 7, 2) := dk_21 7 (dk_at dksL_law_11 15 rfl rfl)
theorem dL_law_498 : decode cL_law 498 = .ok (.i2l, 1) := dk_133 (dk_at dksL_law_11 17 rfl rfl)
theorem dL_law_499 : decode cL_law 499 = .ok (.lcmp, 1) := dk_148 (dk_at dksL_law_11 18 rfl rfl)
theorem dL_law_500 : decode cL_law 500 = .ok (.ifCond .eq 5, 3) := dk_153 0 5 (dk_at dksL_law_11 19 rfl rfl)
theorem dL_law_503 : decode cL_law 503 = .ok (.iconst 0, 1) := dk_3 (dk_at dksL_law_11 22 rfl rfl)
theorem dL_law_504 : decode cL_law 504 = .ok (.ireturn, 1) := dk_172 (dk_at dksL_law_11 23 rfl rfl)
theorem dL_law_505 : decode cL_law 505 = .ok (.goto 2525, 3) := dk_167 9 221 (dk_at dksL_law_12 0 rfl rfl)
theorem dL_law_508 : decode cL_law 508 = .ok (.aload_n 1, 1) := dk_43 (dk_at dksL_law_12 3 rfl rfl)
theorem dL_law_509 : decode cL_law 509 = .ok (.aload_n 0, 1) := dk_42 (dk_at dksL_law_12 4 rfl rfl)
theorem dL_law_510 : decode cL_law 510 = .ok (.iload 5, 2) := dk_21 5 (dk_at dksL_law_12 5 rfl rfl)
theorem dL_law_512 : decode cL_law 512 = .ok (.iconst 1, 1) := dk_4 (dk_at dksL_law_12 7 rfl rfl)
theorem dL_law_513 : decode cL_law 513 = .ok (.iadd, 1) := dk_96 (dk_at dksL_law_12 8 rfl rfl)
theorem dL_law_514 : decode cL_law 514 = .ok (.iaload, 1) := dk_46 (dk_at dksL_law_12 9 rfl rfl)
theorem dL_law_515 : decode cL_law 515 = .ok (.aload_n 0, 1) := dk_42 (dk_at dksL_law_12 10 rfl rfl)
theorem dL_law_516 : decode cL_law 516 = .ok (.iload 5, 2) := dk_21 5 (dk_at dksL_law_12 11 rfl rfl)
theorem dL_law_518 : decode cL_law 518 = .ok (.iconst 2, 1) := dk_5 (dk_at dksL_law_12 13 rfl rfl)
theorem dL_law_519 : decode cL_law 519 = .ok (.iadd, 1) := dk_96 (dk_at dksL_law_12 14 rfl rfl)
theorem dL_law_520 : decode cL_law 520 = .ok (.iaload, 1) := dk_46 (dk_at dksL_law_12 15 rfl rfl)
theorem dL_law_521 : decode cL_law 521 = .ok (.aload_n 3, 1) := dk_45 (dk_at dksL_law_12 16 rfl rfl)
theorem dL_law_522 : decode cL_law 522 = .ok (.invokestatic 182, 3) := dk_184 0 182 (dk_at dksL_law_12 17 rfl rfl)
theorem dL_law_525 : decode cL_law 525 = .ok (.istore 6, 2) := dk_54 6 (dk_at dksL_law_12 20 rfl rfl)
theorem dL_law_527 : decode cL_law 527 = .ok (.aload_n 2, 1) := dk_44 (dk_at dksL_law_12 22 rfl rfl)
theorem dL_law_528 : decode cL_law 528 = .ok (.aload_n 0, 1) := dk_42 (dk_at dksL_law_12 23 rfl rfl)
theorem dL_law_529 : decode cL_law 529 = .ok (.iload 5, 2) := dk_21 5 (dk_at dksL_law_13 0 rfl rfl)
theorem dL_law_531 : decode cL_law 531 = .ok (.iconst 1, 1) := dk_4 (dk_at dksL_law_13 2 rfl rfl)
theorem dL_law_532 : decode cL_law 532 = .ok (.iadd, 1) := dk_96 (dk_at dksL_law_13 3 rfl rfl)
theorem dL_law_533 : decode cL_law 533 = .ok (.iaload, 1) := dk_46 (dk_at dksL_law_13 4 rfl rfl)
theorem dL_law_534 : decode cL_law 534 = .ok (.aload_n 0, 1) := dk_42 (dk_at dksL_law_13 5 rfl rfl)
theorem dL_law_535 : decode cL_law 535 = .ok (.iload 5, 2) := dk_21 5 (dk_at dksL_law_13 6 rfl rfl)
theorem dL_law_537 : decode cL_law 537 = .ok (.iconst 2, 1) := dk_5 (dk_at dksL_law_13 8 rfl rfl)
theorem dL_law_538 : decode cL_law 538 = .ok (.iadd, 1) := dk_96 (dk_at dksL_law_13 9 rfl rfl)
theorem dL_law_539 : decode cL_law 539 = .ok (.iaload, 1) := dk_46 (dk_at dksL_law_13 10 rfl rfl)
theorem dL_law_540 : decode cL_law 540 = .ok (.invokevirtual 185, 3) := dk_182 0 185 (dk_at dksL_law_13 11 rfl rfl)
theorem dL_law_543 : decode cL_law 543 = .ok (.istore 7, 2) := dk_54 7 (dk_at dksL_law_13 14 rfl rfl)
theorem dL_law_545 : decode cL_law 545 = .ok (.aload_n 2, 1) := dk_44 (dk_at dksL_law_13 16 rfl rfl)
theorem dL_law_546 : decode cL_law 546 = .ok (.invokevirtual 172, 3) := dk_182 0 172 (dk_at dksL_law_13 17 rfl rfl)
theorem dL_law_549 : decode cL_law 549 = .ok (.iload 6, 2) := dk_21 6 (dk_at dksL_law_13 20 rfl rfl)
theorem dL_law_551 : decode cL_law 551 = .ok (.if_icmp .eq 5, 3) := dk_159 0 5 (dk_at dksL_law_14 0 rfl rfl)
theorem dL_law_554 : decode cL_law 554 = .ok (.iconst 0, 1) := dk_3 (dk_at dksL_law_14 3 rfl rfl)
theorem dL_law_555 : decode cL_law 555 = .ok (.ireturn, 1) := dk_172 (dk_at dksL_law_14 4 rfl rfl)
theorem dL_law_556 : decode cL_law 556 = .ok (.iload 6, 2) := dk_21 6 (dk_at dksL_law_14 5 rfl rfl)
theorem dL_law_558 : decode cL_law 558 = .ok (.ifCond .ne 15, 3) := dk_154 0 15 (dk_at dksL_law_14 7 rfl rfl)
theorem dL_law_561 : decode cL_law 561 = .ok (.aload_n 3, 1) := dk_45 (dk_at dksL_law_14 10 rfl rfl)
theorem dL_law_562 : decode cL_law 562 = .ok (.iconst 0, 1) := dk_3 (dk_at dksL_law_14 11 rfl rfl)
theorem dL_law_563 : decode cL_law 563 = .ok (.laload, 1) := dk_47 (dk_at dksL_law_14 12 rfl rfl)
theorem dL_law_564 : decode cL_law 564 = .ok (.iload 7, 2) := dk_21 7 (dk_at dksL_law_14 13 rfl rfl)
theorem dL_law_566 : decode cL_law 566 = .ok (.i2l, 1) := dk_133 (dk_at dksL_law_14 15 rfl rfl)
theorem dL_law_567 : decode cL_law 567 = .ok (.lcmp, 1) := dk_148 (dk_at dksL_law_14 16 rfl rfl)
theorem dL_law_568 : decode cL_law 568 = .ok (.ifCond .eq 5, 3) := dk_153 0 5 (dk_at dksL_law_14 17 rfl rfl)
theorem dL_law_571 : decode cL_law 571 = .ok (.iconst 0, 1) := dk_3 (dk_at dksL_law_14 20 rfl rfl)
theorem dL_law_572 : decode cL_law 572 = .ok (.ireturn, 1) := dk_172 (dk_at dksL_law_14 21 rfl rfl)
theorem dL_law_573 : decode cL_law 573 = .ok (.goto 2457, 3) := dk_167 9 153 (dk_at dksL_law_15 0 rfl rfl)
theorem dL_law_576 : decode cL_law 576 = .ok (.aload_n 1, 1) := dk_43 (dk_at dksL_law_15 3 rfl rfl)
theorem dL_law_577 : decode cL_law 577 = .ok (.aload_n 0, 1) := dk_42 (dk_at dksL_law_15 4 rfl rfl)
theorem dL_law_578 : decode cL_law 578 = .ok (.iload 5, 2) := dk_21 5 (dk_at dksL_law_15 5 rfl rfl)
theorem dL_law_580 : decode cL_law 580 = .ok (.iconst 1, 1) := dk_4 (dk_at dksL_law_15 7 rfl rfl)
theorem dL_law_581 : decode cL_law 581 = .ok (.iadd, 1) := dk_96 (dk_at dksL_law_15 8 rfl rfl)
theorem dL_law_582 : decode cL_law 582 = .ok (.iaload, 1) := dk_46 (dk_at dksL_law_15 9 rfl rfl)
theorem dL_law_583 : decode cL_law 583 = .ok (.aload_n 0, 1) := dk_42 (dk_at dksL_law_15 10 rfl rfl)
theorem dL_law_584 : decode cL_law 584 = .ok (.iload 5, 2) := dk_21 5 (dk_at dksL_law_15 11 rfl rfl)
theorem dL_law_586 : decode cL_law 586 = .ok (.iconst 2, 1) := dk_5 (dk_at dksL_law_15 13 rfl rfl)
theorem dL_law_587 : decode cL_law 587 = .ok (.iadd, 1) := dk_96 (dk_at dksL_law_15 14 rfl rfl)
theorem dL_law_588 : decode cL_law 588 = .ok (.iaload, 1) := dk_46 (dk_at dksL_law_15 15 rfl rfl)
theorem dL_law_589 : decode cL_law 589 = .ok (.aload_n 3, 1) := dk_45 (dk_at dksL_law_15 16 rfl rfl)
theorem dL_law_590 : decode cL_law 590 = .ok (.invokestatic 186, 3) := dk_184 0 186 (dk_at dksL_law_15 17 rfl rfl)
theorem dL_law_593 : decode cL_law 593 = .ok (.istore 6, 2) := dk_54 6 (dk_at dksL_law_15 20 rfl rfl)
theorem dL_law_595 : decode cL_law 595 = .ok (.aload_n 2, 1) := dk_44 (dk_at dksL_law_15 22 rfl rfl)
theorem dL_law_596 : decode cL_law 596 = .ok (.aload_n 0, 1) := dk_42 (dk_at dksL_law_15 23 rfl rfl)
theorem dL_law_597 : decode cL_law 597 = .ok (.iload 5, 2) := dk_21 5 (dk_at dksL_law_16 0 rfl rfl)
theorem dL_law_599 : decode cL_law 599 = .ok (.iconst 1, 1) := dk_4 (dk_at dksL_law_16 2 rfl rfl)
theorem dL_law_600 : decode cL_law 600 = .ok (.iadd, 1) := dk_96 (dk_at dksL_law_16 3 rfl rfl)
theorem dL_law_601 : decode cL_law 601 = .ok (.iaload, 1) := dk_46 (dk_at dksL_law_16 4 rfl rfl)
theorem dL_law_602 : decode cL_law 602 = .ok (.aload_n 0, 1) := dk_42 (dk_at dksL_law_16 5 rfl rfl)
theorem dL_law_603 : decode cL_law 603 = .ok (.iload 5, 2) := dk_21 5 (dk_at dksL_law_16 6 rfl rfl)
theorem dL_law_605 : decode cL_law 605 = .ok (.iconst 2, 1) := dk_5 (dk_at dksL_law_16 8 rfl rfl)
theorem dL_law_606 : decode cL_law 606 = .ok (.iadd, 1) := dk_96 (dk_at dksL_law_16 9 rfl rfl)
theorem dL_law_607 : decode cL_law 607 = .ok (.iaload, 1) := dk_46 (dk_at dksL_law_16 10 rfl rfl)
theorem dL_law_608 : decode cL_law 608 = .ok (.invokevirtual 188, 3) := dk_182 0 188 (dk_at dksL_law_16 11 rfl rfl)
theorem dL_law_611 : decode cL_law 611 = .ok (.istore 7, 2) := dk_54 7 (dk_at dksL_law_16 14 rfl rfl)
theorem dL_law_613 : decode cL_law 613 = .ok (.aload_n 2, 1) := dk_44 (dk_at dksL_law_16 16 rfl rfl)
theorem dL_law_614 : decode cL_law 614 = .ok (.invokevirtual 172, 3) := dk_182 0 172 (dk_at dksL_law_16 17 rfl rfl)
theorem dL_law_617 : decode cL_law 617 = .ok (.iload 6, 2) := dk_21 6 (dk_at dksL_law_16 20 rfl rfl)
theorem dL_law_619 : decode cL_law 619 = .ok (.if_icmp .eq 5, 3) := dk_159 0 5 (dk_at dksL_law_17 0 rfl rfl)
theorem dL_law_622 : decode cL_law 622 = .ok (.iconst 0, 1) := dk_3 (dk_at dksL_law_17 3 rfl rfl)
theorem dL_law_623 : decode cL_law 623 = .ok (.ireturn, 1) := dk_172 (dk_at dksL_law_17 4 rfl rfl)
theorem dL_law_624 : decode cL_law 624 = .ok (.iload 6, 2) := dk_21 6 (dk_at dksL_law_17 5 rfl rfl)
theorem dL_law_626 : decode cL_law 626 = .ok (.ifCond .ne 15, 3) := dk_154 0 15 (dk_at dksL_law_17 7 rfl rfl)
theorem dL_law_629 : decode cL_law 629 = .ok (.aload_n 3, 1) := dk_45 (dk_at dksL_law_17 10 rfl rfl)
theorem dL_law_630 : decode cL_law 630 = .ok (.iconst 0, 1) := dk_3 (dk_at dksL_law_17 11 rfl rfl)
theorem dL_law_631 : decode cL_law 631 = .ok (.laload, 1) := dk_47 (dk_at dksL_law_17 12 rfl rfl)
theorem dL_law_632 : decode cL_law 632 = .ok (.iload 7, 2) := dk_21 7 (dk_at dksL_law_17 13 rfl rfl)
theorem dL_law_634 : decode cL_law 634 = .ok (.i2l, 1) := dk_133 (dk_at dksL_law_17 15 rfl rfl)
theorem dL_law_635 : decode cL_law 635 = .ok (.lcmp, 1) := dk_148 (dk_at dksL_law_17 16 rfl rfl)
theorem dL_law_636 : decode cL_law 636 = .ok (.ifCond .eq 5, 3) := dk_153 0 5 (dk_at dksL_law_17 17 rfl rfl)
theorem dL_law_639 : decode cL_law 639 = .ok (.iconst 0, 1) := dk_3 (dk_at dksL_law_17 20 rfl rfl)
theorem dL_law_640 : decode cL_law 640 = .ok (.ireturn, 1) := dk_172 (dk_at dksL_law_17 21 rfl rfl)
theorem dL_law_641 : decode cL_law 641 = .ok (.goto 2389, 3) := dk_167 9 85 (dk_at dksL_law_18 0 rfl rfl)
theorem dL_law_644 : decode cL_law 644 = .ok (.aload_n 1, 1) := dk_43 (dk_at dksL_law_18 3 rfl rfl)
theorem dL_law_645 : decode cL_law 645 = .ok (.aload_n 0, 1) := dk_42 (dk_at dksL_law_18 4 rfl rfl)
theorem dL_law_646 : decode cL_law 646 = .ok (.iload 5, 2) := dk_21 5 (dk_at dksL_law_18 5 rfl rfl)
theorem dL_law_648 : decode cL_law 648 = .ok (.iconst 1, 1) := dk_4 (dk_at dksL_law_18 7 rfl rfl)
theorem dL_law_649 : decode cL_law 649 = .ok (.iadd, 1) := dk_96 (dk_at dksL_law_18 8 rfl rfl)
theorem dL_law_650 : decode cL_law 650 = .ok (.iaload, 1) := dk_46 (dk_at dksL_law_18 9 rfl rfl)
theorem dL_law_651 : decode cL_law 651 = .ok (.aload_n 0, 1) := dk_42 (dk_at dksL_law_18 10 rfl rfl)
theorem dL_law_652 : decode cL_law 652 = .ok (.iload 5, 2) := dk_21 5 (dk_at dksL_law_18 11 rfl rfl)
theorem dL_law_654 : decode cL_law 654 = .ok (.iconst 2, 1) := dk_5 (dk_at dksL_law_18 13 rfl rfl)
theorem dL_law_655 : decode cL_law 655 = .ok (.iadd, 1) := dk_96 (dk_at dksL_law_18 14 rfl rfl)
theorem dL_law_656 : decode cL_law 656 = .ok (.iaload, 1) := dk_46 (dk_at dksL_law_18 15 rfl rfl)
theorem dL_law_657 : decode cL_law 657 = .ok (.aload_n 3, 1) := dk_45 (dk_at dksL_law_18 16 rfl rfl)
theorem dL_law_658 : decode cL_law 658 = .ok (.invokestatic 189, 3) := dk_184 0 189 (dk_at dksL_law_18 17 rfl rfl)
theorem dL_law_661 : decode cL_law 661 = .ok (.istore 6, 2) := dk_54 6 (dk_at dksL_law_18 20 rfl rfl)
theorem dL_law_663 : decode cL_law 663 = .ok (.aload_n 2, 1) := dk_44 (dk_at dksL_law_18 22 rfl rfl)
theorem dL_law_664 : decode cL_law 664 = .ok (.aload_n 0, 1) := dk_42 (dk_at dksL_law_18 23 rfl rfl)
theorem dL_law_665 : decode cL_law 665 = .ok (.iload 5, 2) := dk_21 5 (dk_at dksL_law_19 0 rfl rfl)
theorem dL_law_667 : decode cL_law 667 = .ok (.iconst 1, 1) := dk_4 (dk_at dksL_law_19 2 rfl rfl)
theorem dL_law_668 : decode cL_law 668 = .ok (.iadd, 1) := dk_96 (dk_at dksL_law_19 3 rfl rfl)
theorem dL_law_669 : decode cL_law 669 = .ok (.iaload, 1) := dk_46 (dk_at dksL_law_19 4 rfl rfl)
theorem dL_law_670 : decode cL_law 670 = .ok (.aload_n 0, 1) := dk_42 (dk_at dksL_law_19 5 rfl rfl)
theorem dL_law_671 : decode cL_law 671 = .ok (.iload 5, 2) := dk_21 5 (dk_at dksL_law_19 6 rfl rfl)
theorem dL_law_673 : decode cL_law 673 = .ok (.iconst 2, 1) := dk_5 (dk_at dksL_law_19 8 rfl rfl)
theorem dL_law_674 : decode cL_law 674 = .ok (.iadd, 1) := dk_96 (dk_at dksL_law_19 9 rfl rfl)
theorem dL_law_675 : decode cL_law 675 = .ok (.iaload, 1) := dk_46 (dk_at dksL_law_19 10 rfl rfl)
theorem dL_law_676 : decode cL_law 676 = .ok (.invokevirtual 191, 3) := dk_182 0 191 (dk_at dksL_law_19 11 rfl rfl)
theorem dL_law_679 : decode cL_law 679 = .ok (.istore 7, 2) := dk_54 7 (dk_at dksL_law_19 14 rfl rfl)
theorem dL_law_681 : decode cL_law 681 = .ok (.aload_n 2, 1) := dk_44 (dk_at dksL_law_19 16 rfl rfl)
theorem dL_law_682 : decode cL_law 682 = .ok (.invokevirtual 172, 3) := dk_182 0 172 (dk_at dksL_law_19 17 rfl rfl)
theorem dL_law_685 : decode cL_law 685 = .ok (.iload 6, 2) := dk_21 6 (dk_at dksL_law_19 20 rfl rfl)
theorem dL_law_687 : decode cL_law 687 = .ok (.if_icmp .eq 5, 3) := dk_159 0 5 (dk_at dksL_law_20 0 rfl rfl)
theorem dL_law_690 : decode cL_law 690 = .ok (.iconst 0, 1) := dk_3 (dk_at dksL_law_20 3 rfl rfl)
theorem dL_law_691 : decode cL_law 691 = .ok (.ireturn, 1) := dk_172 (dk_at dksL_law_20 4 rfl rfl)
theorem dL_law_692 : decode cL_law 692 = .ok (.iload 6, 2) := dk_21 6 (dk_at dksL_law_20 5 rfl rfl)
theorem dL_law_694 : decode cL_law 694 = .ok (.ifCond .ne 15, 3) := dk_154 0 15 (dk_at dksL_law_20 7 rfl rfl)
theorem dL_law_697 : decode cL_law 697 = .ok (.aload_n 3, 1) := dk_45 (dk_at dksL_law_20 10 rfl rfl)
theorem dL_law_698 : decode cL_law 698 = .ok (.iconst 0, 1) := dk_3 (dk_at dksL_law_20 11 rfl rfl)
theorem dL_law_699 : decode cL_law 699 = .ok (.laload, 1) := dk_47 (dk_at dksL_law_20 12 rfl rfl)
theorem dL_law_700 : decode cL_law 700 = .ok (.iload 7, 2) := dk_21 7 (dk_at dksL_law_20 13 rfl rfl)
theorem dL_law_702 : decode cL_law 702 = .ok (.i2l, 1) := dk_133 (dk_at dksL_law_20 15 rfl rfl)
theorem dL_law_703 : decode cL_law 703 = .ok (.lcmp, 1) := dk_148 (dk_at dksL_law_20 16 rfl rfl)
theorem dL_law_704 : decode cL_law 704 = .ok (.ifCond .eq 5, 3) := dk_153 0 5 (dk_at dksL_law_20 17 rfl rfl)
theorem dL_law_707 : decode cL_law 707 = .ok (.iconst 0, 1) := dk_3 (dk_at dksL_law_20 20 rfl rfl)
theorem dL_law_708 : decode cL_law 708 = .ok (.ireturn, 1) := dk_172 (dk_at dksL_law_20 21 rfl rfl)
theorem dL_law_709 : decode cL_law 709 = .ok (.goto 2321, 3) := dk_167 9 17 (dk_at dksL_law_21 0 rfl rfl)
theorem dL_law_712 : decode cL_law 712 = .ok (.aload_n 1, 1) := dk_43 (dk_at dksL_law_21 3 rfl rfl)
theorem dL_law_713 : decode cL_law 713 = .ok (.aload_n 0, 1) := dk_42 (dk_at dksL_law_21 4 rfl rfl)
theorem dL_law_714 : decode cL_law 714 = .ok (.iload 5, 2) := dk_21 5 (dk_at dksL_law_21 5 rfl rfl)
theorem dL_law_716 : decode cL_law 716 = .ok (.iconst 1, 1) := dk_4 (dk_at dksL_law_21 7 rfl rfl)
theorem dL_law_717 : decode cL_law 717 = .ok (.iadd, 1) := dk_96 (dk_at dksL_law_21 8 rfl rfl)
theorem dL_law_718 : decode cL_law 718 = .ok (.iaload, 1) := dk_46 (dk_at dksL_law_21 9 rfl rfl)
theorem dL_law_719 : decode cL_law 719 = .ok (.aload_n 3, 1) := dk_45 (dk_at dksL_law_21 10 rfl rfl)
theorem dL_law_720 : decode cL_law 720 = .ok (.invokestatic 192, 3) := dk_184 0 192 (dk_at dksL_law_21 11 rfl rfl)
theorem dL_law_723 : decode cL_law 723 = .ok (.istore 6, 2) := dk_54 6 (dk_at dksL_law_21 14 rfl rfl)
theorem dL_law_725 : decode cL_law 725 = .ok (.aload_n 2, 1) := dk_44 (dk_at dksL_law_21 16 rfl rfl)
theorem dL_law_726 : decode cL_law 726 = .ok (.aload_n 0, 1) := dk_42 (dk_at dksL_law_21 17 rfl rfl)
theorem dL_law_727 : decode cL_law 727 = .ok (.iload 5, 2) := dk_21 5 (dk_at dksL_law_21 18 rfl rfl)
theorem dL_law_729 : decode cL_law 729 = .ok (.iconst 1, 1) := dk_4 (dk_at dksL_law_21 20 rfl rfl)
theorem dL_law_730 : decode cL_law 730 = .ok (.iadd, 1) := dk_96 (dk_at dksL_law_21 21 rfl rfl)
theorem dL_law_731 : decode cL_law 731 = .ok (.iaload, 1) := dk_46 (dk_at dksL_law_21 22 rfl rfl)
theorem dL_law_732 : decode cL_law 732 = .ok (.invokevirtual 194, 3) := dk_182 0 194 (dk_at dksL_law_22 0 rfl rfl)
theorem dL_law_735 : decode cL_law 735 = .ok (.istore 7, 2) := dk_54 7 (dk_at dksL_law_22 3 rfl rfl)
theorem dL_law_737 : decode cL_law 737 = .ok (.aload_n 2, 1) := dk_44 (dk_at dksL_law_22 5 rfl rfl)
theorem dL_law_738 : decode cL_law 738 = .ok (.invokevirtual 172, 3) := dk_182 0 172 (dk_at dksL_law_22 6 rfl rfl)
theorem dL_law_741 : decode cL_law 741 = .ok (.iload 6, 2) := dk_21 6 (dk_at dksL_law_22 9 rfl rfl)
theorem dL_law_743 : decode cL_law 743 = .ok (.if_icmp .eq 5, 3) := dk_159 0 5 (dk_at dksL_law_22 11 rfl rfl)
theorem dL_law_746 : decode cL_law 746 = .ok (.iconst 0, 1) := dk_3 (dk_at dksL_law_22 14 rfl rfl)
theorem dL_law_747 : decode cL_law 747 = .ok (.ireturn, 1) := dk_172 (dk_at dksL_law_22 15 rfl rfl)
theorem dL_law_748 : decode cL_law 748 = .ok (.iload 6, 2) := dk_21 6 (dk_at dksL_law_22 16 rfl rfl)
theorem dL_law_750 : decode cL_law 750 = .ok (.ifCond .ne 15, 3) := dk_154 0 15 (dk_at dksL_law_22 18 rfl rfl)
theorem dL_law_753 : decode cL_law 753 = .ok (.aload_n 3, 1) := dk_45 (dk_at dksL_law_22 21 rfl rfl)
theorem dL_law_754 : decode cL_law 754 = .ok (.iconst 0, 1) := dk_3 (dk_at dksL_law_22 22 rfl rfl)
theorem dL_law_755 : decode cL_law 755 = .ok (.laload, 1) := dk_47 (dk_at dksL_law_22 23 rfl rfl)
theorem dL_law_756 : decode cL_law 756 = .ok (.iload 7, 2) := dk_21 7 (dk_at dksL_law_23 0 rfl rfl)
theorem dL_law_758 : decode cL_law 758 = .ok (.i2l, 1) := dk_133 (dk_at dksL_law_23 2 rfl rfl)
theorem dL_law_759 : decode cL_law 759 = .ok (.lcmp, 1) := dk_148 (dk_at dksL_law_23 3 rfl rfl)
theorem dL_law_760 : decode cL_law 760 = .ok (.ifCond .eq 5, 3) := dk_153 0 5 (dk_at dksL_law_23 4 rfl rfl)
theorem dL_law_763 : decode cL_law 763 = .ok (.iconst 0, 1) := dk_3 (dk_at dksL_law_23 7 rfl rfl)
theorem dL_law_764 : decode cL_law 764 = .ok (.ireturn, 1) := dk_172 (dk_at dksL_law_23 8 rfl rfl)
theorem dL_law_765 : decode cL_law 765 = .ok (.goto 2265, 3) := dk_167 8 217 (dk_at dksL_law_23 9 rfl rfl)
theorem dL_law_768 : decode cL_law 768 = .ok (.aload_n 1, 1) := dk_43 (dk_at dksL_law_23 12 rfl rfl)
theorem dL_law_769 : decode cL_law 769 = .ok (.aload_n 0, 1) := dk_42 (dk_at dksL_law_23 13 rfl rfl)
theorem dL_law_770 : decode cL_law 770 = .ok (.iload 5, 2) := dk_21 5 (dk_at dksL_law_23 14 rfl rfl)
theorem dL_law_772 : decode cL_law 772 = .ok (.iconst 1, 1) := dk_4 (dk_at dksL_law_23 16 rfl rfl)
theorem dL_law_773 : decode cL_law 773 = .ok (.iadd, 1) := dk_96 (dk_at dksL_law_23 17 rfl rfl)
theorem dL_law_774 : decode cL_law 774 = .ok (.iaload, 1) := dk_46 (dk_at dksL_law_23 18 rfl rfl)
theorem dL_law_775 : decode cL_law 775 = .ok (.aload_n 3, 1) := dk_45 (dk_at dksL_law_23 19 rfl rfl)
theorem dL_law_776 : decode cL_law 776 = .ok (.invokestatic 195, 3) := dk_184 0 195 (dk_at dksL_law_23 20 rfl rfl)
theorem dL_law_779 : decode cL_law 779 = .ok (.istore 6, 2) := dk_54 6 (dk_at dksL_law_24 0 rfl rfl)
theorem dL_law_781 : decode cL_law 781 = .ok (.aload_n 2, 1) := dk_44 (dk_at dksL_law_24 2 rfl rfl)
theorem dL_law_782 : decode cL_law 782 = .ok (.aload_n 0, 1) := dk_42 (dk_at dksL_law_24 3 rfl rfl)
theorem dL_law_783 : decode cL_law 783 = .ok (.iload 5, 2) := dk_21 5 (dk_at dksL_law_24 4 rfl rfl)
theorem dL_law_785 : decode cL_law 785 = .ok (.iconst 1, 1) := dk_4 (dk_at dksL_law_24 6 rfl rfl)
theorem dL_law_786 : decode cL_law 786 = .ok (.iadd, 1) := dk_96 (dk_at dksL_law_24 7 rfl rfl)
theorem dL_law_787 : decode cL_law 787 = .ok (.iaload, 1) := dk_46 (dk_at dksL_law_24 8 rfl rfl)
theorem dL_law_788 : decode cL_law 788 = .ok (.invokevirtual 197, 3) := dk_182 0 197 (dk_at dksL_law_24 9 rfl rfl)
theorem dL_law_791 : decode cL_law 791 = .ok (.istore 7, 2) := dk_54 7 (dk_at dksL_law_24 12 rfl rfl)
theorem dL_law_793 : decode cL_law 793 = .ok (.aload_n 2, 1) := dk_44 (dk_at dksL_law_24 14 rfl rfl)
theorem dL_law_794 : decode cL_law 794 = .ok (.invokevirtual 172, 3) := dk_182 0 172 (dk_at dksL_law_24 15 rfl rfl)
theorem dL_law_797 : decode cL_law 797 = .ok (.iload 6, 2) := dk_21 6 (dk_at dksL_law_24 18 rfl rfl)
theorem dL_law_799 : decode cL_law 799 = .ok (.if_icmp .eq 5, 3) := dk_159 0 5 (dk_at dksL_law_24 20 rfl rfl)
theorem dL_law_802 : decode cL_law 802 = .ok (.iconst 0, 1) := dk_3 (dk_at dksL_law_24 23 rfl rfl)
theorem dL_law_803 : decode cL_law 803 = .ok (.ireturn, 1) := dk_172 (dk_at dksL_law_25 0 rfl rfl)
theorem dL_law_804 : decode cL_law 804 = .ok (.iload 6, 2) := dk_21 6 (dk_at dksL_law_25 1 rfl rfl)
theorem dL_law_806 : decode cL_law 806 = .ok (.ifCond .ne 15, 3) := dk_154 0 15 (dk_at dksL_law_25 3 rfl rfl)
theorem dL_law_809 : decode cL_law 809 = .ok (.aload_n 3, 1) := dk_45 (dk_at dksL_law_25 6 rfl rfl)
theorem dL_law_810 : decode cL_law 810 = .ok (.iconst 0, 1) := dk_3 (dk_at dksL_law_25 7 rfl rfl)
theorem dL_law_811 : decode cL_law 811 = .ok (.laload, 1) := dk_47 (dk_at dksL_law_25 8 rfl rfl)
theorem dL_law_812 : decode cL_law 812 = .ok (.iload 7, 2) := dk_21 7 (dk_at dksL_law_25 9 rfl rfl)
theorem dL_law_814 : decode cL_law 814 = .ok (.i2l, 1) := dk_133 (dk_at dksL_law_25 11 rfl rfl)
theorem dL_law_815 : decode cL_law 815 = .ok (.lcmp, 1) := dk_148 (dk_at dksL_law_25 12 rfl rfl)
theorem dL_law_816 : decode cL_law 816 = .ok (.ifCond .eq 5, 3) := dk_153 0 5 (dk_at dksL_law_25 13 rfl rfl)
theorem dL_law_819 : decode cL_law 819 = .ok (.iconst 0, 1) := dk_3 (dk_at dksL_law_25 16 rfl rfl)
theorem dL_law_820 : decode cL_law 820 = .ok (.ireturn, 1) := dk_172 (dk_at dksL_law_25 17 rfl rfl)
theorem dL_law_821 : decode cL_law 821 = .ok (.goto 2209, 3) := dk_167 8 161 (dk_at dksL_law_25 18 rfl rfl)
theorem dL_law_824 : decode cL_law 824 = .ok (.aload_n 1, 1) := dk_43 (dk_at dksL_law_25 21 rfl rfl)
theorem dL_law_825 : decode cL_law 825 = .ok (.invokevirtual 198, 3) := dk_182 0 198 (dk_at dksL_law_26 0 rfl rfl)
theorem dL_law_828 : decode cL_law 828 = .ok (.aload_n 2, 1) := dk_44 (dk_at dksL_law_26 3 rfl rfl)
theorem dL_law_829 : decode cL_law 829 = .ok (.invokevirtual 201, 3) := dk_182 0 201 (dk_at dksL_law_26 4 rfl rfl)
theorem dL_law_832 : decode cL_law 832 = .ok (.if_icmp .eq 2198, 3) := dk_159 8 150 (dk_at dksL_law_26 7 rfl rfl)
theorem dL_law_835 : decode cL_law 835 = .ok (.iconst 0, 1) := dk_3 (dk_at dksL_law_26 10 rfl rfl)
theorem dL_law_836 : decode cL_law 836 = .ok (.ireturn, 1) := dk_172 (dk_at dksL_law_26 11 rfl rfl)
theorem dL_law_837 : decode cL_law 837 = .ok (.aload_n 1, 1) := dk_43 (dk_at dksL_law_26 12 rfl rfl)
theorem dL_law_838 : decode cL_law 838 = .ok (.aload_n 0, 1) := dk_42 (dk_at dksL_law_26 13 rfl rfl)
theorem dL_law_839 : decode cL_law 839 = .ok (.iload 5, 2) := dk_21 5 (dk_at dksL_law_26 14 rfl rfl)
theorem dL_law_841 : decode cL_law 841 = .ok (.iconst 1, 1) := dk_4 (dk_at dksL_law_26 16 rfl rfl)
theorem dL_law_842 : decode cL_law 842 = .ok (.iadd, 1) := dk_96 (dk_at dksL_law_26 17 rfl rfl)
theorem dL_law_843 : decode cL_law 843 = .ok (.iaload, 1) := dk_46 (dk_at dksL_law_26 18 rfl rfl)
theorem dL_law_844 : decode cL_law 844 = .ok (.aload_n 3, 1) := dk_45 (dk_at dksL_law_26 19 rfl rfl)
theorem dL_law_845 : decode cL_law 845 = .ok (.invokestatic 202, 3) := dk_184 0 202 (dk_at dksL_law_26 20 rfl rfl)
theorem dL_law_848 : decode cL_law 848 = .ok (.istore 6, 2) := dk_54 6 (dk_at dksL_law_27 0 rfl rfl)
theorem dL_law_850 : decode cL_law 850 = .ok (.aload_n 2, 1) := dk_44 (dk_at dksL_law_27 2 rfl rfl)
theorem dL_law_851 : decode cL_law 851 = .ok (.aload_n 0, 1) := dk_42 (dk_at dksL_law_27 3 rfl rfl)
theorem dL_law_852 : decode cL_law 852 = .ok (.iload 5, 2) := dk_21 5 (dk_at dksL_law_27 4 rfl rfl)
theorem dL_law_854 : decode cL_law 854 = .ok (.iconst 1, 1) := dk_4 (dk_at dksL_law_27 6 rfl rfl)
theorem dL_law_855 : decode cL_law 855 = .ok (.iadd, 1) := dk_96 (dk_at dksL_law_27 7 rfl rfl)
theorem dL_law_856 : decode cL_law 856 = .ok (.iaload, 1) := dk_46 (dk_at dksL_law_27 8 rfl rfl)
theorem dL_law_857 : decode cL_law 857 = .ok (.invokevirtual 204, 3) := dk_182 0 204 (dk_at dksL_law_27 9 rfl rfl)
theorem dL_law_860 : decode cL_law 860 = .ok (.istore 7, 2) := dk_54 7 (dk_at dksL_law_27 12 rfl rfl)
theorem dL_law_862 : decode cL_law 862 = .ok (.aload_n 2, 1) := dk_44 (dk_at dksL_law_27 14 rfl rfl)
theorem dL_law_863 : decode cL_law 863 = .ok (.invokevirtual 172, 3) := dk_182 0 172 (dk_at dksL_law_27 15 rfl rfl)
theorem dL_law_866 : decode cL_law 866 = .ok (.iload 6, 2) := dk_21 6 (dk_at dksL_law_27 18 rfl rfl)
theorem dL_law_868 : decode cL_law 868 = .ok (.if_icmp .eq 5, 3) := dk_159 0 5 (dk_at dksL_law_27 20 rfl rfl)
theorem dL_law_871 : decode cL_law 871 = .ok (.iconst 0, 1) := dk_3 (dk_at dksL_law_27 23 rfl rfl)
theorem dL_law_872 : decode cL_law 872 = .ok (.ireturn, 1) := dk_172 (dk_at dksL_law_28 0 rfl rfl)
theorem dL_law_873 : decode cL_law 873 = .ok (.iload 6, 2) := dk_21 6 (dk_at dksL_law_28 1 rfl rfl)
theorem dL_law_875 : decode cL_law 875 = .ok (.ifCond .ne 15, 3) := dk_154 0 15 (dk_at dksL_law_28 3 rfl rfl)
theorem dL_law_878 : decode cL_law 878 = .ok (.aload_n 3, 1) := dk_45 (dk_at dksL_law_28 6 rfl rfl)
theorem dL_law_879 : decode cL_law 879 = .ok (.iconst 0, 1) := dk_3 (dk_at dksL_law_28 7 rfl rfl)
theorem dL_law_880 : decode cL_law 880 = .ok (.laload, 1) := dk_47 (dk_at dksL_law_28 8 rfl rfl)
theorem dL_law_881 : decode cL_law 881 = .ok (.iload 7, 2) := dk_21 7 (dk_at dksL_law_28 9 rfl rfl)
theorem dL_law_883 : decode cL_law 883 = .ok (.i2l, 1) := dk_133 (dk_at dksL_law_28 11 rfl rfl)
theorem dL_law_884 : decode cL_law 884 = .ok (.lcmp, 1) := dk_148 (dk_at dksL_law_28 12 rfl rfl)
theorem dL_law_885 : decode cL_law 885 = .ok (.ifCond .eq 5, 3) := dk_153 0 5 (dk_at dksL_law_28 13 rfl rfl)
theorem dL_law_888 : decode cL_law 888 = .ok (.iconst 0, 1) := dk_3 (dk_at dksL_law_28 16 rfl rfl)
theorem dL_law_889 : decode cL_law 889 = .ok (.ireturn, 1) := dk_172 (dk_at dksL_law_28 17 rfl rfl)
theorem dL_law_890 : decode cL_law 890 = .ok (.goto 2140, 3) := dk_167 8 92 (dk_at dksL_law_28 18 rfl rfl)
theorem dL_law_893 : decode cL_law 893 = .ok (.aload_n 1, 1) := dk_43 (dk_at dksL_law_28 21 rfl rfl)
theorem dL_law_894 : decode cL_law 894 = .ok (.aload_n 0, 1) := dk_42 (dk_at dksL_law_28 22 rfl rfl)
theorem dL_law_895 : decode cL_law 895 = .ok (.iload 5, 2) := dk_21 5 (dk_at dksL_law_29 0 rfl rfl)
theorem dL_law_897 : decode cL_law 897 = .ok (.iconst 1, 1) := dk_4 (dk_at dksL_law_29 2 rfl rfl)
theorem dL_law_898 : decode cL_law 898 = .ok (.iadd, 1) := dk_96 (dk_at dksL_law_29 3 rfl rfl)
theorem dL_law_899 : decode cL_law 899 = .ok (.iaload, 1) := dk_46 (dk_at dksL_law_29 4 rfl rfl)
theorem dL_law_900 : decode cL_law 900 = .ok (.aload_n 3, 1) := dk_45 (dk_at dksL_law_29 5 rfl rfl)
theorem dL_law_901 : decode cL_law 901 = .ok (.invokestatic 205, 3) := dk_184 0 205 (dk_at dksL_law_29 6 rfl rfl)
theorem dL_law_904 : decode cL_law 904 = .ok (.istore 6, 2) := dk_54 6 (dk_at dksL_law_29 9 rfl rfl)
theorem dL_law_906 : decode cL_law 906 = .ok (.aload_n 2, 1) := dk_44 (dk_at dksL_law_29 11 rfl rfl)
theorem dL_law_907 : decode cL_law 907 = .ok (.aload_n 0, 1) := dk_42 (dk_at dksL_law_29 12 rfl rfl)
theorem dL_law_908 : decode cL_law 908 = .ok (.iload 5, 2) := dk_21 5 (dk_at dksL_law_29 13 rfl rfl)
theorem dL_law_910 : decode cL_law 910 = .ok (.iconst 1, 1) := dk_4 (dk_at dksL_law_29 15 rfl rfl)
theorem dL_law_911 : decode cL_law 911 = .ok (.iadd, 1) := dk_96 (dk_at dksL_law_29 16 rfl rfl)
theorem dL_law_912 : decode cL_law 912 = .ok (.iaload, 1) := dk_46 (dk_at dksL_law_29 17 rfl rfl)
theorem dL_law_913 : decode cL_law 913 = .ok (.invokevirtual 207, 3) := dk_182 0 207 (dk_at dksL_law_29 18 rfl rfl)
theorem dL_law_916 : decode cL_law 916 = .ok (.istore 7, 2) := dk_54 7 (dk_at dksL_law_29 21 rfl rfl)
theorem dL_law_918 : decode cL_law 918 = .ok (.aload_n 2, 1) := dk_44 (dk_at dksL_law_29 23 rfl rfl)
theorem dL_law_919 : decode cL_law 919 = .ok (.invokevirtual 172, 3) := dk_182 0 172 (dk_at dksL_law_30 0 rfl rfl)
theorem dL_law_922 : decode cL_law 922 = .ok (.iload 6, 2) := dk_21 6 (dk_at dksL_law_30 3 rfl rfl)
theorem dL_law_924 : decode cL_law 924 = .ok (.if_icmp .eq 5, 3) := dk_159 0 5 (dk_at dksL_law_30 5 rfl rfl)
theorem dL_law_927 : decode cL_law 927 = .ok (.iconst 0, 1) := dk_3 (dk_at dksL_law_30 8 rfl rfl)
theorem dL_law_928 : decode cL_law 928 = .ok (.ireturn, 1) := dk_172 (dk_at dksL_law_30 9 rfl rfl)
theorem dL_law_929 : decode cL_law 929 = .ok (.iload 6, 2) := dk_21 6 (dk_at dksL_law_30 10 rfl rfl)
theorem dL_law_931 : decode cL_law 931 = .ok (.ifCond .ne 15, 3) := dk_154 0 15 (dk_at dksL_law_30 12 rfl rfl)
theorem dL_law_934 : decode cL_law 934 = .ok (.aload_n 3, 1) := dk_45 (dk_at dksL_law_30 15 rfl rfl)
theorem dL_law_935 : decode cL_law 935 = .ok (.iconst 0, 1) := dk_3 (dk_at dksL_law_30 16 rfl rfl)
theorem dL_law_936 : decode cL_law 936 = .ok (.laload, 1) := dk_47 (dk_at dksL_law_30 17 rfl rfl)
theorem dL_law_937 : decode cL_law 937 = .ok (.iload 7, 2) := dk_21 7 (dk_at dksL_law_30 18 rfl rfl)
theorem dL_law_939 : decode cL_law 939 = .ok (.i2l, 1) := dk_133 (dk_at dksL_law_30 20 rfl rfl)
theorem dL_law_940 : decode cL_law 940 = .ok (.lcmp, 1) := dk_148 (dk_at dksL_law_30 21 rfl rfl)
theorem dL_law_941 : decode cL_law 941 = .ok (.ifCond .eq 5, 3) := dk_153 0 5 (dk_at dksL_law_31 0 rfl rfl)
theorem dL_law_944 : decode cL_law 944 = .ok (.iconst 0, 1) := dk_3 (dk_at dksL_law_31 3 rfl rfl)
theorem dL_law_945 : decode cL_law 945 = .ok (.ireturn, 1) := dk_172 (dk_at dksL_law_31 4 rfl rfl)
theorem dL_law_946 : decode cL_law 946 = .ok (.goto 2084, 3) := dk_167 8 36 (dk_at dksL_law_31 5 rfl rfl)
theorem dL_law_949 : decode cL_law 949 = .ok (.aload_n 1, 1) := dk_43 (dk_at dksL_law_31 8 rfl rfl)
theorem dL_law_950 : decode cL_law 950 = .ok (.aload_n 0, 1) := dk_42 (dk_at dksL_law_31 9 rfl rfl)
theorem dL_law_951 : decode cL_law 951 = .ok (.iload 5, 2) := dk_21 5 (dk_at dksL_law_31 10 rfl rfl)
theorem dL_law_953 : decode cL_law 953 = .ok (.iconst 1, 1) := dk_4 (dk_at dksL_law_31 12 rfl rfl)
theorem dL_law_954 : decode cL_law 954 = .ok (.iadd, 1) := dk_96 (dk_at dksL_law_31 13 rfl rfl)
theorem dL_law_955 : decode cL_law 955 = .ok (.iaload, 1) := dk_46 (dk_at dksL_law_31 14 rfl rfl)
theorem dL_law_956 : decode cL_law 956 = .ok (.aload_n 3, 1) := dk_45 (dk_at dksL_law_31 15 rfl rfl)
theorem dL_law_957 : decode cL_law 957 = .ok (.invokestatic 208, 3) := dk_184 0 208 (dk_at dksL_law_31 16 rfl rfl)
theorem dL_law_960 : decode cL_law 960 = .ok (.istore 6, 2) := dk_54 6 (dk_at dksL_law_31 19 rfl rfl)
theorem dL_law_962 : decode cL_law 962 = .ok (.aload_n 2, 1) := dk_44 (dk_at dksL_law_31 21 rfl rfl)
theorem dL_law_963 : decode cL_law 963 = .ok (.aload_n 0, 1) := dk_42 (dk_at dksL_law_31 22 rfl rfl)
theorem dL_law_964 : decode cL_law 964 = .ok (.iload 5, 2) := dk_21 5 (dk_at dksL_law_32 0 rfl rfl)
theorem dL_law_966 : decode cL_law 966 = .ok (.iconst 1, 1) := dk_4 (dk_at dksL_law_32 2 rfl rfl)
theorem dL_law_967 : decode cL_law 967 = .ok (.iadd, 1) := dk_96 (dk_at dksL_law_32 3 rfl rfl)
theorem dL_law_968 : decode cL_law 968 = .ok (.iaload, 1) := dk_46 (dk_at dksL_law_32 4 rfl rfl)
theorem dL_law_969 : decode cL_law 969 = .ok (.invokevirtual 210, 3) := dk_182 0 210 (dk_at dksL_law_32 5 rfl rfl)
theorem dL_law_972 : decode cL_law 972 = .ok (.istore 7, 2) := dk_54 7 (dk_at dksL_law_32 8 rfl rfl)
theorem dL_law_974 : decode cL_law 974 = .ok (.aload_n 2, 1) := dk_44 (dk_at dksL_law_32 10 rfl rfl)
theorem dL_law_975 : decode cL_law 975 = .ok (.invokevirtual 172, 3) := dk_182 0 172 (dk_at dksL_law_32 11 rfl rfl)
theorem dL_law_978 : decode cL_law 978 = .ok (.iload 6, 2) := dk_21 6 (dk_at dksL_law_32 14 rfl rfl)
theorem dL_law_980 : decode cL_law 980 = .ok (.if_icmp .eq 5, 3) := dk_159 0 5 (dk_at dksL_law_32 16 rfl rfl)
theorem dL_law_983 : decode cL_law 983 = .ok (.iconst 0, 1) := dk_3 (dk_at dksL_law_32 19 rfl rfl)
theorem dL_law_984 : decode cL_law 984 = .ok (.ireturn, 1) := dk_172 (dk_at dksL_law_32 20 rfl rfl)
theorem dL_law_985 : decode cL_law 985 = .ok (.iload 6, 2) := dk_21 6 (dk_at dksL_law_32 21 rfl rfl)
theorem dL_law_987 : decode cL_law 987 = .ok (.ifCond .ne 15, 3) := dk_154 0 15 (dk_at dksL_law_33 0 rfl rfl)
theorem dL_law_990 : decode cL_law 990 = .ok (.aload_n 3, 1) := dk_45 (dk_at dksL_law_33 3 rfl rfl)
theorem dL_law_991 : decode cL_law 991 = .ok (.iconst 0, 1) := dk_3 (dk_at dksL_law_33 4 rfl rfl)
theorem dL_law_992 : decode cL_law 992 = .ok (.laload, 1) := dk_47 (dk_at dksL_law_33 5 rfl rfl)
theorem dL_law_993 : decode cL_law 993 = .ok (.iload 7, 2) := dk_21 7 (dk_at dksL_law_33 6 rfl rfl)
theorem dL_law_995 : decode cL_law 995 = .ok (.i2l, 1) := dk_133 (dk_at dksL_law_33 8 rfl rfl)
theorem dL_law_996 : decode cL_law 996 = .ok (.lcmp, 1) := dk_148 (dk_at dksL_law_33 9 rfl rfl)
theorem dL_law_997 : decode cL_law 997 = .ok (.ifCond .eq 5, 3) := dk_153 0 5 (dk_at dksL_law_33 10 rfl rfl)
theorem dL_law_1000 : decode cL_law 1000 = .ok (.iconst 0, 1) := dk_3 (dk_at dksL_law_33 13 rfl rfl)
theorem dL_law_1001 : decode cL_law 1001 = .ok (.ireturn, 1) := dk_172 (dk_at dksL_law_33 14 rfl rfl)
theorem dL_law_1002 : decode cL_law 1002 = .ok (.goto 2028, 3) := dk_167 7 236 (dk_at dksL_law_33 15 rfl rfl)
theorem dL_law_1005 : decode cL_law 1005 = .ok (.aload_n 1, 1) := dk_43 (dk_at dksL_law_33 18 rfl rfl)
theorem dL_law_1006 : decode cL_law 1006 = .ok (.aload_n 0, 1) := dk_42 (dk_at dksL_law_33 19 rfl rfl)
theorem dL_law_1007 : decode cL_law 1007 = .ok (.iload 5, 2) := dk_21 5 (dk_at dksL_law_33 20 rfl rfl)
theorem dL_law_1009 : decode cL_law 1009 = .ok (.iconst 1, 1) := dk_4 (dk_at dksL_law_33 22 rfl rfl)
theorem dL_law_1010 : decode cL_law 1010 = .ok (.iadd, 1) := dk_96 (dk_at dksL_law_33 23 rfl rfl)
theorem dL_law_1011 : decode cL_law 1011 = .ok (.iaload, 1) := dk_46 (dk_at dksL_law_34 0 rfl rfl)
theorem dL_law_1012 : decode cL_law 1012 = .ok (.aload_n 0, 1) := dk_42 (dk_at dksL_law_34 1 rfl rfl)
theorem dL_law_1013 : decode cL_law 1013 = .ok (.iload 5, 2) := dk_21 5 (dk_at dksL_law_34 2 rfl rfl)
theorem dL_law_1015 : decode cL_law 1015 = .ok (.iconst 2, 1) := dk_5 (dk_at dksL_law_34 4 rfl rfl)
theorem dL_law_1016 : decode cL_law 1016 = .ok (.iadd, 1) := dk_96 (dk_at dksL_law_34 5 rfl rfl)
theorem dL_law_1017 : decode cL_law 1017 = .ok (.iaload, 1) := dk_46 (dk_at dksL_law_34 6 rfl rfl)
theorem dL_law_1018 : decode cL_law 1018 = .ok (.i2c, 1) := dk_146 (dk_at dksL_law_34 7 rfl rfl)
theorem dL_law_1019 : decode cL_law 1019 = .ok (.aload_n 3, 1) := dk_45 (dk_at dksL_law_34 8 rfl rfl)
theorem dL_law_1020 : decode cL_law 1020 = .ok (.invokestatic 211, 3) := dk_184 0 211 (dk_at dksL_law_34 9 rfl rfl)
theorem dL_law_1023 : decode cL_law 1023 = .ok (.istore 6, 2) := dk_54 6 (dk_at dksL_law_34 12 rfl rfl)
theorem dL_law_1025 : decode cL_law 1025 = .ok (.aload_n 2, 1) := dk_44 (dk_at dksL_law_34 14 rfl rfl)
theorem dL_law_1026 : decode cL_law 1026 = .ok (.aload_n 0, 1) := dk_42 (dk_at dksL_law_34 15 rfl rfl)
theorem dL_law_1027 : decode cL_law 1027 = .ok (.iload 5, 2) := dk_21 5 (dk_at dksL_law_34 16 rfl rfl)
theorem dL_law_1029 : decode cL_law 1029 = .ok (.iconst 1, 1) := dk_4 (dk_at dksL_law_34 18 rfl rfl)
theorem dL_law_1030 : decode cL_law 1030 = .ok (.iadd, 1) := dk_96 (dk_at dksL_law_34 19 rfl rfl)
theorem dL_law_1031 : decode cL_law 1031 = .ok (.iaload, 1) := dk_46 (dk_at dksL_law_34 20 rfl rfl)
theorem dL_law_1032 : decode cL_law 1032 = .ok (.aload_n 0, 1) := dk_42 (dk_at dksL_law_34 21 rfl rfl)
theorem dL_law_1033 : decode cL_law 1033 = .ok (.iload 5, 2) := dk_21 5 (dk_at dksL_law_34 22 rfl rfl)
theorem dL_law_1035 : decode cL_law 1035 = .ok (.iconst 2, 1) := dk_5 (dk_at dksL_law_35 0 rfl rfl)
theorem dL_law_1036 : decode cL_law 1036 = .ok (.iadd, 1) := dk_96 (dk_at dksL_law_35 1 rfl rfl)
theorem dL_law_1037 : decode cL_law 1037 = .ok (.iaload, 1) := dk_46 (dk_at dksL_law_35 2 rfl rfl)
theorem dL_law_1038 : decode cL_law 1038 = .ok (.i2c, 1) := dk_146 (dk_at dksL_law_35 3 rfl rfl)
theorem dL_law_1039 : decode cL_law 1039 = .ok (.invokevirtual 214, 3) := dk_182 0 214 (dk_at dksL_law_35 4 rfl rfl)
theorem dL_law_1042 : decode cL_law 1042 = .ok (.istore 7, 2) := dk_54 7 (dk_at dksL_law_35 7 rfl rfl)
theorem dL_law_1044 : decode cL_law 1044 = .ok (.aload_n 2, 1) := dk_44 (dk_at dksL_law_35 9 rfl rfl)
theorem dL_law_1045 : decode cL_law 1045 = .ok (.invokevirtual 172, 3) := dk_182 0 172 (dk_at dksL_law_35 10 rfl rfl)
theorem dL_law_1048 : decode cL_law 1048 = .ok (.iload 6, 2) := dk_21 6 (dk_at dksL_law_35 13 rfl rfl)
theorem dL_law_1050 : decode cL_law 1050 = .ok (.if_icmp .eq 5, 3) := dk_159 0 5 (dk_at dksL_law_35 15 rfl rfl)
theorem dL_law_1053 : decode cL_law 1053 = .ok (.iconst 0, 1) := dk_3 (dk_at dksL_law_35 18 rfl rfl)
theorem dL_law_1054 : decode cL_law 1054 = .ok (.ireturn, 1) := dk_172 (dk_at dksL_law_35 19 rfl rfl)
theorem dL_law_1055 : decode cL_law 1055 = .ok (.iload 6, 2) := dk_21 6 (dk_at dksL_law_35 20 rfl rfl)
theorem dL_law_1057 : decode cL_law 1057 = .ok (.ifCond .ne 22, 3) := dk_154 0 22 (dk_at dksL_law_36 0 rfl rfl)
theorem dL_law_1060 : decode cL_law 1060 = .ok (.aload_n 3, 1) := dk_45 (dk_at dksL_law_36 3 rfl rfl)
theorem dL_law_1061 : decode cL_law 1061 = .ok (.iconst 0, 1) := dk_3 (dk_at dksL_law_36 4 rfl rfl)
theorem dL_law_1062 : decode cL_law 1062 = .ok (.laload, 1) := dk_47 (dk_at dksL_law_36 5 rfl rfl)
theorem dL_law_1063 : decode cL_law 1063 = .ok (.iload 7, 2) := dk_21 7 (dk_at dksL_law_36 6 rfl rfl)
theorem dL_law_1065 : decode cL_law 1065 = .ok (.ifCond .eq 7, 3) := dk_153 0 7 (dk_at dksL_law_36 8 rfl rfl)
theorem dL_law_1068 : decode cL_law 1068 = .ok (.lconst 1, 1) := dk_10 (dk_at dksL_law_36 11 rfl rfl)
theorem dL_law_1069 : decode cL_law 1069 = .ok (.goto 4, 3) := dk_167 0 4 (dk_at dksL_law_36 12 rfl rfl)
theorem dL_law_1072 : decode cL_law 1072 = .ok (.lconst 0, 1) := dk_9 (dk_at dksL_law_36 15 rfl rfl)
theorem dL_law_1073 : decode cL_law 1073 = .ok (.lcmp, 1) := dk_148 (dk_at dksL_law_36 16 rfl rfl)
theorem dL_law_1074 : decode cL_law 1074 = .ok (.ifCond .eq 5, 3) := dk_153 0 5 (dk_at dksL_law_36 17 rfl rfl)
theorem dL_law_1077 : decode cL_law 1077 = .ok (.iconst 0, 1) := dk_3 (dk_at dksL_law_36 20 rfl rfl)
theorem dL_law_1078 : decode cL_law 1078 = .ok (.ireturn, 1) := dk_172 (dk_at dksL_law_36 21 rfl rfl)
theorem dL_law_1079 : decode cL_law 1079 = .ok (.goto 1951, 3) := dk_167 7 159 (dk_at dksL_law_37 0 rfl rfl)
theorem dL_law_1082 : decode cL_law 1082 = .ok (.aload_n 1, 1) := dk_43 (dk_at dksL_law_37 3 rfl rfl)
theorem dL_law_1083 : decode cL_law 1083 = .ok (.aload_n 0, 1) := dk_42 (dk_at dksL_law_37 4 rfl rfl)
theorem dL_law_1084 : decode cL_law 1084 = .ok (.iload 5, 2) := dk_21 5 (dk_at dksL_law_37 5 rfl rfl)
theorem dL_law_1086 : decode cL_law 1086 = .ok (.iconst 1, 1) := dk_4 (dk_at dksL_law_37 7 rfl rfl)
theorem dL_law_1087 : decode cL_law 1087 = .ok (.iadd, 1) := dk_96 (dk_at dksL_law_37 8 rfl rfl)
theorem dL_law_1088 : decode cL_law 1088 = .ok (.iaload, 1) := dk_46 (dk_at dksL_law_37 9 rfl rfl)
theorem dL_law_1089 : decode cL_law 1089 = .ok (.aload_n 3, 1) := dk_45 (dk_at dksL_law_37 10 rfl rfl)
theorem dL_law_1090 : decode cL_law 1090 = .ok (.invokestatic 215, 3) := dk_184 0 215 (dk_at dksL_law_37 11 rfl rfl)
theorem dL_law_1093 : decode cL_law 1093 = .ok (.istore 6, 2) := dk_54 6 (dk_at dksL_law_37 14 rfl rfl)
theorem dL_law_1095 : decode cL_law 1095 = .ok (.aload_n 2, 1) := dk_44 (dk_at dksL_law_37 16 rfl rfl)
theorem dL_law_1096 : decode cL_law 1096 = .ok (.aload_n 0, 1) := dk_42 (dk_at dksL_law_37 17 rfl rfl)
theorem dL_law_1097 : decode cL_law 1097 = .ok (.iload 5, 2) := dk_21 5 (dk_at dksL_law_37 18 rfl rfl)
theorem dL_law_1099 : decode cL_law 1099 = .ok (.iconst 1, 1) := dk_4 (dk_at dksL_law_37 20 rfl rfl)
theorem dL_law_1100 : decode cL_law 1100 = .ok (.iadd, 1) := dk_96 (dk_at dksL_law_37 21 rfl rfl)
theorem dL_law_1101 : decode cL_law 1101 = .ok (.iaload, 1) := dk_46 (dk_at dksL_law_37 22 rfl rfl)
theorem dL_law_1102 : decode cL_law 1102 = .ok (.invokevirtual 217, 3) := dk_182 0 217 (dk_at dksL_law_38 0 rfl rfl)
theorem dL_law_1105 : decode cL_law 1105 = .ok (.istore 7, 2) := dk_54 7 (dk_at dksL_law_38 3 rfl rfl)
theorem dL_law_1107 : decode cL_law 1107 = .ok (.aload_n 2, 1) := dk_44 (dk_at dksL_law_38 5 rfl rfl)
theorem dL_law_1108 : decode cL_law 1108 = .ok (.invokevirtual 172, 3) := dk_182 0 172 (dk_at dksL_law_38 6 rfl rfl)
theorem dL_law_1111 : decode cL_law 1111 = .ok (.iload 6, 2) := dk_21 6 (dk_at dksL_law_38 9 rfl rfl)
theorem dL_law_1113 : decode cL_law 1113 = .ok (.if_icmp .eq 5, 3) := dk_159 0 5 (dk_at dksL_law_38 11 rfl rfl)
theorem dL_law_1116 : decode cL_law 1116 = .ok (.iconst 0, 1) := dk_3 (dk_at dksL_law_38 14 rfl rfl)
theorem dL_law_1117 : decode cL_law 1117 = .ok (.ireturn, 1) := dk_172 (dk_at dksL_law_38 15 rfl rfl)
theorem dL_law_1118 : decode cL_law 1118 = .ok (.iload 6, 2) := dk_21 6 (dk_at dksL_law_38 16 rfl rfl)
theorem dL_law_1120 : decode cL_law 1120 = .ok (.ifCond .ne 15, 3) := dk_154 0 15 (dk_at dksL_law_38 18 rfl rfl)
theorem dL_law_1123 : decode cL_law 1123 = .ok (.aload_n 3, 1) := dk_45 (dk_at dksL_law_38 21 rfl rfl)
theorem dL_law_1124 : decode cL_law 1124 = .ok (.iconst 0, 1) := dk_3 (dk_at dksL_law_38 22 rfl rfl)
theorem dL_law_1125 : decode cL_law 1125 = .ok (.laload, 1) := dk_47 (dk_at dksL_law_38 23 rfl rfl)
theorem dL_law_1126 : decode cL_law 1126 = .ok (.iload 7, 2) := dk_21 7 (dk_at dksL_law_39 0 rfl rfl)
theorem dL_law_1128 : decode cL_law 1128 = .ok (.i2l, 1) := dk_133 (dk_at dksL_law_39 2 rfl rfl)
theorem dL_law_1129 : decode cL_law 1129 = .ok (.lcmp, 1) := dk_148 (dk_at dksL_law_39 3 rfl rfl)
theorem dL_law_1130 : decode cL_law 1130 = .ok (.ifCond .eq 5, 3) := dk_153 0 5 (dk_at dksL_law_39 4 rfl rfl)
theorem dL_law_1133 : decode cL_law 1133 = .ok (.iconst 0, 1) := dk_3 (dk_at dksL_law_39 7 rfl rfl)
theorem dL_law_1134 : decode cL_law 1134 = .ok (.ireturn, 1) := dk_172 (dk_at dksL_law_39 8 rfl rfl)
theorem dL_law_1135 : decode cL_law 1135 = .ok (.goto 1895, 3) := dk_167 7 103 (dk_at dksL_law_39 9 rfl rfl)
theorem dL_law_1138 : decode cL_law 1138 = .ok (.aload_n 1, 1) := dk_43 (dk_at dksL_law_39 12 rfl rfl)
theorem dL_law_1139 : decode cL_law 1139 = .ok (.aload_n 0, 1) := dk_42 (dk_at dksL_law_39 13 rfl rfl)
theorem dL_law_1140 : decode cL_law 1140 = .ok (.iload 5, 2) := dk_21 5 (dk_at dksL_law_39 14 rfl rfl)
theorem dL_law_1142 : decode cL_law 1142 = .ok (.iconst 1, 1) := dk_4 (dk_at dksL_law_39 16 rfl rfl)
theorem dL_law_1143 : decode cL_law 1143 = .ok (.iadd, 1) := dk_96 (dk_at dksL_law_39 17 rfl rfl)
theorem dL_law_1144 : decode cL_law 1144 = .ok (.iaload, 1) := dk_46 (dk_at dksL_law_39 18 rfl rfl)
theorem dL_law_1145 : decode cL_law 1145 = .ok (.aload 4, 2) := dk_25 4 (dk_at dksL_law_39 19 rfl rfl)
theorem dL_law_1147 : decode cL_law 1147 = .ok (.invokestatic 218, 3) := dk_184 0 218 (dk_at dksL_law_39 21 rfl rfl)
theorem dL_law_1150 : decode cL_law 1150 = .ok (.istore 6, 2) := dk_54 6 (dk_at dksL_law_40 0 rfl rfl)
theorem dL_law_1152 : decode cL_law 1152 = .ok (.aload_n 2, 1) := dk_44 (dk_at dksL_law_40 2 rfl rfl)
theorem dL_law_1153 : decode cL_law 1153 = .ok (.aload_n 0, 1) := dk_42 (dk_at dksL_law_40 3 rfl rfl)
theorem dL_law_1154 : decode cL_law 1154 = .ok (.iload 5, 2) := dk_21 5 (dk_at dksL_law_40 4 rfl rfl)
theorem dL_law_1156 : decode cL_law 1156 = .ok (.iconst 1, 1) := dk_4 (dk_at dksL_law_40 6 rfl rfl)
theorem dL_law_1157 : decode cL_law 1157 = .ok (.iadd, 1) := dk_96 (dk_at dksL_law_40 7 rfl rfl)
theorem dL_law_1158 : decode cL_law 1158 = .ok (.iaload, 1) := dk_46 (dk_at dksL_law_40 8 rfl rfl)
theorem dL_law_1159 : decode cL_law 1159 = .ok (.invokevirtual 221, 3) := dk_182 0 221 (dk_at dksL_law_40 9 rfl rfl)
theorem dL_law_1162 : decode cL_law 1162 = .ok (.fstore 7, 2) := dk_56 7 (dk_at dksL_law_40 12 rfl rfl)
theorem dL_law_1164 : decode cL_law 1164 = .ok (.aload_n 2, 1) := dk_44 (dk_at dksL_law_40 14 rfl rfl)
theorem dL_law_1165 : decode cL_law 1165 = .ok (.invokevirtual 172, 3) := dk_182 0 172 (dk_at dksL_law_40 15 rfl rfl)
theorem dL_law_1168 : decode cL_law 1168 = .ok (.iload 6, 2) := dk_21 6 (dk_at dksL_law_40 18 rfl rfl)
theorem dL_law_1170 : decode cL_law 1170 = .ok (.if_icmp .eq 5, 3) := dk_159 0 5 (dk_at dksL_law_40 20 rfl rfl)
theorem dL_law_1173 : decode cL_law 1173 = .ok (.iconst 0, 1) := dk_3 (dk_at dksL_law_40 23 rfl rfl)
theorem dL_law_1174 : decode cL_law 1174 = .ok (.ireturn, 1) := dk_172 (dk_at dksL_law_41 0 rfl rfl)
theorem dL_law_1175 : decode cL_law 1175 = .ok (.iload 6, 2) := dk_21 6 (dk_at dksL_law_41 1 rfl rfl)
theorem dL_law_1177 : decode cL_law 1177 = .ok (.ifCond .ne 36, 3) := dk_154 0 36 (dk_at dksL_law_41 3 rfl rfl)
theorem dL_law_1180 : decode cL_law 1180 = .ok (.aload 4, 2) := dk_25 4 (dk_at dksL_law_41 6 rfl rfl)
theorem dL_law_1182 : decode cL_law 1182 = .ok (.iconst 0, 1) := dk_3 (dk_at dksL_law_41 8 rfl rfl)
theorem dL_law_1183 : decode cL_law 1183 = .ok (.daload, 1) := dk_49 (dk_at dksL_law_41 9 rfl rfl)
theorem dL_law_1184 : decode cL_law 1184 = .ok (.fload 7, 2) := dk_23 7 (dk_at dksL_law_41 10 rfl rfl)
theorem dL_law_1186 : decode cL_law 1186 = .ok (.f2d, 1) := dk_141 (dk_at dksL_law_41 12 rfl rfl)
theorem dL_law_1187 : decode cL_law 1187 = .ok (.dcmp .l, 1) := dk_151 (dk_at dksL_law_41 13 rfl rfl)
theorem dL_law_1188 : decode cL_law 1188 = .ok (.ifCond .eq 25, 3) := dk_153 0 25 (dk_at dksL_law_41 14 rfl rfl)
theorem dL_law_1191 : decode cL_law 1191 = .ok (.aload 4, 2) := dk_25 4 (dk_at dksL_law_41 17 rfl rfl)
theorem dL_law_1193 : decode cL_law 1193 = .ok (.iconst 0, 1) := dk_3 (dk_at dksL_law_41 19 rfl rfl)
theorem dL_law_1194 : decode cL_law 1194 = .ok (.daload, 1) := dk_49 (dk_at dksL_law_41 20 rfl rfl)
theorem dL_law_1195 : decode cL_law 1195 = .ok (.aload 4, 2) := dk_25 4 (dk_at dksL_law_41 21 rfl rfl)
theorem dL_law_1197 : decode cL_law 1197 = .ok (.iconst 0, 1) := dk_3 (dk_at dksL_law_41 23 rfl rfl)
theorem dL_law_1198 : decode cL_law 1198 = .ok (.daload, 1) := dk_49 (dk_at dksL_law_42 0 rfl rfl)
theorem dL_law_1199 : decode cL_law 1199 = .ok (.dcmp .l, 1) := dk_151 (dk_at dksL_law_42 1 rfl rfl)
theorem dL_law_1200 : decode cL_law 1200 = .ok (.ifCond .eq 11, 3) := dk_153 0 11 (dk_at dksL_law_42 2 rfl rfl)
theorem dL_law_1203 : decode cL_law 1203 = .ok (.fload 7, 2) := dk_23 7 (dk_at dksL_law_42 5 rfl rfl)
theorem dL_law_1205 : decode cL_law 1205 = .ok (.fload 7, 2) := dk_23 7 (dk_at dksL_law_42 7 rfl rfl)
theorem dL_law_1207 : decode cL_law 1207 = .ok (.fcmp .l, 1) := dk_149 (dk_at dksL_law_42 9 rfl rfl)
theorem dL_law_1208 : decode cL_law 1208 = .ok (.ifCond .ne 5, 3) := dk_154 0 5 (dk_at dksL_law_42 10 rfl rfl)
theorem dL_law_1211 : decode cL_law 1211 = .ok (.iconst 0, 1) := dk_3 (dk_at dksL_law_42 13 rfl rfl)
theorem dL_law_1212 : decode cL_law 1212 = .ok (.ireturn, 1) := dk_172 (dk_at dksL_law_42 14 rfl rfl)
theorem dL_law_1213 : decode cL_law 1213 = .ok (.goto 1817, 3) := dk_167 7 25 (dk_at dksL_law_42 15 rfl rfl)
theorem dL_law_1216 : decode cL_law 1216 = .ok (.aload_n 1, 1) := dk_43 (dk_at dksL_law_42 18 rfl rfl)
theorem dL_law_1217 : decode cL_law 1217 = .ok (.aload_n 0, 1) := dk_42 (dk_at dksL_law_42 19 rfl rfl)
theorem dL_law_1218 : decode cL_law 1218 = .ok (.iload 5, 2) := dk_21 5 (dk_at dksL_law_42 20 rfl rfl)
theorem dL_law_1220 : decode cL_law 1220 = .ok (.iconst 1, 1) := dk_4 (dk_at dksL_law_42 22 rfl rfl)
theorem dL_law_1221 : decode cL_law 1221 = .ok (.iadd, 1) := dk_96 (dk_at dksL_law_42 23 rfl rfl)
theorem dL_law_1222 : decode cL_law 1222 = .ok (.iaload, 1) := dk_46 (dk_at dksL_law_43 0 rfl rfl)
theorem dL_law_1223 : decode cL_law 1223 = .ok (.aload_n 3, 1) := dk_45 (dk_at dksL_law_43 1 rfl rfl)
theorem dL_law_1224 : decode cL_law 1224 = .ok (.invokestatic 222, 3) := dk_184 0 222 (dk_at dksL_law_43 2 rfl rfl)
theorem dL_law_1227 : decode cL_law 1227 = .ok (.istore 6, 2) := dk_54 6 (dk_at dksL_law_43 5 rfl rfl)
theorem dL_law_1229 : decode cL_law 1229 = .ok (.aload_n 2, 1) := dk_44 (dk_at dksL_law_43 7 rfl rfl)
theorem dL_law_1230 : decode cL_law 1230 = .ok (.aload_n 0, 1) := dk_42 (dk_at dksL_law_43 8 rfl rfl)
theorem dL_law_1231 : decode cL_law 1231 = .ok (.iload 5, 2) := dk_21 5 (dk_at dksL_law_43 9 rfl rfl)
theorem dL_law_1233 : decode cL_law 1233 = .ok (.iconst 1, 1) := dk_4 (dk_at dksL_law_43 11 rfl rfl)
theorem dL_law_1234 : decode cL_law 1234 = .ok (.iadd, 1) := dk_96 (dk_at dksL_law_43 12 rfl rfl)
theorem dL_law_1235 : decode cL_law 1235 = .ok (.iaload, 1) := dk_46 (dk_at dksL_law_43 13 rfl rfl)
theorem dL_law_1236 : decode cL_law 1236 = .ok (.invokevirtual 224, 3) := dk_182 0 224 (dk_at dksL_law_43 14 rfl rfl)
theorem dL_law_1239 : decode cL_law 1239 = .ok (.istore 7, 2) := dk_54 7 (dk_at dksL_law_43 17 rfl rfl)
theorem dL_law_1241 : decode cL_law 1241 = .ok (.aload_n 2, 1) := dk_44 (dk_at dksL_law_43 19 rfl rfl)
theorem dL_law_1242 : decode cL_law 1242 = .ok (.invokevirtual 172, 3) := dk_182 0 172 (dk_at dksL_law_43 20 rfl rfl)
theorem dL_law_1245 : decode cL_law 1245 = .ok (.iload 6, 2) := dk_21 6 (dk_at dksL_law_44 0 rfl rfl)
theorem dL_law_1247 : decode cL_law 1247 = .ok (.if_icmp .eq 5, 3) := dk_159 0 5 (dk_at dksL_law_44 2 rfl rfl)
theorem dL_law_1250 : decode cL_law 1250 = .ok (.iconst 0, 1) := dk_3 (dk_at dksL_law_44 5 rfl rfl)
theorem dL_law_1251 : decode cL_law 1251 = .ok (.ireturn, 1) := dk_172 (dk_at dksL_law_44 6 rfl rfl)
theorem dL_law_1252 : decode cL_law 1252 = .ok (.iload 6, 2) := dk_21 6 (dk_at dksL_law_44 7 rfl rfl)
theorem dL_law_1254 : decode cL_law 1254 = .ok (.ifCond .ne 15, 3) := dk_154 0 15 (dk_at dksL_law_44 9 rfl rfl)
theorem dL_law_1257 : decode cL_law 1257 = .ok (.aload_n 3, 1) := dk_45 (dk_at dksL_law_44 12 rfl rfl)
theorem dL_law_1258 : decode cL_law 1258 = .ok (.iconst 0, 1) := dk_3 (dk_at dksL_law_44 13 rfl rfl)
theorem dL_law_1259 : decode cL_law 1259 = .ok (.laload, 1) := dk_47 (dk_at dksL_law_44 14 rfl rfl)
theorem dL_law_1260 : decode cL_law 1260 = .ok (.iload 7, 2) := dk_21 7 (dk_at dksL_law_44 15 rfl rfl)
theorem dL_law_1262 : decode cL_law 1262 = .ok (.i2l, 1) := dk_133 (dk_at dksL_law_44 17 rfl rfl)
theorem dL_law_1263 : decode cL_law 1263 = .ok (.lcmp, 1) := dk_148 (dk_at dksL_law_44 18 rfl rfl)
theorem dL_law_1264 : decode cL_law 1264 = .ok (.ifCond .eq 5, 3) := dk_153 0 5 (dk_at dksL_law_44 19 rfl rfl)
theorem dL_law_1267 : decode cL_law 1267 = .ok (.iconst 0, 1) := dk_3 (dk_at dksL_law_44 22 rfl rfl)
theorem dL_law_1268 : decode cL_law 1268 = .ok (.ireturn, 1) := dk_172 (dk_at dksL_law_44 23 rfl rfl)
theorem dL_law_1269 : decode cL_law 1269 = .ok (.goto 1761, 3) := dk_167 6 225 (dk_at dksL_law_45 0 rfl rfl)
theorem dL_law_1272 : decode cL_law 1272 = .ok (.aload_n 1, 1) := dk_43 (dk_at dksL_law_45 3 rfl rfl)
theorem dL_law_1273 : decode cL_law 1273 = .ok (.invokevirtual 225, 3) := dk_182 0 225 (dk_at dksL_law_45 4 rfl rfl)
theorem dL_law_1276 : decode cL_law 1276 = .ok (.aload_n 2, 1) := dk_44 (dk_at dksL_law_45 7 rfl rfl)
theorem dL_law_1277 : decode cL_law 1277 = .ok (.invokevirtual 228, 3) := dk_182 0 228 (dk_at dksL_law_45 8 rfl rfl)
theorem dL_law_1280 : decode cL_law 1280 = .ok (.if_icmp .eq 1750, 3) := dk_159 6 214 (dk_at dksL_law_45 11 rfl rfl)
theorem dL_law_1283 : decode cL_law 1283 = .ok (.iconst 0, 1) := dk_3 (dk_at dksL_law_45 14 rfl rfl)
theorem dL_law_1284 : decode cL_law 1284 = .ok (.ireturn, 1) := dk_172 (dk_at dksL_law_45 15 rfl rfl)
theorem dL_law_1285 : decode cL_law 1285 = .ok (.aload_n 1, 1) := dk_43 (dk_at dksL_law_45 16 rfl rfl)
theorem dL_law_1286 : decode cL_law 1286 = .ok (.aload_n 0, 1) := dk_42 (dk_at dksL_law_45 17 rfl rfl)
theorem dL_law_1287 : decode cL_law 1287 = .ok (.iload 5, 2) := dk_21 5 (dk_at dksL_law_45 18 rfl rfl)
theorem dL_law_1289 : decode cL_law 1289 = .ok (.iconst 1, 1) := dk_4 (dk_at dksL_law_45 20 rfl rfl)
theorem dL_law_1290 : decode cL_law 1290 = .ok (.iadd, 1) := dk_96 (dk_at dksL_law_45 21 rfl rfl)
theorem dL_law_1291 : decode cL_law 1291 = .ok (.iaload, 1) := dk_46 (dk_at dksL_law_45 22 rfl rfl)
theorem dL_law_1292 : decode cL_law 1292 = .ok (.aload_n 3, 1) := dk_45 (dk_at dksL_law_45 23 rfl rfl)
theorem dL_law_1293 : decode cL_law 1293 = .ok (.invokestatic 229, 3) := dk_184 0 229 (dk_at dksL_law_46 0 rfl rfl)
theorem dL_law_1296 : decode cL_law 1296 = .ok (.istore 6, 2) := dk_54 6 (dk_at dksL_law_46 3 rfl rfl)
theorem dL_law_1298 : decode cL_law 1298 = .ok (.aload_n 2, 1) := dk_44 (dk_at dksL_law_46 5 rfl rfl)
theorem dL_law_1299 : decode cL_law 1299 = .ok (.aload_n 0, 1) := dk_42 (dk_at dksL_law_46 6 rfl rfl)
theorem dL_law_1300 : decode cL_law 1300 = .ok (.iload 5, 2) := dk_21 5 (dk_at dksL_law_46 7 rfl rfl)
theorem dL_law_1302 : decode cL_law 1302 = .ok (.iconst 1, 1) := dk_4 (dk_at dksL_law_46 9 rfl rfl)
theorem dL_law_1303 : decode cL_law 1303 = .ok (.iadd, 1) := dk_96 (dk_at dksL_law_46 10 rfl rfl)
theorem dL_law_1304 : decode cL_law 1304 = .ok (.iaload, 1) := dk_46 (dk_at dksL_law_46 11 rfl rfl)
theorem dL_law_1305 : decode cL_law 1305 = .ok (.invokevirtual 231, 3) := dk_182 0 231 (dk_at dksL_law_46 12 rfl rfl)
theorem dL_law_1308 : decode cL_law 1308 = .ok (.istore 7, 2) := dk_54 7 (dk_at dksL_law_46 15 rfl rfl)
theorem dL_law_1310 : decode cL_law 1310 = .ok (.aload_n 2, 1) := dk_44 (dk_at dksL_law_46 17 rfl rfl)
theorem dL_law_1311 : decode cL_law 1311 = .ok (.invokevirtual 172, 3) := dk_182 0 172 (dk_at dksL_law_46 18 rfl rfl)
theorem dL_law_1314 : decode cL_law 1314 = .ok (.iload 6, 2) := dk_21 6 (dk_at dksL_law_46 21 rfl rfl)
theorem dL_law_1316 : decode cL_law 1316 = .ok (.if_icmp .eq 5, 3) := dk_159 0 5 (dk_at dksL_law_47 0 rfl rfl)
theorem dL_law_1319 : decode cL_law 1319 = .ok (.iconst 0, 1) := dk_3 (dk_at dksL_law_47 3 rfl rfl)
theorem dL_law_1320 : decode cL_law 1320 = .ok (.ireturn, 1) := dk_172 (dk_at dksL_law_47 4 rfl rfl)
theorem dL_law_1321 : decode cL_law 1321 = .ok (.iload 6, 2) := dk_21 6 (dk_at dksL_law_47 5 rfl rfl)
theorem dL_law_1323 : decode cL_law 1323 = .ok (.ifCond .ne 15, 3) := dk_154 0 15 (dk_at dksL_law_47 7 rfl rfl)
theorem dL_law_1326 : decode cL_law 1326 = .ok (.aload_n 3, 1) := dk_45 (dk_at dksL_law_47 10 rfl rfl)
theorem dL_law_1327 : decode cL_law 1327 = .ok (.iconst 0, 1) := dk_3 (dk_at dksL_law_47 11 rfl rfl)
theorem dL_law_1328 : decode cL_law 1328 = .ok (.laload, 1) := dk_47 (dk_at dksL_law_47 12 rfl rfl)
theorem dL_law_1329 : decode cL_law 1329 = .ok (.iload 7, 2) := dk_21 7 (dk_at dksL_law_47 13 rfl rfl)
theorem dL_law_1331 : decode cL_law 1331 = .ok (.i2l, 1) := dk_133 (dk_at dksL_law_47 15 rfl rfl)
theorem dL_law_1332 : decode cL_law 1332 = .ok (.lcmp, 1) := dk_148 (dk_at dksL_law_47 16 rfl rfl)
theorem dL_law_1333 : decode cL_law 1333 = .ok (.ifCond .eq 5, 3) := dk_153 0 5 (dk_at dksL_law_47 17 rfl rfl)
theorem dL_law_1336 : decode cL_law 1336 = .ok (.iconst 0, 1) := dk_3 (dk_at dksL_law_47 20 rfl rfl)
theorem dL_law_1337 : decode cL_law 1337 = .ok (.ireturn, 1) := dk_172 (dk_at dksL_law_47 21 rfl rfl)
theorem dL_law_1338 : decode cL_law 1338 = .ok (.goto 1692, 3) := dk_167 6 156 (dk_at dksL_law_48 0 rfl rfl)
theorem dL_law_1341 : decode cL_law 1341 = .ok (.aload_n 1, 1) := dk_43 (dk_at dksL_law_48 3 rfl rfl)
theorem dL_law_1342 : decode cL_law 1342 = .ok (.aload_n 0, 1) := dk_42 (dk_at dksL_law_48 4 rfl rfl)
theorem dL_law_1343 : decode cL_law 1343 = .ok (.iload 5, 2) := dk_21 5 (dk_at dksL_law_48 5 rfl rfl)
theorem dL_law_1345 : decode cL_law 1345 = .ok (.iconst 1, 1) := dk_4 (dk_at dksL_law_48 7 rfl rfl)
theorem dL_law_1346 : decode cL_law 1346 = .ok (.iadd, 1) := dk_96 (dk_at dksL_law_48 8 rfl rfl)
theorem dL_law_1347 : decode cL_law 1347 = .ok (.iaload, 1) := dk_46 (dk_at dksL_law_48 9 rfl rfl)
theorem dL_law_1348 : decode cL_law 1348 = .ok (.aload_n 3, 1) := dk_45 (dk_at dksL_law_48 10 rfl rfl)
theorem dL_law_1349 : decode cL_law 1349 = .ok (.invokestatic 232, 3) := dk_184 0 232 (dk_at dksL_law_48 11 rfl rfl)
theorem dL_law_1352 : decode cL_law 1352 = .ok (.istore 6, 2) := dk_54 6 (dk_at dksL_law_48 14 rfl rfl)
theorem dL_law_1354 : decode cL_law 1354 = .ok (.aload_n 2, 1) := dk_44 (dk_at dksL_law_48 16 rfl rfl)
theorem dL_law_1355 : decode cL_law 1355 = .ok (.aload_n 0, 1) := dk_42 (dk_at dksL_law_48 17 rfl rfl)
theorem dL_law_1356 : decode cL_law 1356 = .ok (.iload 5, 2) := dk_21 5 (dk_at dksL_law_48 18 rfl rfl)
theorem dL_law_1358 : decode cL_law 1358 = .ok (.iconst 1, 1) := dk_4 (dk_at dksL_law_48 20 rfl rfl)
theorem dL_law_1359 : decode cL_law 1359 = .ok (.iadd, 1) := dk_96 (dk_at dksL_law_48 21 rfl rfl)
theorem dL_law_1360 : decode cL_law 1360 = .ok (.iaload, 1) := dk_46 (dk_at dksL_law_48 22 rfl rfl)
theorem dL_law_1361 : decode cL_law 1361 = .ok (.invokevirtual 234, 3) := dk_182 0 234 (dk_at dksL_law_49 0 rfl rfl)
theorem dL_law_1364 : decode cL_law 1364 = .ok (.istore 7, 2) := dk_54 7 (dk_at dksL_law_49 3 rfl rfl)
theorem dL_law_1366 : decode cL_law 1366 = .ok (.aload_n 2, 1) := dk_44 (dk_at dksL_law_49 5 rfl rfl)
theorem dL_law_1367 : decode cL_law 1367 = .ok (.invokevirtual 172, 3) := dk_182 0 172 (dk_at dksL_law_49 6 rfl rfl)
theorem dL_law_1370 : decode cL_law 1370 = .ok (.iload 6, 2) := dk_21 6 (dk_at dksL_law_49 9 rfl rfl)
theorem dL_law_1372 : decode cL_law 1372 = .ok (.if_icmp .eq 5, 3) := dk_159 0 5 (dk_at dksL_law_49 11 rfl rfl)
theorem dL_law_1375 : decode cL_law 1375 = .ok (.iconst 0, 1) := dk_3 (dk_at dksL_law_49 14 rfl rfl)
theorem dL_law_1376 : decode cL_law 1376 = .ok (.ireturn, 1) := dk_172 (dk_at dksL_law_49 15 rfl rfl)
theorem dL_law_1377 : decode cL_law 1377 = .ok (.iload 6, 2) := dk_21 6 (dk_at dksL_law_49 16 rfl rfl)
theorem dL_law_1379 : decode cL_law 1379 = .ok (.ifCond .ne 15, 3) := dk_154 0 15 (dk_at dksL_law_49 18 rfl rfl)
theorem dL_law_1382 : decode cL_law 1382 = .ok (.aload_n 3, 1) := dk_45 (dk_at dksL_law_49 21 rfl rfl)
theorem dL_law_1383 : decode cL_law 1383 = .ok (.iconst 0, 1) := dk_3 (dk_at dksL_law_49 22 rfl rfl)
theorem dL_law_1384 : decode cL_law 1384 = .ok (.laload, 1) := dk_47 (dk_at dksL_law_49 23 rfl rfl)
theorem dL_law_1385 : decode cL_law 1385 = .ok (.iload 7, 2) := dk_21 7 (dk_at dksL_law_50 0 rfl rfl)
theorem dL_law_1387 : decode cL_law 1387 = .ok (.i2l, 1) := dk_133 (dk_at dksL_law_50 2 rfl rfl)
theorem dL_law_1388 : decode cL_law 1388 = .ok (.lcmp, 1) := dk_148 (dk_at dksL_law_50 3 rfl rfl)
theorem dL_law_1389 : decode cL_law 1389 = .ok (.ifCond .eq 5, 3) := dk_153 0 5 (dk_at dksL_law_50 4 rfl rfl)
theorem dL_law_1392 : decode cL_law 1392 = .ok (.iconst 0, 1) := dk_3 (dk_at dksL_law_50 7 rfl rfl)
theorem dL_law_1393 : decode cL_law 1393 = .ok (.ireturn, 1) := dk_172 (dk_at dksL_law_50 8 rfl rfl)
theorem dL_law_1394 : decode cL_law 1394 = .ok (.goto 1636, 3) := dk_167 6 100 (dk_at dksL_law_50 9 rfl rfl)
theorem dL_law_1397 : decode cL_law 1397 = .ok (.aload_n 1, 1) := dk_43 (dk_at dksL_law_50 12 rfl rfl)
theorem dL_law_1398 : decode cL_law 1398 = .ok (.aload_n 0, 1) := dk_42 (dk_at dksL_law_50 13 rfl rfl)
theorem dL_law_1399 : decode cL_law 1399 = .ok (.iload 5, 2) := dk_21 5 (dk_at dksL_law_50 14 rfl rfl)
theorem dL_law_1401 : decode cL_law 1401 = .ok (.iconst 1, 1) := dk_4 (dk_at dksL_law_50 16 rfl rfl)
theorem dL_law_1402 : decode cL_law 1402 = .ok (.iadd, 1) := dk_96 (dk_at dksL_law_50 17 rfl rfl)
theorem dL_law_1403 : decode cL_law 1403 = .ok (.iaload, 1) := dk_46 (dk_at dksL_law_50 18 rfl rfl)
theorem dL_law_1404 : decode cL_law 1404 = .ok (.aload_n 3, 1) := dk_45 (dk_at dksL_law_50 19 rfl rfl)
theorem dL_law_1405 : decode cL_law 1405 = .ok (.invokestatic 235, 3) := dk_184 0 235 (dk_at dksL_law_50 20 rfl rfl)
theorem dL_law_1408 : decode cL_law 1408 = .ok (.istore 6, 2) := dk_54 6 (dk_at dksL_law_51 0 rfl rfl)
theorem dL_law_1410 : decode cL_law 1410 = .ok (.aload_n 2, 1) := dk_44 (dk_at dksL_law_51 2 rfl rfl)
theorem dL_law_1411 : decode cL_law 1411 = .ok (.aload_n 0, 1) := dk_42 (dk_at dksL_law_51 3 rfl rfl)
theorem dL_law_1412 : decode cL_law 1412 = .ok (.iload 5, 2) := dk_21 5 (dk_at dksL_law_51 4 rfl rfl)
theorem dL_law_1414 : decode cL_law 1414 = .ok (.iconst 1, 1) := dk_4 (dk_at dksL_law_51 6 rfl rfl)
theorem dL_law_1415 : decode cL_law 1415 = .ok (.iadd, 1) := dk_96 (dk_at dksL_law_51 7 rfl rfl)
theorem dL_law_1416 : decode cL_law 1416 = .ok (.iaload, 1) := dk_46 (dk_at dksL_law_51 8 rfl rfl)
theorem dL_law_1417 : decode cL_law 1417 = .ok (.invokevirtual 237, 3) := dk_182 0 237 (dk_at dksL_law_51 9 rfl rfl)
theorem dL_law_1420 : decode cL_law 1420 = .ok (.istore 7, 2) := dk_54 7 (dk_at dksL_law_51 12 rfl rfl)
theorem dL_law_1422 : decode cL_law 1422 = .ok (.aload_n 2, 1) := dk_44 (dk_at dksL_law_51 14 rfl rfl)
theorem dL_law_1423 : decode cL_law 1423 = .ok (.invokevirtual 172, 3) := dk_182 0 172 (dk_at dksL_law_51 15 rfl rfl)
theorem dL_law_1426 : decode cL_law 1426 = .ok (.iload 6, 2) := dk_21 6 (dk_at dksL_law_51 18 rfl rfl)
theorem dL_law_1428 : decode cL_law 1428 = .ok (.if_icmp .eq 5, 3) := dk_159 0 5 (dk_at dksL_law_51 20 rfl rfl)
theorem dL_law_1431 : decode cL_law 1431 = .ok (.iconst 0, 1) := dk_3 (dk_at dksL_law_51 23 rfl rfl)
theorem dL_law_1432 : decode cL_law 1432 = .ok (.ireturn, 1) := dk_172 (dk_at dksL_law_52 0 rfl rfl)
theorem dL_law_1433 : decode cL_law 1433 = .ok (.iload 6, 2) := dk_21 6 (dk_at dksL_law_52 1 rfl rfl)
theorem dL_law_1435 : decode cL_law 1435 = .ok (.ifCond .ne 15, 3) := dk_154 0 15 (dk_at dksL_law_52 3 rfl rfl)
theorem dL_law_1438 : decode cL_law 1438 = .ok (.aload_n 3, 1) := dk_45 (dk_at dksL_law_52 6 rfl rfl)
theorem dL_law_1439 : decode cL_law 1439 = .ok (.iconst 0, 1) := dk_3 (dk_at dksL_law_52 7 rfl rfl)
theorem dL_law_1440 : decode cL_law 1440 = .ok (.laload, 1) := dk_47 (dk_at dksL_law_52 8 rfl rfl)
theorem dL_law_1441 : decode cL_law 1441 = .ok (.iload 7, 2) := dk_21 7 (dk_at dksL_law_52 9 rfl rfl)
theorem dL_law_1443 : decode cL_law 1443 = .ok (.i2l, 1) := dk_133 (dk_at dksL_law_52 11 rfl rfl)
theorem dL_law_1444 : decode cL_law 1444 = .ok (.lcmp, 1) := dk_148 (dk_at dksL_law_52 12 rfl rfl)
theorem dL_law_1445 : decode cL_law 1445 = .ok (.ifCond .eq 5, 3) := dk_153 0 5 (dk_at dksL_law_52 13 rfl rfl)
theorem dL_law_1448 : decode cL_law 1448 = .ok (.iconst 0, 1) := dk_3 (dk_at dksL_law_52 16 rfl rfl)
theorem dL_law_1449 : decode cL_law 1449 = .ok (.ireturn, 1) := dk_172 (dk_at dksL_law_52 17 rfl rfl)
theorem dL_law_1450 : decode cL_law 1450 = .ok (.goto 1580, 3) := dk_167 6 44 (dk_at dksL_law_52 18 rfl rfl)
theorem dL_law_1453 : decode cL_law 1453 = .ok (.aload_n 1, 1) := dk_43 (dk_at dksL_law_52 21 rfl rfl)
theorem dL_law_1454 : decode cL_law 1454 = .ok (.aload_n 0, 1) := dk_42 (dk_at dksL_law_52 22 rfl rfl)
theorem dL_law_1455 : decode cL_law 1455 = .ok (.iload 5, 2) := dk_21 5 (dk_at dksL_law_53 0 rfl rfl)
theorem dL_law_1457 : decode cL_law 1457 = .ok (.iconst 1, 1) := dk_4 (dk_at dksL_law_53 2 rfl rfl)
theorem dL_law_1458 : decode cL_law 1458 = .ok (.iadd, 1) := dk_96 (dk_at dksL_law_53 3 rfl rfl)
theorem dL_law_1459 : decode cL_law 1459 = .ok (.iaload, 1) := dk_46 (dk_at dksL_law_53 4 rfl rfl)
theorem dL_law_1460 : decode cL_law 1460 = .ok (.aload_n 3, 1) := dk_45 (dk_at dksL_law_53 5 rfl rfl)
theorem dL_law_1461 : decode cL_law 1461 = .ok (.invokestatic 238, 3) := dk_184 0 238 (dk_at dksL_law_53 6 rfl rfl)
theorem dL_law_1464 : decode cL_law 1464 = .ok (.istore 6, 2) := dk_54 6 (dk_at dksL_law_53 9 rfl rfl)
theorem dL_law_1466 : decode cL_law 1466 = .ok (.aload_n 2, 1) := dk_44 (dk_at dksL_law_53 11 rfl rfl)
theorem dL_law_1467 : decode cL_law 1467 = .ok (.aload_n 0, 1) := dk_42 (dk_at dksL_law_53 12 rfl rfl)
theorem dL_law_1468 : decode cL_law 1468 = .ok (.iload 5, 2) := dk_21 5 (dk_at dksL_law_53 13 rfl rfl)
theorem dL_law_1470 : decode cL_law 1470 = .ok (.iconst 1, 1) := dk_4 (dk_at dksL_law_53 15 rfl rfl)
theorem dL_law_1471 : decode cL_law 1471 = .ok (.iadd, 1) := dk_96 (dk_at dksL_law_53 16 rfl rfl)
theorem dL_law_1472 : decode cL_law 1472 = .ok (.iaload, 1) := dk_46 (dk_at dksL_law_53 17 rfl rfl)
theorem dL_law_1473 : decode cL_law 1473 = .ok (.invokevirtual 240, 3) := dk_182 0 240 (dk_at dksL_law_53 18 rfl rfl)
theorem dL_law_1476 : decode cL_law 1476 = .ok (.istore 7, 2) := dk_54 7 (dk_at dksL_law_53 21 rfl rfl)
theorem dL_law_1478 : decode cL_law 1478 = .ok (.aload_n 2, 1) := dk_44 (dk_at dksL_law_53 23 rfl rfl)
theorem dL_law_1479 : decode cL_law 1479 = .ok (.invokevirtual 172, 3) := dk_182 0 172 (dk_at dksL_law_54 0 rfl rfl)
theorem dL_law_1482 : decode cL_law 1482 = .ok (.iload 6, 2) := dk_21 6 (dk_at dksL_law_54 3 rfl rfl)
theorem dL_law_1484 : decode cL_law 1484 = .ok (.if_icmp .eq 5, 3) := dk_159 0 5 (dk_at dksL_law_54 5 rfl rfl)
theorem dL_law_1487 : decode cL_law 1487 = .ok (.iconst 0, 1) := dk_3 (dk_at dksL_law_54 8 rfl rfl)
theorem dL_law_1488 : decode cL_law 1488 = .ok (.ireturn, 1) := dk_172 (dk_at dksL_law_54 9 rfl rfl)
theorem dL_law_1489 : decode cL_law 1489 = .ok (.iload 6, 2) := dk_21 6 (dk_at dksL_law_54 10 rfl rfl)
theorem dL_law_1491 : decode cL_law 1491 = .ok (.ifCond .ne 15, 3) := dk_154 0 15 (dk_at dksL_law_54 12 rfl rfl)
theorem dL_law_1494 : decode cL_law 1494 = .ok (.aload_n 3, 1) := dk_45 (dk_at dksL_law_54 15 rfl rfl)
theorem dL_law_1495 : decode cL_law 1495 = .ok (.iconst 0, 1) := dk_3 (dk_at dksL_law_54 16 rfl rfl)
theorem dL_law_1496 : decode cL_law 1496 = .ok (.laload, 1) := dk_47 (dk_at dksL_law_54 17 rfl rfl)
theorem dL_law_1497 : decode cL_law 1497 = .ok (.iload 7, 2) := dk_21 7 (dk_at dksL_law_54 18 rfl rfl)
theorem dL_law_1499 : decode cL_law 1499 = .ok (.i2l, 1) := dk_133 (dk_at dksL_law_54 20 rfl rfl)
theorem dL_law_1500 : decode cL_law 1500 = .ok (.lcmp, 1) := dk_148 (dk_at dksL_law_54 21 rfl rfl)
theorem dL_law_1501 : decode cL_law 1501 = .ok (.ifCond .eq 5, 3) := dk_153 0 5 (dk_at dksL_law_55 0 rfl rfl)
theorem dL_law_1504 : decode cL_law 1504 = .ok (.iconst 0, 1) := dk_3 (dk_at dksL_law_55 3 rfl rfl)
theorem dL_law_1505 : decode cL_law 1505 = .ok (.ireturn, 1) := dk_172 (dk_at dksL_law_55 4 rfl rfl)
theorem dL_law_1506 : decode cL_law 1506 = .ok (.goto 1524, 3) := dk_167 5 244 (dk_at dksL_law_55 5 rfl rfl)
theorem dL_law_1509 : decode cL_law 1509 = .ok (.aload_n 1, 1) := dk_43 (dk_at dksL_law_55 8 rfl rfl)
theorem dL_law_1510 : decode cL_law 1510 = .ok (.aload_n 0, 1) := dk_42 (dk_at dksL_law_55 9 rfl rfl)
theorem dL_law_1511 : decode cL_law 1511 = .ok (.iload 5, 2) := dk_21 5 (dk_at dksL_law_55 10 rfl rfl)
theorem dL_law_1513 : decode cL_law 1513 = .ok (.iconst 1, 1) := dk_4 (dk_at dksL_law_55 12 rfl rfl)
theorem dL_law_1514 : decode cL_law 1514 = .ok (.iadd, 1) := dk_96 (dk_at dksL_law_55 13 rfl rfl)
theorem dL_law_1515 : decode cL_law 1515 = .ok (.iaload, 1) := dk_46 (dk_at dksL_law_55 14 rfl rfl)
theorem dL_law_1516 : decode cL_law 1516 = .ok (.aload_n 3, 1) := dk_45 (dk_at dksL_law_55 15 rfl rfl)
theorem dL_law_1517 : decode cL_law 1517 = .ok (.invokestatic 241, 3) := dk_184 0 241 (dk_at dksL_law_55 16 rfl rfl)
theorem dL_law_1520 : decode cL_law 1520 = .ok (.istore 6, 2) := dk_54 6 (dk_at dksL_law_55 19 rfl rfl)
theorem dL_law_1522 : decode cL_law 1522 = .ok (.aload_n 2, 1) := dk_44 (dk_at dksL_law_55 21 rfl rfl)
theorem dL_law_1523 : decode cL_law 1523 = .ok (.aload_n 0, 1) := dk_42 (dk_at dksL_law_55 22 rfl rfl)
theorem dL_law_1524 : decode cL_law 1524 = .ok (.iload 5, 2) := dk_21 5 (dk_at dksL_law_56 0 rfl rfl)
theorem dL_law_1526 : decode cL_law 1526 = .ok (.iconst 1, 1) := dk_4 (dk_at dksL_law_56 2 rfl rfl)
theorem dL_law_1527 : decode cL_law 1527 = .ok (.iadd, 1) := dk_96 (dk_at dksL_law_56 3 rfl rfl)
theorem dL_law_1528 : decode cL_law 1528 = .ok (.iaload, 1) := dk_46 (dk_at dksL_law_56 4 rfl rfl)
theorem dL_law_1529 : decode cL_law 1529 = .ok (.invokevirtual 243, 3) := dk_182 0 243 (dk_at dksL_law_56 5 rfl rfl)
theorem dL_law_1532 : decode cL_law 1532 = .ok (.istore 7, 2) := dk_54 7 (dk_at dksL_law_56 8 rfl rfl)
theorem dL_law_1534 : decode cL_law 1534 = .ok (.aload_n 2, 1) := dk_44 (dk_at dksL_law_56 10 rfl rfl)
theorem dL_law_1535 : decode cL_law 1535 = .ok (.invokevirtual 172, 3) := dk_182 0 172 (dk_at dksL_law_56 11 rfl rfl)
theorem dL_law_1538 : decode cL_law 1538 = .ok (.iload 6, 2) := dk_21 6 (dk_at dksL_law_56 14 rfl rfl)
theorem dL_law_1540 : decode cL_law 1540 = .ok (.if_icmp .eq 5, 3) := dk_159 0 5 (dk_at dksL_law_56 16 rfl rfl)
theorem dL_law_1543 : decode cL_law 1543 = .ok (.iconst 0, 1) := dk_3 (dk_at dksL_law_56 19 rfl rfl)
theorem dL_law_1544 : decode cL_law 1544 = .ok (.ireturn, 1) := dk_172 (dk_at dksL_law_56 20 rfl rfl)
theorem dL_law_1545 : decode cL_law 1545 = .ok (.iload 6, 2) := dk_21 6 (dk_at dksL_law_56 21 rfl rfl)
theorem dL_law_1547 : decode cL_law 1547 = .ok (.ifCond .ne 15, 3) := dk_154 0 15 (dk_at dksL_law_57 0 rfl rfl)
theorem dL_law_1550 : decode cL_law 1550 = .ok (.aload_n 3, 1) := dk_45 (dk_at dksL_law_57 3 rfl rfl)
theorem dL_law_1551 : decode cL_law 1551 = .ok (.iconst 0, 1) := dk_3 (dk_at dksL_law_57 4 rfl rfl)
theorem dL_law_1552 : decode cL_law 1552 = .ok (.laload, 1) := dk_47 (dk_at dksL_law_57 5 rfl rfl)
theorem dL_law_1553 : decode cL_law 1553 = .ok (.iload 7, 2) := dk_21 7 (dk_at dksL_law_57 6 rfl rfl)
theorem dL_law_1555 : decode cL_law 1555 = .ok (.i2l, 1) := dk_133 (dk_at dksL_law_57 8 rfl rfl)
theorem dL_law_1556 : decode cL_law 1556 = .ok (.lcmp, 1) := dk_148 (dk_at dksL_law_57 9 rfl rfl)
theorem dL_law_1557 : decode cL_law 1557 = .ok (.ifCond .eq 5, 3) := dk_153 0 5 (dk_at dksL_law_57 10 rfl rfl)
theorem dL_law_1560 : decode cL_law 1560 = .ok (.iconst 0, 1) := dk_3 (dk_at dksL_law_57 13 rfl rfl)
theorem dL_law_1561 : decode cL_law 1561 = .ok (.ireturn, 1) := dk_172 (dk_at dksL_law_57 14 rfl rfl)
theorem dL_law_1562 : decode cL_law 1562 = .ok (.goto 1468, 3) := dk_167 5 188 (dk_at dksL_law_57 15 rfl rfl)
theorem dL_law_1565 : decode cL_law 1565 = .ok (.aload_n 1, 1) := dk_43 (dk_at dksL_law_57 18 rfl rfl)
theorem dL_law_1566 : decode cL_law 1566 = .ok (.aload_n 0, 1) := dk_42 (dk_at dksL_law_57 19 rfl rfl)
theorem dL_law_1567 : decode cL_law 1567 = .ok (.iload 5, 2) := dk_21 5 (dk_at dksL_law_57 20 rfl rfl)
theorem dL_law_1569 : decode cL_law 1569 = .ok (.iconst 1, 1) := dk_4 (dk_at dksL_law_57 22 rfl rfl)
theorem dL_law_1570 : decode cL_law 1570 = .ok (.iadd, 1) := dk_96 (dk_at dksL_law_57 23 rfl rfl)
theorem dL_law_1571 : decode cL_law 1571 = .ok (.iaload, 1) := dk_46 (dk_at dksL_law_58 0 rfl rfl)
theorem dL_law_1572 : decode cL_law 1572 = .ok (.aload_n 3, 1) := dk_45 (dk_at dksL_law_58 1 rfl rfl)
theorem dL_law_1573 : decode cL_law 1573 = .ok (.invokestatic 244, 3) := dk_184 0 244 (dk_at dksL_law_58 2 rfl rfl)
theorem dL_law_1576 : decode cL_law 1576 = .ok (.istore 6, 2) := dk_54 6 (dk_at dksL_law_58 5 rfl rfl)
theorem dL_law_1578 : decode cL_law 1578 = .ok (.aload_n 2, 1) := dk_44 (dk_at dksL_law_58 7 rfl rfl)
theorem dL_law_1579 : decode cL_law 1579 = .ok (.aload_n 0, 1) := dk_42 (dk_at dksL_law_58 8 rfl rfl)
theorem dL_law_1580 : decode cL_law 1580 = .ok (.iload 5, 2) := dk_21 5 (dk_at dksL_law_58 9 rfl rfl)
theorem dL_law_1582 : decode cL_law 1582 = .ok (.iconst 1, 1) := dk_4 (dk_at dksL_law_58 11 rfl rfl)
theorem dL_law_1583 : decode cL_law 1583 = .ok (.iadd, 1) := dk_96 (dk_at dksL_law_58 12 rfl rfl)
theorem dL_law_1584 : decode cL_law 1584 = .ok (.iaload, 1) := dk_46 (dk_at dksL_law_58 13 rfl rfl)
theorem dL_law_1585 : decode cL_law 1585 = .ok (.invokevirtual 246, 3) := dk_182 0 246 (dk_at dksL_law_58 14 rfl rfl)
theorem dL_law_1588 : decode cL_law 1588 = .ok (.istore 7, 2) := dk_54 7 (dk_at dksL_law_58 17 rfl rfl)
theorem dL_law_1590 : decode cL_law 1590 = .ok (.aload_n 2, 1) := dk_44 (dk_at dksL_law_58 19 rfl rfl)
theorem dL_law_1591 : decode cL_law 1591 = .ok (.invokevirtual 172, 3) := dk_182 0 172 (dk_at dksL_law_58 20 rfl rfl)
theorem dL_law_1594 : decode cL_law 1594 = .ok (.iload 6, 2) := dk_21 6 (dk_at dksL_law_59 0 rfl rfl)
theorem dL_law_1596 : decode cL_law 1596 = .ok (.if_icmp .eq 5, 3) := dk_159 0 5 (dk_at dksL_law_59 2 rfl rfl)
theorem dL_law_1599 : decode cL_law 1599 = .ok (.iconst 0, 1) := dk_3 (dk_at dksL_law_59 5 rfl rfl)
theorem dL_law_1600 : decode cL_law 1600 = .ok (.ireturn, 1) := dk_172 (dk_at dksL_law_59 6 rfl rfl)
theorem dL_law_1601 : decode cL_law 1601 = .ok (.iload 6, 2) := dk_21 6 (dk_at dksL_law_59 7 rfl rfl)
theorem dL_law_1603 : decode cL_law 1603 = .ok (.ifCond .ne 15, 3) := dk_154 0 15 (dk_at dksL_law_59 9 rfl rfl)
theorem dL_law_1606 : decode cL_law 1606 = .ok (.aload_n 3, 1) := dk_45 (dk_at dksL_law_59 12 rfl rfl)
theorem dL_law_1607 : decode cL_law 1607 = .ok (.iconst 0, 1) := dk_3 (dk_at dksL_law_59 13 rfl rfl)
theorem dL_law_1608 : decode cL_law 1608 = .ok (.laload, 1) := dk_47 (dk_at dksL_law_59 14 rfl rfl)
theorem dL_law_1609 : decode cL_law 1609 = .ok (.iload 7, 2) := dk_21 7 (dk_at dksL_law_59 15 rfl rfl)
theorem dL_law_1611 : decode cL_law 1611 = .ok (.i2l, 1) := dk_133 (dk_at dksL_law_59 17 rfl rfl)
theorem dL_law_1612 : decode cL_law 1612 = .ok (.lcmp, 1) := dk_148 (dk_at dksL_law_59 18 rfl rfl)
theorem dL_law_1613 : decode cL_law 1613 = .ok (.ifCond .eq 5, 3) := dk_153 0 5 (dk_at dksL_law_59 19 rfl rfl)
theorem dL_law_1616 : decode cL_law 1616 = .ok (.iconst 0, 1) := dk_3 (dk_at dksL_law_59 22 rfl rfl)
theorem dL_law_1617 : decode cL_law 1617 = .ok (.ireturn, 1) := dk_172 (dk_at dksL_law_59 23 rfl rfl)
theorem dL_law_1618 : decode cL_law 1618 = .ok (.goto 1412, 3) := dk_167 5 132 (dk_at dksL_law_60 0 rfl rfl)
theorem dL_law_1621 : decode cL_law 1621 = .ok (.aload_n 1, 1) := dk_43 (dk_at dksL_law_60 3 rfl rfl)
theorem dL_law_1622 : decode cL_law 1622 = .ok (.aload_n 0, 1) := dk_42 (dk_at dksL_law_60 4 rfl rfl)
theorem dL_law_1623 : decode cL_law 1623 = .ok (.iload 5, 2) := dk_21 5 (dk_at dksL_law_60 5 rfl rfl)
theorem dL_law_1625 : decode cL_law 1625 = .ok (.iconst 1, 1) := dk_4 (dk_at dksL_law_60 7 rfl rfl)
theorem dL_law_1626 : decode cL_law 1626 = .ok (.iadd, 1) := dk_96 (dk_at dksL_law_60 8 rfl rfl)
theorem dL_law_1627 : decode cL_law 1627 = .ok (.iaload, 1) := dk_46 (dk_at dksL_law_60 9 rfl rfl)
theorem dL_law_1628 : decode cL_law 1628 = .ok (.aload_n 3, 1) := dk_45 (dk_at dksL_law_60 10 rfl rfl)
theorem dL_law_1629 : decode cL_law 1629 = .ok (.invokestatic 247, 3) := dk_184 0 247 (dk_at dksL_law_60 11 rfl rfl)
theorem dL_law_1632 : decode cL_law 1632 = .ok (.istore 6, 2) := dk_54 6 (dk_at dksL_law_60 14 rfl rfl)
theorem dL_law_1634 : decode cL_law 1634 = .ok (.aload_n 2, 1) := dk_44 (dk_at dksL_law_60 16 rfl rfl)
theorem dL_law_1635 : decode cL_law 1635 = .ok (.aload_n 0, 1) := dk_42 (dk_at dksL_law_60 17 rfl rfl)
theorem dL_law_1636 : decode cL_law 1636 = .ok (.iload 5, 2) := dk_21 5 (dk_at dksL_law_60 18 rfl rfl)
theorem dL_law_1638 : decode cL_law 1638 = .ok (.iconst 1, 1) := dk_4 (dk_at dksL_law_60 20 rfl rfl)
theorem dL_law_1639 : decode cL_law 1639 = .ok (.iadd, 1) := dk_96 (dk_at dksL_law_60 21 rfl rfl)
theorem dL_law_1640 : decode cL_law 1640 = .ok (.iaload, 1) := dk_46 (dk_at dksL_law_60 22 rfl rfl)
theorem dL_law_1641 : decode cL_law 1641 = .ok (.invokevirtual 249, 3) := dk_182 0 249 (dk_at dksL_law_61 0 rfl rfl)
theorem dL_law_1644 : decode cL_law 1644 = .ok (.istore 7, 2) := dk_54 7 (dk_at dksL_law_61 3 rfl rfl)
theorem dL_law_1646 : decode cL_law 1646 = .ok (.aload_n 2, 1) := dk_44 (dk_at dksL_law_61 5 rfl rfl)
theorem dL_law_1647 : decode cL_law 1647 = .ok (.invokevirtual 172, 3) := dk_182 0 172 (dk_at dksL_law_61 6 rfl rfl)
theorem dL_law_1650 : decode cL_law 1650 = .ok (.iload 6, 2) := dk_21 6 (dk_at dksL_law_61 9 rfl rfl)
theorem dL_law_1652 : decode cL_law 1652 = .ok (.if_icmp .eq 5, 3) := dk_159 0 5 (dk_at dksL_law_61 11 rfl rfl)
theorem dL_law_1655 : decode cL_law 1655 = .ok (.iconst 0, 1) := dk_3 (dk_at dksL_law_61 14 rfl rfl)
theorem dL_law_1656 : decode cL_law 1656 = .ok (.ireturn, 1) := dk_172 (dk_at dksL_law_61 15 rfl rfl)
theorem dL_law_1657 : decode cL_law 1657 = .ok (.iload 6, 2) := dk_21 6 (dk_at dksL_law_61 16 rfl rfl)
theorem dL_law_1659 : decode cL_law 1659 = .ok (.ifCond .ne 22, 3) := dk_154 0 22 (dk_at dksL_law_61 18 rfl rfl)
theorem dL_law_1662 : decode cL_law 1662 = .ok (.aload_n 3, 1) := dk_45 (dk_at dksL_law_61 21 rfl rfl)
theorem dL_law_1663 : decode cL_law 1663 = .ok (.iconst 0, 1) := dk_3 (dk_at dksL_law_61 22 rfl rfl)
theorem dL_law_1664 : decode cL_law 1664 = .ok (.laload, 1) := dk_47 (dk_at dksL_law_61 23 rfl rfl)
theorem dL_law_1665 : decode cL_law 1665 = .ok (.iload 7, 2) := dk_21 7 (dk_at dksL_law_62 0 rfl rfl)
theorem dL_law_1667 : decode cL_law 1667 = .ok (.ifCond .eq 7, 3) := dk_153 0 7 (dk_at dksL_law_62 2 rfl rfl)
theorem dL_law_1670 : decode cL_law 1670 = .ok (.lconst 1, 1) := dk_10 (dk_at dksL_law_62 5 rfl rfl)
theorem dL_law_1671 : decode cL_law 1671 = .ok (.goto 4, 3) := dk_167 0 4 (dk_at dksL_law_62 6 rfl rfl)
theorem dL_law_1674 : decode cL_law 1674 = .ok (.lconst 0, 1) := dk_9 (dk_at dksL_law_62 9 rfl rfl)
theorem dL_law_1675 : decode cL_law 1675 = .ok (.lcmp, 1) := dk_148 (dk_at dksL_law_62 10 rfl rfl)
theorem dL_law_1676 : decode cL_law 1676 = .ok (.ifCond .eq 5, 3) := dk_153 0 5 (dk_at dksL_law_62 11 rfl rfl)
theorem dL_law_1679 : decode cL_law 1679 = .ok (.iconst 0, 1) := dk_3 (dk_at dksL_law_62 14 rfl rfl)
theorem dL_law_1680 : decode cL_law 1680 = .ok (.ireturn, 1) := dk_172 (dk_at dksL_law_62 15 rfl rfl)
theorem dL_law_1681 : decode cL_law 1681 = .ok (.goto 1349, 3) := dk_167 5 69 (dk_at dksL_law_62 16 rfl rfl)
theorem dL_law_1684 : decode cL_law 1684 = .ok (.aload_n 1, 1) := dk_43 (dk_at dksL_law_62 19 rfl rfl)
theorem dL_law_1685 : decode cL_law 1685 = .ok (.aload_n 0, 1) := dk_42 (dk_at dksL_law_62 20 rfl rfl)
theorem dL_law_1686 : decode cL_law 1686 = .ok (.iload 5, 2) := dk_21 5 (dk_at dksL_law_62 21 rfl rfl)
theorem dL_law_1688 : decode cL_law 1688 = .ok (.iconst 1, 1) := dk_4 (dk_at dksL_law_62 23 rfl rfl)
theorem dL_law_1689 : decode cL_law 1689 = .ok (.iadd, 1) := dk_96 (dk_at dksL_law_63 0 rfl rfl)
theorem dL_law_1690 : decode cL_law 1690 = .ok (.iaload, 1) := dk_46 (dk_at dksL_law_63 1 rfl rfl)
theorem dL_law_1691 : decode cL_law 1691 = .ok (.aload_n 3, 1) := dk_45 (dk_at dksL_law_63 2 rfl rfl)
theorem dL_law_1692 : decode cL_law 1692 = .ok (.invokestatic 250, 3) := dk_184 0 250 (dk_at dksL_law_63 3 rfl rfl)
theorem dL_law_1695 : decode cL_law 1695 = .ok (.istore 6, 2) := dk_54 6 (dk_at dksL_law_63 6 rfl rfl)
theorem dL_law_1697 : decode cL_law 1697 = .ok (.aload_n 2, 1) := dk_44 (dk_at dksL_law_63 8 rfl rfl)
theorem dL_law_1698 : decode cL_law 1698 = .ok (.aload_n 0, 1) := dk_42 (dk_at dksL_law_63 9 rfl rfl)
theorem dL_law_1699 : decode cL_law 1699 = .ok (.iload 5, 2) := dk_21 5 (dk_at dksL_law_63 10 rfl rfl)
theorem dL_law_1701 : decode cL_law 1701 = .ok (.iconst 1, 1) := dk_4 (dk_at dksL_law_63 12 rfl rfl)
theorem dL_law_1702 : decode cL_law 1702 = .ok (.iadd, 1) := dk_96 (dk_at dksL_law_63 13 rfl rfl)
theorem dL_law_1703 : decode cL_law 1703 = .ok (.iaload, 1) := dk_46 (dk_at dksL_law_63 14 rfl rfl)
theorem dL_law_1704 : decode cL_law 1704 = .ok (.invokevirtual 252, 3) := dk_182 0 252 (dk_at dksL_law_63 15 rfl rfl)
theorem dL_law_1707 : decode cL_law 1707 = .ok (.istore 7, 2) := dk_54 7 (dk_at dksL_law_63 18 rfl rfl)
theorem dL_law_1709 : decode cL_law 1709 = .ok (.aload_n 2, 1) := dk_44 (dk_at dksL_law_63 20 rfl rfl)
theorem dL_law_1710 : decode cL_law 1710 = .ok (.invokevirtual 172, 3) := dk_182 0 172 (dk_at dksL_law_63 21 rfl rfl)
theorem dL_law_1713 : decode cL_law 1713 = .ok (.iload 6, 2) := dk_21 6 (dk_at dksL_law_64 0 rfl rfl)
theorem dL_law_1715 : decode cL_law 1715 = .ok (.if_icmp .eq 5, 3) := dk_159 0 5 (dk_at dksL_law_64 2 rfl rfl)
theorem dL_law_1718 : decode cL_law 1718 = .ok (.iconst 0, 1) := dk_3 (dk_at dksL_law_64 5 rfl rfl)
theorem dL_law_1719 : decode cL_law 1719 = .ok (.ireturn, 1) := dk_172 (dk_at dksL_law_64 6 rfl rfl)
theorem dL_law_1720 : decode cL_law 1720 = .ok (.iload 6, 2) := dk_21 6 (dk_at dksL_law_64 7 rfl rfl)
theorem dL_law_1722 : decode cL_law 1722 = .ok (.ifCond .ne 15, 3) := dk_154 0 15 (dk_at dksL_law_64 9 rfl rfl)
theorem dL_law_1725 : decode cL_law 1725 = .ok (.aload_n 3, 1) := dk_45 (dk_at dksL_law_64 12 rfl rfl)
theorem dL_law_1726 : decode cL_law 1726 = .ok (.iconst 0, 1) := dk_3 (dk_at dksL_law_64 13 rfl rfl)
theorem dL_law_1727 : decode cL_law 1727 = .ok (.laload, 1) := dk_47 (dk_at dksL_law_64 14 rfl rfl)
theorem dL_law_1728 : decode cL_law 1728 = .ok (.iload 7, 2) := dk_21 7 (dk_at dksL_law_64 15 rfl rfl)
theorem dL_law_1730 : decode cL_law 1730 = .ok (.i2l, 1) := dk_133 (dk_at dksL_law_64 17 rfl rfl)
theorem dL_law_1731 : decode cL_law 1731 = .ok (.lcmp, 1) := dk_148 (dk_at dksL_law_64 18 rfl rfl)
theorem dL_law_1732 : decode cL_law 1732 = .ok (.ifCond .eq 5, 3) := dk_153 0 5 (dk_at dksL_law_64 19 rfl rfl)
theorem dL_law_1735 : decode cL_law 1735 = .ok (.iconst 0, 1) := dk_3 (dk_at dksL_law_64 22 rfl rfl)
theorem dL_law_1736 : decode cL_law 1736 = .ok (.ireturn, 1) := dk_172 (dk_at dksL_law_64 23 rfl rfl)
theorem dL_law_1737 : decode cL_law 1737 = .ok (.goto 1293, 3) := dk_167 5 13 (dk_at dksL_law_65 0 rfl rfl)
theorem dL_law_1740 : decode cL_law 1740 = .ok (.aload_n 1, 1) := dk_43 (dk_at dksL_law_65 3 rfl rfl)
theorem dL_law_1741 : decode cL_law 1741 = .ok (.aload_n 0, 1) := dk_42 (dk_at dksL_law_65 4 rfl rfl)
theorem dL_law_1742 : decode cL_law 1742 = .ok (.iload 5, 2) := dk_21 5 (dk_at dksL_law_65 5 rfl rfl)
theorem dL_law_1744 : decode cL_law 1744 = .ok (.iconst 1, 1) := dk_4 (dk_at dksL_law_65 7 rfl rfl)
theorem dL_law_1745 : decode cL_law 1745 = .ok (.iadd, 1) := dk_96 (dk_at dksL_law_65 8 rfl rfl)
theorem dL_law_1746 : decode cL_law 1746 = .ok (.iaload, 1) := dk_46 (dk_at dksL_law_65 9 rfl rfl)
theorem dL_law_1747 : decode cL_law 1747 = .ok (.aload_n 3, 1) := dk_45 (dk_at dksL_law_65 10 rfl rfl)
theorem dL_law_1748 : decode cL_law 1748 = .ok (.invokestatic 253, 3) := dk_184 0 253 (dk_at dksL_law_65 11 rfl rfl)
theorem dL_law_1751 : decode cL_law 1751 = .ok (.istore 6, 2) := dk_54 6 (dk_at dksL_law_65 14 rfl rfl)
theorem dL_law_1753 : decode cL_law 1753 = .ok (.aload_n 2, 1) := dk_44 (dk_at dksL_law_65 16 rfl rfl)
theorem dL_law_1754 : decode cL_law 1754 = .ok (.aload_n 0, 1) := dk_42 (dk_at dksL_law_65 17 rfl rfl)
theorem dL_law_1755 : decode cL_law 1755 = .ok (.iload 5, 2) := dk_21 5 (dk_at dksL_law_65 18 rfl rfl)
theorem dL_law_1757 : decode cL_law 1757 = .ok (.iconst 1, 1) := dk_4 (dk_at dksL_law_65 20 rfl rfl)
theorem dL_law_1758 : decode cL_law 1758 = .ok (.iadd, 1) := dk_96 (dk_at dksL_law_65 21 rfl rfl)
theorem dL_law_1759 : decode cL_law 1759 = .ok (.iaload, 1) := dk_46 (dk_at dksL_law_65 22 rfl rfl)
theorem dL_law_1760 : decode cL_law 1760 = .ok (.invokevirtual 255, 3) := dk_182 0 255 (dk_at dksL_law_66 0 rfl rfl)
theorem dL_law_1763 : decode cL_law 1763 = .ok (.istore 7, 2) := dk_54 7 (dk_at dksL_law_66 3 rfl rfl)
theorem dL_law_1765 : decode cL_law 1765 = .ok (.aload_n 2, 1) := dk_44 (dk_at dksL_law_66 5 rfl rfl)
theorem dL_law_1766 : decode cL_law 1766 = .ok (.invokevirtual 172, 3) := dk_182 0 172 (dk_at dksL_law_66 6 rfl rfl)
theorem dL_law_1769 : decode cL_law 1769 = .ok (.iload 6, 2) := dk_21 6 (dk_at dksL_law_66 9 rfl rfl)
theorem dL_law_1771 : decode cL_law 1771 = .ok (.if_icmp .eq 5, 3) := dk_159 0 5 (dk_at dksL_law_66 11 rfl rfl)
theorem dL_law_1774 : decode cL_law 1774 = .ok (.iconst 0, 1) := dk_3 (dk_at dksL_law_66 14 rfl rfl)
theorem dL_law_1775 : decode cL_law 1775 = .ok (.ireturn, 1) := dk_172 (dk_at dksL_law_66 15 rfl rfl)
theorem dL_law_1776 : decode cL_law 1776 = .ok (.iload 6, 2) := dk_21 6 (dk_at dksL_law_66 16 rfl rfl)
theorem dL_law_1778 : decode cL_law 1778 = .ok (.ifCond .ne 15, 3) := dk_154 0 15 (dk_at dksL_law_66 18 rfl rfl)
theorem dL_law_1781 : decode cL_law 1781 = .ok (.aload_n 3, 1) := dk_45 (dk_at dksL_law_66 21 rfl rfl)
theorem dL_law_1782 : decode cL_law 1782 = .ok (.iconst 0, 1) := dk_3 (dk_at dksL_law_66 22 rfl rfl)
theorem dL_law_1783 : decode cL_law 1783 = .ok (.laload, 1) := dk_47 (dk_at dksL_law_66 23 rfl rfl)
theorem dL_law_1784 : decode cL_law 1784 = .ok (.iload 7, 2) := dk_21 7 (dk_at dksL_law_67 0 rfl rfl)
theorem dL_law_1786 : decode cL_law 1786 = .ok (.i2l, 1) := dk_133 (dk_at dksL_law_67 2 rfl rfl)
theorem dL_law_1787 : decode cL_law 1787 = .ok (.lcmp, 1) := dk_148 (dk_at dksL_law_67 3 rfl rfl)
theorem dL_law_1788 : decode cL_law 1788 = .ok (.ifCond .eq 5, 3) := dk_153 0 5 (dk_at dksL_law_67 4 rfl rfl)
theorem dL_law_1791 : decode cL_law 1791 = .ok (.iconst 0, 1) := dk_3 (dk_at dksL_law_67 7 rfl rfl)
theorem dL_law_1792 : decode cL_law 1792 = .ok (.ireturn, 1) := dk_172 (dk_at dksL_law_67 8 rfl rfl)
theorem dL_law_1793 : decode cL_law 1793 = .ok (.goto 1237, 3) := dk_167 4 213 (dk_at dksL_law_67 9 rfl rfl)
theorem dL_law_1796 : decode cL_law 1796 = .ok (.aload_n 1, 1) := dk_43 (dk_at dksL_law_67 12 rfl rfl)
theorem dL_law_1797 : decode cL_law 1797 = .ok (.aload_n 0, 1) := dk_42 (dk_at dksL_law_67 13 rfl rfl)
theorem dL_law_1798 : decode cL_law 1798 = .ok (.iload 5, 2) := dk_21 5 (dk_at dksL_law_67 14 rfl rfl)
theorem dL_law_1800 : decode cL_law 1800 = .ok (.iconst 1, 1) := dk_4 (dk_at dksL_law_67 16 rfl rfl)
theorem dL_law_1801 : decode cL_law 1801 = .ok (.iadd, 1) := dk_96 (dk_at dksL_law_67 17 rfl rfl)
theorem dL_law_1802 : decode cL_law 1802 = .ok (.iaload, 1) := dk_46 (dk_at dksL_law_67 18 rfl rfl)
theorem dL_law_1803 : decode cL_law 1803 = .ok (.aload_n 3, 1) := dk_45 (dk_at dksL_law_67 19 rfl rfl)
theorem dL_law_1804 : decode cL_law 1804 = .ok (.invokestatic 256, 3) := dk_184 1 0 (dk_at dksL_law_67 20 rfl rfl)
theorem dL_law_1807 : decode cL_law 1807 = .ok (.istore 6, 2) := dk_54 6 (dk_at dksL_law_68 0 rfl rfl)
theorem dL_law_1809 : decode cL_law 1809 = .ok (.aload_n 2, 1) := dk_44 (dk_at dksL_law_68 2 rfl rfl)
theorem dL_law_1810 : decode cL_law 1810 = .ok (.aload_n 0, 1) := dk_42 (dk_at dksL_law_68 3 rfl rfl)
theorem dL_law_1811 : decode cL_law 1811 = .ok (.iload 5, 2) := dk_21 5 (dk_at dksL_law_68 4 rfl rfl)
theorem dL_law_1813 : decode cL_law 1813 = .ok (.iconst 1, 1) := dk_4 (dk_at dksL_law_68 6 rfl rfl)
theorem dL_law_1814 : decode cL_law 1814 = .ok (.iadd, 1) := dk_96 (dk_at dksL_law_68 7 rfl rfl)
theorem dL_law_1815 : decode cL_law 1815 = .ok (.iaload, 1) := dk_46 (dk_at dksL_law_68 8 rfl rfl)
theorem dL_law_1816 : decode cL_law 1816 = .ok (.invokevirtual 258, 3) := dk_182 1 2 (dk_at dksL_law_68 9 rfl rfl)
theorem dL_law_1819 : decode cL_law 1819 = .ok (.istore 7, 2) := dk_54 7 (dk_at dksL_law_68 12 rfl rfl)
theorem dL_law_1821 : decode cL_law 1821 = .ok (.aload_n 2, 1) := dk_44 (dk_at dksL_law_68 14 rfl rfl)
theorem dL_law_1822 : decode cL_law 1822 = .ok (.invokevirtual 172, 3) := dk_182 0 172 (dk_at dksL_law_68 15 rfl rfl)
theorem dL_law_1825 : decode cL_law 1825 = .ok (.iload 6, 2) := dk_21 6 (dk_at dksL_law_68 18 rfl rfl)
theorem dL_law_1827 : decode cL_law 1827 = .ok (.if_icmp .eq 5, 3) := dk_159 0 5 (dk_at dksL_law_68 20 rfl rfl)
theorem dL_law_1830 : decode cL_law 1830 = .ok (.iconst 0, 1) := dk_3 (dk_at dksL_law_68 23 rfl rfl)
theorem dL_law_1831 : decode cL_law 1831 = .ok (.ireturn, 1) := dk_172 (dk_at dksL_law_69 0 rfl rfl)
theorem dL_law_1832 : decode cL_law 1832 = .ok (.iload 6, 2) := dk_21 6 (dk_at dksL_law_69 1 rfl rfl)
theorem dL_law_1834 : decode cL_law 1834 = .ok (.ifCond .ne 15, 3) := dk_154 0 15 (dk_at dksL_law_69 3 rfl rfl)
theorem dL_law_1837 : decode cL_law 1837 = .ok (.aload_n 3, 1) := dk_45 (dk_at dksL_law_69 6 rfl rfl)
theorem dL_law_1838 : decode cL_law 1838 = .ok (.iconst 0, 1) := dk_3 (dk_at dksL_law_69 7 rfl rfl)
theorem dL_law_1839 : decode cL_law 1839 = .ok (.laload, 1) := dk_47 (dk_at dksL_law_69 8 rfl rfl)
theorem dL_law_1840 : decode cL_law 1840 = .ok (.iload 7, 2) := dk_21 7 (dk_at dksL_law_69 9 rfl rfl)
theorem dL_law_1842 : decode cL_law 1842 = .ok (.i2l, 1) := dk_133 (dk_at dksL_law_69 11 rfl rfl)
theorem dL_law_1843 : decode cL_law 1843 = .ok (.lcmp, 1) := dk_148 (dk_at dksL_law_69 12 rfl rfl)
theorem dL_law_1844 : decode cL_law 1844 = .ok (.ifCond .eq 5, 3) := dk_153 0 5 (dk_at dksL_law_69 13 rfl rfl)
theorem dL_law_1847 : decode cL_law 1847 = .ok (.iconst 0, 1) := dk_3 (dk_at dksL_law_69 16 rfl rfl)
theorem dL_law_1848 : decode cL_law 1848 = .ok (.ireturn, 1) := dk_172 (dk_at dksL_law_69 17 rfl rfl)
theorem dL_law_1849 : decode cL_law 1849 = .ok (.goto 1181, 3) := dk_167 4 157 (dk_at dksL_law_69 18 rfl rfl)
theorem dL_law_1852 : decode cL_law 1852 = .ok (.aload_n 1, 1) := dk_43 (dk_at dksL_law_69 21 rfl rfl)
theorem dL_law_1853 : decode cL_law 1853 = .ok (.aload_n 0, 1) := dk_42 (dk_at dksL_law_69 22 rfl rfl)
theorem dL_law_1854 : decode cL_law 1854 = .ok (.iload 5, 2) := dk_21 5 (dk_at dksL_law_70 0 rfl rfl)
theorem dL_law_1856 : decode cL_law 1856 = .ok (.iconst 1, 1) := dk_4 (dk_at dksL_law_70 2 rfl rfl)
theorem dL_law_1857 : decode cL_law 1857 = .ok (.iadd, 1) := dk_96 (dk_at dksL_law_70 3 rfl rfl)
theorem dL_law_1858 : decode cL_law 1858 = .ok (.iaload, 1) := dk_46 (dk_at dksL_law_70 4 rfl rfl)
theorem dL_law_1859 : decode cL_law 1859 = .ok (.aload_n 0, 1) := dk_42 (dk_at dksL_law_70 5 rfl rfl)
theorem dL_law_1860 : decode cL_law 1860 = .ok (.iload 5, 2) := dk_21 5 (dk_at dksL_law_70 6 rfl rfl)
theorem dL_law_1862 : decode cL_law 1862 = .ok (.iconst 2, 1) := dk_5 (dk_at dksL_law_70 8 rfl rfl)
theorem dL_law_1863 : decode cL_law 1863 = .ok (.iadd, 1) := dk_96 (dk_at dksL_law_70 9 rfl rfl)
theorem dL_law_1864 : decode cL_law 1864 = .ok (.iaload, 1) := dk_46 (dk_at dksL_law_70 10 rfl rfl)
theorem dL_law_1865 : decode cL_law 1865 = .ok (.aload_n 3, 1) := dk_45 (dk_at dksL_law_70 11 rfl rfl)
theorem dL_law_1866 : decode cL_law 1866 = .ok (.invokestatic 259, 3) := dk_184 1 3 (dk_at dksL_law_70 12 rfl rfl)
theorem dL_law_1869 : decode cL_law 1869 = .ok (.istore 6, 2) := dk_54 6 (dk_at dksL_law_70 15 rfl rfl)
theorem dL_law_1871 : decode cL_law 1871 = .ok (.aload_n 2, 1) := dk_44 (dk_at dksL_law_70 17 rfl rfl)
theorem dL_law_1872 : decode cL_law 1872 = .ok (.aload_n 0, 1) := dk_42 (dk_at dksL_law_70 18 rfl rfl)
theorem dL_law_1873 : decode cL_law 1873 = .ok (.iload 5, 2) := dk_21 5 (dk_at dksL_law_70 19 rfl rfl)
theorem dL_law_1875 : decode cL_law 1875 = .ok (.iconst 1, 1) := dk_4 (dk_at dksL_law_70 21 rfl rfl)
theorem dL_law_1876 : decode cL_law 1876 = .ok (.iadd, 1) := dk_96 (dk_at dksL_law_70 22 rfl rfl)
theorem dL_law_1877 : decode cL_law 1877 = .ok (.iaload, 1) := dk_46 (dk_at dksL_law_70 23 rfl rfl)
theorem dL_law_1878 : decode cL_law 1878 = .ok (.aload_n 0, 1) := dk_42 (dk_at dksL_law_71 0 rfl rfl)
theorem dL_law_1879 : decode cL_law 1879 = .ok (.iload 5, 2) := dk_21 5 (dk_at dksL_law_71 1 rfl rfl)
theorem dL_law_1881 : decode cL_law 1881 = .ok (.iconst 2, 1) := dk_5 (dk_at dksL_law_71 3 rfl rfl)
theorem dL_law_1882 : decode cL_law 1882 = .ok (.iadd, 1) := dk_96 (dk_at dksL_law_71 4 rfl rfl)
theorem dL_law_1883 : decode cL_law 1883 = .ok (.iaload, 1) := dk_46 (dk_at dksL_law_71 5 rfl rfl)
theorem dL_law_1884 : decode cL_law 1884 = .ok (.invokevirtual 261, 3) := dk_182 1 5 (dk_at dksL_law_71 6 rfl rfl)
theorem dL_law_1887 : decode cL_law 1887 = .ok (.istore 7, 2) := dk_54 7 (dk_at dksL_law_71 9 rfl rfl)
theorem dL_law_1889 : decode cL_law 1889 = .ok (.aload_n 2, 1) := dk_44 (dk_at dksL_law_71 11 rfl rfl)
theorem dL_law_1890 : decode cL_law 1890 = .ok (.invokevirtual 172, 3) := dk_182 0 172 (dk_at dksL_law_71 12 rfl rfl)
theorem dL_law_1893 : decode cL_law 1893 = .ok (.iload 6, 2) := dk_21 6 (dk_at dksL_law_71 15 rfl rfl)
theorem dL_law_1895 : decode cL_law 1895 = .ok (.if_icmp .eq 5, 3) := dk_159 0 5 (dk_at dksL_law_71 17 rfl rfl)
theorem dL_law_1898 : decode cL_law 1898 = .ok (.iconst 0, 1) := dk_3 (dk_at dksL_law_71 20 rfl rfl)
theorem dL_law_1899 : decode cL_law 1899 = .ok (.ireturn, 1) := dk_172 (dk_at dksL_law_71 21 rfl rfl)
theorem dL_law_1900 : decode cL_law 1900 = .ok (.iload 6, 2) := dk_21 6 (dk_at dksL_law_71 22 rfl rfl)
theorem dL_law_1902 : decode cL_law 1902 = .ok (.ifCond .ne 22, 3) := dk_154 0 22 (dk_at dksL_law_72 0 rfl rfl)
theorem dL_law_1905 : decode cL_law 1905 = .ok (.aload_n 3, 1) := dk_45 (dk_at dksL_law_72 3 rfl rfl)
theorem dL_law_1906 : decode cL_law 1906 = .ok (.iconst 0, 1) := dk_3 (dk_at dksL_law_72 4 rfl rfl)
theorem dL_law_1907 : decode cL_law 1907 = .ok (.laload, 1) := dk_47 (dk_at dksL_law_72 5 rfl rfl)
theorem dL_law_1908 : decode cL_law 1908 = .ok (.iload 7, 2) := dk_21 7 (dk_at dksL_law_72 6 rfl rfl)
theorem dL_law_1910 : decode cL_law 1910 = .ok (.ifCond .eq 7, 3) := dk_153 0 7 (dk_at dksL_law_72 8 rfl rfl)
theorem dL_law_1913 : decode cL_law 1913 = .ok (.lconst 1, 1) := dk_10 (dk_at dksL_law_72 11 rfl rfl)
theorem dL_law_1914 : decode cL_law 1914 = .ok (.goto 4, 3) := dk_167 0 4 (dk_at dksL_law_72 12 rfl rfl)
theorem dL_law_1917 : decode cL_law 1917 = .ok (.lconst 0, 1) := dk_9 (dk_at dksL_law_72 15 rfl rfl)
theorem dL_law_1918 : decode cL_law 1918 = .ok (.lcmp, 1) := dk_148 (dk_at dksL_law_72 16 rfl rfl)
theorem dL_law_1919 : decode cL_law 1919 = .ok (.ifCond .eq 5, 3) := dk_153 0 5 (dk_at dksL_law_72 17 rfl rfl)
theorem dL_law_1922 : decode cL_law 1922 = .ok (.iconst 0, 1) := dk_3 (dk_at dksL_law_72 20 rfl rfl)
theorem dL_law_1923 : decode cL_law 1923 = .ok (.ireturn, 1) := dk_172 (dk_at dksL_law_72 21 rfl rfl)
theorem dL_law_1924 : decode cL_law 1924 = .ok (.goto 1106, 3) := dk_167 4 82 (dk_at dksL_law_73 0 rfl rfl)
theorem dL_law_1927 : decode cL_law 1927 = .ok (.aload_n 1, 1) := dk_43 (dk_at dksL_law_73 3 rfl rfl)
theorem dL_law_1928 : decode cL_law 1928 = .ok (.invokevirtual 262, 3) := dk_182 1 6 (dk_at dksL_law_73 4 rfl rfl)
theorem dL_law_1931 : decode cL_law 1931 = .ok (.aload_n 2, 1) := dk_44 (dk_at dksL_law_73 7 rfl rfl)
theorem dL_law_1932 : decode cL_law 1932 = .ok (.invokevirtual 265, 3) := dk_182 1 9 (dk_at dksL_law_73 8 rfl rfl)
theorem dL_law_1935 : decode cL_law 1935 = .ok (.if_icmp .eq 1095, 3) := dk_159 4 71 (dk_at dksL_law_73 11 rfl rfl)
theorem dL_law_1938 : decode cL_law 1938 = .ok (.iconst 0, 1) := dk_3 (dk_at dksL_law_73 14 rfl rfl)
theorem dL_law_1939 : decode cL_law 1939 = .ok (.ireturn, 1) := dk_172 (dk_at dksL_law_73 15 rfl rfl)
theorem dL_law_1940 : decode cL_law 1940 = .ok (.aload_n 1, 1) := dk_43 (dk_at dksL_law_73 16 rfl rfl)
theorem dL_law_1941 : decode cL_law 1941 = .ok (.invokevirtual 266, 3) := dk_182 1 10 (dk_at dksL_law_73 17 rfl rfl)
theorem dL_law_1944 : decode cL_law 1944 = .ok (.aload_n 2, 1) := dk_44 (dk_at dksL_law_73 20 rfl rfl)
theorem dL_law_1945 : decode cL_law 1945 = .ok (.invokevirtual 269, 3) := dk_182 1 13 (dk_at dksL_law_73 21 rfl rfl)
theorem dL_law_1948 : decode cL_law 1948 = .ok (.if_icmp .eq 1082, 3) := dk_159 4 58 (dk_at dksL_law_74 0 rfl rfl)
theorem dL_law_1951 : decode cL_law 1951 = .ok (.iconst 0, 1) := dk_3 (dk_at dksL_law_74 3 rfl rfl)
theorem dL_law_1952 : decode cL_law 1952 = .ok (.ireturn, 1) := dk_172 (dk_at dksL_law_74 4 rfl rfl)
theorem dL_law_1953 : decode cL_law 1953 = .ok (.aload_n 1, 1) := dk_43 (dk_at dksL_law_74 5 rfl rfl)
theorem dL_law_1954 : decode cL_law 1954 = .ok (.aload_n 0, 1) := dk_42 (dk_at dksL_law_74 6 rfl rfl)
theorem dL_law_1955 : decode cL_law 1955 = .ok (.iload 5, 2) := dk_21 5 (dk_at dksL_law_74 7 rfl rfl)
theorem dL_law_1957 : decode cL_law 1957 = .ok (.iconst 1, 1) := dk_4 (dk_at dksL_law_74 9 rfl rfl)
theorem dL_law_1958 : decode cL_law 1958 = .ok (.iadd, 1) := dk_96 (dk_at dksL_law_74 10 rfl rfl)
theorem dL_law_1959 : decode cL_law 1959 = .ok (.iaload, 1) := dk_46 (dk_at dksL_law_74 11 rfl rfl)
theorem dL_law_1960 : decode cL_law 1960 = .ok (.aload_n 3, 1) := dk_45 (dk_at dksL_law_74 12 rfl rfl)
theorem dL_law_1961 : decode cL_law 1961 = .ok (.invokestatic 270, 3) := dk_184 1 14 (dk_at dksL_law_74 13 rfl rfl)
theorem dL_law_1964 : decode cL_law 1964 = .ok (.istore 6, 2) := dk_54 6 (dk_at dksL_law_74 16 rfl rfl)
theorem dL_law_1966 : decode cL_law 1966 = .ok (.aload_n 2, 1) := dk_44 (dk_at dksL_law_74 18 rfl rfl)
theorem dL_law_1967 : decode cL_law 1967 = .ok (.aload_n 0, 1) := dk_42 (dk_at dksL_law_74 19 rfl rfl)
theorem dL_law_1968 : decode cL_law 1968 = .ok (.iload 5, 2) := dk_21 5 (dk_at dksL_law_74 20 rfl rfl)
theorem dL_law_1970 : decode cL_law 1970 = .ok (.iconst 1, 1) := dk_4 (dk_at dksL_law_74 22 rfl rfl)
theorem dL_law_1971 : decode cL_law 1971 = .ok (.iadd, 1) := dk_96 (dk_at dksL_law_74 23 rfl rfl)
theorem dL_law_1972 : decode cL_law 1972 = .ok (.iaload, 1) := dk_46 (dk_at dksL_law_75 0 rfl rfl)
theorem dL_law_1973 : decode cL_law 1973 = .ok (.invokevirtual 272, 3) := dk_182 1 16 (dk_at dksL_law_75 1 rfl rfl)
theorem dL_law_1976 : decode cL_law 1976 = .ok (.istore 7, 2) := dk_54 7 (dk_at dksL_law_75 4 rfl rfl)
theorem dL_law_1978 : decode cL_law 1978 = .ok (.aload_n 2, 1) := dk_44 (dk_at dksL_law_75 6 rfl rfl)
theorem dL_law_1979 : decode cL_law 1979 = .ok (.invokevirtual 172, 3) := dk_182 0 172 (dk_at dksL_law_75 7 rfl rfl)
theorem dL_law_1982 : decode cL_law 1982 = .ok (.iload 6, 2) := dk_21 6 (dk_at dksL_law_75 10 rfl rfl)
theorem dL_law_1984 : decode cL_law 1984 = .ok (.if_icmp .eq 5, 3) := dk_159 0 5 (dk_at dksL_law_75 12 rfl rfl)
theorem dL_law_1987 : decode cL_law 1987 = .ok (.iconst 0, 1) := dk_3 (dk_at dksL_law_75 15 rfl rfl)
theorem dL_law_1988 : decode cL_law 1988 = .ok (.ireturn, 1) := dk_172 (dk_at dksL_law_75 16 rfl rfl)
theorem dL_law_1989 : decode cL_law 1989 = .ok (.iload 6, 2) := dk_21 6 (dk_at dksL_law_75 17 rfl rfl)
theorem dL_law_1991 : decode cL_law 1991 = .ok (.ifCond .ne 22, 3) := dk_154 0 22 (dk_at dksL_law_75 19 rfl rfl)
theorem dL_law_1994 : decode cL_law 1994 = .ok (.aload_n 3, 1) := dk_45 (dk_at dksL_law_75 22 rfl rfl)
theorem dL_law_1995 : decode cL_law 1995 = .ok (.iconst 0, 1) := dk_3 (dk_at dksL_law_75 23 rfl rfl)
theorem dL_law_1996 : decode cL_law 1996 = .ok (.laload, 1) := dk_47 (dk_at dksL_law_76 0 rfl rfl)
theorem dL_law_1997 : decode cL_law 1997 = .ok (.iload 7, 2) := dk_21 7 (dk_at dksL_law_76 1 rfl rfl)
theorem dL_law_1999 : decode cL_law 1999 = .ok (.ifCond .eq 7, 3) := dk_153 0 7 (dk_at dksL_law_76 3 rfl rfl)
theorem dL_law_2002 : decode cL_law 2002 = .ok (.lconst 1, 1) := dk_10 (dk_at dksL_law_76 6 rfl rfl)
theorem dL_law_2003 : decode cL_law 2003 = .ok (.goto 4, 3) := dk_167 0 4 (dk_at dksL_law_76 7 rfl rfl)
theorem dL_law_2006 : decode cL_law 2006 = .ok (.lconst 0, 1) := dk_9 (dk_at dksL_law_76 10 rfl rfl)
theorem dL_law_2007 : decode cL_law 2007 = .ok (.lcmp, 1) := dk_148 (dk_at dksL_law_76 11 rfl rfl)
theorem dL_law_2008 : decode cL_law 2008 = .ok (.ifCond .eq 5, 3) := dk_153 0 5 (dk_at dksL_law_76 12 rfl rfl)
theorem dL_law_2011 : decode cL_law 2011 = .ok (.iconst 0, 1) := dk_3 (dk_at dksL_law_76 15 rfl rfl)
theorem dL_law_2012 : decode cL_law 2012 = .ok (.ireturn, 1) := dk_172 (dk_at dksL_law_76 16 rfl rfl)
theorem dL_law_2013 : decode cL_law 2013 = .ok (.goto 1017, 3) := dk_167 3 249 (dk_at dksL_law_76 17 rfl rfl)
theorem dL_law_2016 : decode cL_law 2016 = .ok (.aload_n 1, 1) := dk_43 (dk_at dksL_law_76 20 rfl rfl)
theorem dL_law_2017 : decode cL_law 2017 = .ok (.invokevirtual 273, 3) := dk_182 1 17 (dk_at dksL_law_76 21 rfl rfl)
theorem dL_law_2020 : decode cL_law 2020 = .ok (.aload_n 2, 1) := dk_44 (dk_at dksL_law_77 0 rfl rfl)
theorem dL_law_2021 : decode cL_law 2021 = .ok (.invokevirtual 276, 3) := dk_182 1 20 (dk_at dksL_law_77 1 rfl rfl)
theorem dL_law_2024 : decode cL_law 2024 = .ok (.if_icmp .eq 1006, 3) := dk_159 3 238 (dk_at dksL_law_77 4 rfl rfl)
theorem dL_law_2027 : decode cL_law 2027 = .ok (.iconst 0, 1) := dk_3 (dk_at dksL_law_77 7 rfl rfl)
theorem dL_law_2028 : decode cL_law 2028 = .ok (.ireturn, 1) := dk_172 (dk_at dksL_law_77 8 rfl rfl)
theorem dL_law_2029 : decode cL_law 2029 = .ok (.aload_n 1, 1) := dk_43 (dk_at dksL_law_77 9 rfl rfl)
theorem dL_law_2030 : decode cL_law 2030 = .ok (.invokevirtual 277, 3) := dk_182 1 21 (dk_at dksL_law_77 10 rfl rfl)
theorem dL_law_2033 : decode cL_law 2033 = .ok (.aload_n 2, 1) := dk_44 (dk_at dksL_law_77 13 rfl rfl)
theorem dL_law_2034 : decode cL_law 2034 = .ok (.invokevirtual 280, 3) := dk_182 1 24 (dk_at dksL_law_77 14 rfl rfl)
theorem dL_law_2037 : decode cL_law 2037 = .ok (.if_icmp .eq 993, 3) := dk_159 3 225 (dk_at dksL_law_77 17 rfl rfl)
theorem dL_law_2040 : decode cL_law 2040 = .ok (.iconst 0, 1) := dk_3 (dk_at dksL_law_77 20 rfl rfl)
theorem dL_law_2041 : decode cL_law 2041 = .ok (.ireturn, 1) := dk_172 (dk_at dksL_law_77 21 rfl rfl)
theorem dL_law_2042 : decode cL_law 2042 = .ok (.aload_n 1, 1) := dk_43 (dk_at dksL_law_77 22 rfl rfl)
theorem dL_law_2043 : decode cL_law 2043 = .ok (.aload_n 0, 1) := dk_42 (dk_at dksL_law_77 23 rfl rfl)
theorem dL_law_2044 : decode cL_law 2044 = .ok (.iload 5, 2) := dk_21 5 (dk_at dksL_law_78 0 rfl rfl)
theorem dL_law_2046 : decode cL_law 2046 = .ok (.iconst 1, 1) := dk_4 (dk_at dksL_law_78 2 rfl rfl)
theorem dL_law_2047 : decode cL_law 2047 = .ok (.iadd, 1) := dk_96 (dk_at dksL_law_78 3 rfl rfl)
theorem dL_law_2048 : decode cL_law 2048 = .ok (.iaload, 1) := dk_46 (dk_at dksL_law_78 4 rfl rfl)
theorem dL_law_2049 : decode cL_law 2049 = .ok (.aload_n 0, 1) := dk_42 (dk_at dksL_law_78 5 rfl rfl)
theorem dL_law_2050 : decode cL_law 2050 = .ok (.iload 5, 2) := dk_21 5 (dk_at dksL_law_78 6 rfl rfl)
theorem dL_law_2052 : decode cL_law 2052 = .ok (.iconst 2, 1) := dk_5 (dk_at dksL_law_78 8 rfl rfl)
theorem dL_law_2053 : decode cL_law 2053 = .ok (.iadd, 1) := dk_96 (dk_at dksL_law_78 9 rfl rfl)
theorem dL_law_2054 : decode cL_law 2054 = .ok (.iaload, 1) := dk_46 (dk_at dksL_law_78 10 rfl rfl)
theorem dL_law_2055 : decode cL_law 2055 = .ok (.aload_n 3, 1) := dk_45 (dk_at dksL_law_78 11 rfl rfl)
theorem dL_law_2056 : decode cL_law 2056 = .ok (.invokestatic 281, 3) := dk_184 1 25 (dk_at dksL_law_78 12 rfl rfl)
theorem dL_law_2059 : decode cL_law 2059 = .ok (.istore 6, 2) := dk_54 6 (dk_at dksL_law_78 15 rfl rfl)
theorem dL_law_2061 : decode cL_law 2061 = .ok (.aload_n 2, 1) := dk_44 (dk_at dksL_law_78 17 rfl rfl)
theorem dL_law_2062 : decode cL_law 2062 = .ok (.aload_n 0, 1) := dk_42 (dk_at dksL_law_78 18 rfl rfl)
theorem dL_law_2063 : decode cL_law 2063 = .ok (.iload 5, 2) := dk_21 5 (dk_at dksL_law_78 19 rfl rfl)
theorem dL_law_2065 : decode cL_law 2065 = .ok (.iconst 1, 1) := dk_4 (dk_at dksL_law_78 21 rfl rfl)
theorem dL_law_2066 : decode cL_law 2066 = .ok (.iadd, 1) := dk_96 (dk_at dksL_law_78 22 rfl rfl)
theorem dL_law_2067 : decode cL_law 2067 = .ok (.iaload, 1) := dk_46 (dk_at dksL_law_78 23 rfl rfl)
theorem dL_law_2068 : decode cL_law 2068 = .ok (.aload_n 0, 1) := dk_42 (dk_at dksL_law_79 0 rfl rfl)
theorem dL_law_2069 : decode cL_law 2069 = .ok (.iload 5, 2) := dk_21 5 (dk_at dksL_law_79 1 rfl rfl)
theorem dL_law_2071 : decode cL_law 2071 = .ok (.iconst 2, 1) := dk_5 (dk_at dksL_law_79 3 rfl rfl)
theorem dL_law_2072 : decode cL_law 2072 = .ok (.iadd, 1) := dk_96 (dk_at dksL_law_79 4 rfl rfl)
theorem dL_law_2073 : decode cL_law 2073 = .ok (.iaload, 1) := dk_46 (dk_at dksL_law_79 5 rfl rfl)
theorem dL_law_2074 : decode cL_law 2074 = .ok (.invokevirtual 283, 3) := dk_182 1 27 (dk_at dksL_law_79 6 rfl rfl)
theorem dL_law_2077 : decode cL_law 2077 = .ok (.istore 7, 2) := dk_54 7 (dk_at dksL_law_79 9 rfl rfl)
theorem dL_law_2079 : decode cL_law 2079 = .ok (.aload_n 2, 1) := dk_44 (dk_at dksL_law_79 11 rfl rfl)
theorem dL_law_2080 : decode cL_law 2080 = .ok (.invokevirtual 172, 3) := dk_182 0 172 (dk_at dksL_law_79 12 rfl rfl)
theorem dL_law_2083 : decode cL_law 2083 = .ok (.iload 6, 2) := dk_21 6 (dk_at dksL_law_79 15 rfl rfl)
theorem dL_law_2085 : decode cL_law 2085 = .ok (.if_icmp .eq 5, 3) := dk_159 0 5 (dk_at dksL_law_79 17 rfl rfl)
theorem dL_law_2088 : decode cL_law 2088 = .ok (.iconst 0, 1) := dk_3 (dk_at dksL_law_79 20 rfl rfl)
theorem dL_law_2089 : decode cL_law 2089 = .ok (.ireturn, 1) := dk_172 (dk_at dksL_law_79 21 rfl rfl)
theorem dL_law_2090 : decode cL_law 2090 = .ok (.iload 6, 2) := dk_21 6 (dk_at dksL_law_79 22 rfl rfl)
theorem dL_law_2092 : decode cL_law 2092 = .ok (.ifCond .ne 15, 3) := dk_154 0 15 (dk_at dksL_law_80 0 rfl rfl)
theorem dL_law_2095 : decode cL_law 2095 = .ok (.aload_n 3, 1) := dk_45 (dk_at dksL_law_80 3 rfl rfl)
theorem dL_law_2096 : decode cL_law 2096 = .ok (.iconst 0, 1) := dk_3 (dk_at dksL_law_80 4 rfl rfl)
theorem dL_law_2097 : decode cL_law 2097 = .ok (.laload, 1) := dk_47 (dk_at dksL_law_80 5 rfl rfl)
theorem dL_law_2098 : decode cL_law 2098 = .ok (.iload 7, 2) := dk_21 7 (dk_at dksL_law_80 6 rfl rfl)
theorem dL_law_2100 : decode cL_law 2100 = .ok (.i2l, 1) := dk_133 (dk_at dksL_law_80 8 rfl rfl)
theorem dL_law_2101 : decode cL_law 2101 = .ok (.lcmp, 1) := dk_148 (dk_at dksL_law_80 9 rfl rfl)
theorem dL_law_2102 : decode cL_law 2102 = .ok (.ifCond .eq 5, 3) := dk_153 0 5 (dk_at dksL_law_80 10 rfl rfl)
theorem dL_law_2105 : decode cL_law 2105 = .ok (.iconst 0, 1) := dk_3 (dk_at dksL_law_80 13 rfl rfl)
theorem dL_law_2106 : decode cL_law 2106 = .ok (.ireturn, 1) := dk_172 (dk_at dksL_law_80 14 rfl rfl)
theorem dL_law_2107 : decode cL_law 2107 = .ok (.goto 923, 3) := dk_167 3 155 (dk_at dksL_law_80 15 rfl rfl)
theorem dL_law_2110 : decode cL_law 2110 = .ok (.aload_n 1, 1) := dk_43 (dk_at dksL_law_80 18 rfl rfl)
theorem dL_law_2111 : decode cL_law 2111 = .ok (.aload_n 0, 1) := dk_42 (dk_at dksL_law_80 19 rfl rfl)
theorem dL_law_2112 : decode cL_law 2112 = .ok (.iload 5, 2) := dk_21 5 (dk_at dksL_law_80 20 rfl rfl)
theorem dL_law_2114 : decode cL_law 2114 = .ok (.iconst 1, 1) := dk_4 (dk_at dksL_law_80 22 rfl rfl)
theorem dL_law_2115 : decode cL_law 2115 = .ok (.iadd, 1) := dk_96 (dk_at dksL_law_80 23 rfl rfl)
theorem dL_law_2116 : decode cL_law 2116 = .ok (.iaload, 1) := dk_46 (dk_at dksL_law_81 0 rfl rfl)
theorem dL_law_2117 : decode cL_law 2117 = .ok (.aload_n 0, 1) := dk_42 (dk_at dksL_law_81 1 rfl rfl)
theorem dL_law_2118 : decode cL_law 2118 = .ok (.iload 5, 2) := dk_21 5 (dk_at dksL_law_81 2 rfl rfl)
theorem dL_law_2120 : decode cL_law 2120 = .ok (.iconst 2, 1) := dk_5 (dk_at dksL_law_81 4 rfl rfl)
theorem dL_law_2121 : decode cL_law 2121 = .ok (.iadd, 1) := dk_96 (dk_at dksL_law_81 5 rfl rfl)
theorem dL_law_2122 : decode cL_law 2122 = .ok (.iaload, 1) := dk_46 (dk_at dksL_law_81 6 rfl rfl)
theorem dL_law_2123 : decode cL_law 2123 = .ok (.aload_n 3, 1) := dk_45 (dk_at dksL_law_81 7 rfl rfl)
theorem dL_law_2124 : decode cL_law 2124 = .ok (.invokestatic 284, 3) := dk_184 1 28 (dk_at dksL_law_81 8 rfl rfl)
theorem dL_law_2127 : decode cL_law 2127 = .ok (.istore 6, 2) := dk_54 6 (dk_at dksL_law_81 11 rfl rfl)
theorem dL_law_2129 : decode cL_law 2129 = .ok (.aload_n 2, 1) := dk_44 (dk_at dksL_law_81 13 rfl rfl)
theorem dL_law_2130 : decode cL_law 2130 = .ok (.aload_n 0, 1) := dk_42 (dk_at dksL_law_81 14 rfl rfl)
theorem dL_law_2131 : decode cL_law 2131 = .ok (.iload 5, 2) := dk_21 5 (dk_at dksL_law_81 15 rfl rfl)
theorem dL_law_2133 : decode cL_law 2133 = .ok (.iconst 1, 1) := dk_4 (dk_at dksL_law_81 17 rfl rfl)
theorem dL_law_2134 : decode cL_law 2134 = .ok (.iadd, 1) := dk_96 (dk_at dksL_law_81 18 rfl rfl)
theorem dL_law_2135 : decode cL_law 2135 = .ok (.iaload, 1) := dk_46 (dk_at dksL_law_81 19 rfl rfl)
theorem dL_law_2136 : decode cL_law 2136 = .ok (.aload_n 0, 1) := dk_42 (dk_at dksL_law_81 20 rfl rfl)
theorem dL_law_2137 : decode cL_law 2137 = .ok (.iload 5, 2) := dk_21 5 (dk_at dksL_law_81 21 rfl rfl)
theorem dL_law_2139 : decode cL_law 2139 = .ok (.iconst 2, 1) := dk_5 (dk_at dksL_law_81 23 rfl rfl)
theorem dL_law_2140 : decode cL_law 2140 = .ok (.iadd, 1) := dk_96 (dk_at dksL_law_82 0 rfl rfl)
theorem dL_law_2141 : decode cL_law 2141 = .ok (.iaload, 1) := dk_46 (dk_at dksL_law_82 1 rfl rfl)
theorem dL_law_2142 : decode cL_law 2142 = .ok (.invokevirtual 286, 3) := dk_182 1 30 (dk_at dksL_law_82 2 rfl rfl)
theorem dL_law_2145 : decode cL_law 2145 = .ok (.istore 7, 2) := dk_54 7 (dk_at dksL_law_82 5 rfl rfl)
theorem dL_law_2147 : decode cL_law 2147 = .ok (.aload_n 2, 1) := dk_44 (dk_at dksL_law_82 7 rfl rfl)
theorem dL_law_2148 : decode cL_law 2148 = .ok (.invokevirtual 172, 3) := dk_182 0 172 (dk_at dksL_law_82 8 rfl rfl)
theorem dL_law_2151 : decode cL_law 2151 = .ok (.iload 6, 2) := dk_21 6 (dk_at dksL_law_82 11 rfl rfl)
theorem dL_law_2153 : decode cL_law 2153 = .ok (.if_icmp .eq 5, 3) := dk_159 0 5 (dk_at dksL_law_82 13 rfl rfl)
theorem dL_law_2156 : decode cL_law 2156 = .ok (.iconst 0, 1) := dk_3 (dk_at dksL_law_82 16 rfl rfl)
theorem dL_law_2157 : decode cL_law 2157 = .ok (.ireturn, 1) := dk_172 (dk_at dksL_law_82 17 rfl rfl)
theorem dL_law_2158 : decode cL_law 2158 = .ok (.iload 6, 2) := dk_21 6 (dk_at dksL_law_82 18 rfl rfl)
theorem dL_law_2160 : decode cL_law 2160 = .ok (.ifCond .ne 15, 3) := dk_154 0 15 (dk_at dksL_law_82 20 rfl rfl)
theorem dL_law_2163 : decode cL_law 2163 = .ok (.aload_n 3, 1) := dk_45 (dk_at dksL_law_82 23 rfl rfl)
theorem dL_law_2164 : decode cL_law 2164 = .ok (.iconst 0, 1) := dk_3 (dk_at dksL_law_83 0 rfl rfl)
theorem dL_law_2165 : decode cL_law 2165 = .ok (.laload, 1) := dk_47 (dk_at dksL_law_83 1 rfl rfl)
theorem dL_law_2166 : decode cL_law 2166 = .ok (.iload 7, 2) := dk_21 7 (dk_at dksL_law_83 2 rfl rfl)
theorem dL_law_2168 : decode cL_law 2168 = .ok (.i2l, 1) := dk_133 (dk_at dksL_law_83 4 rfl rfl)
theorem dL_law_2169 : decode cL_law 2169 = .ok (.lcmp, 1) := dk_148 (dk_at dksL_law_83 5 rfl rfl)
theorem dL_law_2170 : decode cL_law 2170 = .ok (.ifCond .eq 5, 3) := dk_153 0 5 (dk_at dksL_law_83 6 rfl rfl)
theorem dL_law_2173 : decode cL_law 2173 = .ok (.iconst 0, 1) := dk_3 (dk_at dksL_law_83 9 rfl rfl)
theorem dL_law_2174 : decode cL_law 2174 = .ok (.ireturn, 1) := dk_172 (dk_at dksL_law_83 10 rfl rfl)
theorem dL_law_2175 : decode cL_law 2175 = .ok (.goto 855, 3) := dk_167 3 87 (dk_at dksL_law_83 11 rfl rfl)
theorem dL_law_2178 : decode cL_law 2178 = .ok (.aload_n 1, 1) := dk_43 (dk_at dksL_law_83 14 rfl rfl)
theorem dL_law_2179 : decode cL_law 2179 = .ok (.aload_n 0, 1) := dk_42 (dk_at dksL_law_83 15 rfl rfl)
theorem dL_law_2180 : decode cL_law 2180 = .ok (.iload 5, 2) := dk_21 5 (dk_at dksL_law_83 16 rfl rfl)
theorem dL_law_2182 : decode cL_law 2182 = .ok (.iconst 1, 1) := dk_4 (dk_at dksL_law_83 18 rfl rfl)
theorem dL_law_2183 : decode cL_law 2183 = .ok (.iadd, 1) := dk_96 (dk_at dksL_law_83 19 rfl rfl)
theorem dL_law_2184 : decode cL_law 2184 = .ok (.iaload, 1) := dk_46 (dk_at dksL_law_83 20 rfl rfl)
theorem dL_law_2185 : decode cL_law 2185 = .ok (.aload_n 0, 1) := dk_42 (dk_at dksL_law_83 21 rfl rfl)
theorem dL_law_2186 : decode cL_law 2186 = .ok (.iload 5, 2) := dk_21 5 (dk_at dksL_law_83 22 rfl rfl)
theorem dL_law_2188 : decode cL_law 2188 = .ok (.iconst 2, 1) := dk_5 (dk_at dksL_law_84 0 rfl rfl)
theorem dL_law_2189 : decode cL_law 2189 = .ok (.iadd, 1) := dk_96 (dk_at dksL_law_84 1 rfl rfl)
theorem dL_law_2190 : decode cL_law 2190 = .ok (.iaload, 1) := dk_46 (dk_at dksL_law_84 2 rfl rfl)
theorem dL_law_2191 : decode cL_law 2191 = .ok (.aload_n 3, 1) := dk_45 (dk_at dksL_law_84 3 rfl rfl)
theorem dL_law_2192 : decode cL_law 2192 = .ok (.invokestatic 287, 3) := dk_184 1 31 (dk_at dksL_law_84 4 rfl rfl)
theorem dL_law_2195 : decode cL_law 2195 = .ok (.istore 6, 2) := dk_54 6 (dk_at dksL_law_84 7 rfl rfl)
theorem dL_law_2197 : decode cL_law 2197 = .ok (.aload_n 2, 1) := dk_44 (dk_at dksL_law_84 9 rfl rfl)
theorem dL_law_2198 : decode cL_law 2198 = .ok (.aload_n 0, 1) := dk_42 (dk_at dksL_law_84 10 rfl rfl)
theorem dL_law_2199 : decode cL_law 2199 = .ok (.iload 5, 2) := dk_21 5 (dk_at dksL_law_84 11 rfl rfl)
theorem dL_law_2201 : decode cL_law 2201 = .ok (.iconst 1, 1) := dk_4 (dk_at dksL_law_84 13 rfl rfl)
theorem dL_law_2202 : decode cL_law 2202 = .ok (.iadd, 1) := dk_96 (dk_at dksL_law_84 14 rfl rfl)
theorem dL_law_2203 : decode cL_law 2203 = .ok (.iaload, 1) := dk_46 (dk_at dksL_law_84 15 rfl rfl)
theorem dL_law_2204 : decode cL_law 2204 = .ok (.aload_n 0, 1) := dk_42 (dk_at dksL_law_84 16 rfl rfl)
theorem dL_law_2205 : decode cL_law 2205 = .ok (.iload 5, 2) := dk_21 5 (dk_at dksL_law_84 17 rfl rfl)
theorem dL_law_2207 : decode cL_law 2207 = .ok (.iconst 2, 1) := dk_5 (dk_at dksL_law_84 19 rfl rfl)
theorem dL_law_2208 : decode cL_law 2208 = .ok (.iadd, 1) := dk_96 (dk_at dksL_law_84 20 rfl rfl)
theorem dL_law_2209 : decode cL_law 2209 = .ok (.iaload, 1) := dk_46 (dk_at dksL_law_84 21 rfl rfl)
theorem dL_law_2210 : decode cL_law 2210 = .ok (.invokevirtual 289, 3) := dk_182 1 33 (dk_at dksL_law_85 0 rfl rfl)
theorem dL_law_2213 : decode cL_law 2213 = .ok (.istore 7, 2) := dk_54 7 (dk_at dksL_law_85 3 rfl rfl)
theorem dL_law_2215 : decode cL_law 2215 = .ok (.aload_n 2, 1) := dk_44 (dk_at dksL_law_85 5 rfl rfl)
theorem dL_law_2216 : decode cL_law 2216 = .ok (.invokevirtual 172, 3) := dk_182 0 172 (dk_at dksL_law_85 6 rfl rfl)
theorem dL_law_2219 : decode cL_law 2219 = .ok (.iload 6, 2) := dk_21 6 (dk_at dksL_law_85 9 rfl rfl)
theorem dL_law_2221 : decode cL_law 2221 = .ok (.if_icmp .eq 5, 3) := dk_159 0 5 (dk_at dksL_law_85 11 rfl rfl)
theorem dL_law_2224 : decode cL_law 2224 = .ok (.iconst 0, 1) := dk_3 (dk_at dksL_law_85 14 rfl rfl)
theorem dL_law_2225 : decode cL_law 2225 = .ok (.ireturn, 1) := dk_172 (dk_at dksL_law_85 15 rfl rfl)
theorem dL_law_2226 : decode cL_law 2226 = .ok (.iload 6, 2) := dk_21 6 (dk_at dksL_law_85 16 rfl rfl)
theorem dL_law_2228 : decode cL_law 2228 = .ok (.ifCond .ne 15, 3) := dk_154 0 15 (dk_at dksL_law_85 18 rfl rfl)
theorem dL_law_2231 : decode cL_law 2231 = .ok (.aload_n 3, 1) := dk_45 (dk_at dksL_law_85 21 rfl rfl)
theorem dL_law_2232 : decode cL_law 2232 = .ok (.iconst 0, 1) := dk_3 (dk_at dksL_law_85 22 rfl rfl)
theorem dL_law_2233 : decode cL_law 2233 = .ok (.laload, 1) := dk_47 (dk_at dksL_law_85 23 rfl rfl)
theorem dL_law_2234 : decode cL_law 2234 = .ok (.iload 7, 2) := dk_21 7 (dk_at dksL_law_86 0 rfl rfl)
theorem dL_law_2236 : decode cL_law 2236 = .ok (.i2l, 1) := dk_133 (dk_at dksL_law_86 2 rfl rfl)
theorem dL_law_2237 : decode cL_law 2237 = .ok (.lcmp, 1) := dk_148 (dk_at dksL_law_86 3 rfl rfl)
theorem dL_law_2238 : decode cL_law 2238 = .ok (.ifCond .eq 5, 3) := dk_153 0 5 (dk_at dksL_law_86 4 rfl rfl)
theorem dL_law_2241 : decode cL_law 2241 = .ok (.iconst 0, 1) := dk_3 (dk_at dksL_law_86 7 rfl rfl)
theorem dL_law_2242 : decode cL_law 2242 = .ok (.ireturn, 1) := dk_172 (dk_at dksL_law_86 8 rfl rfl)
theorem dL_law_2243 : decode cL_law 2243 = .ok (.goto 787, 3) := dk_167 3 19 (dk_at dksL_law_86 9 rfl rfl)
theorem dL_law_2246 : decode cL_law 2246 = .ok (.aload_n 1, 1) := dk_43 (dk_at dksL_law_86 12 rfl rfl)
theorem dL_law_2247 : decode cL_law 2247 = .ok (.aload_n 0, 1) := dk_42 (dk_at dksL_law_86 13 rfl rfl)
theorem dL_law_2248 : decode cL_law 2248 = .ok (.iload 5, 2) := dk_21 5 (dk_at dksL_law_86 14 rfl rfl)
theorem dL_law_2250 : decode cL_law 2250 = .ok (.iconst 1, 1) := dk_4 (dk_at dksL_law_86 16 rfl rfl)
theorem dL_law_2251 : decode cL_law 2251 = .ok (.iadd, 1) := dk_96 (dk_at dksL_law_86 17 rfl rfl)
theorem dL_law_2252 : decode cL_law 2252 = .ok (.iaload, 1) := dk_46 (dk_at dksL_law_86 18 rfl rfl)
theorem dL_law_2253 : decode cL_law 2253 = .ok (.aload_n 0, 1) := dk_42 (dk_at dksL_law_86 19 rfl rfl)
theorem dL_law_2254 : decode cL_law 2254 = .ok (.iload 5, 2) := dk_21 5 (dk_at dksL_law_86 20 rfl rfl)
theorem dL_law_2256 : decode cL_law 2256 = .ok (.iconst 2, 1) := dk_5 (dk_at dksL_law_86 22 rfl rfl)
theorem dL_law_2257 : decode cL_law 2257 = .ok (.iadd, 1) := dk_96 (dk_at dksL_law_86 23 rfl rfl)
theorem dL_law_2258 : decode cL_law 2258 = .ok (.iaload, 1) := dk_46 (dk_at dksL_law_87 0 rfl rfl)
theorem dL_law_2259 : decode cL_law 2259 = .ok (.aload_n 3, 1) := dk_45 (dk_at dksL_law_87 1 rfl rfl)
theorem dL_law_2260 : decode cL_law 2260 = .ok (.invokestatic 290, 3) := dk_184 1 34 (dk_at dksL_law_87 2 rfl rfl)
theorem dL_law_2263 : decode cL_law 2263 = .ok (.istore 6, 2) := dk_54 6 (dk_at dksL_law_87 5 rfl rfl)
theorem dL_law_2265 : decode cL_law 2265 = .ok (.aload_n 2, 1) := dk_44 (dk_at dksL_law_87 7 rfl rfl)
theorem dL_law_2266 : decode cL_law 2266 = .ok (.aload_n 0, 1) := dk_42 (dk_at dksL_law_87 8 rfl rfl)
theorem dL_law_2267 : decode cL_law 2267 = .ok (.iload 5, 2) := dk_21 5 (dk_at dksL_law_87 9 rfl rfl)
theorem dL_law_2269 : decode cL_law 2269 = .ok (.iconst 1, 1) := dk_4 (dk_at dksL_law_87 11 rfl rfl)
theorem dL_law_2270 : decode cL_law 2270 = .ok (.iadd, 1) := dk_96 (dk_at dksL_law_87 12 rfl rfl)
theorem dL_law_2271 : decode cL_law 2271 = .ok (.iaload, 1) := dk_46 (dk_at dksL_law_87 13 rfl rfl)
theorem dL_law_2272 : decode cL_law 2272 = .ok (.aload_n 0, 1) := dk_42 (dk_at dksL_law_87 14 rfl rfl)
theorem dL_law_2273 : decode cL_law 2273 = .ok (.iload 5, 2) := dk_21 5 (dk_at dksL_law_87 15 rfl rfl)
theorem dL_law_2275 : decode cL_law 2275 = .ok (.iconst 2, 1) := dk_5 (dk_at dksL_law_87 17 rfl rfl)
theorem dL_law_2276 : decode cL_law 2276 = .ok (.iadd, 1) := dk_96 (dk_at dksL_law_87 18 rfl rfl)
theorem dL_law_2277 : decode cL_law 2277 = .ok (.iaload, 1) := dk_46 (dk_at dksL_law_87 19 rfl rfl)
theorem dL_law_2278 : decode cL_law 2278 = .ok (.invokevirtual 292, 3) := dk_182 1 36 (dk_at dksL_law_87 20 rfl rfl)
theorem dL_law_2281 : decode cL_law 2281 = .ok (.istore 7, 2) := dk_54 7 (dk_at dksL_law_88 0 rfl rfl)
theorem dL_law_2283 : decode cL_law 2283 = .ok (.aload_n 2, 1) := dk_44 (dk_at dksL_law_88 2 rfl rfl)
theorem dL_law_2284 : decode cL_law 2284 = .ok (.invokevirtual 172, 3) := dk_182 0 172 (dk_at dksL_law_88 3 rfl rfl)
theorem dL_law_2287 : decode cL_law 2287 = .ok (.iload 6, 2) := dk_21 6 (dk_at dksL_law_88 6 rfl rfl)
theorem dL_law_2289 : decode cL_law 2289 = .ok (.if_icmp .eq 5, 3) := dk_159 0 5 (dk_at dksL_law_88 8 rfl rfl)
theorem dL_law_2292 : decode cL_law 2292 = .ok (.iconst 0, 1) := dk_3 (dk_at dksL_law_88 11 rfl rfl)
theorem dL_law_2293 : decode cL_law 2293 = .ok (.ireturn, 1) := dk_172 (dk_at dksL_law_88 12 rfl rfl)
theorem dL_law_2294 : decode cL_law 2294 = .ok (.iload 6, 2) := dk_21 6 (dk_at dksL_law_88 13 rfl rfl)
theorem dL_law_2296 : decode cL_law 2296 = .ok (.ifCond .ne 15, 3) := dk_154 0 15 (dk_at dksL_law_88 15 rfl rfl)
theorem dL_law_2299 : decode cL_law 2299 = .ok (.aload_n 3, 1) := dk_45 (dk_at dksL_law_88 18 rfl rfl)
theorem dL_law_2300 : decode cL_law 2300 = .ok (.iconst 0, 1) := dk_3 (dk_at dksL_law_88 19 rfl rfl)
theorem dL_law_2301 : decode cL_law 2301 = .ok (.laload, 1) := dk_47 (dk_at dksL_law_88 20 rfl rfl)
theorem dL_law_2302 : decode cL_law 2302 = .ok (.iload 7, 2) := dk_21 7 (dk_at dksL_law_88 21 rfl rfl)
theorem dL_law_2304 : decode cL_law 2304 = .ok (.i2l, 1) := dk_133 (dk_at dksL_law_88 23 rfl rfl)
theorem dL_law_2305 : decode cL_law 2305 = .ok (.lcmp, 1) := dk_148 (dk_at dksL_law_89 0 rfl rfl)
theorem dL_law_2306 : decode cL_law 2306 = .ok (.ifCond .eq 5, 3) := dk_153 0 5 (dk_at dksL_law_89 1 rfl rfl)
theorem dL_law_2309 : decode cL_law 2309 = .ok (.iconst 0, 1) := dk_3 (dk_at dksL_law_89 4 rfl rfl)
theorem dL_law_2310 : decode cL_law 2310 = .ok (.ireturn, 1) := dk_172 (dk_at dksL_law_89 5 rfl rfl)
theorem dL_law_2311 : decode cL_law 2311 = .ok (.goto 719, 3) := dk_167 2 207 (dk_at dksL_law_89 6 rfl rfl)
theorem dL_law_2314 : decode cL_law 2314 = .ok (.aload_n 1, 1) := dk_43 (dk_at dksL_law_89 9 rfl rfl)
theorem dL_law_2315 : decode cL_law 2315 = .ok (.aload_n 3, 1) := dk_45 (dk_at dksL_law_89 10 rfl rfl)
theorem dL_law_2316 : decode cL_law 2316 = .ok (.invokestatic 293, 3) := dk_184 1 37 (dk_at dksL_law_89 11 rfl rfl)
theorem dL_law_2319 : decode cL_law 2319 = .ok (.istore 6, 2) := dk_54 6 (dk_at dksL_law_89 14 rfl rfl)
theorem dL_law_2321 : decode cL_law 2321 = .ok (.aload_n 2, 1) := dk_44 (dk_at dksL_law_89 16 rfl rfl)
theorem dL_law_2322 : decode cL_law 2322 = .ok (.invokevirtual 296, 3) := dk_182 1 40 (dk_at dksL_law_89 17 rfl rfl)
theorem dL_law_2325 : decode cL_law 2325 = .ok (.istore 7, 2) := dk_54 7 (dk_at dksL_law_89 20 rfl rfl)
theorem dL_law_2327 : decode cL_law 2327 = .ok (.aload_n 2, 1) := dk_44 (dk_at dksL_law_89 22 rfl rfl)
theorem dL_law_2328 : decode cL_law 2328 = .ok (.invokevirtual 172, 3) := dk_182 0 172 (dk_at dksL_law_90 0 rfl rfl)
theorem dL_law_2331 : decode cL_law 2331 = .ok (.iload 6, 2) := dk_21 6 (dk_at dksL_law_90 3 rfl rfl)
theorem dL_law_2333 : decode cL_law 2333 = .ok (.if_icmp .eq 5, 3) := dk_159 0 5 (dk_at dksL_law_90 5 rfl rfl)
theorem dL_law_2336 : decode cL_law 2336 = .ok (.iconst 0, 1) := dk_3 (dk_at dksL_law_90 8 rfl rfl)
theorem dL_law_2337 : decode cL_law 2337 = .ok (.ireturn, 1) := dk_172 (dk_at dksL_law_90 9 rfl rfl)
theorem dL_law_2338 : decode cL_law 2338 = .ok (.iload 6, 2) := dk_21 6 (dk_at dksL_law_90 10 rfl rfl)
theorem dL_law_2340 : decode cL_law 2340 = .ok (.ifCond .ne 15, 3) := dk_154 0 15 (dk_at dksL_law_90 12 rfl rfl)
theorem dL_law_2343 : decode cL_law 2343 = .ok (.aload_n 3, 1) := dk_45 (dk_at dksL_law_90 15 rfl rfl)
theorem dL_law_2344 : decode cL_law 2344 = .ok (.iconst 0, 1) := dk_3 (dk_at dksL_law_90 16 rfl rfl)
theorem dL_law_2345 : decode cL_law 2345 = .ok (.laload, 1) := dk_47 (dk_at dksL_law_90 17 rfl rfl)
theorem dL_law_2346 : decode cL_law 2346 = .ok (.iload 7, 2) := dk_21 7 (dk_at dksL_law_90 18 rfl rfl)
theorem dL_law_2348 : decode cL_law 2348 = .ok (.i2l, 1) := dk_133 (dk_at dksL_law_90 20 rfl rfl)
theorem dL_law_2349 : decode cL_law 2349 = .ok (.lcmp, 1) := dk_148 (dk_at dksL_law_90 21 rfl rfl)
theorem dL_law_2350 : decode cL_law 2350 = .ok (.ifCond .eq 5, 3) := dk_153 0 5 (dk_at dksL_law_91 0 rfl rfl)
theorem dL_law_2353 : decode cL_law 2353 = .ok (.iconst 0, 1) := dk_3 (dk_at dksL_law_91 3 rfl rfl)
theorem dL_law_2354 : decode cL_law 2354 = .ok (.ireturn, 1) := dk_172 (dk_at dksL_law_91 4 rfl rfl)
theorem dL_law_2355 : decode cL_law 2355 = .ok (.goto 675, 3) := dk_167 2 163 (dk_at dksL_law_91 5 rfl rfl)
theorem dL_law_2358 : decode cL_law 2358 = .ok (.aload_n 1, 1) := dk_43 (dk_at dksL_law_91 8 rfl rfl)
theorem dL_law_2359 : decode cL_law 2359 = .ok (.invokevirtual 297, 3) := dk_182 1 41 (dk_at dksL_law_91 9 rfl rfl)
theorem dL_law_2362 : decode cL_law 2362 = .ok (.aload_n 2, 1) := dk_44 (dk_at dksL_law_91 12 rfl rfl)
theorem dL_law_2363 : decode cL_law 2363 = .ok (.invokevirtual 300, 3) := dk_182 1 44 (dk_at dksL_law_91 13 rfl rfl)
theorem dL_law_2366 : decode cL_law 2366 = .ok (.if_icmp .eq 664, 3) := dk_159 2 152 (dk_at dksL_law_91 16 rfl rfl)
theorem dL_law_2369 : decode cL_law 2369 = .ok (.iconst 0, 1) := dk_3 (dk_at dksL_law_91 19 rfl rfl)
theorem dL_law_2370 : decode cL_law 2370 = .ok (.ireturn, 1) := dk_172 (dk_at dksL_law_91 20 rfl rfl)
theorem dL_law_2371 : decode cL_law 2371 = .ok (.aload_n 1, 1) := dk_43 (dk_at dksL_law_91 21 rfl rfl)
theorem dL_law_2372 : decode cL_law 2372 = .ok (.invokevirtual 301, 3) := dk_182 1 45 (dk_at dksL_law_92 0 rfl rfl)
theorem dL_law_2375 : decode cL_law 2375 = .ok (.aload_n 2, 1) := dk_44 (dk_at dksL_law_92 3 rfl rfl)
theorem dL_law_2376 : decode cL_law 2376 = .ok (.invokevirtual 304, 3) := dk_182 1 48 (dk_at dksL_law_92 4 rfl rfl)
theorem dL_law_2379 : decode cL_law 2379 = .ok (.if_icmp .eq 651, 3) := dk_159 2 139 (dk_at dksL_law_92 7 rfl rfl)
theorem dL_law_2382 : decode cL_law 2382 = .ok (.iconst 0, 1) := dk_3 (dk_at dksL_law_92 10 rfl rfl)
theorem dL_law_2383 : decode cL_law 2383 = .ok (.ireturn, 1) := dk_172 (dk_at dksL_law_92 11 rfl rfl)
theorem dL_law_2384 : decode cL_law 2384 = .ok (.aload_n 1, 1) := dk_43 (dk_at dksL_law_92 12 rfl rfl)
theorem dL_law_2385 : decode cL_law 2385 = .ok (.invokevirtual 305, 3) := dk_182 1 49 (dk_at dksL_law_92 13 rfl rfl)
theorem dL_law_2388 : decode cL_law 2388 = .ok (.aload_n 2, 1) := dk_44 (dk_at dksL_law_92 16 rfl rfl)
theorem dL_law_2389 : decode cL_law 2389 = .ok (.invokevirtual 308, 3) := dk_182 1 52 (dk_at dksL_law_92 17 rfl rfl)
theorem dL_law_2392 : decode cL_law 2392 = .ok (.if_icmp .eq 638, 3) := dk_159 2 126 (dk_at dksL_law_92 20 rfl rfl)
theorem dL_law_2395 : decode cL_law 2395 = .ok (.iconst 0, 1) := dk_3 (dk_at dksL_law_92 23 rfl rfl)
theorem dL_law_2396 : decode cL_law 2396 = .ok (.ireturn, 1) := dk_172 (dk_at dksL_law_93 0 rfl rfl)
theorem dL_law_2397 : decode cL_law 2397 = .ok (.aload_n 1, 1) := dk_43 (dk_at dksL_law_93 1 rfl rfl)
theorem dL_law_2398 : decode cL_law 2398 = .ok (.invokevirtual 309, 3) := dk_182 1 53 (dk_at dksL_law_93 2 rfl rfl)
theorem dL_law_2401 : decode cL_law 2401 = .ok (.aload_n 2, 1) := dk_44 (dk_at dksL_law_93 5 rfl rfl)
theorem dL_law_2402 : decode cL_law 2402 = .ok (.invokevirtual 312, 3) := dk_182 1 56 (dk_at dksL_law_93 6 rfl rfl)
theorem dL_law_2405 : decode cL_law 2405 = .ok (.if_icmp .eq 625, 3) := dk_159 2 113 (dk_at dksL_law_93 9 rfl rfl)
theorem dL_law_2408 : decode cL_law 2408 = .ok (.iconst 0, 1) := dk_3 (dk_at dksL_law_93 12 rfl rfl)
theorem dL_law_2409 : decode cL_law 2409 = .ok (.ireturn, 1) := dk_172 (dk_at dksL_law_93 13 rfl rfl)
theorem dL_law_2410 : decode cL_law 2410 = .ok (.aload_n 1, 1) := dk_43 (dk_at dksL_law_93 14 rfl rfl)
theorem dL_law_2411 : decode cL_law 2411 = .ok (.invokevirtual 313, 3) := dk_182 1 57 (dk_at dksL_law_93 15 rfl rfl)
theorem dL_law_2414 : decode cL_law 2414 = .ok (.aload_n 2, 1) := dk_44 (dk_at dksL_law_93 18 rfl rfl)
theorem dL_law_2415 : decode cL_law 2415 = .ok (.invokevirtual 316, 3) := dk_182 1 60 (dk_at dksL_law_93 19 rfl rfl)
theorem dL_law_2418 : decode cL_law 2418 = .ok (.if_icmp .eq 612, 3) := dk_159 2 100 (dk_at dksL_law_94 0 rfl rfl)
theorem dL_law_2421 : decode cL_law 2421 = .ok (.iconst 0, 1) := dk_3 (dk_at dksL_law_94 3 rfl rfl)
theorem dL_law_2422 : decode cL_law 2422 = .ok (.ireturn, 1) := dk_172 (dk_at dksL_law_94 4 rfl rfl)
theorem dL_law_2423 : decode cL_law 2423 = .ok (.aload_n 1, 1) := dk_43 (dk_at dksL_law_94 5 rfl rfl)
theorem dL_law_2424 : decode cL_law 2424 = .ok (.invokevirtual 317, 3) := dk_182 1 61 (dk_at dksL_law_94 6 rfl rfl)
theorem dL_law_2427 : decode cL_law 2427 = .ok (.aload_n 2, 1) := dk_44 (dk_at dksL_law_94 9 rfl rfl)
theorem dL_law_2428 : decode cL_law 2428 = .ok (.invokevirtual 320, 3) := dk_182 1 64 (dk_at dksL_law_94 10 rfl rfl)
theorem dL_law_2431 : decode cL_law 2431 = .ok (.if_icmp .eq 599, 3) := dk_159 2 87 (dk_at dksL_law_94 13 rfl rfl)
theorem dL_law_2434 : decode cL_law 2434 = .ok (.iconst 0, 1) := dk_3 (dk_at dksL_law_94 16 rfl rfl)
theorem dL_law_2435 : decode cL_law 2435 = .ok (.ireturn, 1) := dk_172 (dk_at dksL_law_94 17 rfl rfl)
theorem dL_law_2436 : decode cL_law 2436 = .ok (.aload_n 1, 1) := dk_43 (dk_at dksL_law_94 18 rfl rfl)
theorem dL_law_2437 : decode cL_law 2437 = .ok (.aload 4, 2) := dk_25 4 (dk_at dksL_law_94 19 rfl rfl)
theorem dL_law_2439 : decode cL_law 2439 = .ok (.invokestatic 321, 3) := dk_184 1 65 (dk_at dksL_law_94 21 rfl rfl)
theorem dL_law_2442 : decode cL_law 2442 = .ok (.istore 6, 2) := dk_54 6 (dk_at dksL_law_95 0 rfl rfl)
theorem dL_law_2444 : decode cL_law 2444 = .ok (.aload_n 2, 1) := dk_44 (dk_at dksL_law_95 2 rfl rfl)
theorem dL_law_2445 : decode cL_law 2445 = .ok (.invokevirtual 324, 3) := dk_182 1 68 (dk_at dksL_law_95 3 rfl rfl)
theorem dL_law_2448 : decode cL_law 2448 = .ok (.dstore 7, 2) := dk_57 7 (dk_at dksL_law_95 6 rfl rfl)
theorem dL_law_2450 : decode cL_law 2450 = .ok (.aload_n 2, 1) := dk_44 (dk_at dksL_law_95 8 rfl rfl)
theorem dL_law_2451 : decode cL_law 2451 = .ok (.invokevirtual 172, 3) := dk_182 0 172 (dk_at dksL_law_95 9 rfl rfl)
theorem dL_law_2454 : decode cL_law 2454 = .ok (.iload 6, 2) := dk_21 6 (dk_at dksL_law_95 12 rfl rfl)
theorem dL_law_2456 : decode cL_law 2456 = .ok (.if_icmp .eq 5, 3) := dk_159 0 5 (dk_at dksL_law_95 14 rfl rfl)
theorem dL_law_2459 : decode cL_law 2459 = .ok (.iconst 0, 1) := dk_3 (dk_at dksL_law_95 17 rfl rfl)
theorem dL_law_2460 : decode cL_law 2460 = .ok (.ireturn, 1) := dk_172 (dk_at dksL_law_95 18 rfl rfl)
theorem dL_law_2461 : decode cL_law 2461 = .ok (.iload 6, 2) := dk_21 6 (dk_at dksL_law_95 19 rfl rfl)
theorem dL_law_2463 : decode cL_law 2463 = .ok (.ifCond .ne 35, 3) := dk_154 0 35 (dk_at dksL_law_95 21 rfl rfl)
theorem dL_law_2466 : decode cL_law 2466 = .ok (.aload 4, 2) := dk_25 4 (dk_at dksL_law_96 0 rfl rfl)
theorem dL_law_2468 : decode cL_law 2468 = .ok (.iconst 0, 1) := dk_3 (dk_at dksL_law_96 2 rfl rfl)
theorem dL_law_2469 : decode cL_law 2469 = .ok (.daload, 1) := dk_49 (dk_at dksL_law_96 3 rfl rfl)
theorem dL_law_2470 : decode cL_law 2470 = .ok (.dload 7, 2) := dk_24 7 (dk_at dksL_law_96 4 rfl rfl)
theorem dL_law_2472 : decode cL_law 2472 = .ok (.dcmp .l, 1) := dk_151 (dk_at dksL_law_96 6 rfl rfl)
theorem dL_law_2473 : decode cL_law 2473 = .ok (.ifCond .eq 25, 3) := dk_153 0 25 (dk_at dksL_law_96 7 rfl rfl)
theorem dL_law_2476 : decode cL_law 2476 = .ok (.aload 4, 2) := dk_25 4 (dk_at dksL_law_96 10 rfl rfl)
theorem dL_law_2478 : decode cL_law 2478 = .ok (.iconst 0, 1) := dk_3 (dk_at dksL_law_96 12 rfl rfl)
theorem dL_law_2479 : decode cL_law 2479 = .ok (.daload, 1) := dk_49 (dk_at dksL_law_96 13 rfl rfl)
theorem dL_law_2480 : decode cL_law 2480 = .ok (.aload 4, 2) := dk_25 4 (dk_at dksL_law_96 14 rfl rfl)
theorem dL_law_2482 : decode cL_law 2482 = .ok (.iconst 0, 1) := dk_3 (dk_at dksL_law_96 16 rfl rfl)
theorem dL_law_2483 : decode cL_law 2483 = .ok (.daload, 1) := dk_49 (dk_at dksL_law_96 17 rfl rfl)
theorem dL_law_2484 : decode cL_law 2484 = .ok (.dcmp .l, 1) := dk_151 (dk_at dksL_law_96 18 rfl rfl)
theorem dL_law_2485 : decode cL_law 2485 = .ok (.ifCond .eq 11, 3) := dk_153 0 11 (dk_at dksL_law_96 19 rfl rfl)
theorem dL_law_2488 : decode cL_law 2488 = .ok (.dload 7, 2) := dk_24 7 (dk_at dksL_law_96 22 rfl rfl)
theorem dL_law_2490 : decode cL_law 2490 = .ok (.dload 7, 2) := dk_24 7 (dk_at dksL_law_97 0 rfl rfl)
theorem dL_law_2492 : decode cL_law 2492 = .ok (.dcmp .l, 1) := dk_151 (dk_at dksL_law_97 2 rfl rfl)
theorem dL_law_2493 : decode cL_law 2493 = .ok (.ifCond .ne 5, 3) := dk_154 0 5 (dk_at dksL_law_97 3 rfl rfl)
theorem dL_law_2496 : decode cL_law 2496 = .ok (.iconst 0, 1) := dk_3 (dk_at dksL_law_97 6 rfl rfl)
theorem dL_law_2497 : decode cL_law 2497 = .ok (.ireturn, 1) := dk_172 (dk_at dksL_law_97 7 rfl rfl)
theorem dL_law_2498 : decode cL_law 2498 = .ok (.goto 532, 3) := dk_167 2 20 (dk_at dksL_law_97 8 rfl rfl)
theorem dL_law_2501 : decode cL_law 2501 = .ok (.aload_n 1, 1) := dk_43 (dk_at dksL_law_97 11 rfl rfl)
theorem dL_law_2502 : decode cL_law 2502 = .ok (.aload_n 3, 1) := dk_45 (dk_at dksL_law_97 12 rfl rfl)
theorem dL_law_2503 : decode cL_law 2503 = .ok (.invokestatic 325, 3) := dk_184 1 69 (dk_at dksL_law_97 13 rfl rfl)
theorem dL_law_2506 : decode cL_law 2506 = .ok (.istore 6, 2) := dk_54 6 (dk_at dksL_law_97 16 rfl rfl)
theorem dL_law_2508 : decode cL_law 2508 = .ok (.aload_n 2, 1) := dk_44 (dk_at dksL_law_97 18 rfl rfl)
theorem dL_law_2509 : decode cL_law 2509 = .ok (.invokevirtual 327, 3) := dk_182 1 71 (dk_at dksL_law_97 19 rfl rfl)
theorem dL_law_2512 : decode cL_law 2512 = .ok (.lstore 7, 2) := dk_55 7 (dk_at dksL_law_97 22 rfl rfl)
theorem dL_law_2514 : decode cL_law 2514 = .ok (.aload_n 2, 1) := dk_44 (dk_at dksL_law_98 0 rfl rfl)
theorem dL_law_2515 : decode cL_law 2515 = .ok (.invokevirtual 172, 3) := dk_182 0 172 (dk_at dksL_law_98 1 rfl rfl)
theorem dL_law_2518 : decode cL_law 2518 = .ok (.iload 6, 2) := dk_21 6 (dk_at dksL_law_98 4 rfl rfl)
theorem dL_law_2520 : decode cL_law 2520 = .ok (.if_icmp .eq 5, 3) := dk_159 0 5 (dk_at dksL_law_98 6 rfl rfl)
theorem dL_law_2523 : decode cL_law 2523 = .ok (.iconst 0, 1) := dk_3 (dk_at dksL_law_98 9 rfl rfl)
theorem dL_law_2524 : decode cL_law 2524 = .ok (.ireturn, 1) := dk_172 (dk_at dksL_law_98 10 rfl rfl)
theorem dL_law_2525 : decode cL_law 2525 = .ok (.iload 6, 2) := dk_21 6 (dk_at dksL_law_98 11 rfl rfl)
theorem dL_law_2527 : decode cL_law 2527 = .ok (.ifCond .ne 14, 3) := dk_154 0 14 (dk_at dksL_law_98 13 rfl rfl)
theorem dL_law_2530 : decode cL_law 2530 = .ok (.aload_n 3, 1) := dk_45 (dk_at dksL_law_98 16 rfl rfl)
theorem dL_law_2531 : decode cL_law 2531 = .ok (.iconst 0, 1) := dk_3 (dk_at dksL_law_98 17 rfl rfl)
theorem dL_law_2532 : decode cL_law 2532 = .ok (.laload, 1) := dk_47 (dk_at dksL_law_98 18 rfl rfl)
theorem dL_law_2533 : decode cL_law 2533 = .ok (.lload 7, 2) := dk_22 7 (dk_at dksL_law_98 19 rfl rfl)
theorem dL_law_2535 : decode cL_law 2535 = .ok (.lcmp, 1) := dk_148 (dk_at dksL_law_98 21 rfl rfl)
theorem dL_law_2536 : decode cL_law 2536 = .ok (.ifCond .eq 5, 3) := dk_153 0 5 (dk_at dksL_law_99 0 rfl rfl)
theorem dL_law_2539 : decode cL_law 2539 = .ok (.iconst 0, 1) := dk_3 (dk_at dksL_law_99 3 rfl rfl)
theorem dL_law_2540 : decode cL_law 2540 = .ok (.ireturn, 1) := dk_172 (dk_at dksL_law_99 4 rfl rfl)
theorem dL_law_2541 : decode cL_law 2541 = .ok (.goto 489, 3) := dk_167 1 233 (dk_at dksL_law_99 5 rfl rfl)
theorem dL_law_2544 : decode cL_law 2544 = .ok (.aload_n 1, 1) := dk_43 (dk_at dksL_law_99 8 rfl rfl)
theorem dL_law_2545 : decode cL_law 2545 = .ok (.invokevirtual 328, 3) := dk_182 1 72 (dk_at dksL_law_99 9 rfl rfl)
theorem dL_law_2548 : decode cL_law 2548 = .ok (.aload_n 2, 1) := dk_44 (dk_at dksL_law_99 12 rfl rfl)
theorem dL_law_2549 : decode cL_law 2549 = .ok (.invokevirtual 331, 3) := dk_182 1 75 (dk_at dksL_law_99 13 rfl rfl)
theorem dL_law_2552 : decode cL_law 2552 = .ok (.lcmp, 1) := dk_148 (dk_at dksL_law_99 16 rfl rfl)
theorem dL_law_2553 : decode cL_law 2553 = .ok (.ifCond .eq 477, 3) := dk_153 1 221 (dk_at dksL_law_99 17 rfl rfl)
theorem dL_law_2556 : decode cL_law 2556 = .ok (.iconst 0, 1) := dk_3 (dk_at dksL_law_99 20 rfl rfl)
theorem dL_law_2557 : decode cL_law 2557 = .ok (.ireturn, 1) := dk_172 (dk_at dksL_law_99 21 rfl rfl)
theorem dL_law_2558 : decode cL_law 2558 = .ok (.aload_n 1, 1) := dk_43 (dk_at dksL_law_99 22 rfl rfl)
theorem dL_law_2559 : decode cL_law 2559 = .ok (.invokevirtual 332, 3) := dk_182 1 76 (dk_at dksL_law_100 0 rfl rfl)
theorem dL_law_2562 : decode cL_law 2562 = .ok (.aload_n 2, 1) := dk_44 (dk_at dksL_law_100 3 rfl rfl)
theorem dL_law_2563 : decode cL_law 2563 = .ok (.invokevirtual 336, 3) := dk_182 1 80 (dk_at dksL_law_100 4 rfl rfl)
theorem dL_law_2566 : decode cL_law 2566 = .ok (.if_icmp .eq 464, 3) := dk_159 1 208 (dk_at dksL_law_100 7 rfl rfl)
theorem dL_law_2569 : decode cL_law 2569 = .ok (.iconst 0, 1) := dk_3 (dk_at dksL_law_100 10 rfl rfl)
theorem dL_law_2570 : decode cL_law 2570 = .ok (.ireturn, 1) := dk_172 (dk_at dksL_law_100 11 rfl rfl)
theorem dL_law_2571 : decode cL_law 2571 = .ok (.aload_n 1, 1) := dk_43 (dk_at dksL_law_100 12 rfl rfl)
theorem dL_law_2572 : decode cL_law 2572 = .ok (.aload_n 0, 1) := dk_42 (dk_at dksL_law_100 13 rfl rfl)
theorem dL_law_2573 : decode cL_law 2573 = .ok (.iload 5, 2) := dk_21 5 (dk_at dksL_law_100 14 rfl rfl)
theorem dL_law_2575 : decode cL_law 2575 = .ok (.iconst 1, 1) := dk_4 (dk_at dksL_law_100 16 rfl rfl)
theorem dL_law_2576 : decode cL_law 2576 = .ok (.iadd, 1) := dk_96 (dk_at dksL_law_100 17 rfl rfl)
theorem dL_law_2577 : decode cL_law 2577 = .ok (.iaload, 1) := dk_46 (dk_at dksL_law_100 18 rfl rfl)
theorem dL_law_2578 : decode cL_law 2578 = .ok (.aload_n 3, 1) := dk_45 (dk_at dksL_law_100 19 rfl rfl)
theorem dL_law_2579 : decode cL_law 2579 = .ok (.invokestatic 337, 3) := dk_184 1 81 (dk_at dksL_law_100 20 rfl rfl)
theorem dL_law_2582 : decode cL_law 2582 = .ok (.istore 6, 2) := dk_54 6 (dk_at dksL_law_101 0 rfl rfl)
theorem dL_law_2584 : decode cL_law 2584 = .ok (.aload_n 2, 1) := dk_44 (dk_at dksL_law_101 2 rfl rfl)
theorem dL_law_2585 : decode cL_law 2585 = .ok (.aload_n 0, 1) := dk_42 (dk_at dksL_law_101 3 rfl rfl)
theorem dL_law_2586 : decode cL_law 2586 = .ok (.iload 5, 2) := dk_21 5 (dk_at dksL_law_101 4 rfl rfl)
theorem dL_law_2588 : decode cL_law 2588 = .ok (.iconst 1, 1) := dk_4 (dk_at dksL_law_101 6 rfl rfl)
theorem dL_law_2589 : decode cL_law 2589 = .ok (.iadd, 1) := dk_96 (dk_at dksL_law_101 7 rfl rfl)
theorem dL_law_2590 : decode cL_law 2590 = .ok (.iaload, 1) := dk_46 (dk_at dksL_law_101 8 rfl rfl)
theorem dL_law_2591 : decode cL_law 2591 = .ok (.invokevirtual 339, 3) := dk_182 1 83 (dk_at dksL_law_101 9 rfl rfl)
theorem dL_law_2594 : decode cL_law 2594 = .ok (.istore 7, 2) := dk_54 7 (dk_at dksL_law_101 12 rfl rfl)
theorem dL_law_2596 : decode cL_law 2596 = .ok (.aload_n 2, 1) := dk_44 (dk_at dksL_law_101 14 rfl rfl)
theorem dL_law_2597 : decode cL_law 2597 = .ok (.invokevirtual 172, 3) := dk_182 0 172 (dk_at dksL_law_101 15 rfl rfl)
theorem dL_law_2600 : decode cL_law 2600 = .ok (.iload 6, 2) := dk_21 6 (dk_at dksL_law_101 18 rfl rfl)
theorem dL_law_2602 : decode cL_law 2602 = .ok (.if_icmp .eq 5, 3) := dk_159 0 5 (dk_at dksL_law_101 20 rfl rfl)
theorem dL_law_2605 : decode cL_law 2605 = .ok (.iconst 0, 1) := dk_3 (dk_at dksL_law_101 23 rfl rfl)
theorem dL_law_2606 : decode cL_law 2606 = .ok (.ireturn, 1) := dk_172 (dk_at dksL_law_102 0 rfl rfl)
theorem dL_law_2607 : decode cL_law 2607 = .ok (.iload 6, 2) := dk_21 6 (dk_at dksL_law_102 1 rfl rfl)
theorem dL_law_2609 : decode cL_law 2609 = .ok (.ifCond .ne 15, 3) := dk_154 0 15 (dk_at dksL_law_102 3 rfl rfl)
theorem dL_law_2612 : decode cL_law 2612 = .ok (.aload_n 3, 1) := dk_45 (dk_at dksL_law_102 6 rfl rfl)
theorem dL_law_2613 : decode cL_law 2613 = .ok (.iconst 0, 1) := dk_3 (dk_at dksL_law_102 7 rfl rfl)
theorem dL_law_2614 : decode cL_law 2614 = .ok (.laload, 1) := dk_47 (dk_at dksL_law_102 8 rfl rfl)
theorem dL_law_2615 : decode cL_law 2615 = .ok (.iload 7, 2) := dk_21 7 (dk_at dksL_law_102 9 rfl rfl)
theorem dL_law_2617 : decode cL_law 2617 = .ok (.i2l, 1) := dk_133 (dk_at dksL_law_102 11 rfl rfl)
theorem dL_law_2618 : decode cL_law 2618 = .ok (.lcmp, 1) := dk_148 (dk_at dksL_law_102 12 rfl rfl)
theorem dL_law_2619 : decode cL_law 2619 = .ok (.ifCond .eq 5, 3) := dk_153 0 5 (dk_at dksL_law_102 13 rfl rfl)
theorem dL_law_2622 : decode cL_law 2622 = .ok (.iconst 0, 1) := dk_3 (dk_at dksL_law_102 16 rfl rfl)
theorem dL_law_2623 : decode cL_law 2623 = .ok (.ireturn, 1) := dk_172 (dk_at dksL_law_102 17 rfl rfl)
theorem dL_law_2624 : decode cL_law 2624 = .ok (.goto 406, 3) := dk_167 1 150 (dk_at dksL_law_102 18 rfl rfl)
theorem dL_law_2627 : decode cL_law 2627 = .ok (.aload_n 1, 1) := dk_43 (dk_at dksL_law_102 21 rfl rfl)
theorem dL_law_2628 : decode cL_law 2628 = .ok (.aload_n 0, 1) := dk_42 (dk_at dksL_law_102 22 rfl rfl)
theorem dL_law_2629 : decode cL_law 2629 = .ok (.iload 5, 2) := dk_21 5 (dk_at dksL_law_103 0 rfl rfl)
theorem dL_law_2631 : decode cL_law 2631 = .ok (.iconst 1, 1) := dk_4 (dk_at dksL_law_103 2 rfl rfl)
theorem dL_law_2632 : decode cL_law 2632 = .ok (.iadd, 1) := dk_96 (dk_at dksL_law_103 3 rfl rfl)
theorem dL_law_2633 : decode cL_law 2633 = .ok (.iaload, 1) := dk_46 (dk_at dksL_law_103 4 rfl rfl)
theorem dL_law_2634 : decode cL_law 2634 = .ok (.aload_n 3, 1) := dk_45 (dk_at dksL_law_103 5 rfl rfl)
theorem dL_law_2635 : decode cL_law 2635 = .ok (.invokestatic 340, 3) := dk_184 1 84 (dk_at dksL_law_103 6 rfl rfl)
theorem dL_law_2638 : decode cL_law 2638 = .ok (.istore 6, 2) := dk_54 6 (dk_at dksL_law_103 9 rfl rfl)
theorem dL_law_2640 : decode cL_law 2640 = .ok (.aload_n 2, 1) := dk_44 (dk_at dksL_law_103 11 rfl rfl)
theorem dL_law_2641 : decode cL_law 2641 = .ok (.aload_n 0, 1) := dk_42 (dk_at dksL_law_103 12 rfl rfl)
theorem dL_law_2642 : decode cL_law 2642 = .ok (.iload 5, 2) := dk_21 5 (dk_at dksL_law_103 13 rfl rfl)
theorem dL_law_2644 : decode cL_law 2644 = .ok (.iconst 1, 1) := dk_4 (dk_at dksL_law_103 15 rfl rfl)
theorem dL_law_2645 : decode cL_law 2645 = .ok (.iadd, 1) := dk_96 (dk_at dksL_law_103 16 rfl rfl)
theorem dL_law_2646 : decode cL_law 2646 = .ok (.iaload, 1) := dk_46 (dk_at dksL_law_103 17 rfl rfl)
theorem dL_law_2647 : decode cL_law 2647 = .ok (.invokevirtual 342, 3) := dk_182 1 86 (dk_at dksL_law_103 18 rfl rfl)
theorem dL_law_2650 : decode cL_law 2650 = .ok (.istore 7, 2) := dk_54 7 (dk_at dksL_law_103 21 rfl rfl)
theorem dL_law_2652 : decode cL_law 2652 = .ok (.aload_n 2, 1) := dk_44 (dk_at dksL_law_103 23 rfl rfl)
theorem dL_law_2653 : decode cL_law 2653 = .ok (.invokevirtual 172, 3) := dk_182 0 172 (dk_at dksL_law_104 0 rfl rfl)
theorem dL_law_2656 : decode cL_law 2656 = .ok (.iload 6, 2) := dk_21 6 (dk_at dksL_law_104 3 rfl rfl)
theorem dL_law_2658 : decode cL_law 2658 = .ok (.if_icmp .eq 5, 3) := dk_159 0 5 (dk_at dksL_law_104 5 rfl rfl)
theorem dL_law_2661 : decode cL_law 2661 = .ok (.iconst 0, 1) := dk_3 (dk_at dksL_law_104 8 rfl rfl)
theorem dL_law_2662 : decode cL_law 2662 = .ok (.ireturn, 1) := dk_172 (dk_at dksL_law_104 9 rfl rfl)
theorem dL_law_2663 : decode cL_law 2663 = .ok (.iload 6, 2) := dk_21 6 (dk_at dksL_law_104 10 rfl rfl)
theorem dL_law_2665 : decode cL_law 2665 = .ok (.ifCond .ne 15, 3) := dk_154 0 15 (dk_at dksL_law_104 12 rfl rfl)
theorem dL_law_2668 : decode cL_law 2668 = .ok (.aload_n 3, 1) := dk_45 (dk_at dksL_law_104 15 rfl rfl)
theorem dL_law_2669 : decode cL_law 2669 = .ok (.iconst 0, 1) := dk_3 (dk_at dksL_law_104 16 rfl rfl)
theorem dL_law_2670 : decode cL_law 2670 = .ok (.laload, 1) := dk_47 (dk_at dksL_law_104 17 rfl rfl)
theorem dL_law_2671 : decode cL_law 2671 = .ok (.iload 7, 2) := dk_21 7 (dk_at dksL_law_104 18 rfl rfl)
theorem dL_law_2673 : decode cL_law 2673 = .ok (.i2l, 1) := dk_133 (dk_at dksL_law_104 20 rfl rfl)
theorem dL_law_2674 : decode cL_law 2674 = .ok (.lcmp, 1) := dk_148 (dk_at dksL_law_104 21 rfl rfl)
theorem dL_law_2675 : decode cL_law 2675 = .ok (.ifCond .eq 5, 3) := dk_153 0 5 (dk_at dksL_law_105 0 rfl rfl)
theorem dL_law_2678 : decode cL_law 2678 = .ok (.iconst 0, 1) := dk_3 (dk_at dksL_law_105 3 rfl rfl)
theorem dL_law_2679 : decode cL_law 2679 = .ok (.ireturn, 1) := dk_172 (dk_at dksL_law_105 4 rfl rfl)
theorem dL_law_2680 : decode cL_law 2680 = .ok (.goto 350, 3) := dk_167 1 94 (dk_at dksL_law_105 5 rfl rfl)
theorem dL_law_2683 : decode cL_law 2683 = .ok (.aload_n 1, 1) := dk_43 (dk_at dksL_law_105 8 rfl rfl)
theorem dL_law_2684 : decode cL_law 2684 = .ok (.aload_n 0, 1) := dk_42 (dk_at dksL_law_105 9 rfl rfl)
theorem dL_law_2685 : decode cL_law 2685 = .ok (.iload 5, 2) := dk_21 5 (dk_at dksL_law_105 10 rfl rfl)
theorem dL_law_2687 : decode cL_law 2687 = .ok (.iconst 1, 1) := dk_4 (dk_at dksL_law_105 12 rfl rfl)
theorem dL_law_2688 : decode cL_law 2688 = .ok (.iadd, 1) := dk_96 (dk_at dksL_law_105 13 rfl rfl)
theorem dL_law_2689 : decode cL_law 2689 = .ok (.iaload, 1) := dk_46 (dk_at dksL_law_105 14 rfl rfl)
theorem dL_law_2690 : decode cL_law 2690 = .ok (.aload_n 3, 1) := dk_45 (dk_at dksL_law_105 15 rfl rfl)
theorem dL_law_2691 : decode cL_law 2691 = .ok (.invokestatic 343, 3) := dk_184 1 87 (dk_at dksL_law_105 16 rfl rfl)
theorem dL_law_2694 : decode cL_law 2694 = .ok (.istore 6, 2) := dk_54 6 (dk_at dksL_law_105 19 rfl rfl)
theorem dL_law_2696 : decode cL_law 2696 = .ok (.aload_n 2, 1) := dk_44 (dk_at dksL_law_105 21 rfl rfl)
theorem dL_law_2697 : decode cL_law 2697 = .ok (.aload_n 0, 1) := dk_42 (dk_at dksL_law_105 22 rfl rfl)
theorem dL_law_2698 : decode cL_law 2698 = .ok (.iload 5, 2) := dk_21 5 (dk_at dksL_law_106 0 rfl rfl)
theorem dL_law_2700 : decode cL_law 2700 = .ok (.iconst 1, 1) := dk_4 (dk_at dksL_law_106 2 rfl rfl)
theorem dL_law_2701 : decode cL_law 2701 = .ok (.iadd, 1) := dk_96 (dk_at dksL_law_106 3 rfl rfl)
theorem dL_law_2702 : decode cL_law 2702 = .ok (.iaload, 1) := dk_46 (dk_at dksL_law_106 4 rfl rfl)
theorem dL_law_2703 : decode cL_law 2703 = .ok (.invokevirtual 345, 3) := dk_182 1 89 (dk_at dksL_law_106 5 rfl rfl)
theorem dL_law_2706 : decode cL_law 2706 = .ok (.istore 7, 2) := dk_54 7 (dk_at dksL_law_106 8 rfl rfl)
theorem dL_law_2708 : decode cL_law 2708 = .ok (.aload_n 2, 1) := dk_44 (dk_at dksL_law_106 10 rfl rfl)
theorem dL_law_2709 : decode cL_law 2709 = .ok (.invokevirtual 172, 3) := dk_182 0 172 (dk_at dksL_law_106 11 rfl rfl)
theorem dL_law_2712 : decode cL_law 2712 = .ok (.iload 6, 2) := dk_21 6 (dk_at dksL_law_106 14 rfl rfl)
theorem dL_law_2714 : decode cL_law 2714 = .ok (.if_icmp .eq 5, 3) := dk_159 0 5 (dk_at dksL_law_106 16 rfl rfl)
theorem dL_law_2717 : decode cL_law 2717 = .ok (.iconst 0, 1) := dk_3 (dk_at dksL_law_106 19 rfl rfl)
theorem dL_law_2718 : decode cL_law 2718 = .ok (.ireturn, 1) := dk_172 (dk_at dksL_law_106 20 rfl rfl)
theorem dL_law_2719 : decode cL_law 2719 = .ok (.iload 6, 2) := dk_21 6 (dk_at dksL_law_106 21 rfl rfl)
theorem dL_law_2721 : decode cL_law 2721 = .ok (.ifCond .ne 15, 3) := dk_154 0 15 (dk_at dksL_law_107 0 rfl rfl)
theorem dL_law_2724 : decode cL_law 2724 = .ok (.aload_n 3, 1) := dk_45 (dk_at dksL_law_107 3 rfl rfl)
theorem dL_law_2725 : decode cL_law 2725 = .ok (.iconst 0, 1) := dk_3 (dk_at dksL_law_107 4 rfl rfl)
theorem dL_law_2726 : decode cL_law 2726 = .ok (.laload, 1) := dk_47 (dk_at dksL_law_107 5 rfl rfl)
theorem dL_law_2727 : decode cL_law 2727 = .ok (.iload 7, 2) := dk_21 7 (dk_at dksL_law_107 6 rfl rfl)
theorem dL_law_2729 : decode cL_law 2729 = .ok (.i2l, 1) := dk_133 (dk_at dksL_law_107 8 rfl rfl)
theorem dL_law_2730 : decode cL_law 2730 = .ok (.lcmp, 1) := dk_148 (dk_at dksL_law_107 9 rfl rfl)
theorem dL_law_2731 : decode cL_law 2731 = .ok (.ifCond .eq 5, 3) := dk_153 0 5 (dk_at dksL_law_107 10 rfl rfl)
theorem dL_law_2734 : decode cL_law 2734 = .ok (.iconst 0, 1) := dk_3 (dk_at dksL_law_107 13 rfl rfl)
theorem dL_law_2735 : decode cL_law 2735 = .ok (.ireturn, 1) := dk_172 (dk_at dksL_law_107 14 rfl rfl)
theorem dL_law_2736 : decode cL_law 2736 = .ok (.goto 294, 3) := dk_167 1 38 (dk_at dksL_law_107 15 rfl rfl)
theorem dL_law_2739 : decode cL_law 2739 = .ok (.aload_n 1, 1) := dk_43 (dk_at dksL_law_107 18 rfl rfl)
theorem dL_law_2740 : decode cL_law 2740 = .ok (.aload_n 0, 1) := dk_42 (dk_at dksL_law_107 19 rfl rfl)
theorem dL_law_2741 : decode cL_law 2741 = .ok (.iload 5, 2) := dk_21 5 (dk_at dksL_law_107 20 rfl rfl)
theorem dL_law_2743 : decode cL_law 2743 = .ok (.iconst 1, 1) := dk_4 (dk_at dksL_law_107 22 rfl rfl)
theorem dL_law_2744 : decode cL_law 2744 = .ok (.iadd, 1) := dk_96 (dk_at dksL_law_107 23 rfl rfl)
theorem dL_law_2745 : decode cL_law 2745 = .ok (.iaload, 1) := dk_46 (dk_at dksL_law_108 0 rfl rfl)
theorem dL_law_2746 : decode cL_law 2746 = .ok (.i2c, 1) := dk_146 (dk_at dksL_law_108 1 rfl rfl)
theorem dL_law_2747 : decode cL_law 2747 = .ok (.aload_n 3, 1) := dk_45 (dk_at dksL_law_108 2 rfl rfl)
theorem dL_law_2748 : decode cL_law 2748 = .ok (.invokestatic 346, 3) := dk_184 1 90 (dk_at dksL_law_108 3 rfl rfl)
theorem dL_law_2751 : decode cL_law 2751 = .ok (.istore 6, 2) := dk_54 6 (dk_at dksL_law_108 6 rfl rfl)
theorem dL_law_2753 : decode cL_law 2753 = .ok (.aload_n 2, 1) := dk_44 (dk_at dksL_law_108 8 rfl rfl)
theorem dL_law_2754 : decode cL_law 2754 = .ok (.aload_n 0, 1) := dk_42 (dk_at dksL_law_108 9 rfl rfl)
theorem dL_law_2755 : decode cL_law 2755 = .ok (.iload 5, 2) := dk_21 5 (dk_at dksL_law_108 10 rfl rfl)
theorem dL_law_2757 : decode cL_law 2757 = .ok (.iconst 1, 1) := dk_4 (dk_at dksL_law_108 12 rfl rfl)
theorem dL_law_2758 : decode cL_law 2758 = .ok (.iadd, 1) := dk_96 (dk_at dksL_law_108 13 rfl rfl)
theorem dL_law_2759 : decode cL_law 2759 = .ok (.iaload, 1) := dk_46 (dk_at dksL_law_108 14 rfl rfl)
theorem dL_law_2760 : decode cL_law 2760 = .ok (.i2c, 1) := dk_146 (dk_at dksL_law_108 15 rfl rfl)
theorem dL_law_2761 : decode cL_law 2761 = .ok (.invokevirtual 349, 3) := dk_182 1 93 (dk_at dksL_law_108 16 rfl rfl)
theorem dL_law_2764 : decode cL_law 2764 = .ok (.istore 7, 2) := dk_54 7 (dk_at dksL_law_108 19 rfl rfl)
theorem dL_law_2766 : decode cL_law 2766 = .ok (.aload_n 2, 1) := dk_44 (dk_at dksL_law_108 21 rfl rfl)
theorem dL_law_2767 : decode cL_law 2767 = .ok (.invokevirtual 172, 3) := dk_182 0 172 (dk_at dksL_law_109 0 rfl rfl)
theorem dL_law_2770 : decode cL_law 2770 = .ok (.iload 6, 2) := dk_21 6 (dk_at dksL_law_109 3 rfl rfl)
theorem dL_law_2772 : decode cL_law 2772 = .ok (.if_icmp .eq 5, 3) := dk_159 0 5 (dk_at dksL_law_109 5 rfl rfl)
theorem dL_law_2775 : decode cL_law 2775 = .ok (.iconst 0, 1) := dk_3 (dk_at dksL_law_109 8 rfl rfl)
theorem dL_law_2776 : decode cL_law 2776 = .ok (.ireturn, 1) := dk_172 (dk_at dksL_law_109 9 rfl rfl)
theorem dL_law_2777 : decode cL_law 2777 = .ok (.iload 6, 2) := dk_21 6 (dk_at dksL_law_109 10 rfl rfl)
theorem dL_law_2779 : decode cL_law 2779 = .ok (.ifCond .ne 15, 3) := dk_154 0 15 (dk_at dksL_law_109 12 rfl rfl)
theorem dL_law_2782 : decode cL_law 2782 = .ok (.aload_n 3, 1) := dk_45 (dk_at dksL_law_109 15 rfl rfl)
theorem dL_law_2783 : decode cL_law 2783 = .ok (.iconst 0, 1) := dk_3 (dk_at dksL_law_109 16 rfl rfl)
theorem dL_law_2784 : decode cL_law 2784 = .ok (.laload, 1) := dk_47 (dk_at dksL_law_109 17 rfl rfl)
theorem dL_law_2785 : decode cL_law 2785 = .ok (.iload 7, 2) := dk_21 7 (dk_at dksL_law_109 18 rfl rfl)
theorem dL_law_2787 : decode cL_law 2787 = .ok (.i2l, 1) := dk_133 (dk_at dksL_law_109 20 rfl rfl)
theorem dL_law_2788 : decode cL_law 2788 = .ok (.lcmp, 1) := dk_148 (dk_at dksL_law_109 21 rfl rfl)
theorem dL_law_2789 : decode cL_law 2789 = .ok (.ifCond .eq 5, 3) := dk_153 0 5 (dk_at dksL_law_110 0 rfl rfl)
theorem dL_law_2792 : decode cL_law 2792 = .ok (.iconst 0, 1) := dk_3 (dk_at dksL_law_110 3 rfl rfl)
theorem dL_law_2793 : decode cL_law 2793 = .ok (.ireturn, 1) := dk_172 (dk_at dksL_law_110 4 rfl rfl)
theorem dL_law_2794 : decode cL_law 2794 = .ok (.goto 236, 3) := dk_167 0 236 (dk_at dksL_law_110 5 rfl rfl)
theorem dL_law_2797 : decode cL_law 2797 = .ok (.aload_n 1, 1) := dk_43 (dk_at dksL_law_110 8 rfl rfl)
theorem dL_law_2798 : decode cL_law 2798 = .ok (.aload_n 3, 1) := dk_45 (dk_at dksL_law_110 9 rfl rfl)
theorem dL_law_2799 : decode cL_law 2799 = .ok (.invokestatic 350, 3) := dk_184 1 94 (dk_at dksL_law_110 10 rfl rfl)
theorem dL_law_2802 : decode cL_law 2802 = .ok (.istore 6, 2) := dk_54 6 (dk_at dksL_law_110 13 rfl rfl)
theorem dL_law_2804 : decode cL_law 2804 = .ok (.aload_n 2, 1) := dk_44 (dk_at dksL_law_110 15 rfl rfl)
theorem dL_law_2805 : decode cL_law 2805 = .ok (.invokevirtual 352, 3) := dk_182 1 96 (dk_at dksL_law_110 16 rfl rfl)
theorem dL_law_2808 : decode cL_law 2808 = .ok (.istore 7, 2) := dk_54 7 (dk_at dksL_law_110 19 rfl rfl)
theorem dL_law_2810 : decode cL_law 2810 = .ok (.aload_n 2, 1) := dk_44 (dk_at dksL_law_110 21 rfl rfl)
theorem dL_law_2811 : decode cL_law 2811 = .ok (.invokevirtual 172, 3) := dk_182 0 172 (dk_at dksL_law_111 0 rfl rfl)
theorem dL_law_2814 : decode cL_law 2814 = .ok (.iload 6, 2) := dk_21 6 (dk_at dksL_law_111 3 rfl rfl)
theorem dL_law_2816 : decode cL_law 2816 = .ok (.if_icmp .eq 5, 3) := dk_159 0 5 (dk_at dksL_law_111 5 rfl rfl)
theorem dL_law_2819 : decode cL_law 2819 = .ok (.iconst 0, 1) := dk_3 (dk_at dksL_law_111 8 rfl rfl)
theorem dL_law_2820 : decode cL_law 2820 = .ok (.ireturn, 1) := dk_172 (dk_at dksL_law_111 9 rfl rfl)
theorem dL_law_2821 : decode cL_law 2821 = .ok (.iload 6, 2) := dk_21 6 (dk_at dksL_law_111 10 rfl rfl)
theorem dL_law_2823 : decode cL_law 2823 = .ok (.ifCond .ne 15, 3) := dk_154 0 15 (dk_at dksL_law_111 12 rfl rfl)
theorem dL_law_2826 : decode cL_law 2826 = .ok (.aload_n 3, 1) := dk_45 (dk_at dksL_law_111 15 rfl rfl)
theorem dL_law_2827 : decode cL_law 2827 = .ok (.iconst 0, 1) := dk_3 (dk_at dksL_law_111 16 rfl rfl)
theorem dL_law_2828 : decode cL_law 2828 = .ok (.laload, 1) := dk_47 (dk_at dksL_law_111 17 rfl rfl)
theorem dL_law_2829 : decode cL_law 2829 = .ok (.iload 7, 2) := dk_21 7 (dk_at dksL_law_111 18 rfl rfl)
theorem dL_law_2831 : decode cL_law 2831 = .ok (.i2l, 1) := dk_133 (dk_at dksL_law_111 20 rfl rfl)
theorem dL_law_2832 : decode cL_law 2832 = .ok (.lcmp, 1) := dk_148 (dk_at dksL_law_111 21 rfl rfl)
theorem dL_law_2833 : decode cL_law 2833 = .ok (.ifCond .eq 5, 3) := dk_153 0 5 (dk_at dksL_law_112 0 rfl rfl)
theorem dL_law_2836 : decode cL_law 2836 = .ok (.iconst 0, 1) := dk_3 (dk_at dksL_law_112 3 rfl rfl)
theorem dL_law_2837 : decode cL_law 2837 = .ok (.ireturn, 1) := dk_172 (dk_at dksL_law_112 4 rfl rfl)
theorem dL_law_2838 : decode cL_law 2838 = .ok (.goto 192, 3) := dk_167 0 192 (dk_at dksL_law_112 5 rfl rfl)
theorem dL_law_2841 : decode cL_law 2841 = .ok (.aload_n 1, 1) := dk_43 (dk_at dksL_law_112 8 rfl rfl)
theorem dL_law_2842 : decode cL_law 2842 = .ok (.aload_n 3, 1) := dk_45 (dk_at dksL_law_112 9 rfl rfl)
theorem dL_law_2843 : decode cL_law 2843 = .ok (.invokestatic 353, 3) := dk_184 1 97 (dk_at dksL_law_112 10 rfl rfl)
theorem dL_law_2846 : decode cL_law 2846 = .ok (.istore 6, 2) := dk_54 6 (dk_at dksL_law_112 13 rfl rfl)
theorem dL_law_2848 : decode cL_law 2848 = .ok (.aload_n 2, 1) := dk_44 (dk_at dksL_law_112 15 rfl rfl)
theorem dL_law_2849 : decode cL_law 2849 = .ok (.invokevirtual 355, 3) := dk_182 1 99 (dk_at dksL_law_112 16 rfl rfl)
theorem dL_law_2852 : decode cL_law 2852 = .ok (.istore 7, 2) := dk_54 7 (dk_at dksL_law_112 19 rfl rfl)
theorem dL_law_2854 : decode cL_law 2854 = .ok (.aload_n 2, 1) := dk_44 (dk_at dksL_law_112 21 rfl rfl)
theorem dL_law_2855 : decode cL_law 2855 = .ok (.invokevirtual 172, 3) := dk_182 0 172 (dk_at dksL_law_113 0 rfl rfl)
theorem dL_law_2858 : decode cL_law 2858 = .ok (.iload 6, 2) := dk_21 6 (dk_at dksL_law_113 3 rfl rfl)
theorem dL_law_2860 : decode cL_law 2860 = .ok (.if_icmp .eq 5, 3) := dk_159 0 5 (dk_at dksL_law_113 5 rfl rfl)
theorem dL_law_2863 : decode cL_law 2863 = .ok (.iconst 0, 1) := dk_3 (dk_at dksL_law_113 8 rfl rfl)
theorem dL_law_2864 : decode cL_law 2864 = .ok (.ireturn, 1) := dk_172 (dk_at dksL_law_113 9 rfl rfl)
theorem dL_law_2865 : decode cL_law 2865 = .ok (.iload 6, 2) := dk_21 6 (dk_at dksL_law_113 10 rfl rfl)
theorem dL_law_2867 : decode cL_law 2867 = .ok (.ifCond .ne 15, 3) := dk_154 0 15 (dk_at dksL_law_113 12 rfl rfl)
theorem dL_law_2870 : decode cL_law 2870 = .ok (.aload_n 3, 1) := dk_45 (dk_at dksL_law_113 15 rfl rfl)
theorem dL_law_2871 : decode cL_law 2871 = .ok (.iconst 0, 1) := dk_3 (dk_at dksL_law_113 16 rfl rfl)
theorem dL_law_2872 : decode cL_law 2872 = .ok (.laload, 1) := dk_47 (dk_at dksL_law_113 17 rfl rfl)
theorem dL_law_2873 : decode cL_law 2873 = .ok (.iload 7, 2) := dk_21 7 (dk_at dksL_law_113 18 rfl rfl)
theorem dL_law_2875 : decode cL_law 2875 = .ok (.i2l, 1) := dk_133 (dk_at dksL_law_113 20 rfl rfl)
theorem dL_law_2876 : decode cL_law 2876 = .ok (.lcmp, 1) := dk_148 (dk_at dksL_law_113 21 rfl rfl)
theorem dL_law_2877 : decode cL_law 2877 = .ok (.ifCond .eq 5, 3) := dk_153 0 5 (dk_at dksL_law_114 0 rfl rfl)
theorem dL_law_2880 : decode cL_law 2880 = .ok (.iconst 0, 1) := dk_3 (dk_at dksL_law_114 3 rfl rfl)
theorem dL_law_2881 : decode cL_law 2881 = .ok (.ireturn, 1) := dk_172 (dk_at dksL_law_114 4 rfl rfl)
theorem dL_law_2882 : decode cL_law 2882 = .ok (.goto 148, 3) := dk_167 0 148 (dk_at dksL_law_114 5 rfl rfl)
theorem dL_law_2885 : decode cL_law 2885 = .ok (.aload_n 1, 1) := dk_43 (dk_at dksL_law_114 8 rfl rfl)
theorem dL_law_2886 : decode cL_law 2886 = .ok (.aload_n 3, 1) := dk_45 (dk_at dksL_law_114 9 rfl rfl)
theorem dL_law_2887 : decode cL_law 2887 = .ok (.invokestatic 356, 3) := dk_184 1 100 (dk_at dksL_law_114 10 rfl rfl)
theorem dL_law_2890 : decode cL_law 2890 = .ok (.istore 6, 2) := dk_54 6 (dk_at dksL_law_114 13 rfl rfl)
theorem dL_law_2892 : decode cL_law 2892 = .ok (.aload_n 2, 1) := dk_44 (dk_at dksL_law_114 15 rfl rfl)
theorem dL_law_2893 : decode cL_law 2893 = .ok (.invokevirtual 358, 3) := dk_182 1 102 (dk_at dksL_law_114 16 rfl rfl)
theorem dL_law_2896 : decode cL_law 2896 = .ok (.istore 7, 2) := dk_54 7 (dk_at dksL_law_114 19 rfl rfl)
theorem dL_law_2898 : decode cL_law 2898 = .ok (.aload_n 2, 1) := dk_44 (dk_at dksL_law_114 21 rfl rfl)
theorem dL_law_2899 : decode cL_law 2899 = .ok (.invokevirtual 172, 3) := dk_182 0 172 (dk_at dksL_law_115 0 rfl rfl)
theorem dL_law_2902 : decode cL_law 2902 = .ok (.iload 6, 2) := dk_21 6 (dk_at dksL_law_115 3 rfl rfl)
theorem dL_law_2904 : decode cL_law 2904 = .ok (.if_icmp .eq 5, 3) := dk_159 0 5 (dk_at dksL_law_115 5 rfl rfl)
theorem dL_law_2907 : decode cL_law 2907 = .ok (.iconst 0, 1) := dk_3 (dk_at dksL_law_115 8 rfl rfl)
theorem dL_law_2908 : decode cL_law 2908 = .ok (.ireturn, 1) := dk_172 (dk_at dksL_law_115 9 rfl rfl)
theorem dL_law_2909 : decode cL_law 2909 = .ok (.iload 6, 2) := dk_21 6 (dk_at dksL_law_115 10 rfl rfl)
theorem dL_law_2911 : decode cL_law 2911 = .ok (.ifCond .ne 15, 3) := dk_154 0 15 (dk_at dksL_law_115 12 rfl rfl)
theorem dL_law_2914 : decode cL_law 2914 = .ok (.aload_n 3, 1) := dk_45 (dk_at dksL_law_115 15 rfl rfl)
theorem dL_law_2915 : decode cL_law 2915 = .ok (.iconst 0, 1) := dk_3 (dk_at dksL_law_115 16 rfl rfl)
theorem dL_law_2916 : decode cL_law 2916 = .ok (.laload, 1) := dk_47 (dk_at dksL_law_115 17 rfl rfl)
theorem dL_law_2917 : decode cL_law 2917 = .ok (.iload 7, 2) := dk_21 7 (dk_at dksL_law_115 18 rfl rfl)
theorem dL_law_2919 : decode cL_law 2919 = .ok (.i2l, 1) := dk_133 (dk_at dksL_law_115 20 rfl rfl)
theorem dL_law_2920 : decode cL_law 2920 = .ok (.lcmp, 1) := dk_148 (dk_at dksL_law_115 21 rfl rfl)
theorem dL_law_2921 : decode cL_law 2921 = .ok (.ifCond .eq 5, 3) := dk_153 0 5 (dk_at dksL_law_116 0 rfl rfl)
theorem dL_law_2924 : decode cL_law 2924 = .ok (.iconst 0, 1) := dk_3 (dk_at dksL_law_116 3 rfl rfl)
theorem dL_law_2925 : decode cL_law 2925 = .ok (.ireturn, 1) := dk_172 (dk_at dksL_law_116 4 rfl rfl)
theorem dL_law_2926 : decode cL_law 2926 = .ok (.goto 104, 3) := dk_167 0 104 (dk_at dksL_law_116 5 rfl rfl)
theorem dL_law_2929 : decode cL_law 2929 = .ok (.aload_n 1, 1) := dk_43 (dk_at dksL_law_116 8 rfl rfl)
theorem dL_law_2930 : decode cL_law 2930 = .ok (.aload_n 3, 1) := dk_45 (dk_at dksL_law_116 9 rfl rfl)
theorem dL_law_2931 : decode cL_law 2931 = .ok (.invokestatic 359, 3) := dk_184 1 103 (dk_at dksL_law_116 10 rfl rfl)
theorem dL_law_2934 : decode cL_law 2934 = .ok (.istore 6, 2) := dk_54 6 (dk_at dksL_law_116 13 rfl rfl)
theorem dL_law_2936 : decode cL_law 2936 = .ok (.aload_n 2, 1) := dk_44 (dk_at dksL_law_116 15 rfl rfl)
theorem dL_law_2937 : decode cL_law 2937 = .ok (.invokevirtual 361, 3) := dk_182 1 105 (dk_at dksL_law_116 16 rfl rfl)
theorem dL_law_2940 : decode cL_law 2940 = .ok (.istore 7, 2) := dk_54 7 (dk_at dksL_law_116 19 rfl rfl)
theorem dL_law_2942 : decode cL_law 2942 = .ok (.aload_n 2, 1) := dk_44 (dk_at dksL_law_116 21 rfl rfl)
theorem dL_law_2943 : decode cL_law 2943 = .ok (.invokevirtual 172, 3) := dk_182 0 172 (dk_at dksL_law_117 0 rfl rfl)
theorem dL_law_2946 : decode cL_law 2946 = .ok (.iload 6, 2) := dk_21 6 (dk_at dksL_law_117 3 rfl rfl)
theorem dL_law_2948 : decode cL_law 2948 = .ok (.if_icmp .eq 5, 3) := dk_159 0 5 (dk_at dksL_law_117 5 rfl rfl)
theorem dL_law_2951 : decode cL_law 2951 = .ok (.iconst 0, 1) := dk_3 (dk_at dksL_law_117 8 rfl rfl)
theorem dL_law_2952 : decode cL_law 2952 = .ok (.ireturn, 1) := dk_172 (dk_at dksL_law_117 9 rfl rfl)
theorem dL_law_2953 : decode cL_law 2953 = .ok (.iload 6, 2) := dk_21 6 (dk_at dksL_law_117 10 rfl rfl)
theorem dL_law_2955 : decode cL_law 2955 = .ok (.ifCond .ne 15, 3) := dk_154 0 15 (dk_at dksL_law_117 12 rfl rfl)
theorem dL_law_2958 : decode cL_law 2958 = .ok (.aload_n 3, 1) := dk_45 (dk_at dksL_law_117 15 rfl rfl)
theorem dL_law_2959 : decode cL_law 2959 = .ok (.iconst 0, 1) := dk_3 (dk_at dksL_law_117 16 rfl rfl)
theorem dL_law_2960 : decode cL_law 2960 = .ok (.laload, 1) := dk_47 (dk_at dksL_law_117 17 rfl rfl)
theorem dL_law_2961 : decode cL_law 2961 = .ok (.iload 7, 2) := dk_21 7 (dk_at dksL_law_117 18 rfl rfl)
theorem dL_law_2963 : decode cL_law 2963 = .ok (.i2l, 1) := dk_133 (dk_at dksL_law_117 20 rfl rfl)
theorem dL_law_2964 : decode cL_law 2964 = .ok (.lcmp, 1) := dk_148 (dk_at dksL_law_117 21 rfl rfl)
theorem dL_law_2965 : decode cL_law 2965 = .ok (.ifCond .eq 5, 3) := dk_153 0 5 (dk_at dksL_law_118 0 rfl rfl)
theorem dL_law_2968 : decode cL_law 2968 = .ok (.iconst 0, 1) := dk_3 (dk_at dksL_law_118 3 rfl rfl)
theorem dL_law_2969 : decode cL_law 2969 = .ok (.ireturn, 1) := dk_172 (dk_at dksL_law_118 4 rfl rfl)
theorem dL_law_2970 : decode cL_law 2970 = .ok (.goto 60, 3) := dk_167 0 60 (dk_at dksL_law_118 5 rfl rfl)
theorem dL_law_2973 : decode cL_law 2973 = .ok (.aload_n 1, 1) := dk_43 (dk_at dksL_law_118 8 rfl rfl)
theorem dL_law_2974 : decode cL_law 2974 = .ok (.invokevirtual 362, 3) := dk_182 1 106 (dk_at dksL_law_118 9 rfl rfl)
theorem dL_law_2977 : decode cL_law 2977 = .ok (.aload_n 2, 1) := dk_44 (dk_at dksL_law_118 12 rfl rfl)
theorem dL_law_2978 : decode cL_law 2978 = .ok (.invokevirtual 365, 3) := dk_182 1 109 (dk_at dksL_law_118 13 rfl rfl)
theorem dL_law_2981 : decode cL_law 2981 = .ok (.if_icmp .eq 49, 3) := dk_159 0 49 (dk_at dksL_law_118 16 rfl rfl)
theorem dL_law_2984 : decode cL_law 2984 = .ok (.iconst 0, 1) := dk_3 (dk_at dksL_law_118 19 rfl rfl)
theorem dL_law_2985 : decode cL_law 2985 = .ok (.ireturn, 1) := dk_172 (dk_at dksL_law_118 20 rfl rfl)
theorem dL_law_2986 : decode cL_law 2986 = .ok (.aload_n 1, 1) := dk_43 (dk_at dksL_law_118 21 rfl rfl)
theorem dL_law_2987 : decode cL_law 2987 = .ok (.aload_n 3, 1) := dk_45 (dk_at dksL_law_118 22 rfl rfl)
theorem dL_law_2988 : decode cL_law 2988 = .ok (.invokestatic 366, 3) := dk_184 1 110 (dk_at dksL_law_119 0 rfl rfl)
theorem dL_law_2991 : decode cL_law 2991 = .ok (.istore 6, 2) := dk_54 6 (dk_at dksL_law_119 3 rfl rfl)
theorem dL_law_2993 : decode cL_law 2993 = .ok (.aload_n 2, 1) := dk_44 (dk_at dksL_law_119 5 rfl rfl)
theorem dL_law_2994 : decode cL_law 2994 = .ok (.invokevirtual 368, 3) := dk_182 1 112 (dk_at dksL_law_119 6 rfl rfl)
theorem dL_law_2997 : decode cL_law 2997 = .ok (.istore 7, 2) := dk_54 7 (dk_at dksL_law_119 9 rfl rfl)
theorem dL_law_2999 : decode cL_law 2999 = .ok (.aload_n 2, 1) := dk_44 (dk_at dksL_law_119 11 rfl rfl)
theorem dL_law_3000 : decode cL_law 3000 = .ok (.invokevirtual 172, 3) := dk_182 0 172 (dk_at dksL_law_119 12 rfl rfl)
theorem dL_law_3003 : decode cL_law 3003 = .ok (.iload 6, 2) := dk_21 6 (dk_at dksL_law_119 15 rfl rfl)
theorem dL_law_3005 : decode cL_law 3005 = .ok (.if_icmp .eq 5, 3) := dk_159 0 5 (dk_at dksL_law_119 17 rfl rfl)
theorem dL_law_3008 : decode cL_law 3008 = .ok (.iconst 0, 1) := dk_3 (dk_at dksL_law_119 20 rfl rfl)
theorem dL_law_3009 : decode cL_law 3009 = .ok (.ireturn, 1) := dk_172 (dk_at dksL_law_119 21 rfl rfl)
theorem dL_law_3010 : decode cL_law 3010 = .ok (.iload 6, 2) := dk_21 6 (dk_at dksL_law_119 22 rfl rfl)
theorem dL_law_3012 : decode cL_law 3012 = .ok (.ifCond .ne 15, 3) := dk_154 0 15 (dk_at dksL_law_120 0 rfl rfl)
theorem dL_law_3015 : decode cL_law 3015 = .ok (.aload_n 3, 1) := dk_45 (dk_at dksL_law_120 3 rfl rfl)
theorem dL_law_3016 : decode cL_law 3016 = .ok (.iconst 0, 1) := dk_3 (dk_at dksL_law_120 4 rfl rfl)
theorem dL_law_3017 : decode cL_law 3017 = .ok (.laload, 1) := dk_47 (dk_at dksL_law_120 5 rfl rfl)
theorem dL_law_3018 : decode cL_law 3018 = .ok (.iload 7, 2) := dk_21 7 (dk_at dksL_law_120 6 rfl rfl)
theorem dL_law_3020 : decode cL_law 3020 = .ok (.i2l, 1) := dk_133 (dk_at dksL_law_120 8 rfl rfl)
theorem dL_law_3021 : decode cL_law 3021 = .ok (.lcmp, 1) := dk_148 (dk_at dksL_law_120 9 rfl rfl)
theorem dL_law_3022 : decode cL_law 3022 = .ok (.ifCond .eq 5, 3) := dk_153 0 5 (dk_at dksL_law_120 10 rfl rfl)
theorem dL_law_3025 : decode cL_law 3025 = .ok (.iconst 0, 1) := dk_3 (dk_at dksL_law_120 13 rfl rfl)
theorem dL_law_3026 : decode cL_law 3026 = .ok (.ireturn, 1) := dk_172 (dk_at dksL_law_120 14 rfl rfl)
theorem dL_law_3027 : decode cL_law 3027 = .ok (.goto 3, 3) := dk_167 0 3 (dk_at dksL_law_120 15 rfl rfl)
theorem dL_law_3030 : decode cL_law 3030 = .ok (.iinc 5 4, 3) := dk_132 5 4 (dk_at dksL_law_120 18 rfl rfl)
theorem dL_law_3033 : decode cL_law 3033 = .ok (.goto (-3005), 3) := dk_167 244 67 (dk_at dksL_law_120 21 rfl rfl)
theorem dL_law_3036 : decode cL_law 3036 = .ok (.iconst 1, 1) := dk_4 (dk_at dksL_law_121 0 rfl rfl)
theorem dL_law_3037 : decode cL_law 3037 = .ok (.ireturn, 1) := dk_172 (dk_at dksL_law_121 1 rfl rfl)

