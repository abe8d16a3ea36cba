/-! FilterWaterworksModel -/
set_option maxRecDepth 100000
def RX3 : String := "FilterWaterworksModel"
def TX3 : u_T := fun k => match k with
  | 0 => ("FilterWaterworksModel", "now", "[I", true)
  | 1 => ("FilterWaterworksModel", "tried", "[I", true)
  | 2 => ("FilterWaterworksModel", "kept", "[I", true)
  | 3 => ("FilterWaterworksModel", "undos", "I", false)
  | 4 => ("FilterWaterworksModel", "saved", "[I", true)
  | 5 => ("FilterWaterworksModel", "isSaved", "Z", false)
  | 6 => ("FilterWaterworksModel", "reached", "[Z", true)
  | 7 => ("FilterWaterworksModel", "output", "[C", true)
  | 8 => ("FilterWaterworksModel", "written", "I", false)
  | 9 => ("FilterWaterworksModel", "text", "[C", true)
  | 10 => ("FilterWaterworksModel", "length", "I", false)
  | 11 => ("FilterWaterworksModel", "at", "I", false)
  | 12 => ("FilterWaterworksModel", "word", "Ljava/lang/String;", false)
  | 13 => ("FilterWaterworksModel", "told", "[I", true)
  | 14 => ("FilterWaterworksModel", "fault", "I", false)
  | 15 => ("FilterWaterworksModel", "failed", "I", false)
  | 16 => ("FilterWaterworksModel", "answer", "I", false)
  | _ => ("FilterWaterworksModel", "thrown", "I", false)
def tyX3 : Nat → FieldType := fun k => match k with
  | 0 => .array .int
  | 1 => .array .int
  | 2 => .array .int
  | 3 => .int
  | 4 => .array .int
  | 5 => .boolean
  | 6 => .array .boolean
  | 7 => .array .char
  | 8 => .int
  | 9 => .array .char
  | 10 => .int
  | 11 => .int
  | 12 => .object "java/lang/String"
  | 13 => .array .int
  | 14 => .int
  | 15 => .int
  | 16 => .int
  | _ => .int
abbrev wsX30 : List Cond := u_ws RX3 TX3 18
set_option maxRecDepth 100000 in
theorem nmX3 : ∀ a, a < 18 → ∀ b, b < 18 → a ≠ b → (TX3 a).2.1 ≠ (TX3 b).2.1 := by decide +kernel
set_option maxRecDepth 100000 in
theorem tyX3_ok : ∀ k, k < 18 → parseFieldDescriptor (TX3 k).2.2.1 = some (tyX3 k) := by decide +kernel
abbrev cX3_init : ByteArray := prog_18_method_1_code
def yX3_init : MethodName := ⟨RX3, "<init>", "()V"⟩
def dkwX3_init_3 : List UInt8 := [188, 10, 181, 0, 39, 42, 2, 181, 0, 42, 42, 2, 181, 0, 46, 177]
abbrev dktX3_init_3 : List UInt8 := dkwX3_init_3 ++ []
def dkwX3_init_2 : List UInt8 := [16, 60, 188, 5, 181, 0, 26, 42, 16, 60, 188, 5, 181, 0, 30, 42, 18, 33, 181, 0, 35, 42, 6]
abbrev dktX3_init_2 : List UInt8 := dkwX3_init_2 ++ dktX3_init_3
def dkwX3_init_1 : List UInt8 := [188, 10, 181, 0, 16, 42, 16, 114, 188, 10, 181, 0, 19, 42, 17, 8, 0, 188, 4, 181, 0, 22, 42]
abbrev dktX3_init_1 : List UInt8 := dkwX3_init_1 ++ dktX3_init_2
def dkwX3_init_0 : List UInt8 := [42, 183, 0, 3, 42, 16, 114, 188, 10, 181, 0, 9, 42, 16, 114, 188, 10, 181, 0, 13, 42, 17, 3, 144]
abbrev dktX3_init_0 : List UInt8 := dkwX3_init_0 ++ dktX3_init_1
theorem dksX3_init_0 : cX3_init.data.toList.drop 0 = dktX3_init_0 := by decide +kernel
theorem dksX3_init_1 : cX3_init.data.toList.drop 24 = dktX3_init_1 := dk_seg dksX3_init_0 24 rfl rfl
theorem dksX3_init_2 : cX3_init.data.toList.drop 47 = dktX3_init_2 := dk_seg dksX3_init_1 23 rfl rfl
theorem dksX3_init_3 : cX3_init.data.toList.drop 70 = dktX3_init_3 := dk_seg dksX3_init_2 23 rfl rfl
theorem dX3_init_0 : decode cX3_init 0 = .ok (.aload_n 0, 1) := dk_42 (dk_at dksX3_init_0 0 rfl rfl)
theorem dX3_init_1 : decode cX3_init 1 = .ok (.invokespecial 3, 3) := dk_183 0 3 (dk_at dksX3_init_0 1 rfl rfl)
theorem dX3_init_4 : decode cX3_init 4 = .ok (.aload_n 0, 1) := dk_42 (dk_at dksX3_init_0 4 rfl rfl)
theorem dX3_init_5 : decode cX3_init 5 = .ok (.bipush 114, 2) := dk_16 114 (dk_at dksX3_init_0 5 rfl rfl)
theorem dX3_init_7 : decode cX3_init 7 = .ok (.newarray .int, 2) := dk_188_10 (dk_at dksX3_init_0 7 rfl rfl)
theorem dX3_init_9 : decode cX3_init 9 = .ok (.putfield 9, 3) := dk_181 0 9 (dk_at dksX3_init_0 9 rfl rfl)
theorem dX3_init_12 : decode cX3_init 12 = .ok (.aload_n 0, 1) := dk_42 (dk_at dksX3_init_0 12 rfl rfl)
theorem dX3_init_13 : decode cX3_init 13 = .ok (.bipush 114, 2) := dk_16 114 (dk_at dksX3_init_0 13 rfl rfl)
theorem dX3_init_15 : decode cX3_init 15 = .ok (.newarray .int, 2) := dk_188_10 (dk_at dksX3_init_0 15 rfl rfl)
theorem dX3_init_17 : decode cX3_init 17 = .ok (.putfield 13, 3) := dk_181 0 13 (dk_at dksX3_init_0 17 rfl rfl)
theorem dX3_init_20 : decode cX3_init 20 = .ok (.aload_n 0, 1) := dk_42 (dk_at dksX3_init_0 20 rfl rfl)
theorem dX3_init_21 : decode cX3_init 21 = .ok (.sipush 912, 3) := dk_17 3 144 (dk_at dksX3_init_0 21 rfl rfl)
theorem dX3_init_24 : decode cX3_init 24 = .ok (.newarray .int, 2) := dk_188_10 (dk_at dksX3_init_1 0 rfl rfl)
theorem dX3_init_26 : decode cX3_init 26 = .ok (.putfield 16, 3) := dk_181 0 16 (dk_at dksX3_init_1 2 rfl rfl)
theorem dX3_init_29 : decode cX3_init 29 = .ok (.aload_n 0, 1) := dk_42 (dk_at dksX3_init_1 5 rfl rfl)
theorem dX3_init_30 : decode cX3_init 30 = .ok (.bipush 114, 2) := dk_16 114 (dk_at dksX3_init_1 6 rfl rfl)
theorem dX3_init_32 : decode cX3_init 32 = .ok (.newarray .int, 2) := dk_188_10 (dk_at dksX3_init_1 8 rfl rfl)
theorem dX3_init_34 : decode cX3_init 34 = .ok (.putfield 19, 3) := dk_181 0 19 (dk_at dksX3_init_1 10 rfl rfl)
theorem dX3_init_37 : decode cX3_init 37 = .ok (.aload_n 0, 1) := dk_42 (dk_at dksX3_init_1 13 rfl rfl)
theorem dX3_init_38 : decode cX3_init 38 = .ok (.sipush 2048, 3) := dk_17 8 0 (dk_at dksX3_init_1 14 rfl rfl)
theorem dX3_init_41 : decode cX3_init 41 = .ok (.newarray .boolean, 2) := dk_188_4 (dk_at dksX3_init_1 17 rfl rfl)
theorem dX3_init_43 : decode cX3_init 43 = .ok (.putfield 22, 3) := dk_181 0 22 (dk_at dksX3_init_1 19 rfl rfl)
theorem dX3_init_46 : decode cX3_init 46 = .ok (.aload_n 0, 1) := dk_42 (dk_at dksX3_init_1 22 rfl rfl)
theorem dX3_init_47 : decode cX3_init 47 = .ok (.bipush 60, 2) := dk_16 60 (dk_at dksX3_init_2 0 rfl rfl)
theorem dX3_init_49 : decode cX3_init 49 = .ok (.newarray .char, 2) := dk_188_5 (dk_at dksX3_init_2 2 rfl rfl)
theorem dX3_init_51 : decode cX3_init 51 = .ok (.putfield 26, 3) := dk_181 0 26 (dk_at dksX3_init_2 4 rfl rfl)
theorem dX3_init_54 : decode cX3_init 54 = .ok (.aload_n 0, 1) := dk_42 (dk_at dksX3_init_2 7 rfl rfl)
theorem dX3_init_55 : decode cX3_init 55 = .ok (.bipush 60, 2) := dk_16 60 (dk_at dksX3_init_2 8 rfl rfl)
theorem dX3_init_57 : decode cX3_init 57 = .ok (.newarray .char, 2) := dk_188_5 (dk_at dksX3_init_2 10 rfl rfl)
theorem dX3_init_59 : decode cX3_init 59 = .ok (.putfield 30, 3) := dk_181 0 30 (dk_at dksX3_init_2 12 rfl rfl)
theorem dX3_init_62 : decode cX3_init 62 = .ok (.aload_n 0, 1) := dk_42 (dk_at dksX3_init_2 15 rfl rfl)
theorem dX3_init_63 : decode cX3_init 63 = .ok (.ldc 33, 2) := dk_18 33 (dk_at dksX3_init_2 16 rfl rfl)
theorem dX3_init_65 : decode cX3_init 65 = .ok (.putfield 35, 3) := dk_181 0 35 (dk_at dksX3_init_2 18 rfl rfl)
theorem dX3_init_68 : decode cX3_init 68 = .ok (.aload_n 0, 1) := dk_42 (dk_at dksX3_init_2 21 rfl rfl)
theorem dX3_init_69 : decode cX3_init 69 = .ok (.iconst 3, 1) := dk_6 (dk_at dksX3_init_2 22 rfl rfl)
theorem dX3_init_70 : decode cX3_init 70 = .ok (.newarray .int, 2) := dk_188_10 (dk_at dksX3_init_3 0 rfl rfl)
theorem dX3_init_72 : decode cX3_init 72 = .ok (.putfield 39, 3) := dk_181 0 39 (dk_at dksX3_init_3 2 rfl rfl)
theorem dX3_init_75 : decode cX3_init 75 = .ok (.aload_n 0, 1) := dk_42 (dk_at dksX3_init_3 5 rfl rfl)
theorem dX3_init_76 : decode cX3_init 76 = .ok (.iconst (-1), 1) := dk_2 (dk_at dksX3_init_3 6 rfl rfl)
theorem dX3_init_77 : decode cX3_init 77 = .ok (.putfield 42, 3) := dk_181 0 42 (dk_at dksX3_init_3 7 rfl rfl)
theorem dX3_init_80 : decode cX3_init 80 = .ok (.aload_n 0, 1) := dk_42 (dk_at dksX3_init_3 10 rfl rfl)
theorem dX3_init_81 : decode cX3_init 81 = .ok (.iconst (-1), 1) := dk_2 (dk_at dksX3_init_3 11 rfl rfl)
theorem dX3_init_82 : decode cX3_init 82 = .ok (.putfield 46, 3) := dk_181 0 46 (dk_at dksX3_init_3 12 rfl rfl)
theorem dX3_init_85 : decode cX3_init 85 = .ok (.return_, 1) := dk_177 (dk_at dksX3_init_3 15 rfl rfl)
abbrev cX3_thrown : ByteArray := prog_18_method_2_code
def yX3_thrown : MethodName := ⟨RX3, "thrown", "()I"⟩
theorem dX3_thrown_0 : decode cX3_thrown 0 = .ok (.aload_n 0, 1) := by decide +kernel
theorem dX3_thrown_1 : decode cX3_thrown 1 = .ok (.getfield 49, 3) := by decide +kernel
theorem dX3_thrown_4 : decode cX3_thrown 4 = .ok (.ireturn, 1) := by decide +kernel
abbrev cX3_addTank : ByteArray := prog_18_method_15_code
def yX3_addTank : MethodName := ⟨RX3, "addTank", "(I)I"⟩
def dkwX3_addTank_0 : List UInt8 := [42, 182, 0, 73, 42, 42, 27, 182, 0, 76, 182, 0, 79, 172]
abbrev dktX3_addTank_0 : List UInt8 := dkwX3_addTank_0 ++ []
theorem dksX3_addTank_0 : cX3_addTank.data.toList.drop 0 = dktX3_addTank_0 := by decide +kernel
theorem dX3_addTank_0 : decode cX3_addTank 0 = .ok (.aload_n 0, 1) := dk_42 (dk_at dksX3_addTank_0 0 rfl rfl)
theorem dX3_addTank_1 : decode cX3_addTank 1 = .ok (.invokevirtual 73, 3) := dk_182 0 73 (dk_at dksX3_addTank_0 1 rfl rfl)
theorem dX3_addTank_4 : decode cX3_addTank 4 = .ok (.aload_n 0, 1) := dk_42 (dk_at dksX3_addTank_0 4 rfl rfl)
theorem dX3_addTank_5 : decode cX3_addTank 5 = .ok (.aload_n 0, 1) := dk_42 (dk_at dksX3_addTank_0 5 rfl rfl)
theorem dX3_addTank_6 : decode cX3_addTank 6 = .ok (.iload_n 1, 1) := dk_27 (dk_at dksX3_addTank_0 6 rfl rfl)
theorem dX3_addTank_7 : decode cX3_addTank 7 = .ok (.invokevirtual 76, 3) := dk_182 0 76 (dk_at dksX3_addTank_0 7 rfl rfl)
theorem dX3_addTank_10 : decode cX3_addTank 10 = .ok (.invokevirtual 79, 3) := dk_182 0 79 (dk_at dksX3_addTank_0 10 rfl rfl)
theorem dX3_addTank_13 : decode cX3_addTank 13 = .ok (.ireturn, 1) := dk_172 (dk_at dksX3_addTank_0 13 rfl rfl)
abbrev cX3_tries : ByteArray := prog_18_method_5_code
def yX3_tries : MethodName := ⟨RX3, "tries", "()V"⟩
def dkwX3_tries_1 : List UInt8 := [79, 132, 1, 1, 167, 255, 235, 177]
abbrev dktX3_tries_1 : List UInt8 := dkwX3_tries_1 ++ []
def dkwX3_tries_0 : List UInt8 := [42, 3, 181, 0, 49, 3, 60, 27, 16, 114, 162, 0, 21, 42, 180, 0, 13, 27, 42, 180, 0, 9, 27, 46]
abbrev dktX3_tries_0 : List UInt8 := dkwX3_tries_0 ++ dktX3_tries_1
theorem dksX3_tries_0 : cX3_tries.data.toList.drop 0 = dktX3_tries_0 := by decide +kernel
theorem dksX3_tries_1 : cX3_tries.data.toList.drop 24 = dktX3_tries_1 := dk_seg dksX3_tries_0 24 rfl rfl
theorem dX3_tries_0 : decode cX3_tries 0 = .ok (.aload_n 0, 1) := dk_42 (dk_at dksX3_tries_0 0 rfl rfl)
theorem dX3_tries_1 : decode cX3_tries 1 = .ok (.iconst 0, 1) := dk_3 (dk_at dksX3_tries_0 1 rfl rfl)
theorem dX3_tries_2 : decode cX3_tries 2 = .ok (.putfield 49, 3) := dk_181 0 49 (dk_at dksX3_tries_0 2 rfl rfl)
theorem dX3_tries_5 : decode cX3_tries 5 = .ok (.iconst 0, 1) := dk_3 (dk_at dksX3_tries_0 5 rfl rfl)
theorem dX3_tries_6 : decode cX3_tries 6 = .ok (.istore_n 1, 1) := dk_60 (dk_at dksX3_tries_0 6 rfl rfl)
theorem dX3_tries_7 : decode cX3_tries 7 = .ok (.iload_n 1, 1) := dk_27 (dk_at dksX3_tries_0 7 rfl rfl)
theorem dX3_tries_8 : decode cX3_tries 8 = .ok (.bipush 114, 2) := dk_16 114 (dk_at dksX3_tries_0 8 rfl rfl)
theorem dX3_tries_10 : decode cX3_tries 10 = .ok (.if_icmp .ge 21, 3) := dk_162 0 21 (dk_at dksX3_tries_0 10 rfl rfl)
theorem dX3_tries_13 : decode cX3_tries 13 = .ok (.aload_n 0, 1) := dk_42 (dk_at dksX3_tries_0 13 rfl rfl)
theorem dX3_tries_14 : decode cX3_tries 14 = .ok (.getfield 13, 3) := dk_180 0 13 (dk_at dksX3_tries_0 14 rfl rfl)
theorem dX3_tries_17 : decode cX3_tries 17 = .ok (.iload_n 1, 1) := dk_27 (dk_at dksX3_tries_0 17 rfl rfl)
theorem dX3_tries_18 : decode cX3_tries 18 = .ok (.aload_n 0, 1) := dk_42 (dk_at dksX3_tries_0 18 rfl rfl)
theorem dX3_tries_19 : decode cX3_tries 19 = .ok (.getfield 9, 3) := dk_180 0 9 (dk_at dksX3_tries_0 19 rfl rfl)
theorem dX3_tries_22 : decode cX3_tries 22 = .ok (.iload_n 1, 1) := dk_27 (dk_at dksX3_tries_0 22 rfl rfl)
theorem dX3_tries_23 : decode cX3_tries 23 = .ok (.iaload, 1) := dk_46 (dk_at dksX3_tries_0 23 rfl rfl)
theorem dX3_tries_24 : decode cX3_tries 24 = .ok (.iastore, 1) := dk_79 (dk_at dksX3_tries_1 0 rfl rfl)
theorem dX3_tries_25 : decode cX3_tries 25 = .ok (.iinc 1 1, 3) := dk_132 1 1 (dk_at dksX3_tries_1 1 rfl rfl)
theorem dX3_tries_28 : decode cX3_tries 28 = .ok (.goto (-21), 3) := dk_167 255 235 (dk_at dksX3_tries_1 4 rfl rfl)
theorem dX3_tries_31 : decode cX3_tries 31 = .ok (.return_, 1) := dk_177 (dk_at dksX3_tries_1 7 rfl rfl)
abbrev cX3_tanks : ByteArray := prog_18_method_14_code
def yX3_tanks : MethodName := ⟨RX3, "tanks", "(I)I"⟩
def dkwX3_tanks_3 : List UInt8 := [16, 6, 6, 28, 104, 96, 5, 96, 3, 79, 42, 28, 182, 0, 70, 172]
abbrev dktX3_tanks_3 : List UInt8 := dkwX3_tanks_3 ++ []
def dkwX3_tanks_2 : List UInt8 := [28, 104, 96, 27, 79, 42, 180, 0, 9, 16, 6, 6, 28, 104, 96, 4, 96, 3, 79, 42, 180, 0, 9]
abbrev dktX3_tanks_2 : List UInt8 := dkwX3_tanks_2 ++ dktX3_tanks_3
def dkwX3_tanks_1 : List UInt8 := [160, 0, 5, 5, 172, 42, 180, 0, 9, 3, 92, 46, 91, 4, 96, 79, 61, 42, 180, 0, 9, 16, 6, 6]
abbrev dktX3_tanks_1 : List UInt8 := dkwX3_tanks_1 ++ dktX3_tanks_2
def dkwX3_tanks_0 : List UInt8 := [27, 16, 10, 17, 3, 231, 184, 0, 62, 154, 0, 5, 4, 172, 42, 180, 0, 9, 3, 46, 16, 8]
abbrev dktX3_tanks_0 : List UInt8 := dkwX3_tanks_0 ++ dktX3_tanks_1
theorem dksX3_tanks_0 : cX3_tanks.data.toList.drop 0 = dktX3_tanks_0 := by decide +kernel
theorem dksX3_tanks_1 : cX3_tanks.data.toList.drop 22 = dktX3_tanks_1 := dk_seg dksX3_tanks_0 22 rfl rfl
theorem dksX3_tanks_2 : cX3_tanks.data.toList.drop 46 = dktX3_tanks_2 := dk_seg dksX3_tanks_1 24 rfl rfl
theorem dksX3_tanks_3 : cX3_tanks.data.toList.drop 69 = dktX3_tanks_3 := dk_seg dksX3_tanks_2 23 rfl rfl
theorem dX3_tanks_0 : decode cX3_tanks 0 = .ok (.iload_n 1, 1) := dk_27 (dk_at dksX3_tanks_0 0 rfl rfl)
theorem dX3_tanks_1 : decode cX3_tanks 1 = .ok (.bipush 10, 2) := dk_16 10 (dk_at dksX3_tanks_0 1 rfl rfl)
theorem dX3_tanks_3 : decode cX3_tanks 3 = .ok (.sipush 999, 3) := dk_17 3 231 (dk_at dksX3_tanks_0 3 rfl rfl)
theorem dX3_tanks_6 : decode cX3_tanks 6 = .ok (.invokestatic 62, 3) := dk_184 0 62 (dk_at dksX3_tanks_0 6 rfl rfl)
theorem dX3_tanks_9 : decode cX3_tanks 9 = .ok (.ifCond .ne 5, 3) := dk_154 0 5 (dk_at dksX3_tanks_0 9 rfl rfl)
theorem dX3_tanks_12 : decode cX3_tanks 12 = .ok (.iconst 1, 1) := dk_4 (dk_at dksX3_tanks_0 12 rfl rfl)
theorem dX3_tanks_13 : decode cX3_tanks 13 = .ok (.ireturn, 1) := dk_172 (dk_at dksX3_tanks_0 13 rfl rfl)
theorem dX3_tanks_14 : decode cX3_tanks 14 = .ok (.aload_n 0, 1) := dk_42 (dk_at dksX3_tanks_0 14 rfl rfl)
theorem dX3_tanks_15 : decode cX3_tanks 15 = .ok (.getfield 9, 3) := dk_180 0 9 (dk_at dksX3_tanks_0 15 rfl rfl)
theorem dX3_tanks_18 : decode cX3_tanks 18 = .ok (.iconst 0, 1) := dk_3 (dk_at dksX3_tanks_0 18 rfl rfl)
theorem dX3_tanks_19 : decode cX3_tanks 19 = .ok (.iaload, 1) := dk_46 (dk_at dksX3_tanks_0 19 rfl rfl)
theorem dX3_tanks_20 : decode cX3_tanks 20 = .ok (.bipush 8, 2) := dk_16 8 (dk_at dksX3_tanks_0 20 rfl rfl)
theorem dX3_tanks_22 : decode cX3_tanks 22 = .ok (.if_icmp .ne 5, 3) := dk_160 0 5 (dk_at dksX3_tanks_1 0 rfl rfl)
theorem dX3_tanks_25 : decode cX3_tanks 25 = .ok (.iconst 2, 1) := dk_5 (dk_at dksX3_tanks_1 3 rfl rfl)
theorem dX3_tanks_26 : decode cX3_tanks 26 = .ok (.ireturn, 1) := dk_172 (dk_at dksX3_tanks_1 4 rfl rfl)
theorem dX3_tanks_27 : decode cX3_tanks 27 = .ok (.aload_n 0, 1) := dk_42 (dk_at dksX3_tanks_1 5 rfl rfl)
theorem dX3_tanks_28 : decode cX3_tanks 28 = .ok (.getfield 9, 3) := dk_180 0 9 (dk_at dksX3_tanks_1 6 rfl rfl)
theorem dX3_tanks_31 : decode cX3_tanks 31 = .ok (.iconst 0, 1) := dk_3 (dk_at dksX3_tanks_1 9 rfl rfl)
theorem dX3_tanks_32 : decode cX3_tanks 32 = .ok (.dup2, 1) := dk_92 (dk_at dksX3_tanks_1 10 rfl rfl)
theorem dX3_tanks_33 : decode cX3_tanks 33 = .ok (.iaload, 1) := dk_46 (dk_at dksX3_tanks_1 11 rfl rfl)
theorem dX3_tanks_34 : decode cX3_tanks 34 = .ok (.dup_x2, 1) := dk_91 (dk_at dksX3_tanks_1 12 rfl rfl)
theorem dX3_tanks_35 : decode cX3_tanks 35 = .ok (.iconst 1, 1) := dk_4 (dk_at dksX3_tanks_1 13 rfl rfl)
theorem dX3_tanks_36 : decode cX3_tanks 36 = .ok (.iadd, 1) := dk_96 (dk_at dksX3_tanks_1 14 rfl rfl)
theorem dX3_tanks_37 : decode cX3_tanks 37 = .ok (.iastore, 1) := dk_79 (dk_at dksX3_tanks_1 15 rfl rfl)
theorem dX3_tanks_38 : decode cX3_tanks 38 = .ok (.istore_n 2, 1) := dk_61 (dk_at dksX3_tanks_1 16 rfl rfl)
theorem dX3_tanks_39 : decode cX3_tanks 39 = .ok (.aload_n 0, 1) := dk_42 (dk_at dksX3_tanks_1 17 rfl rfl)
theorem dX3_tanks_40 : decode cX3_tanks 40 = .ok (.getfield 9, 3) := dk_180 0 9 (dk_at dksX3_tanks_1 18 rfl rfl)
theorem dX3_tanks_43 : decode cX3_tanks 43 = .ok (.bipush 6, 2) := dk_16 6 (dk_at dksX3_tanks_1 21 rfl rfl)
theorem dX3_tanks_45 : decode cX3_tanks 45 = .ok (.iconst 3, 1) := dk_6 (dk_at dksX3_tanks_1 23 rfl rfl)
theorem dX3_tanks_46 : decode cX3_tanks 46 = .ok (.iload_n 2, 1) := dk_28 (dk_at dksX3_tanks_2 0 rfl rfl)
theorem dX3_tanks_47 : decode cX3_tanks 47 = .ok (.imul, 1) := dk_104 (dk_at dksX3_tanks_2 1 rfl rfl)
theorem dX3_tanks_48 : decode cX3_tanks 48 = .ok (.iadd, 1) := dk_96 (dk_at dksX3_tanks_2 2 rfl rfl)
theorem dX3_tanks_49 : decode cX3_tanks 49 = .ok (.iload_n 1, 1) := dk_27 (dk_at dksX3_tanks_2 3 rfl rfl)
theorem dX3_tanks_50 : decode cX3_tanks 50 = .ok (.iastore, 1) := dk_79 (dk_at dksX3_tanks_2 4 rfl rfl)
theorem dX3_tanks_51 : decode cX3_tanks 51 = .ok (.aload_n 0, 1) := dk_42 (dk_at dksX3_tanks_2 5 rfl rfl)
theorem dX3_tanks_52 : decode cX3_tanks 52 = .ok (.getfield 9, 3) := dk_180 0 9 (dk_at dksX3_tanks_2 6 rfl rfl)
theorem dX3_tanks_55 : decode cX3_tanks 55 = .ok (.bipush 6, 2) := dk_16 6 (dk_at dksX3_tanks_2 9 rfl rfl)
theorem dX3_tanks_57 : decode cX3_tanks 57 = .ok (.iconst 3, 1) := dk_6 (dk_at dksX3_tanks_2 11 rfl rfl)
theorem dX3_tanks_58 : decode cX3_tanks 58 = .ok (.iload_n 2, 1) := dk_28 (dk_at dksX3_tanks_2 12 rfl rfl)
theorem dX3_tanks_59 : decode cX3_tanks 59 = .ok (.imul, 1) := dk_104 (dk_at dksX3_tanks_2 13 rfl rfl)
theorem dX3_tanks_60 : decode cX3_tanks 60 = .ok (.iadd, 1) := dk_96 (dk_at dksX3_tanks_2 14 rfl rfl)
theorem dX3_tanks_61 : decode cX3_tanks 61 = .ok (.iconst 1, 1) := dk_4 (dk_at dksX3_tanks_2 15 rfl rfl)
theorem dX3_tanks_62 : decode cX3_tanks 62 = .ok (.iadd, 1) := dk_96 (dk_at dksX3_tanks_2 16 rfl rfl)
theorem dX3_tanks_63 : decode cX3_tanks 63 = .ok (.iconst 0, 1) := dk_3 (dk_at dksX3_tanks_2 17 rfl rfl)
theorem dX3_tanks_64 : decode cX3_tanks 64 = .ok (.iastore, 1) := dk_79 (dk_at dksX3_tanks_2 18 rfl rfl)
theorem dX3_tanks_65 : decode cX3_tanks 65 = .ok (.aload_n 0, 1) := dk_42 (dk_at dksX3_tanks_2 19 rfl rfl)
theorem dX3_tanks_66 : decode cX3_tanks 66 = .ok (.getfield 9, 3) := dk_180 0 9 (dk_at dksX3_tanks_2 20 rfl rfl)
theorem dX3_tanks_69 : decode cX3_tanks 69 = .ok (.bipush 6, 2) := dk_16 6 (dk_at dksX3_tanks_3 0 rfl rfl)
theorem dX3_tanks_71 : decode cX3_tanks 71 = .ok (.iconst 3, 1) := dk_6 (dk_at dksX3_tanks_3 2 rfl rfl)
theorem dX3_tanks_72 : decode cX3_tanks 72 = .ok (.iload_n 2, 1) := dk_28 (dk_at dksX3_tanks_3 3 rfl rfl)
theorem dX3_tanks_73 : decode cX3_tanks 73 = .ok (.imul, 1) := dk_104 (dk_at dksX3_tanks_3 4 rfl rfl)
theorem dX3_tanks_74 : decode cX3_tanks 74 = .ok (.iadd, 1) := dk_96 (dk_at dksX3_tanks_3 5 rfl rfl)
theorem dX3_tanks_75 : decode cX3_tanks 75 = .ok (.iconst 2, 1) := dk_5 (dk_at dksX3_tanks_3 6 rfl rfl)
theorem dX3_tanks_76 : decode cX3_tanks 76 = .ok (.iadd, 1) := dk_96 (dk_at dksX3_tanks_3 7 rfl rfl)
theorem dX3_tanks_77 : decode cX3_tanks 77 = .ok (.iconst 0, 1) := dk_3 (dk_at dksX3_tanks_3 8 rfl rfl)
theorem dX3_tanks_78 : decode cX3_tanks 78 = .ok (.iastore, 1) := dk_79 (dk_at dksX3_tanks_3 9 rfl rfl)
theorem dX3_tanks_79 : decode cX3_tanks 79 = .ok (.aload_n 0, 1) := dk_42 (dk_at dksX3_tanks_3 10 rfl rfl)
theorem dX3_tanks_80 : decode cX3_tanks 80 = .ok (.iload_n 2, 1) := dk_28 (dk_at dksX3_tanks_3 11 rfl rfl)
theorem dX3_tanks_81 : decode cX3_tanks 81 = .ok (.invokevirtual 70, 3) := dk_182 0 70 (dk_at dksX3_tanks_3 12 rfl rfl)
theorem dX3_tanks_84 : decode cX3_tanks 84 = .ok (.ireturn, 1) := dk_172 (dk_at dksX3_tanks_3 15 rfl rfl)
abbrev cX3_in : ByteArray := prog_18_method_4_code
def yX3_in : MethodName := ⟨RX3, "in", "(III)Z"⟩
def dkwX3_in_0 : List UInt8 := [26, 27, 161, 0, 12, 26, 28, 163, 0, 7, 4, 167, 0, 4, 3, 172]
abbrev dktX3_in_0 : List UInt8 := dkwX3_in_0 ++ []
theorem dksX3_in_0 : cX3_in.data.toList.drop 0 = dktX3_in_0 := by decide +kernel
theorem dX3_in_0 : decode cX3_in 0 = .ok (.iload_n 0, 1) := dk_26 (dk_at dksX3_in_0 0 rfl rfl)
theorem dX3_in_1 : decode cX3_in 1 = .ok (.iload_n 1, 1) := dk_27 (dk_at dksX3_in_0 1 rfl rfl)
theorem dX3_in_2 : decode cX3_in 2 = .ok (.if_icmp .lt 12, 3) := dk_161 0 12 (dk_at dksX3_in_0 2 rfl rfl)
theorem dX3_in_5 : decode cX3_in 5 = .ok (.iload_n 0, 1) := dk_26 (dk_at dksX3_in_0 5 rfl rfl)
theorem dX3_in_6 : decode cX3_in 6 = .ok (.iload_n 2, 1) := dk_28 (dk_at dksX3_in_0 6 rfl rfl)
theorem dX3_in_7 : decode cX3_in 7 = .ok (.if_icmp .gt 7, 3) := dk_163 0 7 (dk_at dksX3_in_0 7 rfl rfl)
theorem dX3_in_10 : decode cX3_in 10 = .ok (.iconst 1, 1) := dk_4 (dk_at dksX3_in_0 10 rfl rfl)
theorem dX3_in_11 : decode cX3_in 11 = .ok (.goto 4, 3) := dk_167 0 4 (dk_at dksX3_in_0 11 rfl rfl)
theorem dX3_in_14 : decode cX3_in 14 = .ok (.iconst 0, 1) := dk_3 (dk_at dksX3_in_0 14 rfl rfl)
theorem dX3_in_15 : decode cX3_in 15 = .ok (.ireturn, 1) := dk_172 (dk_at dksX3_in_0 15 rfl rfl)
abbrev cX3_does : ByteArray := prog_18_method_7_code
def yX3_does : MethodName := ⟨RX3, "does", "(I)I"⟩
def dkwX3_does_0 : List UInt8 := [42, 27, 181, 0, 52, 3, 172]
abbrev dktX3_does_0 : List UInt8 := dkwX3_does_0 ++ []
theorem dksX3_does_0 : cX3_does.data.toList.drop 0 = dktX3_does_0 := by decide +kernel
theorem dX3_does_0 : decode cX3_does 0 = .ok (.aload_n 0, 1) := dk_42 (dk_at dksX3_does_0 0 rfl rfl)
theorem dX3_does_1 : decode cX3_does 1 = .ok (.iload_n 1, 1) := dk_27 (dk_at dksX3_does_0 1 rfl rfl)
theorem dX3_does_2 : decode cX3_does 2 = .ok (.putfield 52, 3) := dk_181 0 52 (dk_at dksX3_does_0 2 rfl rfl)
theorem dX3_does_5 : decode cX3_does 5 = .ok (.iconst 0, 1) := dk_3 (dk_at dksX3_does_0 5 rfl rfl)
theorem dX3_does_6 : decode cX3_does 6 = .ok (.ireturn, 1) := dk_172 (dk_at dksX3_does_0 6 rfl rfl)
abbrev cX3_ends : ByteArray := prog_18_method_8_code
def yX3_ends : MethodName := ⟨RX3, "ends", "(I)I"⟩
def dkwX3_ends_4 : List UInt8 := [167, 255, 227, 42, 89, 180, 0, 59, 4, 96, 181, 0, 59, 42, 180, 0, 52, 172]
abbrev dktX3_ends_4 : List UInt8 := dkwX3_ends_4 ++ []
def dkwX3_ends_3 : List UInt8 := [180, 0, 16, 16, 114, 42, 180, 0, 59, 104, 28, 96, 42, 180, 0, 13, 28, 46, 79, 132, 2, 1]
abbrev dktX3_ends_3 : List UInt8 := dkwX3_ends_3 ++ dktX3_ends_4
def dkwX3_ends_2 : List UInt8 := [167, 255, 231, 42, 89, 180, 0, 59, 4, 100, 181, 0, 59, 3, 61, 28, 16, 114, 162, 0, 29, 42]
abbrev dktX3_ends_2 : List UInt8 := dkwX3_ends_2 ++ dktX3_ends_3
def dkwX3_ends_1 : List UInt8 := [17, 3, 30, 162, 0, 24, 42, 180, 0, 16, 28, 42, 180, 0, 16, 16, 114, 28, 96, 46, 79, 132, 2, 1]
abbrev dktX3_ends_1 : List UInt8 := dkwX3_ends_1 ++ dktX3_ends_2
def dkwX3_ends_0 : List UInt8 := [27, 158, 0, 9, 42, 27, 182, 0, 55, 172, 42, 180, 0, 59, 16, 8, 160, 0, 43, 3, 61, 28]
abbrev dktX3_ends_0 : List UInt8 := dkwX3_ends_0 ++ dktX3_ends_1
theorem dksX3_ends_0 : cX3_ends.data.toList.drop 0 = dktX3_ends_0 := by decide +kernel
theorem dksX3_ends_1 : cX3_ends.data.toList.drop 22 = dktX3_ends_1 := dk_seg dksX3_ends_0 22 rfl rfl
theorem dksX3_ends_2 : cX3_ends.data.toList.drop 46 = dktX3_ends_2 := dk_seg dksX3_ends_1 24 rfl rfl
theorem dksX3_ends_3 : cX3_ends.data.toList.drop 68 = dktX3_ends_3 := dk_seg dksX3_ends_2 22 rfl rfl
theorem dksX3_ends_4 : cX3_ends.data.toList.drop 90 = dktX3_ends_4 := dk_seg dksX3_ends_3 22 rfl rfl
theorem dX3_ends_0 : decode cX3_ends 0 = .ok (.iload_n 1, 1) := dk_27 (dk_at dksX3_ends_0 0 rfl rfl)
theorem dX3_ends_1 : decode cX3_ends 1 = .ok (.ifCond .le 9, 3) := dk_158 0 9 (dk_at dksX3_ends_0 1 rfl rfl)
theorem dX3_ends_4 : decode cX3_ends 4 = .ok (.aload_n 0, 1) := dk_42 (dk_at dksX3_ends_0 4 rfl rfl)
theorem dX3_ends_5 : decode cX3_ends 5 = .ok (.iload_n 1, 1) := dk_27 (dk_at dksX3_ends_0 5 rfl rfl)
theorem dX3_ends_6 : decode cX3_ends 6 = .ok (.invokevirtual 55, 3) := dk_182 0 55 (dk_at dksX3_ends_0 6 rfl rfl)
theorem dX3_ends_9 : decode cX3_ends 9 = .ok (.ireturn, 1) := dk_172 (dk_at dksX3_ends_0 9 rfl rfl)
theorem dX3_ends_10 : decode cX3_ends 10 = .ok (.aload_n 0, 1) := dk_42 (dk_at dksX3_ends_0 10 rfl rfl)
theorem dX3_ends_11 : decode cX3_ends 11 = .ok (.getfield 59, 3) := dk_180 0 59 (dk_at dksX3_ends_0 11 rfl rfl)
theorem dX3_ends_14 : decode cX3_ends 14 = .ok (.bipush 8, 2) := dk_16 8 (dk_at dksX3_ends_0 14 rfl rfl)
theorem dX3_ends_16 : decode cX3_ends 16 = .ok (.if_icmp .ne 43, 3) := dk_160 0 43 (dk_at dksX3_ends_0 16 rfl rfl)
theorem dX3_ends_19 : decode cX3_ends 19 = .ok (.iconst 0, 1) := dk_3 (dk_at dksX3_ends_0 19 rfl rfl)
theorem dX3_ends_20 : decode cX3_ends 20 = .ok (.istore_n 2, 1) := dk_61 (dk_at dksX3_ends_0 20 rfl rfl)
theorem dX3_ends_21 : decode cX3_ends 21 = .ok (.iload_n 2, 1) := dk_28 (dk_at dksX3_ends_0 21 rfl rfl)
theorem dX3_ends_22 : decode cX3_ends 22 = .ok (.sipush 798, 3) := dk_17 3 30 (dk_at dksX3_ends_1 0 rfl rfl)
theorem dX3_ends_25 : decode cX3_ends 25 = .ok (.if_icmp .ge 24, 3) := dk_162 0 24 (dk_at dksX3_ends_1 3 rfl rfl)
theorem dX3_ends_28 : decode cX3_ends 28 = .ok (.aload_n 0, 1) := dk_42 (dk_at dksX3_ends_1 6 rfl rfl)
theorem dX3_ends_29 : decode cX3_ends 29 = .ok (.getfield 16, 3) := dk_180 0 16 (dk_at dksX3_ends_1 7 rfl rfl)
theorem dX3_ends_32 : decode cX3_ends 32 = .ok (.iload_n 2, 1) := dk_28 (dk_at dksX3_ends_1 10 rfl rfl)
theorem dX3_ends_33 : decode cX3_ends 33 = .ok (.aload_n 0, 1) := dk_42 (dk_at dksX3_ends_1 11 rfl rfl)
theorem dX3_ends_34 : decode cX3_ends 34 = .ok (.getfield 16, 3) := dk_180 0 16 (dk_at dksX3_ends_1 12 rfl rfl)
theorem dX3_ends_37 : decode cX3_ends 37 = .ok (.bipush 114, 2) := dk_16 114 (dk_at dksX3_ends_1 15 rfl rfl)
theorem dX3_ends_39 : decode cX3_ends 39 = .ok (.iload_n 2, 1) := dk_28 (dk_at dksX3_ends_1 17 rfl rfl)
theorem dX3_ends_40 : decode cX3_ends 40 = .ok (.iadd, 1) := dk_96 (dk_at dksX3_ends_1 18 rfl rfl)
theorem dX3_ends_41 : decode cX3_ends 41 = .ok (.iaload, 1) := dk_46 (dk_at dksX3_ends_1 19 rfl rfl)
theorem dX3_ends_42 : decode cX3_ends 42 = .ok (.iastore, 1) := dk_79 (dk_at dksX3_ends_1 20 rfl rfl)
theorem dX3_ends_43 : decode cX3_ends 43 = .ok (.iinc 2 1, 3) := dk_132 2 1 (dk_at dksX3_ends_1 21 rfl rfl)
theorem dX3_ends_46 : decode cX3_ends 46 = .ok (.goto (-25), 3) := dk_167 255 231 (dk_at dksX3_ends_2 0 rfl rfl)
theorem dX3_ends_49 : decode cX3_ends 49 = .ok (.aload_n 0, 1) := dk_42 (dk_at dksX3_ends_2 3 rfl rfl)
theorem dX3_ends_50 : decode cX3_ends 50 = .ok (.dup, 1) := dk_89 (dk_at dksX3_ends_2 4 rfl rfl)
theorem dX3_ends_51 : decode cX3_ends 51 = .ok (.getfield 59, 3) := dk_180 0 59 (dk_at dksX3_ends_2 5 rfl rfl)
theorem dX3_ends_54 : decode cX3_ends 54 = .ok (.iconst 1, 1) := dk_4 (dk_at dksX3_ends_2 8 rfl rfl)
theorem dX3_ends_55 : decode cX3_ends 55 = .ok (.isub, 1) := dk_100 (dk_at dksX3_ends_2 9 rfl rfl)
theorem dX3_ends_56 : decode cX3_ends 56 = .ok (.putfield 59, 3) := dk_181 0 59 (dk_at dksX3_ends_2 10 rfl rfl)
theorem dX3_ends_59 : decode cX3_ends 59 = .ok (.iconst 0, 1) := dk_3 (dk_at dksX3_ends_2 13 rfl rfl)
theorem dX3_ends_60 : decode cX3_ends 60 = .ok (.istore_n 2, 1) := dk_61 (dk_at dksX3_ends_2 14 rfl rfl)
theorem dX3_ends_61 : decode cX3_ends 61 = .ok (.iload_n 2, 1) := dk_28 (dk_at dksX3_ends_2 15 rfl rfl)
theorem dX3_ends_62 : decode cX3_ends 62 = .ok (.bipush 114, 2) := dk_16 114 (dk_at dksX3_ends_2 16 rfl rfl)
theorem dX3_ends_64 : decode cX3_ends 64 = .ok (.if_icmp .ge 29, 3) := dk_162 0 29 (dk_at dksX3_ends_2 18 rfl rfl)
theorem dX3_ends_67 : decode cX3_ends 67 = .ok (.aload_n 0, 1) := dk_42 (dk_at dksX3_ends_2 21 rfl rfl)
theorem dX3_ends_68 : decode cX3_ends 68 = .ok (.getfield 16, 3) := dk_180 0 16 (dk_at dksX3_ends_3 0 rfl rfl)
theorem dX3_ends_71 : decode cX3_ends 71 = .ok (.bipush 114, 2) := dk_16 114 (dk_at dksX3_ends_3 3 rfl rfl)
theorem dX3_ends_73 : decode cX3_ends 73 = .ok (.aload_n 0, 1) := dk_42 (dk_at dksX3_ends_3 5 rfl rfl)
theorem dX3_ends_74 : decode cX3_ends 74 = .ok (.getfield 59, 3) := dk_180 0 59 (dk_at dksX3_ends_3 6 rfl rfl)
theorem dX3_ends_77 : decode cX3_ends 77 = .ok (.imul, 1) := dk_104 (dk_at dksX3_ends_3 9 rfl rfl)
theorem dX3_ends_78 : decode cX3_ends 78 = .ok (.iload_n 2, 1) := dk_28 (dk_at dksX3_ends_3 10 rfl rfl)
theorem dX3_ends_79 : decode cX3_ends 79 = .ok (.iadd, 1) := dk_96 (dk_at dksX3_ends_3 11 rfl rfl)
theorem dX3_ends_80 : decode cX3_ends 80 = .ok (.aload_n 0, 1) := dk_42 (dk_at dksX3_ends_3 12 rfl rfl)
theorem dX3_ends_81 : decode cX3_ends 81 = .ok (.getfield 13, 3) := dk_180 0 13 (dk_at dksX3_ends_3 13 rfl rfl)
theorem dX3_ends_84 : decode cX3_ends 84 = .ok (.iload_n 2, 1) := dk_28 (dk_at dksX3_ends_3 16 rfl rfl)
theorem dX3_ends_85 : decode cX3_ends 85 = .ok (.iaload, 1) := dk_46 (dk_at dksX3_ends_3 17 rfl rfl)
theorem dX3_ends_86 : decode cX3_ends 86 = .ok (.iastore, 1) := dk_79 (dk_at dksX3_ends_3 18 rfl rfl)
theorem dX3_ends_87 : decode cX3_ends 87 = .ok (.iinc 2 1, 3) := dk_132 2 1 (dk_at dksX3_ends_3 19 rfl rfl)
theorem dX3_ends_90 : decode cX3_ends 90 = .ok (.goto (-29), 3) := dk_167 255 227 (dk_at dksX3_ends_4 0 rfl rfl)
theorem dX3_ends_93 : decode cX3_ends 93 = .ok (.aload_n 0, 1) := dk_42 (dk_at dksX3_ends_4 3 rfl rfl)
theorem dX3_ends_94 : decode cX3_ends 94 = .ok (.dup, 1) := dk_89 (dk_at dksX3_ends_4 4 rfl rfl)
theorem dX3_ends_95 : decode cX3_ends 95 = .ok (.getfield 59, 3) := dk_180 0 59 (dk_at dksX3_ends_4 5 rfl rfl)
theorem dX3_ends_98 : decode cX3_ends 98 = .ok (.iconst 1, 1) := dk_4 (dk_at dksX3_ends_4 8 rfl rfl)
theorem dX3_ends_99 : decode cX3_ends 99 = .ok (.iadd, 1) := dk_96 (dk_at dksX3_ends_4 9 rfl rfl)
theorem dX3_ends_100 : decode cX3_ends 100 = .ok (.putfield 59, 3) := dk_181 0 59 (dk_at dksX3_ends_4 10 rfl rfl)
theorem dX3_ends_103 : decode cX3_ends 103 = .ok (.aload_n 0, 1) := dk_42 (dk_at dksX3_ends_4 13 rfl rfl)
theorem dX3_ends_104 : decode cX3_ends 104 = .ok (.getfield 52, 3) := dk_180 0 52 (dk_at dksX3_ends_4 14 rfl rfl)
theorem dX3_ends_107 : decode cX3_ends 107 = .ok (.ireturn, 1) := dk_172 (dk_at dksX3_ends_4 17 rfl rfl)
abbrev cX3_raises : ByteArray := prog_18_method_3_code
def yX3_raises : MethodName := ⟨RX3, "raises", "(I)I"⟩
def dkwX3_raises_0 : List UInt8 := [42, 27, 181, 0, 49, 3, 172]
abbrev dktX3_raises_0 : List UInt8 := dkwX3_raises_0 ++ []
theorem dksX3_raises_0 : cX3_raises.data.toList.drop 0 = dktX3_raises_0 := by decide +kernel
theorem dX3_raises_0 : decode cX3_raises 0 = .ok (.aload_n 0, 1) := dk_42 (dk_at dksX3_raises_0 0 rfl rfl)
theorem dX3_raises_1 : decode cX3_raises 1 = .ok (.iload_n 1, 1) := dk_27 (dk_at dksX3_raises_0 1 rfl rfl)
theorem dX3_raises_2 : decode cX3_raises 2 = .ok (.putfield 49, 3) := dk_181 0 49 (dk_at dksX3_raises_0 2 rfl rfl)
theorem dX3_raises_5 : decode cX3_raises 5 = .ok (.iconst 0, 1) := dk_3 (dk_at dksX3_raises_0 5 rfl rfl)
theorem dX3_raises_6 : decode cX3_raises 6 = .ok (.ireturn, 1) := dk_172 (dk_at dksX3_raises_0 6 rfl rfl)
abbrev cX3_addPipe : ByteArray := prog_18_method_17_code
def yX3_addPipe : MethodName := ⟨RX3, "addPipe", "(III)I"⟩
def dkwX3_addPipe_0 : List UInt8 := [42, 182, 0, 73, 42, 42, 27, 28, 29, 182, 0, 86, 182, 0, 79, 172]
abbrev dktX3_addPipe_0 : List UInt8 := dkwX3_addPipe_0 ++ []
theorem dksX3_addPipe_0 : cX3_addPipe.data.toList.drop 0 = dktX3_addPipe_0 := by decide +kernel
theorem dX3_addPipe_0 : decode cX3_addPipe 0 = .ok (.aload_n 0, 1) := dk_42 (dk_at dksX3_addPipe_0 0 rfl rfl)
theorem dX3_addPipe_1 : decode cX3_addPipe 1 = .ok (.invokevirtual 73, 3) := dk_182 0 73 (dk_at dksX3_addPipe_0 1 rfl rfl)
theorem dX3_addPipe_4 : decode cX3_addPipe 4 = .ok (.aload_n 0, 1) := dk_42 (dk_at dksX3_addPipe_0 4 rfl rfl)
theorem dX3_addPipe_5 : decode cX3_addPipe 5 = .ok (.aload_n 0, 1) := dk_42 (dk_at dksX3_addPipe_0 5 rfl rfl)
theorem dX3_addPipe_6 : decode cX3_addPipe 6 = .ok (.iload_n 1, 1) := dk_27 (dk_at dksX3_addPipe_0 6 rfl rfl)
theorem dX3_addPipe_7 : decode cX3_addPipe 7 = .ok (.iload_n 2, 1) := dk_28 (dk_at dksX3_addPipe_0 7 rfl rfl)
theorem dX3_addPipe_8 : decode cX3_addPipe 8 = .ok (.iload_n 3, 1) := dk_29 (dk_at dksX3_addPipe_0 8 rfl rfl)
theorem dX3_addPipe_9 : decode cX3_addPipe 9 = .ok (.invokevirtual 86, 3) := dk_182 0 86 (dk_at dksX3_addPipe_0 9 rfl rfl)
theorem dX3_addPipe_12 : decode cX3_addPipe 12 = .ok (.invokevirtual 79, 3) := dk_182 0 79 (dk_at dksX3_addPipe_0 12 rfl rfl)
theorem dX3_addPipe_15 : decode cX3_addPipe 15 = .ok (.ireturn, 1) := dk_172 (dk_at dksX3_addPipe_0 15 rfl rfl)
abbrev cX3_pipes : ByteArray := prog_18_method_16_code
def yX3_pipes : MethodName := ⟨RX3, "pipes", "(III)I"⟩
def dkwX3_pipes_5 : List UInt8 := [21, 6, 96, 25, 5, 21, 6, 46, 79, 132, 6, 1, 167, 255, 225, 42, 21, 4, 182, 0, 70, 172]
abbrev dktX3_pipes_5 : List UInt8 := dkwX3_pipes_5 ++ []
def dkwX3_pipes_4 : List UInt8 := [58, 5, 3, 54, 6, 21, 6, 16, 7, 162, 0, 30, 42, 180, 0, 9, 16, 30, 16, 7, 21, 4, 104, 96]
abbrev dktX3_pipes_4 : List UInt8 := dkwX3_pipes_4 ++ dktX3_pipes_5
def dkwX3_pipes_3 : List UInt8 := [28, 79, 89, 5, 29, 79, 89, 6, 3, 79, 89, 7, 3, 79, 89, 8, 3, 79, 89, 16, 6, 3, 79]
abbrev dktX3_pipes_3 : List UInt8 := dkwX3_pipes_3 ++ dktX3_pipes_4
def dkwX3_pipes_2 : List UInt8 := [172, 42, 180, 0, 9, 4, 92, 46, 91, 4, 96, 79, 54, 4, 16, 7, 188, 10, 89, 3, 27, 79, 89, 4]
abbrev dktX3_pipes_2 : List UInt8 := dkwX3_pipes_2 ++ dktX3_pipes_3
def dkwX3_pipes_1 : List UInt8 := [3, 17, 0, 255, 184, 0, 62, 154, 0, 5, 5, 172, 42, 180, 0, 9, 4, 46, 16, 12, 160, 0, 5, 6]
abbrev dktX3_pipes_1 : List UInt8 := dkwX3_pipes_1 ++ dktX3_pipes_2
def dkwX3_pipes_0 : List UInt8 := [42, 27, 182, 0, 82, 153, 0, 11, 42, 28, 182, 0, 82, 154, 0, 5, 4, 172, 27, 28, 159, 0, 14, 29]
abbrev dktX3_pipes_0 : List UInt8 := dkwX3_pipes_0 ++ dktX3_pipes_1
theorem dksX3_pipes_0 : cX3_pipes.data.toList.drop 0 = dktX3_pipes_0 := by decide +kernel
theorem dksX3_pipes_1 : cX3_pipes.data.toList.drop 24 = dktX3_pipes_1 := dk_seg dksX3_pipes_0 24 rfl rfl
theorem dksX3_pipes_2 : cX3_pipes.data.toList.drop 48 = dktX3_pipes_2 := dk_seg dksX3_pipes_1 24 rfl rfl
theorem dksX3_pipes_3 : cX3_pipes.data.toList.drop 72 = dktX3_pipes_3 := dk_seg dksX3_pipes_2 24 rfl rfl
theorem dksX3_pipes_4 : cX3_pipes.data.toList.drop 95 = dktX3_pipes_4 := dk_seg dksX3_pipes_3 23 rfl rfl
theorem dksX3_pipes_5 : cX3_pipes.data.toList.drop 119 = dktX3_pipes_5 := dk_seg dksX3_pipes_4 24 rfl rfl
theorem dX3_pipes_0 : decode cX3_pipes 0 = .ok (.aload_n 0, 1) := dk_42 (dk_at dksX3_pipes_0 0 rfl rfl)
theorem dX3_pipes_1 : decode cX3_pipes 1 = .ok (.iload_n 1, 1) := dk_27 (dk_at dksX3_pipes_0 1 rfl rfl)
theorem dX3_pipes_2 : decode cX3_pipes 2 = .ok (.invokevirtual 82, 3) := dk_182 0 82 (dk_at dksX3_pipes_0 2 rfl rfl)
theorem dX3_pipes_5 : decode cX3_pipes 5 = .ok (.ifCond .eq 11, 3) := dk_153 0 11 (dk_at dksX3_pipes_0 5 rfl rfl)
theorem dX3_pipes_8 : decode cX3_pipes 8 = .ok (.aload_n 0, 1) := dk_42 (dk_at dksX3_pipes_0 8 rfl rfl)
theorem dX3_pipes_9 : decode cX3_pipes 9 = .ok (.iload_n 2, 1) := dk_28 (dk_at dksX3_pipes_0 9 rfl rfl)
theorem dX3_pipes_10 : decode cX3_pipes 10 = .ok (.invokevirtual 82, 3) := dk_182 0 82 (dk_at dksX3_pipes_0 10 rfl rfl)
theorem dX3_pipes_13 : decode cX3_pipes 13 = .ok (.ifCond .ne 5, 3) := dk_154 0 5 (dk_at dksX3_pipes_0 13 rfl rfl)
theorem dX3_pipes_16 : decode cX3_pipes 16 = .ok (.iconst 1, 1) := dk_4 (dk_at dksX3_pipes_0 16 rfl rfl)
theorem dX3_pipes_17 : decode cX3_pipes 17 = .ok (.ireturn, 1) := dk_172 (dk_at dksX3_pipes_0 17 rfl rfl)
theorem dX3_pipes_18 : decode cX3_pipes 18 = .ok (.iload_n 1, 1) := dk_27 (dk_at dksX3_pipes_0 18 rfl rfl)
theorem dX3_pipes_19 : decode cX3_pipes 19 = .ok (.iload_n 2, 1) := dk_28 (dk_at dksX3_pipes_0 19 rfl rfl)
theorem dX3_pipes_20 : decode cX3_pipes 20 = .ok (.if_icmp .eq 14, 3) := dk_159 0 14 (dk_at dksX3_pipes_0 20 rfl rfl)
theorem dX3_pipes_23 : decode cX3_pipes 23 = .ok (.iload_n 3, 1) := dk_29 (dk_at dksX3_pipes_0 23 rfl rfl)
theorem dX3_pipes_24 : decode cX3_pipes 24 = .ok (.iconst 0, 1) := dk_3 (dk_at dksX3_pipes_1 0 rfl rfl)
theorem dX3_pipes_25 : decode cX3_pipes 25 = .ok (.sipush 255, 3) := dk_17 0 255 (dk_at dksX3_pipes_1 1 rfl rfl)
theorem dX3_pipes_28 : decode cX3_pipes 28 = .ok (.invokestatic 62, 3) := dk_184 0 62 (dk_at dksX3_pipes_1 4 rfl rfl)
theorem dX3_pipes_31 : decode cX3_pipes 31 = .ok (.ifCond .ne 5, 3) := dk_154 0 5 (dk_at dksX3_pipes_1 7 rfl rfl)
theorem dX3_pipes_34 : decode cX3_pipes 34 = .ok (.iconst 2, 1) := dk_5 (dk_at dksX3_pipes_1 10 rfl rfl)
theorem dX3_pipes_35 : decode cX3_pipes 35 = .ok (.ireturn, 1) := dk_172 (dk_at dksX3_pipes_1 11 rfl rfl)
theorem dX3_pipes_36 : decode cX3_pipes 36 = .ok (.aload_n 0, 1) := dk_42 (dk_at dksX3_pipes_1 12 rfl rfl)
theorem dX3_pipes_37 : decode cX3_pipes 37 = .ok (.getfield 9, 3) := dk_180 0 9 (dk_at dksX3_pipes_1 13 rfl rfl)
theorem dX3_pipes_40 : decode cX3_pipes 40 = .ok (.iconst 1, 1) := dk_4 (dk_at dksX3_pipes_1 16 rfl rfl)
theorem dX3_pipes_41 : decode cX3_pipes 41 = .ok (.iaload, 1) := dk_46 (dk_at dksX3_pipes_1 17 rfl rfl)
theorem dX3_pipes_42 : decode cX3_pipes 42 = .ok (.bipush 12, 2) := dk_16 12 (dk_at dksX3_pipes_1 18 rfl rfl)
theorem dX3_pipes_44 : decode cX3_pipes 44 = .ok (.if_icmp .ne 5, 3) := dk_160 0 5 (dk_at dksX3_pipes_1 20 rfl rfl)
theorem dX3_pipes_47 : decode cX3_pipes 47 = .ok (.iconst 3, 1) := dk_6 (dk_at dksX3_pipes_1 23 rfl rfl)
theorem dX3_pipes_48 : decode cX3_pipes 48 = .ok (.ireturn, 1) := dk_172 (dk_at dksX3_pipes_2 0 rfl rfl)
theorem dX3_pipes_49 : decode cX3_pipes 49 = .ok (.aload_n 0, 1) := dk_42 (dk_at dksX3_pipes_2 1 rfl rfl)
theorem dX3_pipes_50 : decode cX3_pipes 50 = .ok (.getfield 9, 3) := dk_180 0 9 (dk_at dksX3_pipes_2 2 rfl rfl)
theorem dX3_pipes_53 : decode cX3_pipes 53 = .ok (.iconst 1, 1) := dk_4 (dk_at dksX3_pipes_2 5 rfl rfl)
theorem dX3_pipes_54 : decode cX3_pipes 54 = .ok (.dup2, 1) := dk_92 (dk_at dksX3_pipes_2 6 rfl rfl)
theorem dX3_pipes_55 : decode cX3_pipes 55 = .ok (.iaload, 1) := dk_46 (dk_at dksX3_pipes_2 7 rfl rfl)
theorem dX3_pipes_56 : decode cX3_pipes 56 = .ok (.dup_x2, 1) := dk_91 (dk_at dksX3_pipes_2 8 rfl rfl)
theorem dX3_pipes_57 : decode cX3_pipes 57 = .ok (.iconst 1, 1) := dk_4 (dk_at dksX3_pipes_2 9 rfl rfl)
theorem dX3_pipes_58 : decode cX3_pipes 58 = .ok (.iadd, 1) := dk_96 (dk_at dksX3_pipes_2 10 rfl rfl)
theorem dX3_pipes_59 : decode cX3_pipes 59 = .ok (.iastore, 1) := dk_79 (dk_at dksX3_pipes_2 11 rfl rfl)
theorem dX3_pipes_60 : decode cX3_pipes 60 = .ok (.istore 4, 2) := dk_54 4 (dk_at dksX3_pipes_2 12 rfl rfl)
theorem dX3_pipes_62 : decode cX3_pipes 62 = .ok (.bipush 7, 2) := dk_16 7 (dk_at dksX3_pipes_2 14 rfl rfl)
theorem dX3_pipes_64 : decode cX3_pipes 64 = .ok (.newarray .int, 2) := dk_188_10 (dk_at dksX3_pipes_2 16 rfl rfl)
theorem dX3_pipes_66 : decode cX3_pipes 66 = .ok (.dup, 1) := dk_89 (dk_at dksX3_pipes_2 18 rfl rfl)
theorem dX3_pipes_67 : decode cX3_pipes 67 = .ok (.iconst 0, 1) := dk_3 (dk_at dksX3_pipes_2 19 rfl rfl)
theorem dX3_pipes_68 : decode cX3_pipes 68 = .ok (.iload_n 1, 1) := dk_27 (dk_at dksX3_pipes_2 20 rfl rfl)
theorem dX3_pipes_69 : decode cX3_pipes 69 = .ok (.iastore, 1) := dk_79 (dk_at dksX3_pipes_2 21 rfl rfl)
theorem dX3_pipes_70 : decode cX3_pipes 70 = .ok (.dup, 1) := dk_89 (dk_at dksX3_pipes_2 22 rfl rfl)
theorem dX3_pipes_71 : decode cX3_pipes 71 = .ok (.iconst 1, 1) := dk_4 (dk_at dksX3_pipes_2 23 rfl rfl)
theorem dX3_pipes_72 : decode cX3_pipes 72 = .ok (.iload_n 2, 1) := dk_28 (dk_at dksX3_pipes_3 0 rfl rfl)
theorem dX3_pipes_73 : decode cX3_pipes 73 = .ok (.iastore, 1) := dk_79 (dk_at dksX3_pipes_3 1 rfl rfl)
theorem dX3_pipes_74 : decode cX3_pipes 74 = .ok (.dup, 1) := dk_89 (dk_at dksX3_pipes_3 2 rfl rfl)
theorem dX3_pipes_75 : decode cX3_pipes 75 = .ok (.iconst 2, 1) := dk_5 (dk_at dksX3_pipes_3 3 rfl rfl)
theorem dX3_pipes_76 : decode cX3_pipes 76 = .ok (.iload_n 3, 1) := dk_29 (dk_at dksX3_pipes_3 4 rfl rfl)
theorem dX3_pipes_77 : decode cX3_pipes 77 = .ok (.iastore, 1) := dk_79 (dk_at dksX3_pipes_3 5 rfl rfl)
theorem dX3_pipes_78 : decode cX3_pipes 78 = .ok (.dup, 1) := dk_89 (dk_at dksX3_pipes_3 6 rfl rfl)
theorem dX3_pipes_79 : decode cX3_pipes 79 = .ok (.iconst 3, 1) := dk_6 (dk_at dksX3_pipes_3 7 rfl rfl)
theorem dX3_pipes_80 : decode cX3_pipes 80 = .ok (.iconst 0, 1) := dk_3 (dk_at dksX3_pipes_3 8 rfl rfl)
theorem dX3_pipes_81 : decode cX3_pipes 81 = .ok (.iastore, 1) := dk_79 (dk_at dksX3_pipes_3 9 rfl rfl)
theorem dX3_pipes_82 : decode cX3_pipes 82 = .ok (.dup, 1) := dk_89 (dk_at dksX3_pipes_3 10 rfl rfl)
theorem dX3_pipes_83 : decode cX3_pipes 83 = .ok (.iconst 4, 1) := dk_7 (dk_at dksX3_pipes_3 11 rfl rfl)
theorem dX3_pipes_84 : decode cX3_pipes 84 = .ok (.iconst 0, 1) := dk_3 (dk_at dksX3_pipes_3 12 rfl rfl)
theorem dX3_pipes_85 : decode cX3_pipes 85 = .ok (.iastore, 1) := dk_79 (dk_at dksX3_pipes_3 13 rfl rfl)
theorem dX3_pipes_86 : decode cX3_pipes 86 = .ok (.dup, 1) := dk_89 (dk_at dksX3_pipes_3 14 rfl rfl)
theorem dX3_pipes_87 : decode cX3_pipes 87 = .ok (.iconst 5, 1) := dk_8 (dk_at dksX3_pipes_3 15 rfl rfl)
theorem dX3_pipes_88 : decode cX3_pipes 88 = .ok (.iconst 0, 1) := dk_3 (dk_at dksX3_pipes_3 16 rfl rfl)
theorem dX3_pipes_89 : decode cX3_pipes 89 = .ok (.iastore, 1) := dk_79 (dk_at dksX3_pipes_3 17 rfl rfl)
theorem dX3_pipes_90 : decode cX3_pipes 90 = .ok (.dup, 1) := dk_89 (dk_at dksX3_pipes_3 18 rfl rfl)
theorem dX3_pipes_91 : decode cX3_pipes 91 = .ok (.bipush 6, 2) := dk_16 6 (dk_at dksX3_pipes_3 19 rfl rfl)
theorem dX3_pipes_93 : decode cX3_pipes 93 = .ok (.iconst 0, 1) := dk_3 (dk_at dksX3_pipes_3 21 rfl rfl)
theorem dX3_pipes_94 : decode cX3_pipes 94 = .ok (.iastore, 1) := dk_79 (dk_at dksX3_pipes_3 22 rfl rfl)
theorem dX3_pipes_95 : decode cX3_pipes 95 = .ok (.astore 5, 2) := dk_58 5 (dk_at dksX3_pipes_4 0 rfl rfl)
theorem dX3_pipes_97 : decode cX3_pipes 97 = .ok (.iconst 0, 1) := dk_3 (dk_at dksX3_pipes_4 2 rfl rfl)
theorem dX3_pipes_98 : decode cX3_pipes 98 = .ok (.istore 6, 2) := dk_54 6 (dk_at dksX3_pipes_4 3 rfl rfl)
theorem dX3_pipes_100 : decode cX3_pipes 100 = .ok (.iload 6, 2) := dk_21 6 (dk_at dksX3_pipes_4 5 rfl rfl)
theorem dX3_pipes_102 : decode cX3_pipes 102 = .ok (.bipush 7, 2) := dk_16 7 (dk_at dksX3_pipes_4 7 rfl rfl)
theorem dX3_pipes_104 : decode cX3_pipes 104 = .ok (.if_icmp .ge 30, 3) := dk_162 0 30 (dk_at dksX3_pipes_4 9 rfl rfl)
theorem dX3_pipes_107 : decode cX3_pipes 107 = .ok (.aload_n 0, 1) := dk_42 (dk_at dksX3_pipes_4 12 rfl rfl)
theorem dX3_pipes_108 : decode cX3_pipes 108 = .ok (.getfield 9, 3) := dk_180 0 9 (dk_at dksX3_pipes_4 13 rfl rfl)
theorem dX3_pipes_111 : decode cX3_pipes 111 = .ok (.bipush 30, 2) := dk_16 30 (dk_at dksX3_pipes_4 16 rfl rfl)
theorem dX3_pipes_113 : decode cX3_pipes 113 = .ok (.bipush 7, 2) := dk_16 7 (dk_at dksX3_pipes_4 18 rfl rfl)
theorem dX3_pipes_115 : decode cX3_pipes 115 = .ok (.iload 4, 2) := dk_21 4 (dk_at dksX3_pipes_4 20 rfl rfl)
theorem dX3_pipes_117 : decode cX3_pipes 117 = .ok (.imul, 1) := dk_104 (dk_at dksX3_pipes_4 22 rfl rfl)
theorem dX3_pipes_118 : decode cX3_pipes 118 = .ok (.iadd, 1) := dk_96 (dk_at dksX3_pipes_4 23 rfl rfl)
theorem dX3_pipes_119 : decode cX3_pipes 119 = .ok (.iload 6, 2) := dk_21 6 (dk_at dksX3_pipes_5 0 rfl rfl)
theorem dX3_pipes_121 : decode cX3_pipes 121 = .ok (.iadd, 1) := dk_96 (dk_at dksX3_pipes_5 2 rfl rfl)
theorem dX3_pipes_122 : decode cX3_pipes 122 = .ok (.aload 5, 2) := dk_25 5 (dk_at dksX3_pipes_5 3 rfl rfl)
theorem dX3_pipes_124 : decode cX3_pipes 124 = .ok (.iload 6, 2) := dk_21 6 (dk_at dksX3_pipes_5 5 rfl rfl)
theorem dX3_pipes_126 : decode cX3_pipes 126 = .ok (.iaload, 1) := dk_46 (dk_at dksX3_pipes_5 7 rfl rfl)
theorem dX3_pipes_127 : decode cX3_pipes 127 = .ok (.iastore, 1) := dk_79 (dk_at dksX3_pipes_5 8 rfl rfl)
theorem dX3_pipes_128 : decode cX3_pipes 128 = .ok (.iinc 6 1, 3) := dk_132 6 1 (dk_at dksX3_pipes_5 9 rfl rfl)
theorem dX3_pipes_131 : decode cX3_pipes 131 = .ok (.goto (-31), 3) := dk_167 255 225 (dk_at dksX3_pipes_5 12 rfl rfl)
theorem dX3_pipes_134 : decode cX3_pipes 134 = .ok (.aload_n 0, 1) := dk_42 (dk_at dksX3_pipes_5 15 rfl rfl)
theorem dX3_pipes_135 : decode cX3_pipes 135 = .ok (.iload 4, 2) := dk_21 4 (dk_at dksX3_pipes_5 16 rfl rfl)
theorem dX3_pipes_137 : decode cX3_pipes 137 = .ok (.invokevirtual 70, 3) := dk_182 0 70 (dk_at dksX3_pipes_5 18 rfl rfl)
theorem dX3_pipes_140 : decode cX3_pipes 140 = .ok (.ireturn, 1) := dk_172 (dk_at dksX3_pipes_5 21 rfl rfl)
abbrev cX3_isTank : ByteArray := prog_18_method_9_code
def yX3_isTank : MethodName := ⟨RX3, "isTank", "(I)Z"⟩
def dkwX3_isTank_0 : List UInt8 := [27, 3, 42, 180, 0, 9, 3, 46, 4, 100, 184, 0, 62, 172]
abbrev dktX3_isTank_0 : List UInt8 := dkwX3_isTank_0 ++ []
theorem dksX3_isTank_0 : cX3_isTank.data.toList.drop 0 = dktX3_isTank_0 := by decide +kernel
theorem dX3_isTank_0 : decode cX3_isTank 0 = .ok (.iload_n 1, 1) := dk_27 (dk_at dksX3_isTank_0 0 rfl rfl)
theorem dX3_isTank_1 : decode cX3_isTank 1 = .ok (.iconst 0, 1) := dk_3 (dk_at dksX3_isTank_0 1 rfl rfl)
theorem dX3_isTank_2 : decode cX3_isTank 2 = .ok (.aload_n 0, 1) := dk_42 (dk_at dksX3_isTank_0 2 rfl rfl)
theorem dX3_isTank_3 : decode cX3_isTank 3 = .ok (.getfield 9, 3) := dk_180 0 9 (dk_at dksX3_isTank_0 3 rfl rfl)
theorem dX3_isTank_6 : decode cX3_isTank 6 = .ok (.iconst 0, 1) := dk_3 (dk_at dksX3_isTank_0 6 rfl rfl)
theorem dX3_isTank_7 : decode cX3_isTank 7 = .ok (.iaload, 1) := dk_46 (dk_at dksX3_isTank_0 7 rfl rfl)
theorem dX3_isTank_8 : decode cX3_isTank 8 = .ok (.iconst 1, 1) := dk_4 (dk_at dksX3_isTank_0 8 rfl rfl)
theorem dX3_isTank_9 : decode cX3_isTank 9 = .ok (.isub, 1) := dk_100 (dk_at dksX3_isTank_0 9 rfl rfl)
theorem dX3_isTank_10 : decode cX3_isTank 10 = .ok (.invokestatic 62, 3) := dk_184 0 62 (dk_at dksX3_isTank_0 10 rfl rfl)
theorem dX3_isTank_13 : decode cX3_isTank 13 = .ok (.ireturn, 1) := dk_172 (dk_at dksX3_isTank_0 13 rfl rfl)
abbrev cX3_pour : ByteArray := prog_18_method_19_code
def yX3_pour : MethodName := ⟨RX3, "pour", "(III)I"⟩
def dkwX3_pour_0 : List UInt8 := [42, 182, 0, 73, 42, 42, 27, 28, 29, 182, 0, 90, 182, 0, 79, 172]
abbrev dktX3_pour_0 : List UInt8 := dkwX3_pour_0 ++ []
theorem dksX3_pour_0 : cX3_pour.data.toList.drop 0 = dktX3_pour_0 := by decide +kernel
theorem dX3_pour_0 : decode cX3_pour 0 = .ok (.aload_n 0, 1) := dk_42 (dk_at dksX3_pour_0 0 rfl rfl)
theorem dX3_pour_1 : decode cX3_pour 1 = .ok (.invokevirtual 73, 3) := dk_182 0 73 (dk_at dksX3_pour_0 1 rfl rfl)
theorem dX3_pour_4 : decode cX3_pour 4 = .ok (.aload_n 0, 1) := dk_42 (dk_at dksX3_pour_0 4 rfl rfl)
theorem dX3_pour_5 : decode cX3_pour 5 = .ok (.aload_n 0, 1) := dk_42 (dk_at dksX3_pour_0 5 rfl rfl)
theorem dX3_pour_6 : decode cX3_pour 6 = .ok (.iload_n 1, 1) := dk_27 (dk_at dksX3_pour_0 6 rfl rfl)
theorem dX3_pour_7 : decode cX3_pour 7 = .ok (.iload_n 2, 1) := dk_28 (dk_at dksX3_pour_0 7 rfl rfl)
theorem dX3_pour_8 : decode cX3_pour 8 = .ok (.iload_n 3, 1) := dk_29 (dk_at dksX3_pour_0 8 rfl rfl)
theorem dX3_pour_9 : decode cX3_pour 9 = .ok (.invokevirtual 90, 3) := dk_182 0 90 (dk_at dksX3_pour_0 9 rfl rfl)
theorem dX3_pour_12 : decode cX3_pour 12 = .ok (.invokevirtual 79, 3) := dk_182 0 79 (dk_at dksX3_pour_0 12 rfl rfl)
theorem dX3_pour_15 : decode cX3_pour 15 = .ok (.ireturn, 1) := dk_172 (dk_at dksX3_pour_0 15 rfl rfl)
abbrev cX3_pours : ByteArray := prog_18_method_18_code
def yX3_pours : MethodName := ⟨RX3, "pours", "(III)I"⟩
def dkwX3_pours_4 : List UInt8 := [180, 0, 9, 6, 92, 46, 28, 96, 79, 42, 42, 180, 0, 9, 21, 4, 4, 96, 46, 182, 0, 70, 172]
abbrev dktX3_pours_4 : List UInt8 := dkwX3_pours_4 ++ []
def dkwX3_pours_3 : List UInt8 := [21, 4, 4, 96, 92, 46, 28, 96, 79, 42, 180, 0, 9, 21, 4, 5, 96, 92, 46, 29, 128, 79, 42]
abbrev dktX3_pours_3 : List UInt8 := dkwX3_pours_3 ++ dktX3_pours_4
def dkwX3_pours_2 : List UInt8 := [21, 4, 4, 96, 46, 28, 96, 42, 180, 0, 9, 21, 4, 46, 164, 0, 5, 6, 172, 42, 180, 0, 9]
abbrev dktX3_pours_2 : List UInt8 := dkwX3_pours_2 ++ dktX3_pours_3
def dkwX3_pours_1 : List UInt8 := [17, 0, 255, 184, 0, 62, 154, 0, 5, 5, 172, 16, 6, 6, 27, 104, 96, 54, 4, 42, 180, 0, 9]
abbrev dktX3_pours_1 : List UInt8 := dkwX3_pours_1 ++ dktX3_pours_2
def dkwX3_pours_0 : List UInt8 := [42, 27, 182, 0, 82, 154, 0, 5, 4, 172, 28, 4, 17, 3, 231, 184, 0, 62, 153, 0, 14, 29, 3]
abbrev dktX3_pours_0 : List UInt8 := dkwX3_pours_0 ++ dktX3_pours_1
theorem dksX3_pours_0 : cX3_pours.data.toList.drop 0 = dktX3_pours_0 := by decide +kernel
theorem dksX3_pours_1 : cX3_pours.data.toList.drop 23 = dktX3_pours_1 := dk_seg dksX3_pours_0 23 rfl rfl
theorem dksX3_pours_2 : cX3_pours.data.toList.drop 46 = dktX3_pours_2 := dk_seg dksX3_pours_1 23 rfl rfl
theorem dksX3_pours_3 : cX3_pours.data.toList.drop 69 = dktX3_pours_3 := dk_seg dksX3_pours_2 23 rfl rfl
theorem dksX3_pours_4 : cX3_pours.data.toList.drop 92 = dktX3_pours_4 := dk_seg dksX3_pours_3 23 rfl rfl
theorem dX3_pours_0 : decode cX3_pours 0 = .ok (.aload_n 0, 1) := dk_42 (dk_at dksX3_pours_0 0 rfl rfl)
theorem dX3_pours_1 : decode cX3_pours 1 = .ok (.iload_n 1, 1) := dk_27 (dk_at dksX3_pours_0 1 rfl rfl)
theorem dX3_pours_2 : decode cX3_pours 2 = .ok (.invokevirtual 82, 3) := dk_182 0 82 (dk_at dksX3_pours_0 2 rfl rfl)
theorem dX3_pours_5 : decode cX3_pours 5 = .ok (.ifCond .ne 5, 3) := dk_154 0 5 (dk_at dksX3_pours_0 5 rfl rfl)
theorem dX3_pours_8 : decode cX3_pours 8 = .ok (.iconst 1, 1) := dk_4 (dk_at dksX3_pours_0 8 rfl rfl)
theorem dX3_pours_9 : decode cX3_pours 9 = .ok (.ireturn, 1) := dk_172 (dk_at dksX3_pours_0 9 rfl rfl)
theorem dX3_pours_10 : decode cX3_pours 10 = .ok (.iload_n 2, 1) := dk_28 (dk_at dksX3_pours_0 10 rfl rfl)
theorem dX3_pours_11 : decode cX3_pours 11 = .ok (.iconst 1, 1) := dk_4 (dk_at dksX3_pours_0 11 rfl rfl)
theorem dX3_pours_12 : decode cX3_pours 12 = .ok (.sipush 999, 3) := dk_17 3 231 (dk_at dksX3_pours_0 12 rfl rfl)
theorem dX3_pours_15 : decode cX3_pours 15 = .ok (.invokestatic 62, 3) := dk_184 0 62 (dk_at dksX3_pours_0 15 rfl rfl)
theorem dX3_pours_18 : decode cX3_pours 18 = .ok (.ifCond .eq 14, 3) := dk_153 0 14 (dk_at dksX3_pours_0 18 rfl rfl)
theorem dX3_pours_21 : decode cX3_pours 21 = .ok (.iload_n 3, 1) := dk_29 (dk_at dksX3_pours_0 21 rfl rfl)
theorem dX3_pours_22 : decode cX3_pours 22 = .ok (.iconst 0, 1) := dk_3 (dk_at dksX3_pours_0 22 rfl rfl)
theorem dX3_pours_23 : decode cX3_pours 23 = .ok (.sipush 255, 3) := dk_17 0 255 (dk_at dksX3_pours_1 0 rfl rfl)
theorem dX3_pours_26 : decode cX3_pours 26 = .ok (.invokestatic 62, 3) := dk_184 0 62 (dk_at dksX3_pours_1 3 rfl rfl)
theorem dX3_pours_29 : decode cX3_pours 29 = .ok (.ifCond .ne 5, 3) := dk_154 0 5 (dk_at dksX3_pours_1 6 rfl rfl)
theorem dX3_pours_32 : decode cX3_pours 32 = .ok (.iconst 2, 1) := dk_5 (dk_at dksX3_pours_1 9 rfl rfl)
theorem dX3_pours_33 : decode cX3_pours 33 = .ok (.ireturn, 1) := dk_172 (dk_at dksX3_pours_1 10 rfl rfl)
theorem dX3_pours_34 : decode cX3_pours 34 = .ok (.bipush 6, 2) := dk_16 6 (dk_at dksX3_pours_1 11 rfl rfl)
theorem dX3_pours_36 : decode cX3_pours 36 = .ok (.iconst 3, 1) := dk_6 (dk_at dksX3_pours_1 13 rfl rfl)
theorem dX3_pours_37 : decode cX3_pours 37 = .ok (.iload_n 1, 1) := dk_27 (dk_at dksX3_pours_1 14 rfl rfl)
theorem dX3_pours_38 : decode cX3_pours 38 = .ok (.imul, 1) := dk_104 (dk_at dksX3_pours_1 15 rfl rfl)
theorem dX3_pours_39 : decode cX3_pours 39 = .ok (.iadd, 1) := dk_96 (dk_at dksX3_pours_1 16 rfl rfl)
theorem dX3_pours_40 : decode cX3_pours 40 = .ok (.istore 4, 2) := dk_54 4 (dk_at dksX3_pours_1 17 rfl rfl)
theorem dX3_pours_42 : decode cX3_pours 42 = .ok (.aload_n 0, 1) := dk_42 (dk_at dksX3_pours_1 19 rfl rfl)
theorem dX3_pours_43 : decode cX3_pours 43 = .ok (.getfield 9, 3) := dk_180 0 9 (dk_at dksX3_pours_1 20 rfl rfl)
theorem dX3_pours_46 : decode cX3_pours 46 = .ok (.iload 4, 2) := dk_21 4 (dk_at dksX3_pours_2 0 rfl rfl)
theorem dX3_pours_48 : decode cX3_pours 48 = .ok (.iconst 1, 1) := dk_4 (dk_at dksX3_pours_2 2 rfl rfl)
theorem dX3_pours_49 : decode cX3_pours 49 = .ok (.iadd, 1) := dk_96 (dk_at dksX3_pours_2 3 rfl rfl)
theorem dX3_pours_50 : decode cX3_pours 50 = .ok (.iaload, 1) := dk_46 (dk_at dksX3_pours_2 4 rfl rfl)
theorem dX3_pours_51 : decode cX3_pours 51 = .ok (.iload_n 2, 1) := dk_28 (dk_at dksX3_pours_2 5 rfl rfl)
theorem dX3_pours_52 : decode cX3_pours 52 = .ok (.iadd, 1) := dk_96 (dk_at dksX3_pours_2 6 rfl rfl)
theorem dX3_pours_53 : decode cX3_pours 53 = .ok (.aload_n 0, 1) := dk_42 (dk_at dksX3_pours_2 7 rfl rfl)
theorem dX3_pours_54 : decode cX3_pours 54 = .ok (.getfield 9, 3) := dk_180 0 9 (dk_at dksX3_pours_2 8 rfl rfl)
theorem dX3_pours_57 : decode cX3_pours 57 = .ok (.iload 4, 2) := dk_21 4 (dk_at dksX3_pours_2 11 rfl rfl)
theorem dX3_pours_59 : decode cX3_pours 59 = .ok (.iaload, 1) := dk_46 (dk_at dksX3_pours_2 13 rfl rfl)
theorem dX3_pours_60 : decode cX3_pours 60 = .ok (.if_icmp .le 5, 3) := dk_164 0 5 (dk_at dksX3_pours_2 14 rfl rfl)
theorem dX3_pours_63 : decode cX3_pours 63 = .ok (.iconst 3, 1) := dk_6 (dk_at dksX3_pours_2 17 rfl rfl)
theorem dX3_pours_64 : decode cX3_pours 64 = .ok (.ireturn, 1) := dk_172 (dk_at dksX3_pours_2 18 rfl rfl)
theorem dX3_pours_65 : decode cX3_pours 65 = .ok (.aload_n 0, 1) := dk_42 (dk_at dksX3_pours_2 19 rfl rfl)
theorem dX3_pours_66 : decode cX3_pours 66 = .ok (.getfield 9, 3) := dk_180 0 9 (dk_at dksX3_pours_2 20 rfl rfl)
theorem dX3_pours_69 : decode cX3_pours 69 = .ok (.iload 4, 2) := dk_21 4 (dk_at dksX3_pours_3 0 rfl rfl)
theorem dX3_pours_71 : decode cX3_pours 71 = .ok (.iconst 1, 1) := dk_4 (dk_at dksX3_pours_3 2 rfl rfl)
theorem dX3_pours_72 : decode cX3_pours 72 = .ok (.iadd, 1) := dk_96 (dk_at dksX3_pours_3 3 rfl rfl)
theorem dX3_pours_73 : decode cX3_pours 73 = .ok (.dup2, 1) := dk_92 (dk_at dksX3_pours_3 4 rfl rfl)
theorem dX3_pours_74 : decode cX3_pours 74 = .ok (.iaload, 1) := dk_46 (dk_at dksX3_pours_3 5 rfl rfl)
theorem dX3_pours_75 : decode cX3_pours 75 = .ok (.iload_n 2, 1) := dk_28 (dk_at dksX3_pours_3 6 rfl rfl)
theorem dX3_pours_76 : decode cX3_pours 76 = .ok (.iadd, 1) := dk_96 (dk_at dksX3_pours_3 7 rfl rfl)
theorem dX3_pours_77 : decode cX3_pours 77 = .ok (.iastore, 1) := dk_79 (dk_at dksX3_pours_3 8 rfl rfl)
theorem dX3_pours_78 : decode cX3_pours 78 = .ok (.aload_n 0, 1) := dk_42 (dk_at dksX3_pours_3 9 rfl rfl)
theorem dX3_pours_79 : decode cX3_pours 79 = .ok (.getfield 9, 3) := dk_180 0 9 (dk_at dksX3_pours_3 10 rfl rfl)
theorem dX3_pours_82 : decode cX3_pours 82 = .ok (.iload 4, 2) := dk_21 4 (dk_at dksX3_pours_3 13 rfl rfl)
theorem dX3_pours_84 : decode cX3_pours 84 = .ok (.iconst 2, 1) := dk_5 (dk_at dksX3_pours_3 15 rfl rfl)
theorem dX3_pours_85 : decode cX3_pours 85 = .ok (.iadd, 1) := dk_96 (dk_at dksX3_pours_3 16 rfl rfl)
theorem dX3_pours_86 : decode cX3_pours 86 = .ok (.dup2, 1) := dk_92 (dk_at dksX3_pours_3 17 rfl rfl)
theorem dX3_pours_87 : decode cX3_pours 87 = .ok (.iaload, 1) := dk_46 (dk_at dksX3_pours_3 18 rfl rfl)
theorem dX3_pours_88 : decode cX3_pours 88 = .ok (.iload_n 3, 1) := dk_29 (dk_at dksX3_pours_3 19 rfl rfl)
theorem dX3_pours_89 : decode cX3_pours 89 = .ok (.ior, 1) := dk_128 (dk_at dksX3_pours_3 20 rfl rfl)
theorem dX3_pours_90 : decode cX3_pours 90 = .ok (.iastore, 1) := dk_79 (dk_at dksX3_pours_3 21 rfl rfl)
theorem dX3_pours_91 : decode cX3_pours 91 = .ok (.aload_n 0, 1) := dk_42 (dk_at dksX3_pours_3 22 rfl rfl)
theorem dX3_pours_92 : decode cX3_pours 92 = .ok (.getfield 9, 3) := dk_180 0 9 (dk_at dksX3_pours_4 0 rfl rfl)
theorem dX3_pours_95 : decode cX3_pours 95 = .ok (.iconst 3, 1) := dk_6 (dk_at dksX3_pours_4 3 rfl rfl)
theorem dX3_pours_96 : decode cX3_pours 96 = .ok (.dup2, 1) := dk_92 (dk_at dksX3_pours_4 4 rfl rfl)
theorem dX3_pours_97 : decode cX3_pours 97 = .ok (.iaload, 1) := dk_46 (dk_at dksX3_pours_4 5 rfl rfl)
theorem dX3_pours_98 : decode cX3_pours 98 = .ok (.iload_n 2, 1) := dk_28 (dk_at dksX3_pours_4 6 rfl rfl)
theorem dX3_pours_99 : decode cX3_pours 99 = .ok (.iadd, 1) := dk_96 (dk_at dksX3_pours_4 7 rfl rfl)
theorem dX3_pours_100 : decode cX3_pours 100 = .ok (.iastore, 1) := dk_79 (dk_at dksX3_pours_4 8 rfl rfl)
theorem dX3_pours_101 : decode cX3_pours 101 = .ok (.aload_n 0, 1) := dk_42 (dk_at dksX3_pours_4 9 rfl rfl)
theorem dX3_pours_102 : decode cX3_pours 102 = .ok (.aload_n 0, 1) := dk_42 (dk_at dksX3_pours_4 10 rfl rfl)
theorem dX3_pours_103 : decode cX3_pours 103 = .ok (.getfield 9, 3) := dk_180 0 9 (dk_at dksX3_pours_4 11 rfl rfl)
theorem dX3_pours_106 : decode cX3_pours 106 = .ok (.iload 4, 2) := dk_21 4 (dk_at dksX3_pours_4 14 rfl rfl)
theorem dX3_pours_108 : decode cX3_pours 108 = .ok (.iconst 1, 1) := dk_4 (dk_at dksX3_pours_4 16 rfl rfl)
theorem dX3_pours_109 : decode cX3_pours 109 = .ok (.iadd, 1) := dk_96 (dk_at dksX3_pours_4 17 rfl rfl)
theorem dX3_pours_110 : decode cX3_pours 110 = .ok (.iaload, 1) := dk_46 (dk_at dksX3_pours_4 18 rfl rfl)
theorem dX3_pours_111 : decode cX3_pours 111 = .ok (.invokevirtual 70, 3) := dk_182 0 70 (dk_at dksX3_pours_4 19 rfl rfl)
theorem dX3_pours_114 : decode cX3_pours 114 = .ok (.ireturn, 1) := dk_172 (dk_at dksX3_pours_4 22 rfl rfl)
abbrev cX3_draw : ByteArray := prog_18_method_21_code
def yX3_draw : MethodName := ⟨RX3, "draw", "(II)I"⟩
def dkwX3_draw_0 : List UInt8 := [42, 182, 0, 73, 42, 42, 27, 28, 182, 0, 93, 182, 0, 79, 172]
abbrev dktX3_draw_0 : List UInt8 := dkwX3_draw_0 ++ []
theorem dksX3_draw_0 : cX3_draw.data.toList.drop 0 = dktX3_draw_0 := by decide +kernel
theorem dX3_draw_0 : decode cX3_draw 0 = .ok (.aload_n 0, 1) := dk_42 (dk_at dksX3_draw_0 0 rfl rfl)
theorem dX3_draw_1 : decode cX3_draw 1 = .ok (.invokevirtual 73, 3) := dk_182 0 73 (dk_at dksX3_draw_0 1 rfl rfl)
theorem dX3_draw_4 : decode cX3_draw 4 = .ok (.aload_n 0, 1) := dk_42 (dk_at dksX3_draw_0 4 rfl rfl)
theorem dX3_draw_5 : decode cX3_draw 5 = .ok (.aload_n 0, 1) := dk_42 (dk_at dksX3_draw_0 5 rfl rfl)
theorem dX3_draw_6 : decode cX3_draw 6 = .ok (.iload_n 1, 1) := dk_27 (dk_at dksX3_draw_0 6 rfl rfl)
theorem dX3_draw_7 : decode cX3_draw 7 = .ok (.iload_n 2, 1) := dk_28 (dk_at dksX3_draw_0 7 rfl rfl)
theorem dX3_draw_8 : decode cX3_draw 8 = .ok (.invokevirtual 93, 3) := dk_182 0 93 (dk_at dksX3_draw_0 8 rfl rfl)
theorem dX3_draw_11 : decode cX3_draw 11 = .ok (.invokevirtual 79, 3) := dk_182 0 79 (dk_at dksX3_draw_0 11 rfl rfl)
theorem dX3_draw_14 : decode cX3_draw 14 = .ok (.ireturn, 1) := dk_172 (dk_at dksX3_draw_0 14 rfl rfl)
abbrev cX3_draws : ByteArray := prog_18_method_20_code
def yX3_draws : MethodName := ⟨RX3, "draws", "(II)I"⟩
def dkwX3_draws_4 : List UInt8 := [4, 96, 46, 182, 0, 70, 172]
abbrev dktX3_draws_4 : List UInt8 := dkwX3_draws_4 ++ []
def dkwX3_draws_3 : List UInt8 := [180, 0, 9, 29, 5, 96, 3, 79, 42, 180, 0, 9, 7, 92, 46, 28, 96, 79, 42, 42, 180, 0, 9, 29]
abbrev dktX3_draws_3 : List UInt8 := dkwX3_draws_3 ++ dktX3_draws_4
def dkwX3_draws_2 : List UInt8 := [180, 0, 9, 29, 4, 96, 92, 46, 28, 100, 79, 42, 180, 0, 9, 29, 4, 96, 46, 154, 0, 12, 42]
abbrev dktX3_draws_2 : List UInt8 := dkwX3_draws_2 ++ dktX3_draws_3
def dkwX3_draws_1 : List UInt8 := [16, 6, 6, 27, 104, 96, 62, 42, 180, 0, 9, 29, 4, 96, 46, 28, 162, 0, 5, 6, 172, 42]
abbrev dktX3_draws_1 : List UInt8 := dkwX3_draws_1 ++ dktX3_draws_2
def dkwX3_draws_0 : List UInt8 := [42, 27, 182, 0, 82, 154, 0, 5, 4, 172, 28, 4, 17, 3, 231, 184, 0, 62, 154, 0, 5, 5, 172]
abbrev dktX3_draws_0 : List UInt8 := dkwX3_draws_0 ++ dktX3_draws_1
theorem dksX3_draws_0 : cX3_draws.data.toList.drop 0 = dktX3_draws_0 := by decide +kernel
theorem dksX3_draws_1 : cX3_draws.data.toList.drop 23 = dktX3_draws_1 := dk_seg dksX3_draws_0 23 rfl rfl
theorem dksX3_draws_2 : cX3_draws.data.toList.drop 45 = dktX3_draws_2 := dk_seg dksX3_draws_1 22 rfl rfl
theorem dksX3_draws_3 : cX3_draws.data.toList.drop 68 = dktX3_draws_3 := dk_seg dksX3_draws_2 23 rfl rfl
theorem dksX3_draws_4 : cX3_draws.data.toList.drop 92 = dktX3_draws_4 := dk_seg dksX3_draws_3 24 rfl rfl
theorem dX3_draws_0 : decode cX3_draws 0 = .ok (.aload_n 0, 1) := dk_42 (dk_at dksX3_draws_0 0 rfl rfl)
theorem dX3_draws_1 : decode cX3_draws 1 = .ok (.iload_n 1, 1) := dk_27 (dk_at dksX3_draws_0 1 rfl rfl)
theorem dX3_draws_2 : decode cX3_draws 2 = .ok (.invokevirtual 82, 3) := dk_182 0 82 (dk_at dksX3_draws_0 2 rfl rfl)
theorem dX3_draws_5 : decode cX3_draws 5 = .ok (.ifCond .ne 5, 3) := dk_154 0 5 (dk_at dksX3_draws_0 5 rfl rfl)
theorem dX3_draws_8 : decode cX3_draws 8 = .ok (.iconst 1, 1) := dk_4 (dk_at dksX3_draws_0 8 rfl rfl)
theorem dX3_draws_9 : decode cX3_draws 9 = .ok (.ireturn, 1) := dk_172 (dk_at dksX3_draws_0 9 rfl rfl)
theorem dX3_draws_10 : decode cX3_draws 10 = .ok (.iload_n 2, 1) := dk_28 (dk_at dksX3_draws_0 10 rfl rfl)
theorem dX3_draws_11 : decode cX3_draws 11 = .ok (.iconst 1, 1) := dk_4 (dk_at dksX3_draws_0 11 rfl rfl)
theorem dX3_draws_12 : decode cX3_draws 12 = .ok (.sipush 999, 3) := dk_17 3 231 (dk_at dksX3_draws_0 12 rfl rfl)
theorem dX3_draws_15 : decode cX3_draws 15 = .ok (.invokestatic 62, 3) := dk_184 0 62 (dk_at dksX3_draws_0 15 rfl rfl)
theorem dX3_draws_18 : decode cX3_draws 18 = .ok (.ifCond .ne 5, 3) := dk_154 0 5 (dk_at dksX3_draws_0 18 rfl rfl)
theorem dX3_draws_21 : decode cX3_draws 21 = .ok (.iconst 2, 1) := dk_5 (dk_at dksX3_draws_0 21 rfl rfl)
theorem dX3_draws_22 : decode cX3_draws 22 = .ok (.ireturn, 1) := dk_172 (dk_at dksX3_draws_0 22 rfl rfl)
theorem dX3_draws_23 : decode cX3_draws 23 = .ok (.bipush 6, 2) := dk_16 6 (dk_at dksX3_draws_1 0 rfl rfl)
theorem dX3_draws_25 : decode cX3_draws 25 = .ok (.iconst 3, 1) := dk_6 (dk_at dksX3_draws_1 2 rfl rfl)
theorem dX3_draws_26 : decode cX3_draws 26 = .ok (.iload_n 1, 1) := dk_27 (dk_at dksX3_draws_1 3 rfl rfl)
theorem dX3_draws_27 : decode cX3_draws 27 = .ok (.imul, 1) := dk_104 (dk_at dksX3_draws_1 4 rfl rfl)
theorem dX3_draws_28 : decode cX3_draws 28 = .ok (.iadd, 1) := dk_96 (dk_at dksX3_draws_1 5 rfl rfl)
theorem dX3_draws_29 : decode cX3_draws 29 = .ok (.istore_n 3, 1) := dk_62 (dk_at dksX3_draws_1 6 rfl rfl)
theorem dX3_draws_30 : decode cX3_draws 30 = .ok (.aload_n 0, 1) := dk_42 (dk_at dksX3_draws_1 7 rfl rfl)
theorem dX3_draws_31 : decode cX3_draws 31 = .ok (.getfield 9, 3) := dk_180 0 9 (dk_at dksX3_draws_1 8 rfl rfl)
theorem dX3_draws_34 : decode cX3_draws 34 = .ok (.iload_n 3, 1) := dk_29 (dk_at dksX3_draws_1 11 rfl rfl)
theorem dX3_draws_35 : decode cX3_draws 35 = .ok (.iconst 1, 1) := dk_4 (dk_at dksX3_draws_1 12 rfl rfl)
theorem dX3_draws_36 : decode cX3_draws 36 = .ok (.iadd, 1) := dk_96 (dk_at dksX3_draws_1 13 rfl rfl)
theorem dX3_draws_37 : decode cX3_draws 37 = .ok (.iaload, 1) := dk_46 (dk_at dksX3_draws_1 14 rfl rfl)
theorem dX3_draws_38 : decode cX3_draws 38 = .ok (.iload_n 2, 1) := dk_28 (dk_at dksX3_draws_1 15 rfl rfl)
theorem dX3_draws_39 : decode cX3_draws 39 = .ok (.if_icmp .ge 5, 3) := dk_162 0 5 (dk_at dksX3_draws_1 16 rfl rfl)
theorem dX3_draws_42 : decode cX3_draws 42 = .ok (.iconst 3, 1) := dk_6 (dk_at dksX3_draws_1 19 rfl rfl)
theorem dX3_draws_43 : decode cX3_draws 43 = .ok (.ireturn, 1) := dk_172 (dk_at dksX3_draws_1 20 rfl rfl)
theorem dX3_draws_44 : decode cX3_draws 44 = .ok (.aload_n 0, 1) := dk_42 (dk_at dksX3_draws_1 21 rfl rfl)
theorem dX3_draws_45 : decode cX3_draws 45 = .ok (.getfield 9, 3) := dk_180 0 9 (dk_at dksX3_draws_2 0 rfl rfl)
theorem dX3_draws_48 : decode cX3_draws 48 = .ok (.iload_n 3, 1) := dk_29 (dk_at dksX3_draws_2 3 rfl rfl)
theorem dX3_draws_49 : decode cX3_draws 49 = .ok (.iconst 1, 1) := dk_4 (dk_at dksX3_draws_2 4 rfl rfl)
theorem dX3_draws_50 : decode cX3_draws 50 = .ok (.iadd, 1) := dk_96 (dk_at dksX3_draws_2 5 rfl rfl)
theorem dX3_draws_51 : decode cX3_draws 51 = .ok (.dup2, 1) := dk_92 (dk_at dksX3_draws_2 6 rfl rfl)
theorem dX3_draws_52 : decode cX3_draws 52 = .ok (.iaload, 1) := dk_46 (dk_at dksX3_draws_2 7 rfl rfl)
theorem dX3_draws_53 : decode cX3_draws 53 = .ok (.iload_n 2, 1) := dk_28 (dk_at dksX3_draws_2 8 rfl rfl)
theorem dX3_draws_54 : decode cX3_draws 54 = .ok (.isub, 1) := dk_100 (dk_at dksX3_draws_2 9 rfl rfl)
theorem dX3_draws_55 : decode cX3_draws 55 = .ok (.iastore, 1) := dk_79 (dk_at dksX3_draws_2 10 rfl rfl)
theorem dX3_draws_56 : decode cX3_draws 56 = .ok (.aload_n 0, 1) := dk_42 (dk_at dksX3_draws_2 11 rfl rfl)
theorem dX3_draws_57 : decode cX3_draws 57 = .ok (.getfield 9, 3) := dk_180 0 9 (dk_at dksX3_draws_2 12 rfl rfl)
theorem dX3_draws_60 : decode cX3_draws 60 = .ok (.iload_n 3, 1) := dk_29 (dk_at dksX3_draws_2 15 rfl rfl)
theorem dX3_draws_61 : decode cX3_draws 61 = .ok (.iconst 1, 1) := dk_4 (dk_at dksX3_draws_2 16 rfl rfl)
theorem dX3_draws_62 : decode cX3_draws 62 = .ok (.iadd, 1) := dk_96 (dk_at dksX3_draws_2 17 rfl rfl)
theorem dX3_draws_63 : decode cX3_draws 63 = .ok (.iaload, 1) := dk_46 (dk_at dksX3_draws_2 18 rfl rfl)
theorem dX3_draws_64 : decode cX3_draws 64 = .ok (.ifCond .ne 12, 3) := dk_154 0 12 (dk_at dksX3_draws_2 19 rfl rfl)
theorem dX3_draws_67 : decode cX3_draws 67 = .ok (.aload_n 0, 1) := dk_42 (dk_at dksX3_draws_2 22 rfl rfl)
theorem dX3_draws_68 : decode cX3_draws 68 = .ok (.getfield 9, 3) := dk_180 0 9 (dk_at dksX3_draws_3 0 rfl rfl)
theorem dX3_draws_71 : decode cX3_draws 71 = .ok (.iload_n 3, 1) := dk_29 (dk_at dksX3_draws_3 3 rfl rfl)
theorem dX3_draws_72 : decode cX3_draws 72 = .ok (.iconst 2, 1) := dk_5 (dk_at dksX3_draws_3 4 rfl rfl)
theorem dX3_draws_73 : decode cX3_draws 73 = .ok (.iadd, 1) := dk_96 (dk_at dksX3_draws_3 5 rfl rfl)
theorem dX3_draws_74 : decode cX3_draws 74 = .ok (.iconst 0, 1) := dk_3 (dk_at dksX3_draws_3 6 rfl rfl)
theorem dX3_draws_75 : decode cX3_draws 75 = .ok (.iastore, 1) := dk_79 (dk_at dksX3_draws_3 7 rfl rfl)
theorem dX3_draws_76 : decode cX3_draws 76 = .ok (.aload_n 0, 1) := dk_42 (dk_at dksX3_draws_3 8 rfl rfl)
theorem dX3_draws_77 : decode cX3_draws 77 = .ok (.getfield 9, 3) := dk_180 0 9 (dk_at dksX3_draws_3 9 rfl rfl)
theorem dX3_draws_80 : decode cX3_draws 80 = .ok (.iconst 4, 1) := dk_7 (dk_at dksX3_draws_3 12 rfl rfl)
theorem dX3_draws_81 : decode cX3_draws 81 = .ok (.dup2, 1) := dk_92 (dk_at dksX3_draws_3 13 rfl rfl)
theorem dX3_draws_82 : decode cX3_draws 82 = .ok (.iaload, 1) := dk_46 (dk_at dksX3_draws_3 14 rfl rfl)
theorem dX3_draws_83 : decode cX3_draws 83 = .ok (.iload_n 2, 1) := dk_28 (dk_at dksX3_draws_3 15 rfl rfl)
theorem dX3_draws_84 : decode cX3_draws 84 = .ok (.iadd, 1) := dk_96 (dk_at dksX3_draws_3 16 rfl rfl)
theorem dX3_draws_85 : decode cX3_draws 85 = .ok (.iastore, 1) := dk_79 (dk_at dksX3_draws_3 17 rfl rfl)
theorem dX3_draws_86 : decode cX3_draws 86 = .ok (.aload_n 0, 1) := dk_42 (dk_at dksX3_draws_3 18 rfl rfl)
theorem dX3_draws_87 : decode cX3_draws 87 = .ok (.aload_n 0, 1) := dk_42 (dk_at dksX3_draws_3 19 rfl rfl)
theorem dX3_draws_88 : decode cX3_draws 88 = .ok (.getfield 9, 3) := dk_180 0 9 (dk_at dksX3_draws_3 20 rfl rfl)
theorem dX3_draws_91 : decode cX3_draws 91 = .ok (.iload_n 3, 1) := dk_29 (dk_at dksX3_draws_3 23 rfl rfl)
theorem dX3_draws_92 : decode cX3_draws 92 = .ok (.iconst 1, 1) := dk_4 (dk_at dksX3_draws_4 0 rfl rfl)
theorem dX3_draws_93 : decode cX3_draws 93 = .ok (.iadd, 1) := dk_96 (dk_at dksX3_draws_4 1 rfl rfl)
theorem dX3_draws_94 : decode cX3_draws 94 = .ok (.iaload, 1) := dk_46 (dk_at dksX3_draws_4 2 rfl rfl)
theorem dX3_draws_95 : decode cX3_draws 95 = .ok (.invokevirtual 70, 3) := dk_182 0 70 (dk_at dksX3_draws_4 3 rfl rfl)
theorem dX3_draws_98 : decode cX3_draws 98 = .ok (.ireturn, 1) := dk_172 (dk_at dksX3_draws_4 6 rfl rfl)
abbrev cX3_setValve : ByteArray := prog_18_method_23_code
def yX3_setValve : MethodName := ⟨RX3, "setValve", "(II)I"⟩
def dkwX3_setValve_0 : List UInt8 := [42, 182, 0, 73, 42, 42, 27, 6, 28, 7, 182, 0, 99, 182, 0, 79, 172]
abbrev dktX3_setValve_0 : List UInt8 := dkwX3_setValve_0 ++ []
theorem dksX3_setValve_0 : cX3_setValve.data.toList.drop 0 = dktX3_setValve_0 := by decide +kernel
theorem dX3_setValve_0 : decode cX3_setValve 0 = .ok (.aload_n 0, 1) := dk_42 (dk_at dksX3_setValve_0 0 rfl rfl)
theorem dX3_setValve_1 : decode cX3_setValve 1 = .ok (.invokevirtual 73, 3) := dk_182 0 73 (dk_at dksX3_setValve_0 1 rfl rfl)
theorem dX3_setValve_4 : decode cX3_setValve 4 = .ok (.aload_n 0, 1) := dk_42 (dk_at dksX3_setValve_0 4 rfl rfl)
theorem dX3_setValve_5 : decode cX3_setValve 5 = .ok (.aload_n 0, 1) := dk_42 (dk_at dksX3_setValve_0 5 rfl rfl)
theorem dX3_setValve_6 : decode cX3_setValve 6 = .ok (.iload_n 1, 1) := dk_27 (dk_at dksX3_setValve_0 6 rfl rfl)
theorem dX3_setValve_7 : decode cX3_setValve 7 = .ok (.iconst 3, 1) := dk_6 (dk_at dksX3_setValve_0 7 rfl rfl)
theorem dX3_setValve_8 : decode cX3_setValve 8 = .ok (.iload_n 2, 1) := dk_28 (dk_at dksX3_setValve_0 8 rfl rfl)
theorem dX3_setValve_9 : decode cX3_setValve 9 = .ok (.iconst 4, 1) := dk_7 (dk_at dksX3_setValve_0 9 rfl rfl)
theorem dX3_setValve_10 : decode cX3_setValve 10 = .ok (.invokevirtual 99, 3) := dk_182 0 99 (dk_at dksX3_setValve_0 10 rfl rfl)
theorem dX3_setValve_13 : decode cX3_setValve 13 = .ok (.invokevirtual 79, 3) := dk_182 0 79 (dk_at dksX3_setValve_0 13 rfl rfl)
theorem dX3_setValve_16 : decode cX3_setValve 16 = .ok (.ireturn, 1) := dk_172 (dk_at dksX3_setValve_0 16 rfl rfl)
abbrev cX3_sets : ByteArray := prog_18_method_22_code
def yX3_sets : MethodName := ⟨RX3, "sets", "(IIII)I"⟩
def dkwX3_sets_2 : List UInt8 := [182, 0, 70, 172]
abbrev dktX3_sets_2 : List UInt8 := dkwX3_sets_2 ++ []
def dkwX3_sets_1 : List UInt8 := [28, 182, 0, 66, 54, 5, 42, 180, 0, 9, 16, 30, 16, 7, 27, 104, 96, 28, 96, 29, 79, 42, 21, 5]
abbrev dktX3_sets_1 : List UInt8 := dkwX3_sets_1 ++ dktX3_sets_2
def dkwX3_sets_0 : List UInt8 := [42, 27, 182, 0, 96, 154, 0, 5, 4, 172, 29, 3, 21, 4, 184, 0, 62, 154, 0, 5, 5, 172, 42, 27]
abbrev dktX3_sets_0 : List UInt8 := dkwX3_sets_0 ++ dktX3_sets_1
theorem dksX3_sets_0 : cX3_sets.data.toList.drop 0 = dktX3_sets_0 := by decide +kernel
theorem dksX3_sets_1 : cX3_sets.data.toList.drop 24 = dktX3_sets_1 := dk_seg dksX3_sets_0 24 rfl rfl
theorem dksX3_sets_2 : cX3_sets.data.toList.drop 48 = dktX3_sets_2 := dk_seg dksX3_sets_1 24 rfl rfl
theorem dX3_sets_0 : decode cX3_sets 0 = .ok (.aload_n 0, 1) := dk_42 (dk_at dksX3_sets_0 0 rfl rfl)
theorem dX3_sets_1 : decode cX3_sets 1 = .ok (.iload_n 1, 1) := dk_27 (dk_at dksX3_sets_0 1 rfl rfl)
theorem dX3_sets_2 : decode cX3_sets 2 = .ok (.invokevirtual 96, 3) := dk_182 0 96 (dk_at dksX3_sets_0 2 rfl rfl)
theorem dX3_sets_5 : decode cX3_sets 5 = .ok (.ifCond .ne 5, 3) := dk_154 0 5 (dk_at dksX3_sets_0 5 rfl rfl)
theorem dX3_sets_8 : decode cX3_sets 8 = .ok (.iconst 1, 1) := dk_4 (dk_at dksX3_sets_0 8 rfl rfl)
theorem dX3_sets_9 : decode cX3_sets 9 = .ok (.ireturn, 1) := dk_172 (dk_at dksX3_sets_0 9 rfl rfl)
theorem dX3_sets_10 : decode cX3_sets 10 = .ok (.iload_n 3, 1) := dk_29 (dk_at dksX3_sets_0 10 rfl rfl)
theorem dX3_sets_11 : decode cX3_sets 11 = .ok (.iconst 0, 1) := dk_3 (dk_at dksX3_sets_0 11 rfl rfl)
theorem dX3_sets_12 : decode cX3_sets 12 = .ok (.iload 4, 2) := dk_21 4 (dk_at dksX3_sets_0 12 rfl rfl)
theorem dX3_sets_14 : decode cX3_sets 14 = .ok (.invokestatic 62, 3) := dk_184 0 62 (dk_at dksX3_sets_0 14 rfl rfl)
theorem dX3_sets_17 : decode cX3_sets 17 = .ok (.ifCond .ne 5, 3) := dk_154 0 5 (dk_at dksX3_sets_0 17 rfl rfl)
theorem dX3_sets_20 : decode cX3_sets 20 = .ok (.iconst 2, 1) := dk_5 (dk_at dksX3_sets_0 20 rfl rfl)
theorem dX3_sets_21 : decode cX3_sets 21 = .ok (.ireturn, 1) := dk_172 (dk_at dksX3_sets_0 21 rfl rfl)
theorem dX3_sets_22 : decode cX3_sets 22 = .ok (.aload_n 0, 1) := dk_42 (dk_at dksX3_sets_0 22 rfl rfl)
theorem dX3_sets_23 : decode cX3_sets 23 = .ok (.iload_n 1, 1) := dk_27 (dk_at dksX3_sets_0 23 rfl rfl)
theorem dX3_sets_24 : decode cX3_sets 24 = .ok (.iload_n 2, 1) := dk_28 (dk_at dksX3_sets_1 0 rfl rfl)
theorem dX3_sets_25 : decode cX3_sets 25 = .ok (.invokevirtual 66, 3) := dk_182 0 66 (dk_at dksX3_sets_1 1 rfl rfl)
theorem dX3_sets_28 : decode cX3_sets 28 = .ok (.istore 5, 2) := dk_54 5 (dk_at dksX3_sets_1 4 rfl rfl)
theorem dX3_sets_30 : decode cX3_sets 30 = .ok (.aload_n 0, 1) := dk_42 (dk_at dksX3_sets_1 6 rfl rfl)
theorem dX3_sets_31 : decode cX3_sets 31 = .ok (.getfield 9, 3) := dk_180 0 9 (dk_at dksX3_sets_1 7 rfl rfl)
theorem dX3_sets_34 : decode cX3_sets 34 = .ok (.bipush 30, 2) := dk_16 30 (dk_at dksX3_sets_1 10 rfl rfl)
theorem dX3_sets_36 : decode cX3_sets 36 = .ok (.bipush 7, 2) := dk_16 7 (dk_at dksX3_sets_1 12 rfl rfl)
theorem dX3_sets_38 : decode cX3_sets 38 = .ok (.iload_n 1, 1) := dk_27 (dk_at dksX3_sets_1 14 rfl rfl)
theorem dX3_sets_39 : decode cX3_sets 39 = .ok (.imul, 1) := dk_104 (dk_at dksX3_sets_1 15 rfl rfl)
theorem dX3_sets_40 : decode cX3_sets 40 = .ok (.iadd, 1) := dk_96 (dk_at dksX3_sets_1 16 rfl rfl)
theorem dX3_sets_41 : decode cX3_sets 41 = .ok (.iload_n 2, 1) := dk_28 (dk_at dksX3_sets_1 17 rfl rfl)
theorem dX3_sets_42 : decode cX3_sets 42 = .ok (.iadd, 1) := dk_96 (dk_at dksX3_sets_1 18 rfl rfl)
theorem dX3_sets_43 : decode cX3_sets 43 = .ok (.iload_n 3, 1) := dk_29 (dk_at dksX3_sets_1 19 rfl rfl)
theorem dX3_sets_44 : decode cX3_sets 44 = .ok (.iastore, 1) := dk_79 (dk_at dksX3_sets_1 20 rfl rfl)
theorem dX3_sets_45 : decode cX3_sets 45 = .ok (.aload_n 0, 1) := dk_42 (dk_at dksX3_sets_1 21 rfl rfl)
theorem dX3_sets_46 : decode cX3_sets 46 = .ok (.iload 5, 2) := dk_21 5 (dk_at dksX3_sets_1 22 rfl rfl)
theorem dX3_sets_48 : decode cX3_sets 48 = .ok (.invokevirtual 70, 3) := dk_182 0 70 (dk_at dksX3_sets_2 0 rfl rfl)
theorem dX3_sets_51 : decode cX3_sets 51 = .ok (.ireturn, 1) := dk_172 (dk_at dksX3_sets_2 3 rfl rfl)
abbrev cX3_isPipe : ByteArray := prog_18_method_10_code
def yX3_isPipe : MethodName := ⟨RX3, "isPipe", "(I)Z"⟩
def dkwX3_isPipe_0 : List UInt8 := [27, 3, 42, 180, 0, 9, 4, 46, 4, 100, 184, 0, 62, 172]
abbrev dktX3_isPipe_0 : List UInt8 := dkwX3_isPipe_0 ++ []
theorem dksX3_isPipe_0 : cX3_isPipe.data.toList.drop 0 = dktX3_isPipe_0 := by decide +kernel
theorem dX3_isPipe_0 : decode cX3_isPipe 0 = .ok (.iload_n 1, 1) := dk_27 (dk_at dksX3_isPipe_0 0 rfl rfl)
theorem dX3_isPipe_1 : decode cX3_isPipe 1 = .ok (.iconst 0, 1) := dk_3 (dk_at dksX3_isPipe_0 1 rfl rfl)
theorem dX3_isPipe_2 : decode cX3_isPipe 2 = .ok (.aload_n 0, 1) := dk_42 (dk_at dksX3_isPipe_0 2 rfl rfl)
theorem dX3_isPipe_3 : decode cX3_isPipe 3 = .ok (.getfield 9, 3) := dk_180 0 9 (dk_at dksX3_isPipe_0 3 rfl rfl)
theorem dX3_isPipe_6 : decode cX3_isPipe 6 = .ok (.iconst 1, 1) := dk_4 (dk_at dksX3_isPipe_0 6 rfl rfl)
theorem dX3_isPipe_7 : decode cX3_isPipe 7 = .ok (.iaload, 1) := dk_46 (dk_at dksX3_isPipe_0 7 rfl rfl)
theorem dX3_isPipe_8 : decode cX3_isPipe 8 = .ok (.iconst 1, 1) := dk_4 (dk_at dksX3_isPipe_0 8 rfl rfl)
theorem dX3_isPipe_9 : decode cX3_isPipe 9 = .ok (.isub, 1) := dk_100 (dk_at dksX3_isPipe_0 9 rfl rfl)
theorem dX3_isPipe_10 : decode cX3_isPipe 10 = .ok (.invokestatic 62, 3) := dk_184 0 62 (dk_at dksX3_isPipe_0 10 rfl rfl)
theorem dX3_isPipe_13 : decode cX3_isPipe 13 = .ok (.ireturn, 1) := dk_172 (dk_at dksX3_isPipe_0 13 rfl rfl)
abbrev cX3_pipe : ByteArray := prog_18_method_12_code
def yX3_pipe : MethodName := ⟨RX3, "pipe", "(II)I"⟩
def dkwX3_pipe_0 : List UInt8 := [42, 180, 0, 9, 16, 30, 16, 7, 27, 104, 96, 28, 96, 46, 172]
abbrev dktX3_pipe_0 : List UInt8 := dkwX3_pipe_0 ++ []
theorem dksX3_pipe_0 : cX3_pipe.data.toList.drop 0 = dktX3_pipe_0 := by decide +kernel
theorem dX3_pipe_0 : decode cX3_pipe 0 = .ok (.aload_n 0, 1) := dk_42 (dk_at dksX3_pipe_0 0 rfl rfl)
theorem dX3_pipe_1 : decode cX3_pipe 1 = .ok (.getfield 9, 3) := dk_180 0 9 (dk_at dksX3_pipe_0 1 rfl rfl)
theorem dX3_pipe_4 : decode cX3_pipe 4 = .ok (.bipush 30, 2) := dk_16 30 (dk_at dksX3_pipe_0 4 rfl rfl)
theorem dX3_pipe_6 : decode cX3_pipe 6 = .ok (.bipush 7, 2) := dk_16 7 (dk_at dksX3_pipe_0 6 rfl rfl)
theorem dX3_pipe_8 : decode cX3_pipe 8 = .ok (.iload_n 1, 1) := dk_27 (dk_at dksX3_pipe_0 8 rfl rfl)
theorem dX3_pipe_9 : decode cX3_pipe 9 = .ok (.imul, 1) := dk_104 (dk_at dksX3_pipe_0 9 rfl rfl)
theorem dX3_pipe_10 : decode cX3_pipe 10 = .ok (.iadd, 1) := dk_96 (dk_at dksX3_pipe_0 10 rfl rfl)
theorem dX3_pipe_11 : decode cX3_pipe 11 = .ok (.iload_n 2, 1) := dk_28 (dk_at dksX3_pipe_0 11 rfl rfl)
theorem dX3_pipe_12 : decode cX3_pipe 12 = .ok (.iadd, 1) := dk_96 (dk_at dksX3_pipe_0 12 rfl rfl)
theorem dX3_pipe_13 : decode cX3_pipe 13 = .ok (.iaload, 1) := dk_46 (dk_at dksX3_pipe_0 13 rfl rfl)
theorem dX3_pipe_14 : decode cX3_pipe 14 = .ok (.ireturn, 1) := dk_172 (dk_at dksX3_pipe_0 14 rfl rfl)
abbrev cX3_setLeak : ByteArray := prog_18_method_24_code
def yX3_setLeak : MethodName := ⟨RX3, "setLeak", "(II)I"⟩
def dkwX3_setLeak_0 : List UInt8 := [42, 182, 0, 73, 42, 42, 27, 7, 28, 16, 9, 182, 0, 99, 182, 0, 79, 172]
abbrev dktX3_setLeak_0 : List UInt8 := dkwX3_setLeak_0 ++ []
theorem dksX3_setLeak_0 : cX3_setLeak.data.toList.drop 0 = dktX3_setLeak_0 := by decide +kernel
theorem dX3_setLeak_0 : decode cX3_setLeak 0 = .ok (.aload_n 0, 1) := dk_42 (dk_at dksX3_setLeak_0 0 rfl rfl)
theorem dX3_setLeak_1 : decode cX3_setLeak 1 = .ok (.invokevirtual 73, 3) := dk_182 0 73 (dk_at dksX3_setLeak_0 1 rfl rfl)
theorem dX3_setLeak_4 : decode cX3_setLeak 4 = .ok (.aload_n 0, 1) := dk_42 (dk_at dksX3_setLeak_0 4 rfl rfl)
theorem dX3_setLeak_5 : decode cX3_setLeak 5 = .ok (.aload_n 0, 1) := dk_42 (dk_at dksX3_setLeak_0 5 rfl rfl)
theorem dX3_setLeak_6 : decode cX3_setLeak 6 = .ok (.iload_n 1, 1) := dk_27 (dk_at dksX3_setLeak_0 6 rfl rfl)
theorem dX3_setLeak_7 : decode cX3_setLeak 7 = .ok (.iconst 4, 1) := dk_7 (dk_at dksX3_setLeak_0 7 rfl rfl)
theorem dX3_setLeak_8 : decode cX3_setLeak 8 = .ok (.iload_n 2, 1) := dk_28 (dk_at dksX3_setLeak_0 8 rfl rfl)
theorem dX3_setLeak_9 : decode cX3_setLeak 9 = .ok (.bipush 9, 2) := dk_16 9 (dk_at dksX3_setLeak_0 9 rfl rfl)
theorem dX3_setLeak_11 : decode cX3_setLeak 11 = .ok (.invokevirtual 99, 3) := dk_182 0 99 (dk_at dksX3_setLeak_0 11 rfl rfl)
theorem dX3_setLeak_14 : decode cX3_setLeak 14 = .ok (.invokevirtual 79, 3) := dk_182 0 79 (dk_at dksX3_setLeak_0 14 rfl rfl)
theorem dX3_setLeak_17 : decode cX3_setLeak 17 = .ok (.ireturn, 1) := dk_172 (dk_at dksX3_setLeak_0 17 rfl rfl)
abbrev cX3_cleanFilter : ByteArray := prog_18_method_25_code
def yX3_cleanFilter : MethodName := ⟨RX3, "cleanFilter", "(I)I"⟩
def dkwX3_cleanFilter_0 : List UInt8 := [42, 182, 0, 73, 42, 42, 27, 8, 3, 3, 182, 0, 99, 182, 0, 79, 172]
abbrev dktX3_cleanFilter_0 : List UInt8 := dkwX3_cleanFilter_0 ++ []
theorem dksX3_cleanFilter_0 : cX3_cleanFilter.data.toList.drop 0 = dktX3_cleanFilter_0 := by decide +kernel
theorem dX3_cleanFilter_0 : decode cX3_cleanFilter 0 = .ok (.aload_n 0, 1) := dk_42 (dk_at dksX3_cleanFilter_0 0 rfl rfl)
theorem dX3_cleanFilter_1 : decode cX3_cleanFilter 1 = .ok (.invokevirtual 73, 3) := dk_182 0 73 (dk_at dksX3_cleanFilter_0 1 rfl rfl)
theorem dX3_cleanFilter_4 : decode cX3_cleanFilter 4 = .ok (.aload_n 0, 1) := dk_42 (dk_at dksX3_cleanFilter_0 4 rfl rfl)
theorem dX3_cleanFilter_5 : decode cX3_cleanFilter 5 = .ok (.aload_n 0, 1) := dk_42 (dk_at dksX3_cleanFilter_0 5 rfl rfl)
theorem dX3_cleanFilter_6 : decode cX3_cleanFilter 6 = .ok (.iload_n 1, 1) := dk_27 (dk_at dksX3_cleanFilter_0 6 rfl rfl)
theorem dX3_cleanFilter_7 : decode cX3_cleanFilter 7 = .ok (.iconst 5, 1) := dk_8 (dk_at dksX3_cleanFilter_0 7 rfl rfl)
theorem dX3_cleanFilter_8 : decode cX3_cleanFilter 8 = .ok (.iconst 0, 1) := dk_3 (dk_at dksX3_cleanFilter_0 8 rfl rfl)
theorem dX3_cleanFilter_9 : decode cX3_cleanFilter 9 = .ok (.iconst 0, 1) := dk_3 (dk_at dksX3_cleanFilter_0 9 rfl rfl)
theorem dX3_cleanFilter_10 : decode cX3_cleanFilter 10 = .ok (.invokevirtual 99, 3) := dk_182 0 99 (dk_at dksX3_cleanFilter_0 10 rfl rfl)
theorem dX3_cleanFilter_13 : decode cX3_cleanFilter 13 = .ok (.invokevirtual 79, 3) := dk_182 0 79 (dk_at dksX3_cleanFilter_0 13 rfl rfl)
theorem dX3_cleanFilter_16 : decode cX3_cleanFilter 16 = .ok (.ireturn, 1) := dk_172 (dk_at dksX3_cleanFilter_0 16 rfl rfl)
abbrev cX3_advance : ByteArray := prog_18_method_29_code
def yX3_advance : MethodName := ⟨RX3, "advance", "(I)I"⟩
def dkwX3_advance_0 : List UInt8 := [42, 182, 0, 73, 42, 42, 27, 182, 0, 129, 182, 0, 79, 172]
abbrev dktX3_advance_0 : List UInt8 := dkwX3_advance_0 ++ []
theorem dksX3_advance_0 : cX3_advance.data.toList.drop 0 = dktX3_advance_0 := by decide +kernel
theorem dX3_advance_0 : decode cX3_advance 0 = .ok (.aload_n 0, 1) := dk_42 (dk_at dksX3_advance_0 0 rfl rfl)
theorem dX3_advance_1 : decode cX3_advance 1 = .ok (.invokevirtual 73, 3) := dk_182 0 73 (dk_at dksX3_advance_0 1 rfl rfl)
theorem dX3_advance_4 : decode cX3_advance 4 = .ok (.aload_n 0, 1) := dk_42 (dk_at dksX3_advance_0 4 rfl rfl)
theorem dX3_advance_5 : decode cX3_advance 5 = .ok (.aload_n 0, 1) := dk_42 (dk_at dksX3_advance_0 5 rfl rfl)
theorem dX3_advance_6 : decode cX3_advance 6 = .ok (.iload_n 1, 1) := dk_27 (dk_at dksX3_advance_0 6 rfl rfl)
theorem dX3_advance_7 : decode cX3_advance 7 = .ok (.invokevirtual 129, 3) := dk_182 0 129 (dk_at dksX3_advance_0 7 rfl rfl)
theorem dX3_advance_10 : decode cX3_advance 10 = .ok (.invokevirtual 79, 3) := dk_182 0 79 (dk_at dksX3_advance_0 10 rfl rfl)
theorem dX3_advance_13 : decode cX3_advance 13 = .ok (.ireturn, 1) := dk_172 (dk_at dksX3_advance_0 13 rfl rfl)
abbrev cX3_passes : ByteArray := prog_18_method_28_code
def yX3_passes : MethodName := ⟨RX3, "passes", "(I)I"⟩
def dkwX3_passes_2 : List UInt8 := [8, 46, 28, 100, 182, 0, 70, 172]
abbrev dktX3_passes_2 : List UInt8 := dkwX3_passes_2 ++ []
def dkwX3_passes_1 : List UInt8 := [21, 4, 27, 162, 0, 16, 29, 42, 182, 0, 125, 96, 62, 132, 4, 1, 167, 255, 240, 42, 42, 180, 0, 9]
abbrev dktX3_passes_1 : List UInt8 := dkwX3_passes_1 ++ dktX3_passes_2
def dkwX3_passes_0 : List UInt8 := [27, 4, 16, 60, 184, 0, 62, 154, 0, 5, 4, 172, 42, 180, 0, 9, 8, 46, 61, 3, 62, 3, 54, 4]
abbrev dktX3_passes_0 : List UInt8 := dkwX3_passes_0 ++ dktX3_passes_1
theorem dksX3_passes_0 : cX3_passes.data.toList.drop 0 = dktX3_passes_0 := by decide +kernel
theorem dksX3_passes_1 : cX3_passes.data.toList.drop 24 = dktX3_passes_1 := dk_seg dksX3_passes_0 24 rfl rfl
theorem dksX3_passes_2 : cX3_passes.data.toList.drop 48 = dktX3_passes_2 := dk_seg dksX3_passes_1 24 rfl rfl
theorem dX3_passes_0 : decode cX3_passes 0 = .ok (.iload_n 1, 1) := dk_27 (dk_at dksX3_passes_0 0 rfl rfl)
theorem dX3_passes_1 : decode cX3_passes 1 = .ok (.iconst 1, 1) := dk_4 (dk_at dksX3_passes_0 1 rfl rfl)
theorem dX3_passes_2 : decode cX3_passes 2 = .ok (.bipush 60, 2) := dk_16 60 (dk_at dksX3_passes_0 2 rfl rfl)
theorem dX3_passes_4 : decode cX3_passes 4 = .ok (.invokestatic 62, 3) := dk_184 0 62 (dk_at dksX3_passes_0 4 rfl rfl)
theorem dX3_passes_7 : decode cX3_passes 7 = .ok (.ifCond .ne 5, 3) := dk_154 0 5 (dk_at dksX3_passes_0 7 rfl rfl)
theorem dX3_passes_10 : decode cX3_passes 10 = .ok (.iconst 1, 1) := dk_4 (dk_at dksX3_passes_0 10 rfl rfl)
theorem dX3_passes_11 : decode cX3_passes 11 = .ok (.ireturn, 1) := dk_172 (dk_at dksX3_passes_0 11 rfl rfl)
theorem dX3_passes_12 : decode cX3_passes 12 = .ok (.aload_n 0, 1) := dk_42 (dk_at dksX3_passes_0 12 rfl rfl)
theorem dX3_passes_13 : decode cX3_passes 13 = .ok (.getfield 9, 3) := dk_180 0 9 (dk_at dksX3_passes_0 13 rfl rfl)
theorem dX3_passes_16 : decode cX3_passes 16 = .ok (.iconst 5, 1) := dk_8 (dk_at dksX3_passes_0 16 rfl rfl)
theorem dX3_passes_17 : decode cX3_passes 17 = .ok (.iaload, 1) := dk_46 (dk_at dksX3_passes_0 17 rfl rfl)
theorem dX3_passes_18 : decode cX3_passes 18 = .ok (.istore_n 2, 1) := dk_61 (dk_at dksX3_passes_0 18 rfl rfl)
theorem dX3_passes_19 : decode cX3_passes 19 = .ok (.iconst 0, 1) := dk_3 (dk_at dksX3_passes_0 19 rfl rfl)
theorem dX3_passes_20 : decode cX3_passes 20 = .ok (.istore_n 3, 1) := dk_62 (dk_at dksX3_passes_0 20 rfl rfl)
theorem dX3_passes_21 : decode cX3_passes 21 = .ok (.iconst 0, 1) := dk_3 (dk_at dksX3_passes_0 21 rfl rfl)
theorem dX3_passes_22 : decode cX3_passes 22 = .ok (.istore 4, 2) := dk_54 4 (dk_at dksX3_passes_0 22 rfl rfl)
theorem dX3_passes_24 : decode cX3_passes 24 = .ok (.iload 4, 2) := dk_21 4 (dk_at dksX3_passes_1 0 rfl rfl)
theorem dX3_passes_26 : decode cX3_passes 26 = .ok (.iload_n 1, 1) := dk_27 (dk_at dksX3_passes_1 2 rfl rfl)
theorem dX3_passes_27 : decode cX3_passes 27 = .ok (.if_icmp .ge 16, 3) := dk_162 0 16 (dk_at dksX3_passes_1 3 rfl rfl)
theorem dX3_passes_30 : decode cX3_passes 30 = .ok (.iload_n 3, 1) := dk_29 (dk_at dksX3_passes_1 6 rfl rfl)
theorem dX3_passes_31 : decode cX3_passes 31 = .ok (.aload_n 0, 1) := dk_42 (dk_at dksX3_passes_1 7 rfl rfl)
theorem dX3_passes_32 : decode cX3_passes 32 = .ok (.invokevirtual 125, 3) := dk_182 0 125 (dk_at dksX3_passes_1 8 rfl rfl)
theorem dX3_passes_35 : decode cX3_passes 35 = .ok (.iadd, 1) := dk_96 (dk_at dksX3_passes_1 11 rfl rfl)
theorem dX3_passes_36 : decode cX3_passes 36 = .ok (.istore_n 3, 1) := dk_62 (dk_at dksX3_passes_1 12 rfl rfl)
theorem dX3_passes_37 : decode cX3_passes 37 = .ok (.iinc 4 1, 3) := dk_132 4 1 (dk_at dksX3_passes_1 13 rfl rfl)
theorem dX3_passes_40 : decode cX3_passes 40 = .ok (.goto (-16), 3) := dk_167 255 240 (dk_at dksX3_passes_1 16 rfl rfl)
theorem dX3_passes_43 : decode cX3_passes 43 = .ok (.aload_n 0, 1) := dk_42 (dk_at dksX3_passes_1 19 rfl rfl)
theorem dX3_passes_44 : decode cX3_passes 44 = .ok (.aload_n 0, 1) := dk_42 (dk_at dksX3_passes_1 20 rfl rfl)
theorem dX3_passes_45 : decode cX3_passes 45 = .ok (.getfield 9, 3) := dk_180 0 9 (dk_at dksX3_passes_1 21 rfl rfl)
theorem dX3_passes_48 : decode cX3_passes 48 = .ok (.iconst 5, 1) := dk_8 (dk_at dksX3_passes_2 0 rfl rfl)
theorem dX3_passes_49 : decode cX3_passes 49 = .ok (.iaload, 1) := dk_46 (dk_at dksX3_passes_2 1 rfl rfl)
theorem dX3_passes_50 : decode cX3_passes 50 = .ok (.iload_n 2, 1) := dk_28 (dk_at dksX3_passes_2 2 rfl rfl)
theorem dX3_passes_51 : decode cX3_passes 51 = .ok (.isub, 1) := dk_100 (dk_at dksX3_passes_2 3 rfl rfl)
theorem dX3_passes_52 : decode cX3_passes 52 = .ok (.invokevirtual 70, 3) := dk_182 0 70 (dk_at dksX3_passes_2 4 rfl rfl)
theorem dX3_passes_55 : decode cX3_passes 55 = .ok (.ireturn, 1) := dk_172 (dk_at dksX3_passes_2 7 rfl rfl)
abbrev cX3_minute : ByteArray := prog_18_method_27_code
def yX3_minute : MethodName := ⟨RX3, "minute", "()I"⟩
def dkwX3_minute_11 : List UInt8 := [132, 2, 1, 167, 255, 12, 27, 172]
abbrev dktX3_minute_11 : List UInt8 := dkwX3_minute_11 ++ []
def dkwX3_minute_10 : List UInt8 := [180, 0, 9, 21, 8, 5, 96, 46, 126, 184, 0, 120, 96, 184, 0, 114, 79, 27, 21, 6, 96, 60]
abbrev dktX3_minute_10 : List UInt8 := dkwX3_minute_10 ++ dktX3_minute_11
def dkwX3_minute_9 : List UInt8 := [96, 16, 20, 42, 180, 0, 9, 21, 8, 8, 96, 46, 42, 180, 0, 9, 21, 4, 5, 96, 46, 42]
abbrev dktX3_minute_9 : List UInt8 := dkwX3_minute_9 ++ dktX3_minute_10
def dkwX3_minute_8 : List UInt8 := [5, 96, 46, 42, 180, 0, 9, 21, 8, 5, 96, 46, 2, 130, 126, 128, 79, 42, 180, 0, 9, 21, 8, 8]
abbrev dktX3_minute_8 : List UInt8 := dkwX3_minute_8 ++ dktX3_minute_9
def dkwX3_minute_7 : List UInt8 := [79, 21, 6, 21, 7, 164, 0, 36, 42, 180, 0, 9, 21, 5, 5, 96, 92, 46, 42, 180, 0, 9, 21, 4]
abbrev dktX3_minute_7 : List UInt8 := dkwX3_minute_7 ++ dktX3_minute_8
def dkwX3_minute_6 : List UInt8 := [180, 0, 9, 8, 92, 46, 21, 7, 96, 79, 42, 180, 0, 9, 21, 8, 16, 6, 96, 92, 46, 21, 6, 96]
abbrev dktX3_minute_6 : List UInt8 := dkwX3_minute_6 ++ dktX3_minute_7
def dkwX3_minute_5 : List UInt8 := [21, 6, 100, 79, 42, 180, 0, 9, 21, 5, 4, 96, 92, 46, 21, 6, 21, 7, 100, 96, 79, 42]
abbrev dktX3_minute_5 : List UInt8 := dkwX3_minute_5 ++ dktX3_minute_6
def dkwX3_minute_4 : List UInt8 := [184, 0, 114, 54, 7, 16, 30, 16, 7, 28, 104, 96, 54, 8, 42, 180, 0, 9, 21, 4, 4, 96, 92, 46]
abbrev dktX3_minute_4 : List UInt8 := dkwX3_minute_4 ++ dktX3_minute_5
def dkwX3_minute_3 : List UInt8 := [3, 182, 0, 66, 104, 96, 54, 5, 29, 184, 0, 109, 54, 6, 21, 6, 42, 28, 7, 182, 0, 66]
abbrev dktX3_minute_3 : List UInt8 := dkwX3_minute_3 ++ dktX3_minute_4
def dkwX3_minute_2 : List UInt8 := [167, 0, 4, 4, 182, 0, 66, 104, 96, 54, 4, 16, 6, 6, 42, 28, 29, 158, 0, 7, 4, 167, 0, 4]
abbrev dktX3_minute_2 : List UInt8 := dkwX3_minute_2 ++ dktX3_minute_3
def dkwX3_minute_1 : List UInt8 := [42, 28, 182, 0, 117, 62, 29, 154, 0, 6, 167, 0, 221, 16, 6, 6, 42, 28, 29, 158, 0, 7, 3]
abbrev dktX3_minute_1 : List UInt8 := dkwX3_minute_1 ++ dktX3_minute_2
def dkwX3_minute_0 : List UInt8 := [3, 60, 42, 180, 0, 9, 5, 92, 46, 4, 96, 79, 3, 61, 28, 42, 180, 0, 9, 4, 46, 162, 0, 240]
abbrev dktX3_minute_0 : List UInt8 := dkwX3_minute_0 ++ dktX3_minute_1
theorem dksX3_minute_0 : cX3_minute.data.toList.drop 0 = dktX3_minute_0 := by decide +kernel
theorem dksX3_minute_1 : cX3_minute.data.toList.drop 24 = dktX3_minute_1 := dk_seg dksX3_minute_0 24 rfl rfl
theorem dksX3_minute_2 : cX3_minute.data.toList.drop 47 = dktX3_minute_2 := dk_seg dksX3_minute_1 23 rfl rfl
theorem dksX3_minute_3 : cX3_minute.data.toList.drop 71 = dktX3_minute_3 := dk_seg dksX3_minute_2 24 rfl rfl
theorem dksX3_minute_4 : cX3_minute.data.toList.drop 93 = dktX3_minute_4 := dk_seg dksX3_minute_3 22 rfl rfl
theorem dksX3_minute_5 : cX3_minute.data.toList.drop 117 = dktX3_minute_5 := dk_seg dksX3_minute_4 24 rfl rfl
theorem dksX3_minute_6 : cX3_minute.data.toList.drop 139 = dktX3_minute_6 := dk_seg dksX3_minute_5 22 rfl rfl
theorem dksX3_minute_7 : cX3_minute.data.toList.drop 163 = dktX3_minute_7 := dk_seg dksX3_minute_6 24 rfl rfl
theorem dksX3_minute_8 : cX3_minute.data.toList.drop 187 = dktX3_minute_8 := dk_seg dksX3_minute_7 24 rfl rfl
theorem dksX3_minute_9 : cX3_minute.data.toList.drop 211 = dktX3_minute_9 := dk_seg dksX3_minute_8 24 rfl rfl
theorem dksX3_minute_10 : cX3_minute.data.toList.drop 233 = dktX3_minute_10 := dk_seg dksX3_minute_9 22 rfl rfl
theorem dksX3_minute_11 : cX3_minute.data.toList.drop 255 = dktX3_minute_11 := dk_seg dksX3_minute_10 22 rfl rfl
theorem dX3_minute_0 : decode cX3_minute 0 = .ok (.iconst 0, 1) := dk_3 (dk_at dksX3_minute_0 0 rfl rfl)
theorem dX3_minute_1 : decode cX3_minute 1 = .ok (.istore_n 1, 1) := dk_60 (dk_at dksX3_minute_0 1 rfl rfl)
theorem dX3_minute_2 : decode cX3_minute 2 = .ok (.aload_n 0, 1) := dk_42 (dk_at dksX3_minute_0 2 rfl rfl)
theorem dX3_minute_3 : decode cX3_minute 3 = .ok (.getfield 9, 3) := dk_180 0 9 (dk_at dksX3_minute_0 3 rfl rfl)
theorem dX3_minute_6 : decode cX3_minute 6 = .ok (.iconst 2, 1) := dk_5 (dk_at dksX3_minute_0 6 rfl rfl)
theorem dX3_minute_7 : decode cX3_minute 7 = .ok (.dup2, 1) := dk_92 (dk_at dksX3_minute_0 7 rfl rfl)
theorem dX3_minute_8 : decode cX3_minute 8 = .ok (.iaload, 1) := dk_46 (dk_at dksX3_minute_0 8 rfl rfl)
theorem dX3_minute_9 : decode cX3_minute 9 = .ok (.iconst 1, 1) := dk_4 (dk_at dksX3_minute_0 9 rfl rfl)
theorem dX3_minute_10 : decode cX3_minute 10 = .ok (.iadd, 1) := dk_96 (dk_at dksX3_minute_0 10 rfl rfl)
theorem dX3_minute_11 : decode cX3_minute 11 = .ok (.iastore, 1) := dk_79 (dk_at dksX3_minute_0 11 rfl rfl)
theorem dX3_minute_12 : decode cX3_minute 12 = .ok (.iconst 0, 1) := dk_3 (dk_at dksX3_minute_0 12 rfl rfl)
theorem dX3_minute_13 : decode cX3_minute 13 = .ok (.istore_n 2, 1) := dk_61 (dk_at dksX3_minute_0 13 rfl rfl)
theorem dX3_minute_14 : decode cX3_minute 14 = .ok (.iload_n 2, 1) := dk_28 (dk_at dksX3_minute_0 14 rfl rfl)
theorem dX3_minute_15 : decode cX3_minute 15 = .ok (.aload_n 0, 1) := dk_42 (dk_at dksX3_minute_0 15 rfl rfl)
theorem dX3_minute_16 : decode cX3_minute 16 = .ok (.getfield 9, 3) := dk_180 0 9 (dk_at dksX3_minute_0 16 rfl rfl)
theorem dX3_minute_19 : decode cX3_minute 19 = .ok (.iconst 1, 1) := dk_4 (dk_at dksX3_minute_0 19 rfl rfl)
theorem dX3_minute_20 : decode cX3_minute 20 = .ok (.iaload, 1) := dk_46 (dk_at dksX3_minute_0 20 rfl rfl)
theorem dX3_minute_21 : decode cX3_minute 21 = .ok (.if_icmp .ge 240, 3) := dk_162 0 240 (dk_at dksX3_minute_0 21 rfl rfl)
theorem dX3_minute_24 : decode cX3_minute 24 = .ok (.aload_n 0, 1) := dk_42 (dk_at dksX3_minute_1 0 rfl rfl)
theorem dX3_minute_25 : decode cX3_minute 25 = .ok (.iload_n 2, 1) := dk_28 (dk_at dksX3_minute_1 1 rfl rfl)
theorem dX3_minute_26 : decode cX3_minute 26 = .ok (.invokevirtual 117, 3) := dk_182 0 117 (dk_at dksX3_minute_1 2 rfl rfl)
theorem dX3_minute_29 : decode cX3_minute 29 = .ok (.istore_n 3, 1) := dk_62 (dk_at dksX3_minute_1 5 rfl rfl)
theorem dX3_minute_30 : decode cX3_minute 30 = .ok (.iload_n 3, 1) := dk_29 (dk_at dksX3_minute_1 6 rfl rfl)
theorem dX3_minute_31 : decode cX3_minute 31 = .ok (.ifCond .ne 6, 3) := dk_154 0 6 (dk_at dksX3_minute_1 7 rfl rfl)
theorem dX3_minute_34 : decode cX3_minute 34 = .ok (.goto 221, 3) := dk_167 0 221 (dk_at dksX3_minute_1 10 rfl rfl)
theorem dX3_minute_37 : decode cX3_minute 37 = .ok (.bipush 6, 2) := dk_16 6 (dk_at dksX3_minute_1 13 rfl rfl)
theorem dX3_minute_39 : decode cX3_minute 39 = .ok (.iconst 3, 1) := dk_6 (dk_at dksX3_minute_1 15 rfl rfl)
theorem dX3_minute_40 : decode cX3_minute 40 = .ok (.aload_n 0, 1) := dk_42 (dk_at dksX3_minute_1 16 rfl rfl)
theorem dX3_minute_41 : decode cX3_minute 41 = .ok (.iload_n 2, 1) := dk_28 (dk_at dksX3_minute_1 17 rfl rfl)
theorem dX3_minute_42 : decode cX3_minute 42 = .ok (.iload_n 3, 1) := dk_29 (dk_at dksX3_minute_1 18 rfl rfl)
theorem dX3_minute_43 : decode cX3_minute 43 = .ok (.ifCond .le 7, 3) := dk_158 0 7 (dk_at dksX3_minute_1 19 rfl rfl)
theorem dX3_minute_46 : decode cX3_minute 46 = .ok (.iconst 0, 1) := dk_3 (dk_at dksX3_minute_1 22 rfl rfl)
theorem dX3_minute_47 : decode cX3_minute 47 = .ok (.goto 4, 3) := dk_167 0 4 (dk_at dksX3_minute_2 0 rfl rfl)
theorem dX3_minute_50 : decode cX3_minute 50 = .ok (.iconst 1, 1) := dk_4 (dk_at dksX3_minute_2 3 rfl rfl)
theorem dX3_minute_51 : decode cX3_minute 51 = .ok (.invokevirtual 66, 3) := dk_182 0 66 (dk_at dksX3_minute_2 4 rfl rfl)
theorem dX3_minute_54 : decode cX3_minute 54 = .ok (.imul, 1) := dk_104 (dk_at dksX3_minute_2 7 rfl rfl)
theorem dX3_minute_55 : decode cX3_minute 55 = .ok (.iadd, 1) := dk_96 (dk_at dksX3_minute_2 8 rfl rfl)
theorem dX3_minute_56 : decode cX3_minute 56 = .ok (.istore 4, 2) := dk_54 4 (dk_at dksX3_minute_2 9 rfl rfl)
theorem dX3_minute_58 : decode cX3_minute 58 = .ok (.bipush 6, 2) := dk_16 6 (dk_at dksX3_minute_2 11 rfl rfl)
theorem dX3_minute_60 : decode cX3_minute 60 = .ok (.iconst 3, 1) := dk_6 (dk_at dksX3_minute_2 13 rfl rfl)
theorem dX3_minute_61 : decode cX3_minute 61 = .ok (.aload_n 0, 1) := dk_42 (dk_at dksX3_minute_2 14 rfl rfl)
theorem dX3_minute_62 : decode cX3_minute 62 = .ok (.iload_n 2, 1) := dk_28 (dk_at dksX3_minute_2 15 rfl rfl)
theorem dX3_minute_63 : decode cX3_minute 63 = .ok (.iload_n 3, 1) := dk_29 (dk_at dksX3_minute_2 16 rfl rfl)
theorem dX3_minute_64 : decode cX3_minute 64 = .ok (.ifCond .le 7, 3) := dk_158 0 7 (dk_at dksX3_minute_2 17 rfl rfl)
theorem dX3_minute_67 : decode cX3_minute 67 = .ok (.iconst 1, 1) := dk_4 (dk_at dksX3_minute_2 20 rfl rfl)
theorem dX3_minute_68 : decode cX3_minute 68 = .ok (.goto 4, 3) := dk_167 0 4 (dk_at dksX3_minute_2 21 rfl rfl)
theorem dX3_minute_71 : decode cX3_minute 71 = .ok (.iconst 0, 1) := dk_3 (dk_at dksX3_minute_3 0 rfl rfl)
theorem dX3_minute_72 : decode cX3_minute 72 = .ok (.invokevirtual 66, 3) := dk_182 0 66 (dk_at dksX3_minute_3 1 rfl rfl)
theorem dX3_minute_75 : decode cX3_minute 75 = .ok (.imul, 1) := dk_104 (dk_at dksX3_minute_3 4 rfl rfl)
theorem dX3_minute_76 : decode cX3_minute 76 = .ok (.iadd, 1) := dk_96 (dk_at dksX3_minute_3 5 rfl rfl)
theorem dX3_minute_77 : decode cX3_minute 77 = .ok (.istore 5, 2) := dk_54 5 (dk_at dksX3_minute_3 6 rfl rfl)
theorem dX3_minute_79 : decode cX3_minute 79 = .ok (.iload_n 3, 1) := dk_29 (dk_at dksX3_minute_3 8 rfl rfl)
theorem dX3_minute_80 : decode cX3_minute 80 = .ok (.invokestatic 109, 3) := dk_184 0 109 (dk_at dksX3_minute_3 9 rfl rfl)
theorem dX3_minute_83 : decode cX3_minute 83 = .ok (.istore 6, 2) := dk_54 6 (dk_at dksX3_minute_3 12 rfl rfl)
theorem dX3_minute_85 : decode cX3_minute 85 = .ok (.iload 6, 2) := dk_21 6 (dk_at dksX3_minute_3 14 rfl rfl)
theorem dX3_minute_87 : decode cX3_minute 87 = .ok (.aload_n 0, 1) := dk_42 (dk_at dksX3_minute_3 16 rfl rfl)
theorem dX3_minute_88 : decode cX3_minute 88 = .ok (.iload_n 2, 1) := dk_28 (dk_at dksX3_minute_3 17 rfl rfl)
theorem dX3_minute_89 : decode cX3_minute 89 = .ok (.iconst 4, 1) := dk_7 (dk_at dksX3_minute_3 18 rfl rfl)
theorem dX3_minute_90 : decode cX3_minute 90 = .ok (.invokevirtual 66, 3) := dk_182 0 66 (dk_at dksX3_minute_3 19 rfl rfl)
theorem dX3_minute_93 : decode cX3_minute 93 = .ok (.invokestatic 114, 3) := dk_184 0 114 (dk_at dksX3_minute_4 0 rfl rfl)
theorem dX3_minute_96 : decode cX3_minute 96 = .ok (.istore 7, 2) := dk_54 7 (dk_at dksX3_minute_4 3 rfl rfl)
theorem dX3_minute_98 : decode cX3_minute 98 = .ok (.bipush 30, 2) := dk_16 30 (dk_at dksX3_minute_4 5 rfl rfl)
theorem dX3_minute_100 : decode cX3_minute 100 = .ok (.bipush 7, 2) := dk_16 7 (dk_at dksX3_minute_4 7 rfl rfl)
theorem dX3_minute_102 : decode cX3_minute 102 = .ok (.iload_n 2, 1) := dk_28 (dk_at dksX3_minute_4 9 rfl rfl)
theorem dX3_minute_103 : decode cX3_minute 103 = .ok (.imul, 1) := dk_104 (dk_at dksX3_minute_4 10 rfl rfl)
theorem dX3_minute_104 : decode cX3_minute 104 = .ok (.iadd, 1) := dk_96 (dk_at dksX3_minute_4 11 rfl rfl)
theorem dX3_minute_105 : decode cX3_minute 105 = .ok (.istore 8, 2) := dk_54 8 (dk_at dksX3_minute_4 12 rfl rfl)
theorem dX3_minute_107 : decode cX3_minute 107 = .ok (.aload_n 0, 1) := dk_42 (dk_at dksX3_minute_4 14 rfl rfl)
theorem dX3_minute_108 : decode cX3_minute 108 = .ok (.getfield 9, 3) := dk_180 0 9 (dk_at dksX3_minute_4 15 rfl rfl)
theorem dX3_minute_111 : decode cX3_minute 111 = .ok (.iload 4, 2) := dk_21 4 (dk_at dksX3_minute_4 18 rfl rfl)
theorem dX3_minute_113 : decode cX3_minute 113 = .ok (.iconst 1, 1) := dk_4 (dk_at dksX3_minute_4 20 rfl rfl)
theorem dX3_minute_114 : decode cX3_minute 114 = .ok (.iadd, 1) := dk_96 (dk_at dksX3_minute_4 21 rfl rfl)
theorem dX3_minute_115 : decode cX3_minute 115 = .ok (.dup2, 1) := dk_92 (dk_at dksX3_minute_4 22 rfl rfl)
theorem dX3_minute_116 : decode cX3_minute 116 = .ok (.iaload, 1) := dk_46 (dk_at dksX3_minute_4 23 rfl rfl)
theorem dX3_minute_117 : decode cX3_minute 117 = .ok (.iload 6, 2) := dk_21 6 (dk_at dksX3_minute_5 0 rfl rfl)
theorem dX3_minute_119 : decode cX3_minute 119 = .ok (.isub, 1) := dk_100 (dk_at dksX3_minute_5 2 rfl rfl)
theorem dX3_minute_120 : decode cX3_minute 120 = .ok (.iastore, 1) := dk_79 (dk_at dksX3_minute_5 3 rfl rfl)
theorem dX3_minute_121 : decode cX3_minute 121 = .ok (.aload_n 0, 1) := dk_42 (dk_at dksX3_minute_5 4 rfl rfl)
theorem dX3_minute_122 : decode cX3_minute 122 = .ok (.getfield 9, 3) := dk_180 0 9 (dk_at dksX3_minute_5 5 rfl rfl)
theorem dX3_minute_125 : decode cX3_minute 125 = .ok (.iload 5, 2) := dk_21 5 (dk_at dksX3_minute_5 8 rfl rfl)
theorem dX3_minute_127 : decode cX3_minute 127 = .ok (.iconst 1, 1) := dk_4 (dk_at dksX3_minute_5 10 rfl rfl)
theorem dX3_minute_128 : decode cX3_minute 128 = .ok (.iadd, 1) := dk_96 (dk_at dksX3_minute_5 11 rfl rfl)
theorem dX3_minute_129 : decode cX3_minute 129 = .ok (.dup2, 1) := dk_92 (dk_at dksX3_minute_5 12 rfl rfl)
theorem dX3_minute_130 : decode cX3_minute 130 = .ok (.iaload, 1) := dk_46 (dk_at dksX3_minute_5 13 rfl rfl)
theorem dX3_minute_131 : decode cX3_minute 131 = .ok (.iload 6, 2) := dk_21 6 (dk_at dksX3_minute_5 14 rfl rfl)
theorem dX3_minute_133 : decode cX3_minute 133 = .ok (.iload 7, 2) := dk_21 7 (dk_at dksX3_minute_5 16 rfl rfl)
theorem dX3_minute_135 : decode cX3_minute 135 = .ok (.isub, 1) := dk_100 (dk_at dksX3_minute_5 18 rfl rfl)
theorem dX3_minute_136 : decode cX3_minute 136 = .ok (.iadd, 1) := dk_96 (dk_at dksX3_minute_5 19 rfl rfl)
theorem dX3_minute_137 : decode cX3_minute 137 = .ok (.iastore, 1) := dk_79 (dk_at dksX3_minute_5 20 rfl rfl)
theorem dX3_minute_138 : decode cX3_minute 138 = .ok (.aload_n 0, 1) := dk_42 (dk_at dksX3_minute_5 21 rfl rfl)
theorem dX3_minute_139 : decode cX3_minute 139 = .ok (.getfield 9, 3) := dk_180 0 9 (dk_at dksX3_minute_6 0 rfl rfl)
theorem dX3_minute_142 : decode cX3_minute 142 = .ok (.iconst 5, 1) := dk_8 (dk_at dksX3_minute_6 3 rfl rfl)
theorem dX3_minute_143 : decode cX3_minute 143 = .ok (.dup2, 1) := dk_92 (dk_at dksX3_minute_6 4 rfl rfl)
theorem dX3_minute_144 : decode cX3_minute 144 = .ok (.iaload, 1) := dk_46 (dk_at dksX3_minute_6 5 rfl rfl)
theorem dX3_minute_145 : decode cX3_minute 145 = .ok (.iload 7, 2) := dk_21 7 (dk_at dksX3_minute_6 6 rfl rfl)
theorem dX3_minute_147 : decode cX3_minute 147 = .ok (.iadd, 1) := dk_96 (dk_at dksX3_minute_6 8 rfl rfl)
theorem dX3_minute_148 : decode cX3_minute 148 = .ok (.iastore, 1) := dk_79 (dk_at dksX3_minute_6 9 rfl rfl)
theorem dX3_minute_149 : decode cX3_minute 149 = .ok (.aload_n 0, 1) := dk_42 (dk_at dksX3_minute_6 10 rfl rfl)
theorem dX3_minute_150 : decode cX3_minute 150 = .ok (.getfield 9, 3) := dk_180 0 9 (dk_at dksX3_minute_6 11 rfl rfl)
theorem dX3_minute_153 : decode cX3_minute 153 = .ok (.iload 8, 2) := dk_21 8 (dk_at dksX3_minute_6 14 rfl rfl)
theorem dX3_minute_155 : decode cX3_minute 155 = .ok (.bipush 6, 2) := dk_16 6 (dk_at dksX3_minute_6 16 rfl rfl)
theorem dX3_minute_157 : decode cX3_minute 157 = .ok (.iadd, 1) := dk_96 (dk_at dksX3_minute_6 18 rfl rfl)
theorem dX3_minute_158 : decode cX3_minute 158 = .ok (.dup2, 1) := dk_92 (dk_at dksX3_minute_6 19 rfl rfl)
theorem dX3_minute_159 : decode cX3_minute 159 = .ok (.iaload, 1) := dk_46 (dk_at dksX3_minute_6 20 rfl rfl)
theorem dX3_minute_160 : decode cX3_minute 160 = .ok (.iload 6, 2) := dk_21 6 (dk_at dksX3_minute_6 21 rfl rfl)
theorem dX3_minute_162 : decode cX3_minute 162 = .ok (.iadd, 1) := dk_96 (dk_at dksX3_minute_6 23 rfl rfl)
theorem dX3_minute_163 : decode cX3_minute 163 = .ok (.iastore, 1) := dk_79 (dk_at dksX3_minute_7 0 rfl rfl)
theorem dX3_minute_164 : decode cX3_minute 164 = .ok (.iload 6, 2) := dk_21 6 (dk_at dksX3_minute_7 1 rfl rfl)
theorem dX3_minute_166 : decode cX3_minute 166 = .ok (.iload 7, 2) := dk_21 7 (dk_at dksX3_minute_7 3 rfl rfl)
theorem dX3_minute_168 : decode cX3_minute 168 = .ok (.if_icmp .le 36, 3) := dk_164 0 36 (dk_at dksX3_minute_7 5 rfl rfl)
theorem dX3_minute_171 : decode cX3_minute 171 = .ok (.aload_n 0, 1) := dk_42 (dk_at dksX3_minute_7 8 rfl rfl)
theorem dX3_minute_172 : decode cX3_minute 172 = .ok (.getfield 9, 3) := dk_180 0 9 (dk_at dksX3_minute_7 9 rfl rfl)
theorem dX3_minute_175 : decode cX3_minute 175 = .ok (.iload 5, 2) := dk_21 5 (dk_at dksX3_minute_7 12 rfl rfl)
theorem dX3_minute_177 : decode cX3_minute 177 = .ok (.iconst 2, 1) := dk_5 (dk_at dksX3_minute_7 14 rfl rfl)
theorem dX3_minute_178 : decode cX3_minute 178 = .ok (.iadd, 1) := dk_96 (dk_at dksX3_minute_7 15 rfl rfl)
theorem dX3_minute_179 : decode cX3_minute 179 = .ok (.dup2, 1) := dk_92 (dk_at dksX3_minute_7 16 rfl rfl)
theorem dX3_minute_180 : decode cX3_minute 180 = .ok (.iaload, 1) := dk_46 (dk_at dksX3_minute_7 17 rfl rfl)
theorem dX3_minute_181 : decode cX3_minute 181 = .ok (.aload_n 0, 1) := dk_42 (dk_at dksX3_minute_7 18 rfl rfl)
theorem dX3_minute_182 : decode cX3_minute 182 = .ok (.getfield 9, 3) := dk_180 0 9 (dk_at dksX3_minute_7 19 rfl rfl)
theorem dX3_minute_185 : decode cX3_minute 185 = .ok (.iload 4, 2) := dk_21 4 (dk_at dksX3_minute_7 22 rfl rfl)
theorem dX3_minute_187 : decode cX3_minute 187 = .ok (.iconst 2, 1) := dk_5 (dk_at dksX3_minute_8 0 rfl rfl)
theorem dX3_minute_188 : decode cX3_minute 188 = .ok (.iadd, 1) := dk_96 (dk_at dksX3_minute_8 1 rfl rfl)
theorem dX3_minute_189 : decode cX3_minute 189 = .ok (.iaload, 1) := dk_46 (dk_at dksX3_minute_8 2 rfl rfl)
theorem dX3_minute_190 : decode cX3_minute 190 = .ok (.aload_n 0, 1) := dk_42 (dk_at dksX3_minute_8 3 rfl rfl)
theorem dX3_minute_191 : decode cX3_minute 191 = .ok (.getfield 9, 3) := dk_180 0 9 (dk_at dksX3_minute_8 4 rfl rfl)
theorem dX3_minute_194 : decode cX3_minute 194 = .ok (.iload 8, 2) := dk_21 8 (dk_at dksX3_minute_8 7 rfl rfl)
theorem dX3_minute_196 : decode cX3_minute 196 = .ok (.iconst 2, 1) := dk_5 (dk_at dksX3_minute_8 9 rfl rfl)
theorem dX3_minute_197 : decode cX3_minute 197 = .ok (.iadd, 1) := dk_96 (dk_at dksX3_minute_8 10 rfl rfl)
theorem dX3_minute_198 : decode cX3_minute 198 = .ok (.iaload, 1) := dk_46 (dk_at dksX3_minute_8 11 rfl rfl)
theorem dX3_minute_199 : decode cX3_minute 199 = .ok (.iconst (-1), 1) := dk_2 (dk_at dksX3_minute_8 12 rfl rfl)
theorem dX3_minute_200 : decode cX3_minute 200 = .ok (.ixor, 1) := dk_130 (dk_at dksX3_minute_8 13 rfl rfl)
theorem dX3_minute_201 : decode cX3_minute 201 = .ok (.iand, 1) := dk_126 (dk_at dksX3_minute_8 14 rfl rfl)
theorem dX3_minute_202 : decode cX3_minute 202 = .ok (.ior, 1) := dk_128 (dk_at dksX3_minute_8 15 rfl rfl)
theorem dX3_minute_203 : decode cX3_minute 203 = .ok (.iastore, 1) := dk_79 (dk_at dksX3_minute_8 16 rfl rfl)
theorem dX3_minute_204 : decode cX3_minute 204 = .ok (.aload_n 0, 1) := dk_42 (dk_at dksX3_minute_8 17 rfl rfl)
theorem dX3_minute_205 : decode cX3_minute 205 = .ok (.getfield 9, 3) := dk_180 0 9 (dk_at dksX3_minute_8 18 rfl rfl)
theorem dX3_minute_208 : decode cX3_minute 208 = .ok (.iload 8, 2) := dk_21 8 (dk_at dksX3_minute_8 21 rfl rfl)
theorem dX3_minute_210 : decode cX3_minute 210 = .ok (.iconst 5, 1) := dk_8 (dk_at dksX3_minute_8 23 rfl rfl)
theorem dX3_minute_211 : decode cX3_minute 211 = .ok (.iadd, 1) := dk_96 (dk_at dksX3_minute_9 0 rfl rfl)
theorem dX3_minute_212 : decode cX3_minute 212 = .ok (.bipush 20, 2) := dk_16 20 (dk_at dksX3_minute_9 1 rfl rfl)
theorem dX3_minute_214 : decode cX3_minute 214 = .ok (.aload_n 0, 1) := dk_42 (dk_at dksX3_minute_9 3 rfl rfl)
theorem dX3_minute_215 : decode cX3_minute 215 = .ok (.getfield 9, 3) := dk_180 0 9 (dk_at dksX3_minute_9 4 rfl rfl)
theorem dX3_minute_218 : decode cX3_minute 218 = .ok (.iload 8, 2) := dk_21 8 (dk_at dksX3_minute_9 7 rfl rfl)
theorem dX3_minute_220 : decode cX3_minute 220 = .ok (.iconst 5, 1) := dk_8 (dk_at dksX3_minute_9 9 rfl rfl)
theorem dX3_minute_221 : decode cX3_minute 221 = .ok (.iadd, 1) := dk_96 (dk_at dksX3_minute_9 10 rfl rfl)
theorem dX3_minute_222 : decode cX3_minute 222 = .ok (.iaload, 1) := dk_46 (dk_at dksX3_minute_9 11 rfl rfl)
theorem dX3_minute_223 : decode cX3_minute 223 = .ok (.aload_n 0, 1) := dk_42 (dk_at dksX3_minute_9 12 rfl rfl)
theorem dX3_minute_224 : decode cX3_minute 224 = .ok (.getfield 9, 3) := dk_180 0 9 (dk_at dksX3_minute_9 13 rfl rfl)
theorem dX3_minute_227 : decode cX3_minute 227 = .ok (.iload 4, 2) := dk_21 4 (dk_at dksX3_minute_9 16 rfl rfl)
theorem dX3_minute_229 : decode cX3_minute 229 = .ok (.iconst 2, 1) := dk_5 (dk_at dksX3_minute_9 18 rfl rfl)
theorem dX3_minute_230 : decode cX3_minute 230 = .ok (.iadd, 1) := dk_96 (dk_at dksX3_minute_9 19 rfl rfl)
theorem dX3_minute_231 : decode cX3_minute 231 = .ok (.iaload, 1) := dk_46 (dk_at dksX3_minute_9 20 rfl rfl)
theorem dX3_minute_232 : decode cX3_minute 232 = .ok (.aload_n 0, 1) := dk_42 (dk_at dksX3_minute_9 21 rfl rfl)
theorem dX3_minute_233 : decode cX3_minute 233 = .ok (.getfield 9, 3) := dk_180 0 9 (dk_at dksX3_minute_10 0 rfl rfl)
theorem dX3_minute_236 : decode cX3_minute 236 = .ok (.iload 8, 2) := dk_21 8 (dk_at dksX3_minute_10 3 rfl rfl)
theorem dX3_minute_238 : decode cX3_minute 238 = .ok (.iconst 2, 1) := dk_5 (dk_at dksX3_minute_10 5 rfl rfl)
theorem dX3_minute_239 : decode cX3_minute 239 = .ok (.iadd, 1) := dk_96 (dk_at dksX3_minute_10 6 rfl rfl)
theorem dX3_minute_240 : decode cX3_minute 240 = .ok (.iaload, 1) := dk_46 (dk_at dksX3_minute_10 7 rfl rfl)
theorem dX3_minute_241 : decode cX3_minute 241 = .ok (.iand, 1) := dk_126 (dk_at dksX3_minute_10 8 rfl rfl)
theorem dX3_minute_242 : decode cX3_minute 242 = .ok (.invokestatic 120, 3) := dk_184 0 120 (dk_at dksX3_minute_10 9 rfl rfl)
theorem dX3_minute_245 : decode cX3_minute 245 = .ok (.iadd, 1) := dk_96 (dk_at dksX3_minute_10 12 rfl rfl)
theorem dX3_minute_246 : decode cX3_minute 246 = .ok (.invokestatic 114, 3) := dk_184 0 114 (dk_at dksX3_minute_10 13 rfl rfl)
theorem dX3_minute_249 : decode cX3_minute 249 = .ok (.iastore, 1) := dk_79 (dk_at dksX3_minute_10 16 rfl rfl)
theorem dX3_minute_250 : decode cX3_minute 250 = .ok (.iload_n 1, 1) := dk_27 (dk_at dksX3_minute_10 17 rfl rfl)
theorem dX3_minute_251 : decode cX3_minute 251 = .ok (.iload 6, 2) := dk_21 6 (dk_at dksX3_minute_10 18 rfl rfl)
theorem dX3_minute_253 : decode cX3_minute 253 = .ok (.iadd, 1) := dk_96 (dk_at dksX3_minute_10 20 rfl rfl)
theorem dX3_minute_254 : decode cX3_minute 254 = .ok (.istore_n 1, 1) := dk_60 (dk_at dksX3_minute_10 21 rfl rfl)
theorem dX3_minute_255 : decode cX3_minute 255 = .ok (.iinc 2 1, 3) := dk_132 2 1 (dk_at dksX3_minute_11 0 rfl rfl)
theorem dX3_minute_258 : decode cX3_minute 258 = .ok (.goto (-244), 3) := dk_167 255 12 (dk_at dksX3_minute_11 3 rfl rfl)
theorem dX3_minute_261 : decode cX3_minute 261 = .ok (.iload_n 1, 1) := dk_27 (dk_at dksX3_minute_11 6 rfl rfl)
theorem dX3_minute_262 : decode cX3_minute 262 = .ok (.ireturn, 1) := dk_172 (dk_at dksX3_minute_11 7 rfl rfl)
abbrev cX3_flows : ByteArray := prog_18_method_26_code
def yX3_flows : MethodName := ⟨RX3, "flows", "(I)I"⟩
def dkwX3_flows_4 : List UInt8 := [21, 6, 167, 0, 6, 21, 6, 116, 172]
abbrev dktX3_flows_4 : List UInt8 := dkwX3_flows_4 ++ []
def dkwX3_flows_3 : List UInt8 := [182, 0, 106, 42, 21, 5, 4, 182, 0, 106, 100, 184, 0, 114, 184, 0, 114, 54, 6, 21, 4, 158, 0, 8]
abbrev dktX3_flows_3 : List UInt8 := dkwX3_flows_3 ++ dktX3_flows_4
def dkwX3_flows_2 : List UInt8 := [28, 54, 5, 8, 42, 27, 6, 182, 0, 66, 104, 21, 4, 184, 0, 109, 5, 108, 42, 21, 5, 3]
abbrev dktX3_flows_2 : List UInt8 := dkwX3_flows_2 ++ dktX3_flows_3
def dkwX3_flows_1 : List UInt8 := [42, 28, 4, 182, 0, 106, 42, 29, 4, 182, 0, 106, 100, 54, 4, 21, 4, 158, 0, 7, 29, 167, 0, 4]
abbrev dktX3_flows_1 : List UInt8 := dkwX3_flows_1 ++ dktX3_flows_2
def dkwX3_flows_0 : List UInt8 := [42, 27, 182, 0, 103, 154, 0, 5, 3, 172, 42, 27, 3, 182, 0, 66, 61, 42, 27, 4, 182, 0, 66, 62]
abbrev dktX3_flows_0 : List UInt8 := dkwX3_flows_0 ++ dktX3_flows_1
theorem dksX3_flows_0 : cX3_flows.data.toList.drop 0 = dktX3_flows_0 := by decide +kernel
theorem dksX3_flows_1 : cX3_flows.data.toList.drop 24 = dktX3_flows_1 := dk_seg dksX3_flows_0 24 rfl rfl
theorem dksX3_flows_2 : cX3_flows.data.toList.drop 48 = dktX3_flows_2 := dk_seg dksX3_flows_1 24 rfl rfl
theorem dksX3_flows_3 : cX3_flows.data.toList.drop 70 = dktX3_flows_3 := dk_seg dksX3_flows_2 22 rfl rfl
theorem dksX3_flows_4 : cX3_flows.data.toList.drop 94 = dktX3_flows_4 := dk_seg dksX3_flows_3 24 rfl rfl
theorem dX3_flows_0 : decode cX3_flows 0 = .ok (.aload_n 0, 1) := dk_42 (dk_at dksX3_flows_0 0 rfl rfl)
theorem dX3_flows_1 : decode cX3_flows 1 = .ok (.iload_n 1, 1) := dk_27 (dk_at dksX3_flows_0 1 rfl rfl)
theorem dX3_flows_2 : decode cX3_flows 2 = .ok (.invokevirtual 103, 3) := dk_182 0 103 (dk_at dksX3_flows_0 2 rfl rfl)
theorem dX3_flows_5 : decode cX3_flows 5 = .ok (.ifCond .ne 5, 3) := dk_154 0 5 (dk_at dksX3_flows_0 5 rfl rfl)
theorem dX3_flows_8 : decode cX3_flows 8 = .ok (.iconst 0, 1) := dk_3 (dk_at dksX3_flows_0 8 rfl rfl)
theorem dX3_flows_9 : decode cX3_flows 9 = .ok (.ireturn, 1) := dk_172 (dk_at dksX3_flows_0 9 rfl rfl)
theorem dX3_flows_10 : decode cX3_flows 10 = .ok (.aload_n 0, 1) := dk_42 (dk_at dksX3_flows_0 10 rfl rfl)
theorem dX3_flows_11 : decode cX3_flows 11 = .ok (.iload_n 1, 1) := dk_27 (dk_at dksX3_flows_0 11 rfl rfl)
theorem dX3_flows_12 : decode cX3_flows 12 = .ok (.iconst 0, 1) := dk_3 (dk_at dksX3_flows_0 12 rfl rfl)
theorem dX3_flows_13 : decode cX3_flows 13 = .ok (.invokevirtual 66, 3) := dk_182 0 66 (dk_at dksX3_flows_0 13 rfl rfl)
theorem dX3_flows_16 : decode cX3_flows 16 = .ok (.istore_n 2, 1) := dk_61 (dk_at dksX3_flows_0 16 rfl rfl)
theorem dX3_flows_17 : decode cX3_flows 17 = .ok (.aload_n 0, 1) := dk_42 (dk_at dksX3_flows_0 17 rfl rfl)
theorem dX3_flows_18 : decode cX3_flows 18 = .ok (.iload_n 1, 1) := dk_27 (dk_at dksX3_flows_0 18 rfl rfl)
theorem dX3_flows_19 : decode cX3_flows 19 = .ok (.iconst 1, 1) := dk_4 (dk_at dksX3_flows_0 19 rfl rfl)
theorem dX3_flows_20 : decode cX3_flows 20 = .ok (.invokevirtual 66, 3) := dk_182 0 66 (dk_at dksX3_flows_0 20 rfl rfl)
theorem dX3_flows_23 : decode cX3_flows 23 = .ok (.istore_n 3, 1) := dk_62 (dk_at dksX3_flows_0 23 rfl rfl)
theorem dX3_flows_24 : decode cX3_flows 24 = .ok (.aload_n 0, 1) := dk_42 (dk_at dksX3_flows_1 0 rfl rfl)
theorem dX3_flows_25 : decode cX3_flows 25 = .ok (.iload_n 2, 1) := dk_28 (dk_at dksX3_flows_1 1 rfl rfl)
theorem dX3_flows_26 : decode cX3_flows 26 = .ok (.iconst 1, 1) := dk_4 (dk_at dksX3_flows_1 2 rfl rfl)
theorem dX3_flows_27 : decode cX3_flows 27 = .ok (.invokevirtual 106, 3) := dk_182 0 106 (dk_at dksX3_flows_1 3 rfl rfl)
theorem dX3_flows_30 : decode cX3_flows 30 = .ok (.aload_n 0, 1) := dk_42 (dk_at dksX3_flows_1 6 rfl rfl)
theorem dX3_flows_31 : decode cX3_flows 31 = .ok (.iload_n 3, 1) := dk_29 (dk_at dksX3_flows_1 7 rfl rfl)
theorem dX3_flows_32 : decode cX3_flows 32 = .ok (.iconst 1, 1) := dk_4 (dk_at dksX3_flows_1 8 rfl rfl)
theorem dX3_flows_33 : decode cX3_flows 33 = .ok (.invokevirtual 106, 3) := dk_182 0 106 (dk_at dksX3_flows_1 9 rfl rfl)
theorem dX3_flows_36 : decode cX3_flows 36 = .ok (.isub, 1) := dk_100 (dk_at dksX3_flows_1 12 rfl rfl)
theorem dX3_flows_37 : decode cX3_flows 37 = .ok (.istore 4, 2) := dk_54 4 (dk_at dksX3_flows_1 13 rfl rfl)
theorem dX3_flows_39 : decode cX3_flows 39 = .ok (.iload 4, 2) := dk_21 4 (dk_at dksX3_flows_1 15 rfl rfl)
theorem dX3_flows_41 : decode cX3_flows 41 = .ok (.ifCond .le 7, 3) := dk_158 0 7 (dk_at dksX3_flows_1 17 rfl rfl)
theorem dX3_flows_44 : decode cX3_flows 44 = .ok (.iload_n 3, 1) := dk_29 (dk_at dksX3_flows_1 20 rfl rfl)
theorem dX3_flows_45 : decode cX3_flows 45 = .ok (.goto 4, 3) := dk_167 0 4 (dk_at dksX3_flows_1 21 rfl rfl)
theorem dX3_flows_48 : decode cX3_flows 48 = .ok (.iload_n 2, 1) := dk_28 (dk_at dksX3_flows_2 0 rfl rfl)
theorem dX3_flows_49 : decode cX3_flows 49 = .ok (.istore 5, 2) := dk_54 5 (dk_at dksX3_flows_2 1 rfl rfl)
theorem dX3_flows_51 : decode cX3_flows 51 = .ok (.iconst 5, 1) := dk_8 (dk_at dksX3_flows_2 3 rfl rfl)
theorem dX3_flows_52 : decode cX3_flows 52 = .ok (.aload_n 0, 1) := dk_42 (dk_at dksX3_flows_2 4 rfl rfl)
theorem dX3_flows_53 : decode cX3_flows 53 = .ok (.iload_n 1, 1) := dk_27 (dk_at dksX3_flows_2 5 rfl rfl)
theorem dX3_flows_54 : decode cX3_flows 54 = .ok (.iconst 3, 1) := dk_6 (dk_at dksX3_flows_2 6 rfl rfl)
theorem dX3_flows_55 : decode cX3_flows 55 = .ok (.invokevirtual 66, 3) := dk_182 0 66 (dk_at dksX3_flows_2 7 rfl rfl)
theorem dX3_flows_58 : decode cX3_flows 58 = .ok (.imul, 1) := dk_104 (dk_at dksX3_flows_2 10 rfl rfl)
theorem dX3_flows_59 : decode cX3_flows 59 = .ok (.iload 4, 2) := dk_21 4 (dk_at dksX3_flows_2 11 rfl rfl)
theorem dX3_flows_61 : decode cX3_flows 61 = .ok (.invokestatic 109, 3) := dk_184 0 109 (dk_at dksX3_flows_2 13 rfl rfl)
theorem dX3_flows_64 : decode cX3_flows 64 = .ok (.iconst 2, 1) := dk_5 (dk_at dksX3_flows_2 16 rfl rfl)
theorem dX3_flows_65 : decode cX3_flows 65 = .ok (.idiv, 1) := dk_108 (dk_at dksX3_flows_2 17 rfl rfl)
theorem dX3_flows_66 : decode cX3_flows 66 = .ok (.aload_n 0, 1) := dk_42 (dk_at dksX3_flows_2 18 rfl rfl)
theorem dX3_flows_67 : decode cX3_flows 67 = .ok (.iload 5, 2) := dk_21 5 (dk_at dksX3_flows_2 19 rfl rfl)
theorem dX3_flows_69 : decode cX3_flows 69 = .ok (.iconst 0, 1) := dk_3 (dk_at dksX3_flows_2 21 rfl rfl)
theorem dX3_flows_70 : decode cX3_flows 70 = .ok (.invokevirtual 106, 3) := dk_182 0 106 (dk_at dksX3_flows_3 0 rfl rfl)
theorem dX3_flows_73 : decode cX3_flows 73 = .ok (.aload_n 0, 1) := dk_42 (dk_at dksX3_flows_3 3 rfl rfl)
theorem dX3_flows_74 : decode cX3_flows 74 = .ok (.iload 5, 2) := dk_21 5 (dk_at dksX3_flows_3 4 rfl rfl)
theorem dX3_flows_76 : decode cX3_flows 76 = .ok (.iconst 1, 1) := dk_4 (dk_at dksX3_flows_3 6 rfl rfl)
theorem dX3_flows_77 : decode cX3_flows 77 = .ok (.invokevirtual 106, 3) := dk_182 0 106 (dk_at dksX3_flows_3 7 rfl rfl)
theorem dX3_flows_80 : decode cX3_flows 80 = .ok (.isub, 1) := dk_100 (dk_at dksX3_flows_3 10 rfl rfl)
theorem dX3_flows_81 : decode cX3_flows 81 = .ok (.invokestatic 114, 3) := dk_184 0 114 (dk_at dksX3_flows_3 11 rfl rfl)
theorem dX3_flows_84 : decode cX3_flows 84 = .ok (.invokestatic 114, 3) := dk_184 0 114 (dk_at dksX3_flows_3 14 rfl rfl)
theorem dX3_flows_87 : decode cX3_flows 87 = .ok (.istore 6, 2) := dk_54 6 (dk_at dksX3_flows_3 17 rfl rfl)
theorem dX3_flows_89 : decode cX3_flows 89 = .ok (.iload 4, 2) := dk_21 4 (dk_at dksX3_flows_3 19 rfl rfl)
theorem dX3_flows_91 : decode cX3_flows 91 = .ok (.ifCond .le 8, 3) := dk_158 0 8 (dk_at dksX3_flows_3 21 rfl rfl)
theorem dX3_flows_94 : decode cX3_flows 94 = .ok (.iload 6, 2) := dk_21 6 (dk_at dksX3_flows_4 0 rfl rfl)
theorem dX3_flows_96 : decode cX3_flows 96 = .ok (.goto 6, 3) := dk_167 0 6 (dk_at dksX3_flows_4 2 rfl rfl)
theorem dX3_flows_99 : decode cX3_flows 99 = .ok (.iload 6, 2) := dk_21 6 (dk_at dksX3_flows_4 5 rfl rfl)
theorem dX3_flows_101 : decode cX3_flows 101 = .ok (.ineg, 1) := dk_116 (dk_at dksX3_flows_4 7 rfl rfl)
theorem dX3_flows_102 : decode cX3_flows 102 = .ok (.ireturn, 1) := dk_172 (dk_at dksX3_flows_4 8 rfl rfl)
abbrev cX3_goes : ByteArray := prog_18_method_13_code
def yX3_goes : MethodName := ⟨RX3, "goes", "(I)Z"⟩
def dkwX3_goes_1 : List UInt8 := [3, 172]
abbrev dktX3_goes_1 : List UInt8 := dkwX3_goes_1 ++ []
def dkwX3_goes_0 : List UInt8 := [42, 27, 6, 182, 0, 66, 158, 0, 18, 42, 27, 8, 182, 0, 66, 16, 20, 162, 0, 7, 4, 167, 0, 4]
abbrev dktX3_goes_0 : List UInt8 := dkwX3_goes_0 ++ dktX3_goes_1
theorem dksX3_goes_0 : cX3_goes.data.toList.drop 0 = dktX3_goes_0 := by decide +kernel
theorem dksX3_goes_1 : cX3_goes.data.toList.drop 24 = dktX3_goes_1 := dk_seg dksX3_goes_0 24 rfl rfl
theorem dX3_goes_0 : decode cX3_goes 0 = .ok (.aload_n 0, 1) := dk_42 (dk_at dksX3_goes_0 0 rfl rfl)
theorem dX3_goes_1 : decode cX3_goes 1 = .ok (.iload_n 1, 1) := dk_27 (dk_at dksX3_goes_0 1 rfl rfl)
theorem dX3_goes_2 : decode cX3_goes 2 = .ok (.iconst 3, 1) := dk_6 (dk_at dksX3_goes_0 2 rfl rfl)
theorem dX3_goes_3 : decode cX3_goes 3 = .ok (.invokevirtual 66, 3) := dk_182 0 66 (dk_at dksX3_goes_0 3 rfl rfl)
theorem dX3_goes_6 : decode cX3_goes 6 = .ok (.ifCond .le 18, 3) := dk_158 0 18 (dk_at dksX3_goes_0 6 rfl rfl)
theorem dX3_goes_9 : decode cX3_goes 9 = .ok (.aload_n 0, 1) := dk_42 (dk_at dksX3_goes_0 9 rfl rfl)
theorem dX3_goes_10 : decode cX3_goes 10 = .ok (.iload_n 1, 1) := dk_27 (dk_at dksX3_goes_0 10 rfl rfl)
theorem dX3_goes_11 : decode cX3_goes 11 = .ok (.iconst 5, 1) := dk_8 (dk_at dksX3_goes_0 11 rfl rfl)
theorem dX3_goes_12 : decode cX3_goes 12 = .ok (.invokevirtual 66, 3) := dk_182 0 66 (dk_at dksX3_goes_0 12 rfl rfl)
theorem dX3_goes_15 : decode cX3_goes 15 = .ok (.bipush 20, 2) := dk_16 20 (dk_at dksX3_goes_0 15 rfl rfl)
theorem dX3_goes_17 : decode cX3_goes 17 = .ok (.if_icmp .ge 7, 3) := dk_162 0 7 (dk_at dksX3_goes_0 17 rfl rfl)
theorem dX3_goes_20 : decode cX3_goes 20 = .ok (.iconst 1, 1) := dk_4 (dk_at dksX3_goes_0 20 rfl rfl)
theorem dX3_goes_21 : decode cX3_goes 21 = .ok (.goto 4, 3) := dk_167 0 4 (dk_at dksX3_goes_0 21 rfl rfl)
theorem dX3_goes_24 : decode cX3_goes 24 = .ok (.iconst 0, 1) := dk_3 (dk_at dksX3_goes_1 0 rfl rfl)
theorem dX3_goes_25 : decode cX3_goes 25 = .ok (.ireturn, 1) := dk_172 (dk_at dksX3_goes_1 1 rfl rfl)
abbrev cX3_tank : ByteArray := prog_18_method_11_code
def yX3_tank : MethodName := ⟨RX3, "tank", "(II)I"⟩
def dkwX3_tank_0 : List UInt8 := [42, 180, 0, 9, 16, 6, 6, 27, 104, 96, 28, 96, 46, 172]
abbrev dktX3_tank_0 : List UInt8 := dkwX3_tank_0 ++ []
theorem dksX3_tank_0 : cX3_tank.data.toList.drop 0 = dktX3_tank_0 := by decide +kernel
theorem dX3_tank_0 : decode cX3_tank 0 = .ok (.aload_n 0, 1) := dk_42 (dk_at dksX3_tank_0 0 rfl rfl)
theorem dX3_tank_1 : decode cX3_tank 1 = .ok (.getfield 9, 3) := dk_180 0 9 (dk_at dksX3_tank_0 1 rfl rfl)
theorem dX3_tank_4 : decode cX3_tank 4 = .ok (.bipush 6, 2) := dk_16 6 (dk_at dksX3_tank_0 4 rfl rfl)
theorem dX3_tank_6 : decode cX3_tank 6 = .ok (.iconst 3, 1) := dk_6 (dk_at dksX3_tank_0 6 rfl rfl)
theorem dX3_tank_7 : decode cX3_tank 7 = .ok (.iload_n 1, 1) := dk_27 (dk_at dksX3_tank_0 7 rfl rfl)
theorem dX3_tank_8 : decode cX3_tank 8 = .ok (.imul, 1) := dk_104 (dk_at dksX3_tank_0 8 rfl rfl)
theorem dX3_tank_9 : decode cX3_tank 9 = .ok (.iadd, 1) := dk_96 (dk_at dksX3_tank_0 9 rfl rfl)
theorem dX3_tank_10 : decode cX3_tank 10 = .ok (.iload_n 2, 1) := dk_28 (dk_at dksX3_tank_0 10 rfl rfl)
theorem dX3_tank_11 : decode cX3_tank 11 = .ok (.iadd, 1) := dk_96 (dk_at dksX3_tank_0 11 rfl rfl)
theorem dX3_tank_12 : decode cX3_tank 12 = .ok (.iaload, 1) := dk_46 (dk_at dksX3_tank_0 12 rfl rfl)
theorem dX3_tank_13 : decode cX3_tank 13 = .ok (.ireturn, 1) := dk_172 (dk_at dksX3_tank_0 13 rfl rfl)
abbrev cX3_tankCount : ByteArray := prog_18_method_30_code
def yX3_tankCount : MethodName := ⟨RX3, "tankCount", "()I"⟩
def dkwX3_tankCount_0 : List UInt8 := [42, 3, 181, 0, 49, 42, 180, 0, 9, 3, 46, 172]
abbrev dktX3_tankCount_0 : List UInt8 := dkwX3_tankCount_0 ++ []
theorem dksX3_tankCount_0 : cX3_tankCount.data.toList.drop 0 = dktX3_tankCount_0 := by decide +kernel
theorem dX3_tankCount_0 : decode cX3_tankCount 0 = .ok (.aload_n 0, 1) := dk_42 (dk_at dksX3_tankCount_0 0 rfl rfl)
theorem dX3_tankCount_1 : decode cX3_tankCount 1 = .ok (.iconst 0, 1) := dk_3 (dk_at dksX3_tankCount_0 1 rfl rfl)
theorem dX3_tankCount_2 : decode cX3_tankCount 2 = .ok (.putfield 49, 3) := dk_181 0 49 (dk_at dksX3_tankCount_0 2 rfl rfl)
theorem dX3_tankCount_5 : decode cX3_tankCount 5 = .ok (.aload_n 0, 1) := dk_42 (dk_at dksX3_tankCount_0 5 rfl rfl)
theorem dX3_tankCount_6 : decode cX3_tankCount 6 = .ok (.getfield 9, 3) := dk_180 0 9 (dk_at dksX3_tankCount_0 6 rfl rfl)
theorem dX3_tankCount_9 : decode cX3_tankCount 9 = .ok (.iconst 0, 1) := dk_3 (dk_at dksX3_tankCount_0 9 rfl rfl)
theorem dX3_tankCount_10 : decode cX3_tankCount 10 = .ok (.iaload, 1) := dk_46 (dk_at dksX3_tankCount_0 10 rfl rfl)
theorem dX3_tankCount_11 : decode cX3_tankCount 11 = .ok (.ireturn, 1) := dk_172 (dk_at dksX3_tankCount_0 11 rfl rfl)
abbrev cX3_capacity : ByteArray := prog_18_method_32_code
def yX3_capacity : MethodName := ⟨RX3, "capacity", "(I)I"⟩
def dkwX3_capacity_0 : List UInt8 := [42, 27, 3, 182, 0, 132, 172]
abbrev dktX3_capacity_0 : List UInt8 := dkwX3_capacity_0 ++ []
theorem dksX3_capacity_0 : cX3_capacity.data.toList.drop 0 = dktX3_capacity_0 := by decide +kernel
theorem dX3_capacity_0 : decode cX3_capacity 0 = .ok (.aload_n 0, 1) := dk_42 (dk_at dksX3_capacity_0 0 rfl rfl)
theorem dX3_capacity_1 : decode cX3_capacity 1 = .ok (.iload_n 1, 1) := dk_27 (dk_at dksX3_capacity_0 1 rfl rfl)
theorem dX3_capacity_2 : decode cX3_capacity 2 = .ok (.iconst 0, 1) := dk_3 (dk_at dksX3_capacity_0 2 rfl rfl)
theorem dX3_capacity_3 : decode cX3_capacity 3 = .ok (.invokevirtual 132, 3) := dk_182 0 132 (dk_at dksX3_capacity_0 3 rfl rfl)
theorem dX3_capacity_6 : decode cX3_capacity 6 = .ok (.ireturn, 1) := dk_172 (dk_at dksX3_capacity_0 6 rfl rfl)
abbrev cX3_ofTank : ByteArray := prog_18_method_31_code
def yX3_ofTank : MethodName := ⟨RX3, "ofTank", "(II)I"⟩
def dkwX3_ofTank_1 : List UInt8 := [42, 27, 28, 182, 0, 106, 167, 0, 4, 3, 172]
abbrev dktX3_ofTank_1 : List UInt8 := dkwX3_ofTank_1 ++ []
def dkwX3_ofTank_0 : List UInt8 := [42, 42, 27, 182, 0, 82, 153, 0, 7, 3, 167, 0, 4, 4, 181, 0, 49, 42, 180, 0, 49, 154, 0, 12]
abbrev dktX3_ofTank_0 : List UInt8 := dkwX3_ofTank_0 ++ dktX3_ofTank_1
theorem dksX3_ofTank_0 : cX3_ofTank.data.toList.drop 0 = dktX3_ofTank_0 := by decide +kernel
theorem dksX3_ofTank_1 : cX3_ofTank.data.toList.drop 24 = dktX3_ofTank_1 := dk_seg dksX3_ofTank_0 24 rfl rfl
theorem dX3_ofTank_0 : decode cX3_ofTank 0 = .ok (.aload_n 0, 1) := dk_42 (dk_at dksX3_ofTank_0 0 rfl rfl)
theorem dX3_ofTank_1 : decode cX3_ofTank 1 = .ok (.aload_n 0, 1) := dk_42 (dk_at dksX3_ofTank_0 1 rfl rfl)
theorem dX3_ofTank_2 : decode cX3_ofTank 2 = .ok (.iload_n 1, 1) := dk_27 (dk_at dksX3_ofTank_0 2 rfl rfl)
theorem dX3_ofTank_3 : decode cX3_ofTank 3 = .ok (.invokevirtual 82, 3) := dk_182 0 82 (dk_at dksX3_ofTank_0 3 rfl rfl)
theorem dX3_ofTank_6 : decode cX3_ofTank 6 = .ok (.ifCond .eq 7, 3) := dk_153 0 7 (dk_at dksX3_ofTank_0 6 rfl rfl)
theorem dX3_ofTank_9 : decode cX3_ofTank 9 = .ok (.iconst 0, 1) := dk_3 (dk_at dksX3_ofTank_0 9 rfl rfl)
theorem dX3_ofTank_10 : decode cX3_ofTank 10 = .ok (.goto 4, 3) := dk_167 0 4 (dk_at dksX3_ofTank_0 10 rfl rfl)
theorem dX3_ofTank_13 : decode cX3_ofTank 13 = .ok (.iconst 1, 1) := dk_4 (dk_at dksX3_ofTank_0 13 rfl rfl)
theorem dX3_ofTank_14 : decode cX3_ofTank 14 = .ok (.putfield 49, 3) := dk_181 0 49 (dk_at dksX3_ofTank_0 14 rfl rfl)
theorem dX3_ofTank_17 : decode cX3_ofTank 17 = .ok (.aload_n 0, 1) := dk_42 (dk_at dksX3_ofTank_0 17 rfl rfl)
theorem dX3_ofTank_18 : decode cX3_ofTank 18 = .ok (.getfield 49, 3) := dk_180 0 49 (dk_at dksX3_ofTank_0 18 rfl rfl)
theorem dX3_ofTank_21 : decode cX3_ofTank 21 = .ok (.ifCond .ne 12, 3) := dk_154 0 12 (dk_at dksX3_ofTank_0 21 rfl rfl)
theorem dX3_ofTank_24 : decode cX3_ofTank 24 = .ok (.aload_n 0, 1) := dk_42 (dk_at dksX3_ofTank_1 0 rfl rfl)
theorem dX3_ofTank_25 : decode cX3_ofTank 25 = .ok (.iload_n 1, 1) := dk_27 (dk_at dksX3_ofTank_1 1 rfl rfl)
theorem dX3_ofTank_26 : decode cX3_ofTank 26 = .ok (.iload_n 2, 1) := dk_28 (dk_at dksX3_ofTank_1 2 rfl rfl)
theorem dX3_ofTank_27 : decode cX3_ofTank 27 = .ok (.invokevirtual 106, 3) := dk_182 0 106 (dk_at dksX3_ofTank_1 3 rfl rfl)
theorem dX3_ofTank_30 : decode cX3_ofTank 30 = .ok (.goto 4, 3) := dk_167 0 4 (dk_at dksX3_ofTank_1 6 rfl rfl)
theorem dX3_ofTank_33 : decode cX3_ofTank 33 = .ok (.iconst 0, 1) := dk_3 (dk_at dksX3_ofTank_1 9 rfl rfl)
theorem dX3_ofTank_34 : decode cX3_ofTank 34 = .ok (.ireturn, 1) := dk_172 (dk_at dksX3_ofTank_1 10 rfl rfl)
abbrev cX3_content : ByteArray := prog_18_method_33_code
def yX3_content : MethodName := ⟨RX3, "content", "(I)I"⟩
def dkwX3_content_0 : List UInt8 := [42, 27, 4, 182, 0, 132, 172]
abbrev dktX3_content_0 : List UInt8 := dkwX3_content_0 ++ []
theorem dksX3_content_0 : cX3_content.data.toList.drop 0 = dktX3_content_0 := by decide +kernel
theorem dX3_content_0 : decode cX3_content 0 = .ok (.aload_n 0, 1) := dk_42 (dk_at dksX3_content_0 0 rfl rfl)
theorem dX3_content_1 : decode cX3_content 1 = .ok (.iload_n 1, 1) := dk_27 (dk_at dksX3_content_0 1 rfl rfl)
theorem dX3_content_2 : decode cX3_content 2 = .ok (.iconst 1, 1) := dk_4 (dk_at dksX3_content_0 2 rfl rfl)
theorem dX3_content_3 : decode cX3_content 3 = .ok (.invokevirtual 132, 3) := dk_182 0 132 (dk_at dksX3_content_0 3 rfl rfl)
theorem dX3_content_6 : decode cX3_content 6 = .ok (.ireturn, 1) := dk_172 (dk_at dksX3_content_0 6 rfl rfl)
abbrev cX3_impurities : ByteArray := prog_18_method_34_code
def yX3_impurities : MethodName := ⟨RX3, "impurities", "(I)I"⟩
def dkwX3_impurities_0 : List UInt8 := [42, 27, 5, 182, 0, 132, 172]
abbrev dktX3_impurities_0 : List UInt8 := dkwX3_impurities_0 ++ []
theorem dksX3_impurities_0 : cX3_impurities.data.toList.drop 0 = dktX3_impurities_0 := by decide +kernel
theorem dX3_impurities_0 : decode cX3_impurities 0 = .ok (.aload_n 0, 1) := dk_42 (dk_at dksX3_impurities_0 0 rfl rfl)
theorem dX3_impurities_1 : decode cX3_impurities 1 = .ok (.iload_n 1, 1) := dk_27 (dk_at dksX3_impurities_0 1 rfl rfl)
theorem dX3_impurities_2 : decode cX3_impurities 2 = .ok (.iconst 2, 1) := dk_5 (dk_at dksX3_impurities_0 2 rfl rfl)
theorem dX3_impurities_3 : decode cX3_impurities 3 = .ok (.invokevirtual 132, 3) := dk_182 0 132 (dk_at dksX3_impurities_0 3 rfl rfl)
theorem dX3_impurities_6 : decode cX3_impurities 6 = .ok (.ireturn, 1) := dk_172 (dk_at dksX3_impurities_0 6 rfl rfl)
abbrev cX3_hasImpurity : ByteArray := prog_18_method_35_code
def yX3_hasImpurity : MethodName := ⟨RX3, "hasImpurity", "(IC)Z"⟩
def dkwX3_hasImpurity_2 : List UInt8 := [160, 0, 7, 4, 167, 0, 4, 3, 172]
abbrev dktX3_hasImpurity_2 : List UInt8 := dkwX3_hasImpurity_2 ++ []
def dkwX3_hasImpurity_1 : List UInt8 := [154, 0, 8, 42, 5, 181, 0, 49, 42, 180, 0, 49, 154, 0, 19, 29, 28, 16, 97, 100, 122, 4, 126, 4]
abbrev dktX3_hasImpurity_1 : List UInt8 := dkwX3_hasImpurity_1 ++ dktX3_hasImpurity_2
def dkwX3_hasImpurity_0 : List UInt8 := [42, 27, 5, 182, 0, 132, 62, 42, 180, 0, 49, 154, 0, 19, 28, 16, 97, 16, 104, 184, 0, 62]
abbrev dktX3_hasImpurity_0 : List UInt8 := dkwX3_hasImpurity_0 ++ dktX3_hasImpurity_1
theorem dksX3_hasImpurity_0 : cX3_hasImpurity.data.toList.drop 0 = dktX3_hasImpurity_0 := by decide +kernel
theorem dksX3_hasImpurity_1 : cX3_hasImpurity.data.toList.drop 22 = dktX3_hasImpurity_1 := dk_seg dksX3_hasImpurity_0 22 rfl rfl
theorem dksX3_hasImpurity_2 : cX3_hasImpurity.data.toList.drop 46 = dktX3_hasImpurity_2 := dk_seg dksX3_hasImpurity_1 24 rfl rfl
theorem dX3_hasImpurity_0 : decode cX3_hasImpurity 0 = .ok (.aload_n 0, 1) := dk_42 (dk_at dksX3_hasImpurity_0 0 rfl rfl)
theorem dX3_hasImpurity_1 : decode cX3_hasImpurity 1 = .ok (.iload_n 1, 1) := dk_27 (dk_at dksX3_hasImpurity_0 1 rfl rfl)
theorem dX3_hasImpurity_2 : decode cX3_hasImpurity 2 = .ok (.iconst 2, 1) := dk_5 (dk_at dksX3_hasImpurity_0 2 rfl rfl)
theorem dX3_hasImpurity_3 : decode cX3_hasImpurity 3 = .ok (.invokevirtual 132, 3) := dk_182 0 132 (dk_at dksX3_hasImpurity_0 3 rfl rfl)
theorem dX3_hasImpurity_6 : decode cX3_hasImpurity 6 = .ok (.istore_n 3, 1) := dk_62 (dk_at dksX3_hasImpurity_0 6 rfl rfl)
theorem dX3_hasImpurity_7 : decode cX3_hasImpurity 7 = .ok (.aload_n 0, 1) := dk_42 (dk_at dksX3_hasImpurity_0 7 rfl rfl)
theorem dX3_hasImpurity_8 : decode cX3_hasImpurity 8 = .ok (.getfield 49, 3) := dk_180 0 49 (dk_at dksX3_hasImpurity_0 8 rfl rfl)
theorem dX3_hasImpurity_11 : decode cX3_hasImpurity 11 = .ok (.ifCond .ne 19, 3) := dk_154 0 19 (dk_at dksX3_hasImpurity_0 11 rfl rfl)
theorem dX3_hasImpurity_14 : decode cX3_hasImpurity 14 = .ok (.iload_n 2, 1) := dk_28 (dk_at dksX3_hasImpurity_0 14 rfl rfl)
theorem dX3_hasImpurity_15 : decode cX3_hasImpurity 15 = .ok (.bipush 97, 2) := dk_16 97 (dk_at dksX3_hasImpurity_0 15 rfl rfl)
theorem dX3_hasImpurity_17 : decode cX3_hasImpurity 17 = .ok (.bipush 104, 2) := dk_16 104 (dk_at dksX3_hasImpurity_0 17 rfl rfl)
theorem dX3_hasImpurity_19 : decode cX3_hasImpurity 19 = .ok (.invokestatic 62, 3) := dk_184 0 62 (dk_at dksX3_hasImpurity_0 19 rfl rfl)
theorem dX3_hasImpurity_22 : decode cX3_hasImpurity 22 = .ok (.ifCond .ne 8, 3) := dk_154 0 8 (dk_at dksX3_hasImpurity_1 0 rfl rfl)
theorem dX3_hasImpurity_25 : decode cX3_hasImpurity 25 = .ok (.aload_n 0, 1) := dk_42 (dk_at dksX3_hasImpurity_1 3 rfl rfl)
theorem dX3_hasImpurity_26 : decode cX3_hasImpurity 26 = .ok (.iconst 2, 1) := dk_5 (dk_at dksX3_hasImpurity_1 4 rfl rfl)
theorem dX3_hasImpurity_27 : decode cX3_hasImpurity 27 = .ok (.putfield 49, 3) := dk_181 0 49 (dk_at dksX3_hasImpurity_1 5 rfl rfl)
theorem dX3_hasImpurity_30 : decode cX3_hasImpurity 30 = .ok (.aload_n 0, 1) := dk_42 (dk_at dksX3_hasImpurity_1 8 rfl rfl)
theorem dX3_hasImpurity_31 : decode cX3_hasImpurity 31 = .ok (.getfield 49, 3) := dk_180 0 49 (dk_at dksX3_hasImpurity_1 9 rfl rfl)
theorem dX3_hasImpurity_34 : decode cX3_hasImpurity 34 = .ok (.ifCond .ne 19, 3) := dk_154 0 19 (dk_at dksX3_hasImpurity_1 12 rfl rfl)
theorem dX3_hasImpurity_37 : decode cX3_hasImpurity 37 = .ok (.iload_n 3, 1) := dk_29 (dk_at dksX3_hasImpurity_1 15 rfl rfl)
theorem dX3_hasImpurity_38 : decode cX3_hasImpurity 38 = .ok (.iload_n 2, 1) := dk_28 (dk_at dksX3_hasImpurity_1 16 rfl rfl)
theorem dX3_hasImpurity_39 : decode cX3_hasImpurity 39 = .ok (.bipush 97, 2) := dk_16 97 (dk_at dksX3_hasImpurity_1 17 rfl rfl)
theorem dX3_hasImpurity_41 : decode cX3_hasImpurity 41 = .ok (.isub, 1) := dk_100 (dk_at dksX3_hasImpurity_1 19 rfl rfl)
theorem dX3_hasImpurity_42 : decode cX3_hasImpurity 42 = .ok (.ishr, 1) := dk_122 (dk_at dksX3_hasImpurity_1 20 rfl rfl)
theorem dX3_hasImpurity_43 : decode cX3_hasImpurity 43 = .ok (.iconst 1, 1) := dk_4 (dk_at dksX3_hasImpurity_1 21 rfl rfl)
theorem dX3_hasImpurity_44 : decode cX3_hasImpurity 44 = .ok (.iand, 1) := dk_126 (dk_at dksX3_hasImpurity_1 22 rfl rfl)
theorem dX3_hasImpurity_45 : decode cX3_hasImpurity 45 = .ok (.iconst 1, 1) := dk_4 (dk_at dksX3_hasImpurity_1 23 rfl rfl)
theorem dX3_hasImpurity_46 : decode cX3_hasImpurity 46 = .ok (.if_icmp .ne 7, 3) := dk_160 0 7 (dk_at dksX3_hasImpurity_2 0 rfl rfl)
theorem dX3_hasImpurity_49 : decode cX3_hasImpurity 49 = .ok (.iconst 1, 1) := dk_4 (dk_at dksX3_hasImpurity_2 3 rfl rfl)
theorem dX3_hasImpurity_50 : decode cX3_hasImpurity 50 = .ok (.goto 4, 3) := dk_167 0 4 (dk_at dksX3_hasImpurity_2 4 rfl rfl)
theorem dX3_hasImpurity_53 : decode cX3_hasImpurity 53 = .ok (.iconst 0, 1) := dk_3 (dk_at dksX3_hasImpurity_2 7 rfl rfl)
theorem dX3_hasImpurity_54 : decode cX3_hasImpurity 54 = .ok (.ireturn, 1) := dk_172 (dk_at dksX3_hasImpurity_2 8 rfl rfl)
abbrev cX3_tankByContent : ByteArray := prog_18_method_36_code
def yX3_tankByContent : MethodName := ⟨RX3, "tankByContent", "(I)I"⟩
def dkwX3_tankByContent_5 : List UInt8 := [182, 0, 55, 172]
abbrev dktX3_tankByContent_5 : List UInt8 := dkwX3_tankByContent_5 ++ []
def dkwX3_tankByContent_4 : List UInt8 := [132, 3, 1, 132, 4, 1, 167, 255, 180, 29, 27, 160, 0, 5, 28, 172, 132, 2, 1, 167, 255, 152, 42, 4]
abbrev dktX3_tankByContent_4 : List UInt8 := dkwX3_tankByContent_4 ++ dktX3_tankByContent_5
def dkwX3_tankByContent_3 : List UInt8 := [184, 0, 120, 100, 54, 5, 21, 5, 157, 0, 14, 21, 5, 154, 0, 12, 21, 4, 28, 162, 0, 6]
abbrev dktX3_tankByContent_3 : List UInt8 := dkwX3_tankByContent_3 ++ dktX3_tankByContent_4
def dkwX3_tankByContent_2 : List UInt8 := [54, 5, 21, 5, 154, 0, 25, 42, 28, 5, 182, 0, 106, 184, 0, 120, 42, 21, 4, 5, 182, 0, 106]
abbrev dktX3_tankByContent_2 : List UInt8 := dkwX3_tankByContent_2 ++ dktX3_tankByContent_3
def dkwX3_tankByContent_1 : List UInt8 := [42, 180, 0, 9, 3, 46, 162, 0, 71, 42, 21, 4, 4, 182, 0, 106, 42, 28, 4, 182, 0, 106, 100]
abbrev dktX3_tankByContent_1 : List UInt8 := dkwX3_tankByContent_1 ++ dktX3_tankByContent_2
def dkwX3_tankByContent_0 : List UInt8 := [42, 3, 181, 0, 49, 3, 61, 28, 42, 180, 0, 9, 3, 46, 162, 0, 100, 3, 62, 3, 54, 4, 21, 4]
abbrev dktX3_tankByContent_0 : List UInt8 := dkwX3_tankByContent_0 ++ dktX3_tankByContent_1
theorem dksX3_tankByContent_0 : cX3_tankByContent.data.toList.drop 0 = dktX3_tankByContent_0 := by decide +kernel
theorem dksX3_tankByContent_1 : cX3_tankByContent.data.toList.drop 24 = dktX3_tankByContent_1 := dk_seg dksX3_tankByContent_0 24 rfl rfl
theorem dksX3_tankByContent_2 : cX3_tankByContent.data.toList.drop 47 = dktX3_tankByContent_2 := dk_seg dksX3_tankByContent_1 23 rfl rfl
theorem dksX3_tankByContent_3 : cX3_tankByContent.data.toList.drop 70 = dktX3_tankByContent_3 := dk_seg dksX3_tankByContent_2 23 rfl rfl
theorem dksX3_tankByContent_4 : cX3_tankByContent.data.toList.drop 92 = dktX3_tankByContent_4 := dk_seg dksX3_tankByContent_3 22 rfl rfl
theorem dksX3_tankByContent_5 : cX3_tankByContent.data.toList.drop 116 = dktX3_tankByContent_5 := dk_seg dksX3_tankByContent_4 24 rfl rfl
theorem dX3_tankByContent_0 : decode cX3_tankByContent 0 = .ok (.aload_n 0, 1) := dk_42 (dk_at dksX3_tankByContent_0 0 rfl rfl)
theorem dX3_tankByContent_1 : decode cX3_tankByContent 1 = .ok (.iconst 0, 1) := dk_3 (dk_at dksX3_tankByContent_0 1 rfl rfl)
theorem dX3_tankByContent_2 : decode cX3_tankByContent 2 = .ok (.putfield 49, 3) := dk_181 0 49 (dk_at dksX3_tankByContent_0 2 rfl rfl)
theorem dX3_tankByContent_5 : decode cX3_tankByContent 5 = .ok (.iconst 0, 1) := dk_3 (dk_at dksX3_tankByContent_0 5 rfl rfl)
theorem dX3_tankByContent_6 : decode cX3_tankByContent 6 = .ok (.istore_n 2, 1) := dk_61 (dk_at dksX3_tankByContent_0 6 rfl rfl)
theorem dX3_tankByContent_7 : decode cX3_tankByContent 7 = .ok (.iload_n 2, 1) := dk_28 (dk_at dksX3_tankByContent_0 7 rfl rfl)
theorem dX3_tankByContent_8 : decode cX3_tankByContent 8 = .ok (.aload_n 0, 1) := dk_42 (dk_at dksX3_tankByContent_0 8 rfl rfl)
theorem dX3_tankByContent_9 : decode cX3_tankByContent 9 = .ok (.getfield 9, 3) := dk_180 0 9 (dk_at dksX3_tankByContent_0 9 rfl rfl)
theorem dX3_tankByContent_12 : decode cX3_tankByContent 12 = .ok (.iconst 0, 1) := dk_3 (dk_at dksX3_tankByContent_0 12 rfl rfl)
theorem dX3_tankByContent_13 : decode cX3_tankByContent 13 = .ok (.iaload, 1) := dk_46 (dk_at dksX3_tankByContent_0 13 rfl rfl)
theorem dX3_tankByContent_14 : decode cX3_tankByContent 14 = .ok (.if_icmp .ge 100, 3) := dk_162 0 100 (dk_at dksX3_tankByContent_0 14 rfl rfl)
theorem dX3_tankByContent_17 : decode cX3_tankByContent 17 = .ok (.iconst 0, 1) := dk_3 (dk_at dksX3_tankByContent_0 17 rfl rfl)
theorem dX3_tankByContent_18 : decode cX3_tankByContent 18 = .ok (.istore_n 3, 1) := dk_62 (dk_at dksX3_tankByContent_0 18 rfl rfl)
theorem dX3_tankByContent_19 : decode cX3_tankByContent 19 = .ok (.iconst 0, 1) := dk_3 (dk_at dksX3_tankByContent_0 19 rfl rfl)
theorem dX3_tankByContent_20 : decode cX3_tankByContent 20 = .ok (.istore 4, 2) := dk_54 4 (dk_at dksX3_tankByContent_0 20 rfl rfl)
theorem dX3_tankByContent_22 : decode cX3_tankByContent 22 = .ok (.iload 4, 2) := dk_21 4 (dk_at dksX3_tankByContent_0 22 rfl rfl)
theorem dX3_tankByContent_24 : decode cX3_tankByContent 24 = .ok (.aload_n 0, 1) := dk_42 (dk_at dksX3_tankByContent_1 0 rfl rfl)
theorem dX3_tankByContent_25 : decode cX3_tankByContent 25 = .ok (.getfield 9, 3) := dk_180 0 9 (dk_at dksX3_tankByContent_1 1 rfl rfl)
theorem dX3_tankByContent_28 : decode cX3_tankByContent 28 = .ok (.iconst 0, 1) := dk_3 (dk_at dksX3_tankByContent_1 4 rfl rfl)
theorem dX3_tankByContent_29 : decode cX3_tankByContent 29 = .ok (.iaload, 1) := dk_46 (dk_at dksX3_tankByContent_1 5 rfl rfl)
theorem dX3_tankByContent_30 : decode cX3_tankByContent 30 = .ok (.if_icmp .ge 71, 3) := dk_162 0 71 (dk_at dksX3_tankByContent_1 6 rfl rfl)
theorem dX3_tankByContent_33 : decode cX3_tankByContent 33 = .ok (.aload_n 0, 1) := dk_42 (dk_at dksX3_tankByContent_1 9 rfl rfl)
theorem dX3_tankByContent_34 : decode cX3_tankByContent 34 = .ok (.iload 4, 2) := dk_21 4 (dk_at dksX3_tankByContent_1 10 rfl rfl)
theorem dX3_tankByContent_36 : decode cX3_tankByContent 36 = .ok (.iconst 1, 1) := dk_4 (dk_at dksX3_tankByContent_1 12 rfl rfl)
theorem dX3_tankByContent_37 : decode cX3_tankByContent 37 = .ok (.invokevirtual 106, 3) := dk_182 0 106 (dk_at dksX3_tankByContent_1 13 rfl rfl)
theorem dX3_tankByContent_40 : decode cX3_tankByContent 40 = .ok (.aload_n 0, 1) := dk_42 (dk_at dksX3_tankByContent_1 16 rfl rfl)
theorem dX3_tankByContent_41 : decode cX3_tankByContent 41 = .ok (.iload_n 2, 1) := dk_28 (dk_at dksX3_tankByContent_1 17 rfl rfl)
theorem dX3_tankByContent_42 : decode cX3_tankByContent 42 = .ok (.iconst 1, 1) := dk_4 (dk_at dksX3_tankByContent_1 18 rfl rfl)
theorem dX3_tankByContent_43 : decode cX3_tankByContent 43 = .ok (.invokevirtual 106, 3) := dk_182 0 106 (dk_at dksX3_tankByContent_1 19 rfl rfl)
theorem dX3_tankByContent_46 : decode cX3_tankByContent 46 = .ok (.isub, 1) := dk_100 (dk_at dksX3_tankByContent_1 22 rfl rfl)
theorem dX3_tankByContent_47 : decode cX3_tankByContent 47 = .ok (.istore 5, 2) := dk_54 5 (dk_at dksX3_tankByContent_2 0 rfl rfl)
theorem dX3_tankByContent_49 : decode cX3_tankByContent 49 = .ok (.iload 5, 2) := dk_21 5 (dk_at dksX3_tankByContent_2 2 rfl rfl)
theorem dX3_tankByContent_51 : decode cX3_tankByContent 51 = .ok (.ifCond .ne 25, 3) := dk_154 0 25 (dk_at dksX3_tankByContent_2 4 rfl rfl)
theorem dX3_tankByContent_54 : decode cX3_tankByContent 54 = .ok (.aload_n 0, 1) := dk_42 (dk_at dksX3_tankByContent_2 7 rfl rfl)
theorem dX3_tankByContent_55 : decode cX3_tankByContent 55 = .ok (.iload_n 2, 1) := dk_28 (dk_at dksX3_tankByContent_2 8 rfl rfl)
theorem dX3_tankByContent_56 : decode cX3_tankByContent 56 = .ok (.iconst 2, 1) := dk_5 (dk_at dksX3_tankByContent_2 9 rfl rfl)
theorem dX3_tankByContent_57 : decode cX3_tankByContent 57 = .ok (.invokevirtual 106, 3) := dk_182 0 106 (dk_at dksX3_tankByContent_2 10 rfl rfl)
theorem dX3_tankByContent_60 : decode cX3_tankByContent 60 = .ok (.invokestatic 120, 3) := dk_184 0 120 (dk_at dksX3_tankByContent_2 13 rfl rfl)
theorem dX3_tankByContent_63 : decode cX3_tankByContent 63 = .ok (.aload_n 0, 1) := dk_42 (dk_at dksX3_tankByContent_2 16 rfl rfl)
theorem dX3_tankByContent_64 : decode cX3_tankByContent 64 = .ok (.iload 4, 2) := dk_21 4 (dk_at dksX3_tankByContent_2 17 rfl rfl)
theorem dX3_tankByContent_66 : decode cX3_tankByContent 66 = .ok (.iconst 2, 1) := dk_5 (dk_at dksX3_tankByContent_2 19 rfl rfl)
theorem dX3_tankByContent_67 : decode cX3_tankByContent 67 = .ok (.invokevirtual 106, 3) := dk_182 0 106 (dk_at dksX3_tankByContent_2 20 rfl rfl)
theorem dX3_tankByContent_70 : decode cX3_tankByContent 70 = .ok (.invokestatic 120, 3) := dk_184 0 120 (dk_at dksX3_tankByContent_3 0 rfl rfl)
theorem dX3_tankByContent_73 : decode cX3_tankByContent 73 = .ok (.isub, 1) := dk_100 (dk_at dksX3_tankByContent_3 3 rfl rfl)
theorem dX3_tankByContent_74 : decode cX3_tankByContent 74 = .ok (.istore 5, 2) := dk_54 5 (dk_at dksX3_tankByContent_3 4 rfl rfl)
theorem dX3_tankByContent_76 : decode cX3_tankByContent 76 = .ok (.iload 5, 2) := dk_21 5 (dk_at dksX3_tankByContent_3 6 rfl rfl)
theorem dX3_tankByContent_78 : decode cX3_tankByContent 78 = .ok (.ifCond .gt 14, 3) := dk_157 0 14 (dk_at dksX3_tankByContent_3 8 rfl rfl)
theorem dX3_tankByContent_81 : decode cX3_tankByContent 81 = .ok (.iload 5, 2) := dk_21 5 (dk_at dksX3_tankByContent_3 11 rfl rfl)
theorem dX3_tankByContent_83 : decode cX3_tankByContent 83 = .ok (.ifCond .ne 12, 3) := dk_154 0 12 (dk_at dksX3_tankByContent_3 13 rfl rfl)
theorem dX3_tankByContent_86 : decode cX3_tankByContent 86 = .ok (.iload 4, 2) := dk_21 4 (dk_at dksX3_tankByContent_3 16 rfl rfl)
theorem dX3_tankByContent_88 : decode cX3_tankByContent 88 = .ok (.iload_n 2, 1) := dk_28 (dk_at dksX3_tankByContent_3 18 rfl rfl)
theorem dX3_tankByContent_89 : decode cX3_tankByContent 89 = .ok (.if_icmp .ge 6, 3) := dk_162 0 6 (dk_at dksX3_tankByContent_3 19 rfl rfl)
theorem dX3_tankByContent_92 : decode cX3_tankByContent 92 = .ok (.iinc 3 1, 3) := dk_132 3 1 (dk_at dksX3_tankByContent_4 0 rfl rfl)
theorem dX3_tankByContent_95 : decode cX3_tankByContent 95 = .ok (.iinc 4 1, 3) := dk_132 4 1 (dk_at dksX3_tankByContent_4 3 rfl rfl)
theorem dX3_tankByContent_98 : decode cX3_tankByContent 98 = .ok (.goto (-76), 3) := dk_167 255 180 (dk_at dksX3_tankByContent_4 6 rfl rfl)
theorem dX3_tankByContent_101 : decode cX3_tankByContent 101 = .ok (.iload_n 3, 1) := dk_29 (dk_at dksX3_tankByContent_4 9 rfl rfl)
theorem dX3_tankByContent_102 : decode cX3_tankByContent 102 = .ok (.iload_n 1, 1) := dk_27 (dk_at dksX3_tankByContent_4 10 rfl rfl)
theorem dX3_tankByContent_103 : decode cX3_tankByContent 103 = .ok (.if_icmp .ne 5, 3) := dk_160 0 5 (dk_at dksX3_tankByContent_4 11 rfl rfl)
theorem dX3_tankByContent_106 : decode cX3_tankByContent 106 = .ok (.iload_n 2, 1) := dk_28 (dk_at dksX3_tankByContent_4 14 rfl rfl)
theorem dX3_tankByContent_107 : decode cX3_tankByContent 107 = .ok (.ireturn, 1) := dk_172 (dk_at dksX3_tankByContent_4 15 rfl rfl)
theorem dX3_tankByContent_108 : decode cX3_tankByContent 108 = .ok (.iinc 2 1, 3) := dk_132 2 1 (dk_at dksX3_tankByContent_4 16 rfl rfl)
theorem dX3_tankByContent_111 : decode cX3_tankByContent 111 = .ok (.goto (-104), 3) := dk_167 255 152 (dk_at dksX3_tankByContent_4 19 rfl rfl)
theorem dX3_tankByContent_114 : decode cX3_tankByContent 114 = .ok (.aload_n 0, 1) := dk_42 (dk_at dksX3_tankByContent_4 22 rfl rfl)
theorem dX3_tankByContent_115 : decode cX3_tankByContent 115 = .ok (.iconst 1, 1) := dk_4 (dk_at dksX3_tankByContent_4 23 rfl rfl)
theorem dX3_tankByContent_116 : decode cX3_tankByContent 116 = .ok (.invokevirtual 55, 3) := dk_182 0 55 (dk_at dksX3_tankByContent_5 0 rfl rfl)
theorem dX3_tankByContent_119 : decode cX3_tankByContent 119 = .ok (.ireturn, 1) := dk_172 (dk_at dksX3_tankByContent_5 3 rfl rfl)
abbrev cX3_fillShare : ByteArray := prog_18_method_37_code
def yX3_fillShare : MethodName := ⟨RX3, "fillShare", "(I)F"⟩
def dkwX3_fillShare_1 : List UInt8 := [167, 0, 4, 11, 174]
abbrev dktX3_fillShare_1 : List UInt8 := dkwX3_fillShare_1 ++ []
def dkwX3_fillShare_0 : List UInt8 := [42, 27, 4, 182, 0, 132, 61, 42, 180, 0, 49, 154, 0, 16, 28, 134, 42, 27, 3, 182, 0, 106, 134, 110]
abbrev dktX3_fillShare_0 : List UInt8 := dkwX3_fillShare_0 ++ dktX3_fillShare_1
theorem dksX3_fillShare_0 : cX3_fillShare.data.toList.drop 0 = dktX3_fillShare_0 := by decide +kernel
theorem dksX3_fillShare_1 : cX3_fillShare.data.toList.drop 24 = dktX3_fillShare_1 := dk_seg dksX3_fillShare_0 24 rfl rfl
theorem dX3_fillShare_0 : decode cX3_fillShare 0 = .ok (.aload_n 0, 1) := dk_42 (dk_at dksX3_fillShare_0 0 rfl rfl)
theorem dX3_fillShare_1 : decode cX3_fillShare 1 = .ok (.iload_n 1, 1) := dk_27 (dk_at dksX3_fillShare_0 1 rfl rfl)
theorem dX3_fillShare_2 : decode cX3_fillShare 2 = .ok (.iconst 1, 1) := dk_4 (dk_at dksX3_fillShare_0 2 rfl rfl)
theorem dX3_fillShare_3 : decode cX3_fillShare 3 = .ok (.invokevirtual 132, 3) := dk_182 0 132 (dk_at dksX3_fillShare_0 3 rfl rfl)
theorem dX3_fillShare_6 : decode cX3_fillShare 6 = .ok (.istore_n 2, 1) := dk_61 (dk_at dksX3_fillShare_0 6 rfl rfl)
theorem dX3_fillShare_7 : decode cX3_fillShare 7 = .ok (.aload_n 0, 1) := dk_42 (dk_at dksX3_fillShare_0 7 rfl rfl)
theorem dX3_fillShare_8 : decode cX3_fillShare 8 = .ok (.getfield 49, 3) := dk_180 0 49 (dk_at dksX3_fillShare_0 8 rfl rfl)
theorem dX3_fillShare_11 : decode cX3_fillShare 11 = .ok (.ifCond .ne 16, 3) := dk_154 0 16 (dk_at dksX3_fillShare_0 11 rfl rfl)
theorem dX3_fillShare_14 : decode cX3_fillShare 14 = .ok (.iload_n 2, 1) := dk_28 (dk_at dksX3_fillShare_0 14 rfl rfl)
theorem dX3_fillShare_15 : decode cX3_fillShare 15 = .ok (.i2f, 1) := dk_134 (dk_at dksX3_fillShare_0 15 rfl rfl)
theorem dX3_fillShare_16 : decode cX3_fillShare 16 = .ok (.aload_n 0, 1) := dk_42 (dk_at dksX3_fillShare_0 16 rfl rfl)
theorem dX3_fillShare_17 : decode cX3_fillShare 17 = .ok (.iload_n 1, 1) := dk_27 (dk_at dksX3_fillShare_0 17 rfl rfl)
theorem dX3_fillShare_18 : decode cX3_fillShare 18 = .ok (.iconst 0, 1) := dk_3 (dk_at dksX3_fillShare_0 18 rfl rfl)
theorem dX3_fillShare_19 : decode cX3_fillShare 19 = .ok (.invokevirtual 106, 3) := dk_182 0 106 (dk_at dksX3_fillShare_0 19 rfl rfl)
theorem dX3_fillShare_22 : decode cX3_fillShare 22 = .ok (.i2f, 1) := dk_134 (dk_at dksX3_fillShare_0 22 rfl rfl)
theorem dX3_fillShare_23 : decode cX3_fillShare 23 = .ok (.fdiv, 1) := dk_110 (dk_at dksX3_fillShare_0 23 rfl rfl)
theorem dX3_fillShare_24 : decode cX3_fillShare 24 = .ok (.goto 4, 3) := dk_167 0 4 (dk_at dksX3_fillShare_1 0 rfl rfl)
theorem dX3_fillShare_27 : decode cX3_fillShare 27 = .ok (.fconst 0, 1) := dk_11 (dk_at dksX3_fillShare_1 3 rfl rfl)
theorem dX3_fillShare_28 : decode cX3_fillShare 28 = .ok (.freturn, 1) := dk_174 (dk_at dksX3_fillShare_1 4 rfl rfl)
abbrev cX3_fillShareBits : ByteArray := prog_18_method_38_code
def yX3_fillShareBits : MethodName := ⟨RX3, "fillShareBits", "(I)I"⟩
def dkwX3_fillShareBits_0 : List UInt8 := [42, 27, 182, 0, 135, 69, 42, 180, 0, 49, 154, 0, 10, 36, 184, 0, 139, 167, 0, 4, 3, 172]
abbrev dktX3_fillShareBits_0 : List UInt8 := dkwX3_fillShareBits_0 ++ []
theorem dksX3_fillShareBits_0 : cX3_fillShareBits.data.toList.drop 0 = dktX3_fillShareBits_0 := by decide +kernel
theorem dX3_fillShareBits_0 : decode cX3_fillShareBits 0 = .ok (.aload_n 0, 1) := dk_42 (dk_at dksX3_fillShareBits_0 0 rfl rfl)
theorem dX3_fillShareBits_1 : decode cX3_fillShareBits 1 = .ok (.iload_n 1, 1) := dk_27 (dk_at dksX3_fillShareBits_0 1 rfl rfl)
theorem dX3_fillShareBits_2 : decode cX3_fillShareBits 2 = .ok (.invokevirtual 135, 3) := dk_182 0 135 (dk_at dksX3_fillShareBits_0 2 rfl rfl)
theorem dX3_fillShareBits_5 : decode cX3_fillShareBits 5 = .ok (.fstore_n 2, 1) := dk_69 (dk_at dksX3_fillShareBits_0 5 rfl rfl)
theorem dX3_fillShareBits_6 : decode cX3_fillShareBits 6 = .ok (.aload_n 0, 1) := dk_42 (dk_at dksX3_fillShareBits_0 6 rfl rfl)
theorem dX3_fillShareBits_7 : decode cX3_fillShareBits 7 = .ok (.getfield 49, 3) := dk_180 0 49 (dk_at dksX3_fillShareBits_0 7 rfl rfl)
theorem dX3_fillShareBits_10 : decode cX3_fillShareBits 10 = .ok (.ifCond .ne 10, 3) := dk_154 0 10 (dk_at dksX3_fillShareBits_0 10 rfl rfl)
theorem dX3_fillShareBits_13 : decode cX3_fillShareBits 13 = .ok (.fload_n 2, 1) := dk_36 (dk_at dksX3_fillShareBits_0 13 rfl rfl)
theorem dX3_fillShareBits_14 : decode cX3_fillShareBits 14 = .ok (.invokestatic 139, 3) := dk_184 0 139 (dk_at dksX3_fillShareBits_0 14 rfl rfl)
theorem dX3_fillShareBits_17 : decode cX3_fillShareBits 17 = .ok (.goto 4, 3) := dk_167 0 4 (dk_at dksX3_fillShareBits_0 17 rfl rfl)
theorem dX3_fillShareBits_20 : decode cX3_fillShareBits 20 = .ok (.iconst 0, 1) := dk_3 (dk_at dksX3_fillShareBits_0 20 rfl rfl)
theorem dX3_fillShareBits_21 : decode cX3_fillShareBits 21 = .ok (.ireturn, 1) := dk_172 (dk_at dksX3_fillShareBits_0 21 rfl rfl)
abbrev cX3_pipeCount : ByteArray := prog_18_method_39_code
def yX3_pipeCount : MethodName := ⟨RX3, "pipeCount", "()I"⟩
def dkwX3_pipeCount_0 : List UInt8 := [42, 3, 181, 0, 49, 42, 180, 0, 9, 4, 46, 172]
abbrev dktX3_pipeCount_0 : List UInt8 := dkwX3_pipeCount_0 ++ []
theorem dksX3_pipeCount_0 : cX3_pipeCount.data.toList.drop 0 = dktX3_pipeCount_0 := by decide +kernel
theorem dX3_pipeCount_0 : decode cX3_pipeCount 0 = .ok (.aload_n 0, 1) := dk_42 (dk_at dksX3_pipeCount_0 0 rfl rfl)
theorem dX3_pipeCount_1 : decode cX3_pipeCount 1 = .ok (.iconst 0, 1) := dk_3 (dk_at dksX3_pipeCount_0 1 rfl rfl)
theorem dX3_pipeCount_2 : decode cX3_pipeCount 2 = .ok (.putfield 49, 3) := dk_181 0 49 (dk_at dksX3_pipeCount_0 2 rfl rfl)
theorem dX3_pipeCount_5 : decode cX3_pipeCount 5 = .ok (.aload_n 0, 1) := dk_42 (dk_at dksX3_pipeCount_0 5 rfl rfl)
theorem dX3_pipeCount_6 : decode cX3_pipeCount 6 = .ok (.getfield 9, 3) := dk_180 0 9 (dk_at dksX3_pipeCount_0 6 rfl rfl)
theorem dX3_pipeCount_9 : decode cX3_pipeCount 9 = .ok (.iconst 1, 1) := dk_4 (dk_at dksX3_pipeCount_0 9 rfl rfl)
theorem dX3_pipeCount_10 : decode cX3_pipeCount 10 = .ok (.iaload, 1) := dk_46 (dk_at dksX3_pipeCount_0 10 rfl rfl)
theorem dX3_pipeCount_11 : decode cX3_pipeCount 11 = .ok (.ireturn, 1) := dk_172 (dk_at dksX3_pipeCount_0 11 rfl rfl)
abbrev cX3_firstOf : ByteArray := prog_18_method_41_code
def yX3_firstOf : MethodName := ⟨RX3, "firstOf", "(I)I"⟩
def dkwX3_firstOf_0 : List UInt8 := [42, 27, 3, 182, 0, 145, 172]
abbrev dktX3_firstOf_0 : List UInt8 := dkwX3_firstOf_0 ++ []
theorem dksX3_firstOf_0 : cX3_firstOf.data.toList.drop 0 = dktX3_firstOf_0 := by decide +kernel
theorem dX3_firstOf_0 : decode cX3_firstOf 0 = .ok (.aload_n 0, 1) := dk_42 (dk_at dksX3_firstOf_0 0 rfl rfl)
theorem dX3_firstOf_1 : decode cX3_firstOf 1 = .ok (.iload_n 1, 1) := dk_27 (dk_at dksX3_firstOf_0 1 rfl rfl)
theorem dX3_firstOf_2 : decode cX3_firstOf 2 = .ok (.iconst 0, 1) := dk_3 (dk_at dksX3_firstOf_0 2 rfl rfl)
theorem dX3_firstOf_3 : decode cX3_firstOf 3 = .ok (.invokevirtual 145, 3) := dk_182 0 145 (dk_at dksX3_firstOf_0 3 rfl rfl)
theorem dX3_firstOf_6 : decode cX3_firstOf 6 = .ok (.ireturn, 1) := dk_172 (dk_at dksX3_firstOf_0 6 rfl rfl)
abbrev cX3_ofPipe : ByteArray := prog_18_method_40_code
def yX3_ofPipe : MethodName := ⟨RX3, "ofPipe", "(II)I"⟩
def dkwX3_ofPipe_1 : List UInt8 := [42, 27, 28, 182, 0, 66, 167, 0, 4, 3, 172]
abbrev dktX3_ofPipe_1 : List UInt8 := dkwX3_ofPipe_1 ++ []
def dkwX3_ofPipe_0 : List UInt8 := [42, 42, 27, 182, 0, 96, 153, 0, 7, 3, 167, 0, 4, 4, 181, 0, 49, 42, 180, 0, 49, 154, 0, 12]
abbrev dktX3_ofPipe_0 : List UInt8 := dkwX3_ofPipe_0 ++ dktX3_ofPipe_1
theorem dksX3_ofPipe_0 : cX3_ofPipe.data.toList.drop 0 = dktX3_ofPipe_0 := by decide +kernel
theorem dksX3_ofPipe_1 : cX3_ofPipe.data.toList.drop 24 = dktX3_ofPipe_1 := dk_seg dksX3_ofPipe_0 24 rfl rfl
theorem dX3_ofPipe_0 : decode cX3_ofPipe 0 = .ok (.aload_n 0, 1) := dk_42 (dk_at dksX3_ofPipe_0 0 rfl rfl)
theorem dX3_ofPipe_1 : decode cX3_ofPipe 1 = .ok (.aload_n 0, 1) := dk_42 (dk_at dksX3_ofPipe_0 1 rfl rfl)
theorem dX3_ofPipe_2 : decode cX3_ofPipe 2 = .ok (.iload_n 1, 1) := dk_27 (dk_at dksX3_ofPipe_0 2 rfl rfl)
theorem dX3_ofPipe_3 : decode cX3_ofPipe 3 = .ok (.invokevirtual 96, 3) := dk_182 0 96 (dk_at dksX3_ofPipe_0 3 rfl rfl)
theorem dX3_ofPipe_6 : decode cX3_ofPipe 6 = .ok (.ifCond .eq 7, 3) := dk_153 0 7 (dk_at dksX3_ofPipe_0 6 rfl rfl)
theorem dX3_ofPipe_9 : decode cX3_ofPipe 9 = .ok (.iconst 0, 1) := dk_3 (dk_at dksX3_ofPipe_0 9 rfl rfl)
theorem dX3_ofPipe_10 : decode cX3_ofPipe 10 = .ok (.goto 4, 3) := dk_167 0 4 (dk_at dksX3_ofPipe_0 10 rfl rfl)
theorem dX3_ofPipe_13 : decode cX3_ofPipe 13 = .ok (.iconst 1, 1) := dk_4 (dk_at dksX3_ofPipe_0 13 rfl rfl)
theorem dX3_ofPipe_14 : decode cX3_ofPipe 14 = .ok (.putfield 49, 3) := dk_181 0 49 (dk_at dksX3_ofPipe_0 14 rfl rfl)
theorem dX3_ofPipe_17 : decode cX3_ofPipe 17 = .ok (.aload_n 0, 1) := dk_42 (dk_at dksX3_ofPipe_0 17 rfl rfl)
theorem dX3_ofPipe_18 : decode cX3_ofPipe 18 = .ok (.getfield 49, 3) := dk_180 0 49 (dk_at dksX3_ofPipe_0 18 rfl rfl)
theorem dX3_ofPipe_21 : decode cX3_ofPipe 21 = .ok (.ifCond .ne 12, 3) := dk_154 0 12 (dk_at dksX3_ofPipe_0 21 rfl rfl)
theorem dX3_ofPipe_24 : decode cX3_ofPipe 24 = .ok (.aload_n 0, 1) := dk_42 (dk_at dksX3_ofPipe_1 0 rfl rfl)
theorem dX3_ofPipe_25 : decode cX3_ofPipe 25 = .ok (.iload_n 1, 1) := dk_27 (dk_at dksX3_ofPipe_1 1 rfl rfl)
theorem dX3_ofPipe_26 : decode cX3_ofPipe 26 = .ok (.iload_n 2, 1) := dk_28 (dk_at dksX3_ofPipe_1 2 rfl rfl)
theorem dX3_ofPipe_27 : decode cX3_ofPipe 27 = .ok (.invokevirtual 66, 3) := dk_182 0 66 (dk_at dksX3_ofPipe_1 3 rfl rfl)
theorem dX3_ofPipe_30 : decode cX3_ofPipe 30 = .ok (.goto 4, 3) := dk_167 0 4 (dk_at dksX3_ofPipe_1 6 rfl rfl)
theorem dX3_ofPipe_33 : decode cX3_ofPipe 33 = .ok (.iconst 0, 1) := dk_3 (dk_at dksX3_ofPipe_1 9 rfl rfl)
theorem dX3_ofPipe_34 : decode cX3_ofPipe 34 = .ok (.ireturn, 1) := dk_172 (dk_at dksX3_ofPipe_1 10 rfl rfl)
abbrev cX3_secondOf : ByteArray := prog_18_method_42_code
def yX3_secondOf : MethodName := ⟨RX3, "secondOf", "(I)I"⟩
def dkwX3_secondOf_0 : List UInt8 := [42, 27, 4, 182, 0, 145, 172]
abbrev dktX3_secondOf_0 : List UInt8 := dkwX3_secondOf_0 ++ []
theorem dksX3_secondOf_0 : cX3_secondOf.data.toList.drop 0 = dktX3_secondOf_0 := by decide +kernel
theorem dX3_secondOf_0 : decode cX3_secondOf 0 = .ok (.aload_n 0, 1) := dk_42 (dk_at dksX3_secondOf_0 0 rfl rfl)
theorem dX3_secondOf_1 : decode cX3_secondOf 1 = .ok (.iload_n 1, 1) := dk_27 (dk_at dksX3_secondOf_0 1 rfl rfl)
theorem dX3_secondOf_2 : decode cX3_secondOf 2 = .ok (.iconst 1, 1) := dk_4 (dk_at dksX3_secondOf_0 2 rfl rfl)
theorem dX3_secondOf_3 : decode cX3_secondOf 3 = .ok (.invokevirtual 145, 3) := dk_182 0 145 (dk_at dksX3_secondOf_0 3 rfl rfl)
theorem dX3_secondOf_6 : decode cX3_secondOf 6 = .ok (.ireturn, 1) := dk_172 (dk_at dksX3_secondOf_0 6 rfl rfl)
abbrev cX3_valve : ByteArray := prog_18_method_43_code
def yX3_valve : MethodName := ⟨RX3, "valve", "(I)I"⟩
def dkwX3_valve_0 : List UInt8 := [42, 27, 6, 182, 0, 145, 172]
abbrev dktX3_valve_0 : List UInt8 := dkwX3_valve_0 ++ []
theorem dksX3_valve_0 : cX3_valve.data.toList.drop 0 = dktX3_valve_0 := by decide +kernel
theorem dX3_valve_0 : decode cX3_valve 0 = .ok (.aload_n 0, 1) := dk_42 (dk_at dksX3_valve_0 0 rfl rfl)
theorem dX3_valve_1 : decode cX3_valve 1 = .ok (.iload_n 1, 1) := dk_27 (dk_at dksX3_valve_0 1 rfl rfl)
theorem dX3_valve_2 : decode cX3_valve 2 = .ok (.iconst 3, 1) := dk_6 (dk_at dksX3_valve_0 2 rfl rfl)
theorem dX3_valve_3 : decode cX3_valve 3 = .ok (.invokevirtual 145, 3) := dk_182 0 145 (dk_at dksX3_valve_0 3 rfl rfl)
theorem dX3_valve_6 : decode cX3_valve 6 = .ok (.ireturn, 1) := dk_172 (dk_at dksX3_valve_0 6 rfl rfl)
abbrev cX3_leak : ByteArray := prog_18_method_44_code
def yX3_leak : MethodName := ⟨RX3, "leak", "(I)I"⟩
def dkwX3_leak_0 : List UInt8 := [42, 27, 7, 182, 0, 145, 172]
abbrev dktX3_leak_0 : List UInt8 := dkwX3_leak_0 ++ []
theorem dksX3_leak_0 : cX3_leak.data.toList.drop 0 = dktX3_leak_0 := by decide +kernel
theorem dX3_leak_0 : decode cX3_leak 0 = .ok (.aload_n 0, 1) := dk_42 (dk_at dksX3_leak_0 0 rfl rfl)
theorem dX3_leak_1 : decode cX3_leak 1 = .ok (.iload_n 1, 1) := dk_27 (dk_at dksX3_leak_0 1 rfl rfl)
theorem dX3_leak_2 : decode cX3_leak 2 = .ok (.iconst 4, 1) := dk_7 (dk_at dksX3_leak_0 2 rfl rfl)
theorem dX3_leak_3 : decode cX3_leak 3 = .ok (.invokevirtual 145, 3) := dk_182 0 145 (dk_at dksX3_leak_0 3 rfl rfl)
theorem dX3_leak_6 : decode cX3_leak 6 = .ok (.ireturn, 1) := dk_172 (dk_at dksX3_leak_0 6 rfl rfl)
abbrev cX3_mesh : ByteArray := prog_18_method_45_code
def yX3_mesh : MethodName := ⟨RX3, "mesh", "(I)I"⟩
def dkwX3_mesh_0 : List UInt8 := [42, 27, 5, 182, 0, 145, 172]
abbrev dktX3_mesh_0 : List UInt8 := dkwX3_mesh_0 ++ []
theorem dksX3_mesh_0 : cX3_mesh.data.toList.drop 0 = dktX3_mesh_0 := by decide +kernel
theorem dX3_mesh_0 : decode cX3_mesh 0 = .ok (.aload_n 0, 1) := dk_42 (dk_at dksX3_mesh_0 0 rfl rfl)
theorem dX3_mesh_1 : decode cX3_mesh 1 = .ok (.iload_n 1, 1) := dk_27 (dk_at dksX3_mesh_0 1 rfl rfl)
theorem dX3_mesh_2 : decode cX3_mesh 2 = .ok (.iconst 2, 1) := dk_5 (dk_at dksX3_mesh_0 2 rfl rfl)
theorem dX3_mesh_3 : decode cX3_mesh 3 = .ok (.invokevirtual 145, 3) := dk_182 0 145 (dk_at dksX3_mesh_0 3 rfl rfl)
theorem dX3_mesh_6 : decode cX3_mesh 6 = .ok (.ireturn, 1) := dk_172 (dk_at dksX3_mesh_0 6 rfl rfl)
abbrev cX3_dirt : ByteArray := prog_18_method_46_code
def yX3_dirt : MethodName := ⟨RX3, "dirt", "(I)I"⟩
def dkwX3_dirt_0 : List UInt8 := [42, 27, 8, 182, 0, 145, 172]
abbrev dktX3_dirt_0 : List UInt8 := dkwX3_dirt_0 ++ []
theorem dksX3_dirt_0 : cX3_dirt.data.toList.drop 0 = dktX3_dirt_0 := by decide +kernel
theorem dX3_dirt_0 : decode cX3_dirt 0 = .ok (.aload_n 0, 1) := dk_42 (dk_at dksX3_dirt_0 0 rfl rfl)
theorem dX3_dirt_1 : decode cX3_dirt 1 = .ok (.iload_n 1, 1) := dk_27 (dk_at dksX3_dirt_0 1 rfl rfl)
theorem dX3_dirt_2 : decode cX3_dirt 2 = .ok (.iconst 5, 1) := dk_8 (dk_at dksX3_dirt_0 2 rfl rfl)
theorem dX3_dirt_3 : decode cX3_dirt 3 = .ok (.invokevirtual 145, 3) := dk_182 0 145 (dk_at dksX3_dirt_0 3 rfl rfl)
theorem dX3_dirt_6 : decode cX3_dirt 6 = .ok (.ireturn, 1) := dk_172 (dk_at dksX3_dirt_0 6 rfl rfl)
abbrev cX3_isOpen : ByteArray := prog_18_method_47_code
def yX3_isOpen : MethodName := ⟨RX3, "isOpen", "(I)Z"⟩
def dkwX3_isOpen_1 : List UInt8 := [153, 0, 7, 4, 167, 0, 4, 3, 172]
abbrev dktX3_isOpen_1 : List UInt8 := dkwX3_isOpen_1 ++ []
def dkwX3_isOpen_0 : List UInt8 := [42, 27, 6, 182, 0, 145, 61, 42, 180, 0, 49, 154, 0, 19, 28, 158, 0, 15, 42, 27, 182, 0, 103]
abbrev dktX3_isOpen_0 : List UInt8 := dkwX3_isOpen_0 ++ dktX3_isOpen_1
theorem dksX3_isOpen_0 : cX3_isOpen.data.toList.drop 0 = dktX3_isOpen_0 := by decide +kernel
theorem dksX3_isOpen_1 : cX3_isOpen.data.toList.drop 23 = dktX3_isOpen_1 := dk_seg dksX3_isOpen_0 23 rfl rfl
theorem dX3_isOpen_0 : decode cX3_isOpen 0 = .ok (.aload_n 0, 1) := dk_42 (dk_at dksX3_isOpen_0 0 rfl rfl)
theorem dX3_isOpen_1 : decode cX3_isOpen 1 = .ok (.iload_n 1, 1) := dk_27 (dk_at dksX3_isOpen_0 1 rfl rfl)
theorem dX3_isOpen_2 : decode cX3_isOpen 2 = .ok (.iconst 3, 1) := dk_6 (dk_at dksX3_isOpen_0 2 rfl rfl)
theorem dX3_isOpen_3 : decode cX3_isOpen 3 = .ok (.invokevirtual 145, 3) := dk_182 0 145 (dk_at dksX3_isOpen_0 3 rfl rfl)
theorem dX3_isOpen_6 : decode cX3_isOpen 6 = .ok (.istore_n 2, 1) := dk_61 (dk_at dksX3_isOpen_0 6 rfl rfl)
theorem dX3_isOpen_7 : decode cX3_isOpen 7 = .ok (.aload_n 0, 1) := dk_42 (dk_at dksX3_isOpen_0 7 rfl rfl)
theorem dX3_isOpen_8 : decode cX3_isOpen 8 = .ok (.getfield 49, 3) := dk_180 0 49 (dk_at dksX3_isOpen_0 8 rfl rfl)
theorem dX3_isOpen_11 : decode cX3_isOpen 11 = .ok (.ifCond .ne 19, 3) := dk_154 0 19 (dk_at dksX3_isOpen_0 11 rfl rfl)
theorem dX3_isOpen_14 : decode cX3_isOpen 14 = .ok (.iload_n 2, 1) := dk_28 (dk_at dksX3_isOpen_0 14 rfl rfl)
theorem dX3_isOpen_15 : decode cX3_isOpen 15 = .ok (.ifCond .le 15, 3) := dk_158 0 15 (dk_at dksX3_isOpen_0 15 rfl rfl)
theorem dX3_isOpen_18 : decode cX3_isOpen 18 = .ok (.aload_n 0, 1) := dk_42 (dk_at dksX3_isOpen_0 18 rfl rfl)
theorem dX3_isOpen_19 : decode cX3_isOpen 19 = .ok (.iload_n 1, 1) := dk_27 (dk_at dksX3_isOpen_0 19 rfl rfl)
theorem dX3_isOpen_20 : decode cX3_isOpen 20 = .ok (.invokevirtual 103, 3) := dk_182 0 103 (dk_at dksX3_isOpen_0 20 rfl rfl)
theorem dX3_isOpen_23 : decode cX3_isOpen 23 = .ok (.ifCond .eq 7, 3) := dk_153 0 7 (dk_at dksX3_isOpen_1 0 rfl rfl)
theorem dX3_isOpen_26 : decode cX3_isOpen 26 = .ok (.iconst 1, 1) := dk_4 (dk_at dksX3_isOpen_1 3 rfl rfl)
theorem dX3_isOpen_27 : decode cX3_isOpen 27 = .ok (.goto 4, 3) := dk_167 0 4 (dk_at dksX3_isOpen_1 4 rfl rfl)
theorem dX3_isOpen_30 : decode cX3_isOpen 30 = .ok (.iconst 0, 1) := dk_3 (dk_at dksX3_isOpen_1 7 rfl rfl)
theorem dX3_isOpen_31 : decode cX3_isOpen 31 = .ok (.ireturn, 1) := dk_172 (dk_at dksX3_isOpen_1 8 rfl rfl)
abbrev cX3_flow : ByteArray := prog_18_method_48_code
def yX3_flow : MethodName := ⟨RX3, "flow", "(I)I"⟩
def dkwX3_flow_1 : List UInt8 := [167, 0, 4, 3, 172]
abbrev dktX3_flow_1 : List UInt8 := dkwX3_flow_1 ++ []
def dkwX3_flow_0 : List UInt8 := [42, 27, 3, 182, 0, 145, 61, 42, 180, 0, 49, 154, 0, 15, 28, 155, 0, 11, 42, 27, 182, 0, 117]
abbrev dktX3_flow_0 : List UInt8 := dkwX3_flow_0 ++ dktX3_flow_1
theorem dksX3_flow_0 : cX3_flow.data.toList.drop 0 = dktX3_flow_0 := by decide +kernel
theorem dksX3_flow_1 : cX3_flow.data.toList.drop 23 = dktX3_flow_1 := dk_seg dksX3_flow_0 23 rfl rfl
theorem dX3_flow_0 : decode cX3_flow 0 = .ok (.aload_n 0, 1) := dk_42 (dk_at dksX3_flow_0 0 rfl rfl)
theorem dX3_flow_1 : decode cX3_flow 1 = .ok (.iload_n 1, 1) := dk_27 (dk_at dksX3_flow_0 1 rfl rfl)
theorem dX3_flow_2 : decode cX3_flow 2 = .ok (.iconst 0, 1) := dk_3 (dk_at dksX3_flow_0 2 rfl rfl)
theorem dX3_flow_3 : decode cX3_flow 3 = .ok (.invokevirtual 145, 3) := dk_182 0 145 (dk_at dksX3_flow_0 3 rfl rfl)
theorem dX3_flow_6 : decode cX3_flow 6 = .ok (.istore_n 2, 1) := dk_61 (dk_at dksX3_flow_0 6 rfl rfl)
theorem dX3_flow_7 : decode cX3_flow 7 = .ok (.aload_n 0, 1) := dk_42 (dk_at dksX3_flow_0 7 rfl rfl)
theorem dX3_flow_8 : decode cX3_flow 8 = .ok (.getfield 49, 3) := dk_180 0 49 (dk_at dksX3_flow_0 8 rfl rfl)
theorem dX3_flow_11 : decode cX3_flow 11 = .ok (.ifCond .ne 15, 3) := dk_154 0 15 (dk_at dksX3_flow_0 11 rfl rfl)
theorem dX3_flow_14 : decode cX3_flow 14 = .ok (.iload_n 2, 1) := dk_28 (dk_at dksX3_flow_0 14 rfl rfl)
theorem dX3_flow_15 : decode cX3_flow 15 = .ok (.ifCond .lt 11, 3) := dk_155 0 11 (dk_at dksX3_flow_0 15 rfl rfl)
theorem dX3_flow_18 : decode cX3_flow 18 = .ok (.aload_n 0, 1) := dk_42 (dk_at dksX3_flow_0 18 rfl rfl)
theorem dX3_flow_19 : decode cX3_flow 19 = .ok (.iload_n 1, 1) := dk_27 (dk_at dksX3_flow_0 19 rfl rfl)
theorem dX3_flow_20 : decode cX3_flow 20 = .ok (.invokevirtual 117, 3) := dk_182 0 117 (dk_at dksX3_flow_0 20 rfl rfl)
theorem dX3_flow_23 : decode cX3_flow 23 = .ok (.goto 4, 3) := dk_167 0 4 (dk_at dksX3_flow_1 0 rfl rfl)
theorem dX3_flow_26 : decode cX3_flow 26 = .ok (.iconst 0, 1) := dk_3 (dk_at dksX3_flow_1 3 rfl rfl)
theorem dX3_flow_27 : decode cX3_flow 27 = .ok (.ireturn, 1) := dk_172 (dk_at dksX3_flow_1 4 rfl rfl)
abbrev cX3_litresThrough : ByteArray := prog_18_method_49_code
def yX3_litresThrough : MethodName := ⟨RX3, "litresThrough", "(I)I"⟩
def dkwX3_litresThrough_0 : List UInt8 := [42, 27, 16, 6, 182, 0, 145, 172]
abbrev dktX3_litresThrough_0 : List UInt8 := dkwX3_litresThrough_0 ++ []
theorem dksX3_litresThrough_0 : cX3_litresThrough.data.toList.drop 0 = dktX3_litresThrough_0 := by decide +kernel
theorem dX3_litresThrough_0 : decode cX3_litresThrough 0 = .ok (.aload_n 0, 1) := dk_42 (dk_at dksX3_litresThrough_0 0 rfl rfl)
theorem dX3_litresThrough_1 : decode cX3_litresThrough 1 = .ok (.iload_n 1, 1) := dk_27 (dk_at dksX3_litresThrough_0 1 rfl rfl)
theorem dX3_litresThrough_2 : decode cX3_litresThrough 2 = .ok (.bipush 6, 2) := dk_16 6 (dk_at dksX3_litresThrough_0 2 rfl rfl)
theorem dX3_litresThrough_4 : decode cX3_litresThrough 4 = .ok (.invokevirtual 145, 3) := dk_182 0 145 (dk_at dksX3_litresThrough_0 4 rfl rfl)
theorem dX3_litresThrough_7 : decode cX3_litresThrough 7 = .ok (.ireturn, 1) := dk_172 (dk_at dksX3_litresThrough_0 7 rfl rfl)
abbrev cX3_pipeByDirt : ByteArray := prog_18_method_50_code
def yX3_pipeByDirt : MethodName := ⟨RX3, "pipeByDirt", "(I)I"⟩
def dkwX3_pipeByDirt_4 : List UInt8 := [167, 255, 184, 29, 27, 160, 0, 5, 28, 172, 132, 2, 1, 167, 255, 156, 42, 4, 182, 0, 55, 172]
abbrev dktX3_pipeByDirt_4 : List UInt8 := dkwX3_pipeByDirt_4 ++ []
def dkwX3_pipeByDirt_3 : List UInt8 := [54, 5, 21, 5, 157, 0, 14, 21, 5, 154, 0, 12, 21, 4, 28, 162, 0, 6, 132, 3, 1, 132, 4, 1]
abbrev dktX3_pipeByDirt_3 : List UInt8 := dkwX3_pipeByDirt_3 ++ dktX3_pipeByDirt_4
def dkwX3_pipeByDirt_2 : List UInt8 := [54, 5, 21, 5, 154, 0, 21, 42, 21, 4, 16, 6, 182, 0, 66, 42, 28, 16, 6, 182, 0, 66, 100]
abbrev dktX3_pipeByDirt_2 : List UInt8 := dkwX3_pipeByDirt_2 ++ dktX3_pipeByDirt_3
def dkwX3_pipeByDirt_1 : List UInt8 := [42, 180, 0, 9, 4, 46, 162, 0, 67, 42, 21, 4, 8, 182, 0, 66, 42, 28, 8, 182, 0, 66, 100]
abbrev dktX3_pipeByDirt_1 : List UInt8 := dkwX3_pipeByDirt_1 ++ dktX3_pipeByDirt_2
def dkwX3_pipeByDirt_0 : List UInt8 := [42, 3, 181, 0, 49, 3, 61, 28, 42, 180, 0, 9, 4, 46, 162, 0, 96, 3, 62, 3, 54, 4, 21, 4]
abbrev dktX3_pipeByDirt_0 : List UInt8 := dkwX3_pipeByDirt_0 ++ dktX3_pipeByDirt_1
theorem dksX3_pipeByDirt_0 : cX3_pipeByDirt.data.toList.drop 0 = dktX3_pipeByDirt_0 := by decide +kernel
theorem dksX3_pipeByDirt_1 : cX3_pipeByDirt.data.toList.drop 24 = dktX3_pipeByDirt_1 := dk_seg dksX3_pipeByDirt_0 24 rfl rfl
theorem dksX3_pipeByDirt_2 : cX3_pipeByDirt.data.toList.drop 47 = dktX3_pipeByDirt_2 := dk_seg dksX3_pipeByDirt_1 23 rfl rfl
theorem dksX3_pipeByDirt_3 : cX3_pipeByDirt.data.toList.drop 70 = dktX3_pipeByDirt_3 := dk_seg dksX3_pipeByDirt_2 23 rfl rfl
theorem dksX3_pipeByDirt_4 : cX3_pipeByDirt.data.toList.drop 94 = dktX3_pipeByDirt_4 := dk_seg dksX3_pipeByDirt_3 24 rfl rfl
theorem dX3_pipeByDirt_0 : decode cX3_pipeByDirt 0 = .ok (.aload_n 0, 1) := dk_42 (dk_at dksX3_pipeByDirt_0 0 rfl rfl)
theorem dX3_pipeByDirt_1 : decode cX3_pipeByDirt 1 = .ok (.iconst 0, 1) := dk_3 (dk_at dksX3_pipeByDirt_0 1 rfl rfl)
theorem dX3_pipeByDirt_2 : decode cX3_pipeByDirt 2 = .ok (.putfield 49, 3) := dk_181 0 49 (dk_at dksX3_pipeByDirt_0 2 rfl rfl)
theorem dX3_pipeByDirt_5 : decode cX3_pipeByDirt 5 = .ok (.iconst 0, 1) := dk_3 (dk_at dksX3_pipeByDirt_0 5 rfl rfl)
theorem dX3_pipeByDirt_6 : decode cX3_pipeByDirt 6 = .ok (.istore_n 2, 1) := dk_61 (dk_at dksX3_pipeByDirt_0 6 rfl rfl)
theorem dX3_pipeByDirt_7 : decode cX3_pipeByDirt 7 = .ok (.iload_n 2, 1) := dk_28 (dk_at dksX3_pipeByDirt_0 7 rfl rfl)
theorem dX3_pipeByDirt_8 : decode cX3_pipeByDirt 8 = .ok (.aload_n 0, 1) := dk_42 (dk_at dksX3_pipeByDirt_0 8 rfl rfl)
theorem dX3_pipeByDirt_9 : decode cX3_pipeByDirt 9 = .ok (.getfield 9, 3) := dk_180 0 9 (dk_at dksX3_pipeByDirt_0 9 rfl rfl)
theorem dX3_pipeByDirt_12 : decode cX3_pipeByDirt 12 = .ok (.iconst 1, 1) := dk_4 (dk_at dksX3_pipeByDirt_0 12 rfl rfl)
theorem dX3_pipeByDirt_13 : decode cX3_pipeByDirt 13 = .ok (.iaload, 1) := dk_46 (dk_at dksX3_pipeByDirt_0 13 rfl rfl)
theorem dX3_pipeByDirt_14 : decode cX3_pipeByDirt 14 = .ok (.if_icmp .ge 96, 3) := dk_162 0 96 (dk_at dksX3_pipeByDirt_0 14 rfl rfl)
theorem dX3_pipeByDirt_17 : decode cX3_pipeByDirt 17 = .ok (.iconst 0, 1) := dk_3 (dk_at dksX3_pipeByDirt_0 17 rfl rfl)
theorem dX3_pipeByDirt_18 : decode cX3_pipeByDirt 18 = .ok (.istore_n 3, 1) := dk_62 (dk_at dksX3_pipeByDirt_0 18 rfl rfl)
theorem dX3_pipeByDirt_19 : decode cX3_pipeByDirt 19 = .ok (.iconst 0, 1) := dk_3 (dk_at dksX3_pipeByDirt_0 19 rfl rfl)
theorem dX3_pipeByDirt_20 : decode cX3_pipeByDirt 20 = .ok (.istore 4, 2) := dk_54 4 (dk_at dksX3_pipeByDirt_0 20 rfl rfl)
theorem dX3_pipeByDirt_22 : decode cX3_pipeByDirt 22 = .ok (.iload 4, 2) := dk_21 4 (dk_at dksX3_pipeByDirt_0 22 rfl rfl)
theorem dX3_pipeByDirt_24 : decode cX3_pipeByDirt 24 = .ok (.aload_n 0, 1) := dk_42 (dk_at dksX3_pipeByDirt_1 0 rfl rfl)
theorem dX3_pipeByDirt_25 : decode cX3_pipeByDirt 25 = .ok (.getfield 9, 3) := dk_180 0 9 (dk_at dksX3_pipeByDirt_1 1 rfl rfl)
theorem dX3_pipeByDirt_28 : decode cX3_pipeByDirt 28 = .ok (.iconst 1, 1) := dk_4 (dk_at dksX3_pipeByDirt_1 4 rfl rfl)
theorem dX3_pipeByDirt_29 : decode cX3_pipeByDirt 29 = .ok (.iaload, 1) := dk_46 (dk_at dksX3_pipeByDirt_1 5 rfl rfl)
theorem dX3_pipeByDirt_30 : decode cX3_pipeByDirt 30 = .ok (.if_icmp .ge 67, 3) := dk_162 0 67 (dk_at dksX3_pipeByDirt_1 6 rfl rfl)
theorem dX3_pipeByDirt_33 : decode cX3_pipeByDirt 33 = .ok (.aload_n 0, 1) := dk_42 (dk_at dksX3_pipeByDirt_1 9 rfl rfl)
theorem dX3_pipeByDirt_34 : decode cX3_pipeByDirt 34 = .ok (.iload 4, 2) := dk_21 4 (dk_at dksX3_pipeByDirt_1 10 rfl rfl)
theorem dX3_pipeByDirt_36 : decode cX3_pipeByDirt 36 = .ok (.iconst 5, 1) := dk_8 (dk_at dksX3_pipeByDirt_1 12 rfl rfl)
theorem dX3_pipeByDirt_37 : decode cX3_pipeByDirt 37 = .ok (.invokevirtual 66, 3) := dk_182 0 66 (dk_at dksX3_pipeByDirt_1 13 rfl rfl)
theorem dX3_pipeByDirt_40 : decode cX3_pipeByDirt 40 = .ok (.aload_n 0, 1) := dk_42 (dk_at dksX3_pipeByDirt_1 16 rfl rfl)
theorem dX3_pipeByDirt_41 : decode cX3_pipeByDirt 41 = .ok (.iload_n 2, 1) := dk_28 (dk_at dksX3_pipeByDirt_1 17 rfl rfl)
theorem dX3_pipeByDirt_42 : decode cX3_pipeByDirt 42 = .ok (.iconst 5, 1) := dk_8 (dk_at dksX3_pipeByDirt_1 18 rfl rfl)
theorem dX3_pipeByDirt_43 : decode cX3_pipeByDirt 43 = .ok (.invokevirtual 66, 3) := dk_182 0 66 (dk_at dksX3_pipeByDirt_1 19 rfl rfl)
theorem dX3_pipeByDirt_46 : decode cX3_pipeByDirt 46 = .ok (.isub, 1) := dk_100 (dk_at dksX3_pipeByDirt_1 22 rfl rfl)
theorem dX3_pipeByDirt_47 : decode cX3_pipeByDirt 47 = .ok (.istore 5, 2) := dk_54 5 (dk_at dksX3_pipeByDirt_2 0 rfl rfl)
theorem dX3_pipeByDirt_49 : decode cX3_pipeByDirt 49 = .ok (.iload 5, 2) := dk_21 5 (dk_at dksX3_pipeByDirt_2 2 rfl rfl)
theorem dX3_pipeByDirt_51 : decode cX3_pipeByDirt 51 = .ok (.ifCond .ne 21, 3) := dk_154 0 21 (dk_at dksX3_pipeByDirt_2 4 rfl rfl)
theorem dX3_pipeByDirt_54 : decode cX3_pipeByDirt 54 = .ok (.aload_n 0, 1) := dk_42 (dk_at dksX3_pipeByDirt_2 7 rfl rfl)
theorem dX3_pipeByDirt_55 : decode cX3_pipeByDirt 55 = .ok (.iload 4, 2) := dk_21 4 (dk_at dksX3_pipeByDirt_2 8 rfl rfl)
theorem dX3_pipeByDirt_57 : decode cX3_pipeByDirt 57 = .ok (.bipush 6, 2) := dk_16 6 (dk_at dksX3_pipeByDirt_2 10 rfl rfl)
theorem dX3_pipeByDirt_59 : decode cX3_pipeByDirt 59 = .ok (.invokevirtual 66, 3) := dk_182 0 66 (dk_at dksX3_pipeByDirt_2 12 rfl rfl)
theorem dX3_pipeByDirt_62 : decode cX3_pipeByDirt 62 = .ok (.aload_n 0, 1) := dk_42 (dk_at dksX3_pipeByDirt_2 15 rfl rfl)
theorem dX3_pipeByDirt_63 : decode cX3_pipeByDirt 63 = .ok (.iload_n 2, 1) := dk_28 (dk_at dksX3_pipeByDirt_2 16 rfl rfl)
theorem dX3_pipeByDirt_64 : decode cX3_pipeByDirt 64 = .ok (.bipush 6, 2) := dk_16 6 (dk_at dksX3_pipeByDirt_2 17 rfl rfl)
theorem dX3_pipeByDirt_66 : decode cX3_pipeByDirt 66 = .ok (.invokevirtual 66, 3) := dk_182 0 66 (dk_at dksX3_pipeByDirt_2 19 rfl rfl)
theorem dX3_pipeByDirt_69 : decode cX3_pipeByDirt 69 = .ok (.isub, 1) := dk_100 (dk_at dksX3_pipeByDirt_2 22 rfl rfl)
theorem dX3_pipeByDirt_70 : decode cX3_pipeByDirt 70 = .ok (.istore 5, 2) := dk_54 5 (dk_at dksX3_pipeByDirt_3 0 rfl rfl)
theorem dX3_pipeByDirt_72 : decode cX3_pipeByDirt 72 = .ok (.iload 5, 2) := dk_21 5 (dk_at dksX3_pipeByDirt_3 2 rfl rfl)
theorem dX3_pipeByDirt_74 : decode cX3_pipeByDirt 74 = .ok (.ifCond .gt 14, 3) := dk_157 0 14 (dk_at dksX3_pipeByDirt_3 4 rfl rfl)
theorem dX3_pipeByDirt_77 : decode cX3_pipeByDirt 77 = .ok (.iload 5, 2) := dk_21 5 (dk_at dksX3_pipeByDirt_3 7 rfl rfl)
theorem dX3_pipeByDirt_79 : decode cX3_pipeByDirt 79 = .ok (.ifCond .ne 12, 3) := dk_154 0 12 (dk_at dksX3_pipeByDirt_3 9 rfl rfl)
theorem dX3_pipeByDirt_82 : decode cX3_pipeByDirt 82 = .ok (.iload 4, 2) := dk_21 4 (dk_at dksX3_pipeByDirt_3 12 rfl rfl)
theorem dX3_pipeByDirt_84 : decode cX3_pipeByDirt 84 = .ok (.iload_n 2, 1) := dk_28 (dk_at dksX3_pipeByDirt_3 14 rfl rfl)
theorem dX3_pipeByDirt_85 : decode cX3_pipeByDirt 85 = .ok (.if_icmp .ge 6, 3) := dk_162 0 6 (dk_at dksX3_pipeByDirt_3 15 rfl rfl)
theorem dX3_pipeByDirt_88 : decode cX3_pipeByDirt 88 = .ok (.iinc 3 1, 3) := dk_132 3 1 (dk_at dksX3_pipeByDirt_3 18 rfl rfl)
theorem dX3_pipeByDirt_91 : decode cX3_pipeByDirt 91 = .ok (.iinc 4 1, 3) := dk_132 4 1 (dk_at dksX3_pipeByDirt_3 21 rfl rfl)
theorem dX3_pipeByDirt_94 : decode cX3_pipeByDirt 94 = .ok (.goto (-72), 3) := dk_167 255 184 (dk_at dksX3_pipeByDirt_4 0 rfl rfl)
theorem dX3_pipeByDirt_97 : decode cX3_pipeByDirt 97 = .ok (.iload_n 3, 1) := dk_29 (dk_at dksX3_pipeByDirt_4 3 rfl rfl)
theorem dX3_pipeByDirt_98 : decode cX3_pipeByDirt 98 = .ok (.iload_n 1, 1) := dk_27 (dk_at dksX3_pipeByDirt_4 4 rfl rfl)
theorem dX3_pipeByDirt_99 : decode cX3_pipeByDirt 99 = .ok (.if_icmp .ne 5, 3) := dk_160 0 5 (dk_at dksX3_pipeByDirt_4 5 rfl rfl)
theorem dX3_pipeByDirt_102 : decode cX3_pipeByDirt 102 = .ok (.iload_n 2, 1) := dk_28 (dk_at dksX3_pipeByDirt_4 8 rfl rfl)
theorem dX3_pipeByDirt_103 : decode cX3_pipeByDirt 103 = .ok (.ireturn, 1) := dk_172 (dk_at dksX3_pipeByDirt_4 9 rfl rfl)
theorem dX3_pipeByDirt_104 : decode cX3_pipeByDirt 104 = .ok (.iinc 2 1, 3) := dk_132 2 1 (dk_at dksX3_pipeByDirt_4 10 rfl rfl)
theorem dX3_pipeByDirt_107 : decode cX3_pipeByDirt 107 = .ok (.goto (-100), 3) := dk_167 255 156 (dk_at dksX3_pipeByDirt_4 13 rfl rfl)
theorem dX3_pipeByDirt_110 : decode cX3_pipeByDirt 110 = .ok (.aload_n 0, 1) := dk_42 (dk_at dksX3_pipeByDirt_4 16 rfl rfl)
theorem dX3_pipeByDirt_111 : decode cX3_pipeByDirt 111 = .ok (.iconst 1, 1) := dk_4 (dk_at dksX3_pipeByDirt_4 17 rfl rfl)
theorem dX3_pipeByDirt_112 : decode cX3_pipeByDirt 112 = .ok (.invokevirtual 55, 3) := dk_182 0 55 (dk_at dksX3_pipeByDirt_4 18 rfl rfl)
theorem dX3_pipeByDirt_115 : decode cX3_pipeByDirt 115 = .ok (.ireturn, 1) := dk_172 (dk_at dksX3_pipeByDirt_4 21 rfl rfl)
abbrev cX3_areConnected : ByteArray := prog_18_method_54_code
def yX3_areConnected : MethodName := ⟨RX3, "areConnected", "(II)Z"⟩
def dkwX3_areConnected_1 : List UInt8 := [172]
abbrev dktX3_areConnected_1 : List UInt8 := dkwX3_areConnected_1 ++ []
def dkwX3_areConnected_0 : List UInt8 := [42, 27, 28, 182, 0, 151, 153, 0, 17, 42, 27, 28, 4, 182, 0, 155, 153, 0, 7, 4, 167, 0, 4, 3]
abbrev dktX3_areConnected_0 : List UInt8 := dkwX3_areConnected_0 ++ dktX3_areConnected_1
theorem dksX3_areConnected_0 : cX3_areConnected.data.toList.drop 0 = dktX3_areConnected_0 := by decide +kernel
theorem dksX3_areConnected_1 : cX3_areConnected.data.toList.drop 24 = dktX3_areConnected_1 := dk_seg dksX3_areConnected_0 24 rfl rfl
theorem dX3_areConnected_0 : decode cX3_areConnected 0 = .ok (.aload_n 0, 1) := dk_42 (dk_at dksX3_areConnected_0 0 rfl rfl)
theorem dX3_areConnected_1 : decode cX3_areConnected 1 = .ok (.iload_n 1, 1) := dk_27 (dk_at dksX3_areConnected_0 1 rfl rfl)
theorem dX3_areConnected_2 : decode cX3_areConnected 2 = .ok (.iload_n 2, 1) := dk_28 (dk_at dksX3_areConnected_0 2 rfl rfl)
theorem dX3_areConnected_3 : decode cX3_areConnected 3 = .ok (.invokevirtual 151, 3) := dk_182 0 151 (dk_at dksX3_areConnected_0 3 rfl rfl)
theorem dX3_areConnected_6 : decode cX3_areConnected 6 = .ok (.ifCond .eq 17, 3) := dk_153 0 17 (dk_at dksX3_areConnected_0 6 rfl rfl)
theorem dX3_areConnected_9 : decode cX3_areConnected 9 = .ok (.aload_n 0, 1) := dk_42 (dk_at dksX3_areConnected_0 9 rfl rfl)
theorem dX3_areConnected_10 : decode cX3_areConnected 10 = .ok (.iload_n 1, 1) := dk_27 (dk_at dksX3_areConnected_0 10 rfl rfl)
theorem dX3_areConnected_11 : decode cX3_areConnected 11 = .ok (.iload_n 2, 1) := dk_28 (dk_at dksX3_areConnected_0 11 rfl rfl)
theorem dX3_areConnected_12 : decode cX3_areConnected 12 = .ok (.iconst 1, 1) := dk_4 (dk_at dksX3_areConnected_0 12 rfl rfl)
theorem dX3_areConnected_13 : decode cX3_areConnected 13 = .ok (.invokevirtual 155, 3) := dk_182 0 155 (dk_at dksX3_areConnected_0 13 rfl rfl)
theorem dX3_areConnected_16 : decode cX3_areConnected 16 = .ok (.ifCond .eq 7, 3) := dk_153 0 7 (dk_at dksX3_areConnected_0 16 rfl rfl)
theorem dX3_areConnected_19 : decode cX3_areConnected 19 = .ok (.iconst 1, 1) := dk_4 (dk_at dksX3_areConnected_0 19 rfl rfl)
theorem dX3_areConnected_20 : decode cX3_areConnected 20 = .ok (.goto 4, 3) := dk_167 0 4 (dk_at dksX3_areConnected_0 20 rfl rfl)
theorem dX3_areConnected_23 : decode cX3_areConnected 23 = .ok (.iconst 0, 1) := dk_3 (dk_at dksX3_areConnected_0 23 rfl rfl)
theorem dX3_areConnected_24 : decode cX3_areConnected 24 = .ok (.ireturn, 1) := dk_172 (dk_at dksX3_areConnected_1 0 rfl rfl)
abbrev cX3_areTanks : ByteArray := prog_18_method_52_code
def yX3_areTanks : MethodName := ⟨RX3, "areTanks", "(II)Z"⟩
def dkwX3_areTanks_1 : List UInt8 := [181, 0, 49, 42, 180, 0, 49, 154, 0, 7, 4, 167, 0, 4, 3, 172]
abbrev dktX3_areTanks_1 : List UInt8 := dkwX3_areTanks_1 ++ []
def dkwX3_areTanks_0 : List UInt8 := [42, 42, 27, 182, 0, 82, 153, 0, 15, 42, 28, 182, 0, 82, 153, 0, 7, 3, 167, 0, 4, 4]
abbrev dktX3_areTanks_0 : List UInt8 := dkwX3_areTanks_0 ++ dktX3_areTanks_1
theorem dksX3_areTanks_0 : cX3_areTanks.data.toList.drop 0 = dktX3_areTanks_0 := by decide +kernel
theorem dksX3_areTanks_1 : cX3_areTanks.data.toList.drop 22 = dktX3_areTanks_1 := dk_seg dksX3_areTanks_0 22 rfl rfl
theorem dX3_areTanks_0 : decode cX3_areTanks 0 = .ok (.aload_n 0, 1) := dk_42 (dk_at dksX3_areTanks_0 0 rfl rfl)
theorem dX3_areTanks_1 : decode cX3_areTanks 1 = .ok (.aload_n 0, 1) := dk_42 (dk_at dksX3_areTanks_0 1 rfl rfl)
theorem dX3_areTanks_2 : decode cX3_areTanks 2 = .ok (.iload_n 1, 1) := dk_27 (dk_at dksX3_areTanks_0 2 rfl rfl)
theorem dX3_areTanks_3 : decode cX3_areTanks 3 = .ok (.invokevirtual 82, 3) := dk_182 0 82 (dk_at dksX3_areTanks_0 3 rfl rfl)
theorem dX3_areTanks_6 : decode cX3_areTanks 6 = .ok (.ifCond .eq 15, 3) := dk_153 0 15 (dk_at dksX3_areTanks_0 6 rfl rfl)
theorem dX3_areTanks_9 : decode cX3_areTanks 9 = .ok (.aload_n 0, 1) := dk_42 (dk_at dksX3_areTanks_0 9 rfl rfl)
theorem dX3_areTanks_10 : decode cX3_areTanks 10 = .ok (.iload_n 2, 1) := dk_28 (dk_at dksX3_areTanks_0 10 rfl rfl)
theorem dX3_areTanks_11 : decode cX3_areTanks 11 = .ok (.invokevirtual 82, 3) := dk_182 0 82 (dk_at dksX3_areTanks_0 11 rfl rfl)
theorem dX3_areTanks_14 : decode cX3_areTanks 14 = .ok (.ifCond .eq 7, 3) := dk_153 0 7 (dk_at dksX3_areTanks_0 14 rfl rfl)
theorem dX3_areTanks_17 : decode cX3_areTanks 17 = .ok (.iconst 0, 1) := dk_3 (dk_at dksX3_areTanks_0 17 rfl rfl)
theorem dX3_areTanks_18 : decode cX3_areTanks 18 = .ok (.goto 4, 3) := dk_167 0 4 (dk_at dksX3_areTanks_0 18 rfl rfl)
theorem dX3_areTanks_21 : decode cX3_areTanks 21 = .ok (.iconst 1, 1) := dk_4 (dk_at dksX3_areTanks_0 21 rfl rfl)
theorem dX3_areTanks_22 : decode cX3_areTanks 22 = .ok (.putfield 49, 3) := dk_181 0 49 (dk_at dksX3_areTanks_1 0 rfl rfl)
theorem dX3_areTanks_25 : decode cX3_areTanks 25 = .ok (.aload_n 0, 1) := dk_42 (dk_at dksX3_areTanks_1 3 rfl rfl)
theorem dX3_areTanks_26 : decode cX3_areTanks 26 = .ok (.getfield 49, 3) := dk_180 0 49 (dk_at dksX3_areTanks_1 4 rfl rfl)
theorem dX3_areTanks_29 : decode cX3_areTanks 29 = .ok (.ifCond .ne 7, 3) := dk_154 0 7 (dk_at dksX3_areTanks_1 7 rfl rfl)
theorem dX3_areTanks_32 : decode cX3_areTanks 32 = .ok (.iconst 1, 1) := dk_4 (dk_at dksX3_areTanks_1 10 rfl rfl)
theorem dX3_areTanks_33 : decode cX3_areTanks 33 = .ok (.goto 4, 3) := dk_167 0 4 (dk_at dksX3_areTanks_1 11 rfl rfl)
theorem dX3_areTanks_36 : decode cX3_areTanks 36 = .ok (.iconst 0, 1) := dk_3 (dk_at dksX3_areTanks_1 14 rfl rfl)
theorem dX3_areTanks_37 : decode cX3_areTanks 37 = .ok (.ireturn, 1) := dk_172 (dk_at dksX3_areTanks_1 15 rfl rfl)
abbrev cX3_joins : ByteArray := prog_18_method_53_code
def yX3_joins : MethodName := ⟨RX3, "joins", "(III)Z"⟩
def dkwX3_joins_0 : List UInt8 := [42, 27, 29, 2, 182, 0, 148, 28, 122, 4, 126, 4, 160, 0, 7, 4, 167, 0, 4, 3, 172]
abbrev dktX3_joins_0 : List UInt8 := dkwX3_joins_0 ++ []
theorem dksX3_joins_0 : cX3_joins.data.toList.drop 0 = dktX3_joins_0 := by decide +kernel
theorem dX3_joins_0 : decode cX3_joins 0 = .ok (.aload_n 0, 1) := dk_42 (dk_at dksX3_joins_0 0 rfl rfl)
theorem dX3_joins_1 : decode cX3_joins 1 = .ok (.iload_n 1, 1) := dk_27 (dk_at dksX3_joins_0 1 rfl rfl)
theorem dX3_joins_2 : decode cX3_joins 2 = .ok (.iload_n 3, 1) := dk_29 (dk_at dksX3_joins_0 2 rfl rfl)
theorem dX3_joins_3 : decode cX3_joins 3 = .ok (.iconst (-1), 1) := dk_2 (dk_at dksX3_joins_0 3 rfl rfl)
theorem dX3_joins_4 : decode cX3_joins 4 = .ok (.invokevirtual 148, 3) := dk_182 0 148 (dk_at dksX3_joins_0 4 rfl rfl)
theorem dX3_joins_7 : decode cX3_joins 7 = .ok (.iload_n 2, 1) := dk_28 (dk_at dksX3_joins_0 7 rfl rfl)
theorem dX3_joins_8 : decode cX3_joins 8 = .ok (.ishr, 1) := dk_122 (dk_at dksX3_joins_0 8 rfl rfl)
theorem dX3_joins_9 : decode cX3_joins 9 = .ok (.iconst 1, 1) := dk_4 (dk_at dksX3_joins_0 9 rfl rfl)
theorem dX3_joins_10 : decode cX3_joins 10 = .ok (.iand, 1) := dk_126 (dk_at dksX3_joins_0 10 rfl rfl)
theorem dX3_joins_11 : decode cX3_joins 11 = .ok (.iconst 1, 1) := dk_4 (dk_at dksX3_joins_0 11 rfl rfl)
theorem dX3_joins_12 : decode cX3_joins 12 = .ok (.if_icmp .ne 7, 3) := dk_160 0 7 (dk_at dksX3_joins_0 12 rfl rfl)
theorem dX3_joins_15 : decode cX3_joins 15 = .ok (.iconst 1, 1) := dk_4 (dk_at dksX3_joins_0 15 rfl rfl)
theorem dX3_joins_16 : decode cX3_joins 16 = .ok (.goto 4, 3) := dk_167 0 4 (dk_at dksX3_joins_0 16 rfl rfl)
theorem dX3_joins_19 : decode cX3_joins 19 = .ok (.iconst 0, 1) := dk_3 (dk_at dksX3_joins_0 19 rfl rfl)
theorem dX3_joins_20 : decode cX3_joins 20 = .ok (.ireturn, 1) := dk_172 (dk_at dksX3_joins_0 20 rfl rfl)
abbrev cX3_joined : ByteArray := prog_18_method_51_code
def yX3_joined : MethodName := ⟨RX3, "joined", "(III)I"⟩
def dkwX3_joined_4 : List UInt8 := [167, 255, 180, 132, 5, 1, 167, 255, 164, 21, 4, 172]
abbrev dktX3_joined_4 : List UInt8 := dkwX3_joined_4 ++ []
def dkwX3_joined_3 : List UInt8 := [28, 161, 0, 18, 21, 4, 21, 7, 126, 153, 0, 10, 21, 4, 21, 7, 128, 54, 4, 132, 6, 1]
abbrev dktX3_joined_3 : List UInt8 := dkwX3_joined_3 ++ dktX3_joined_4
def dkwX3_joined_2 : List UInt8 := [54, 7, 21, 6, 29, 159, 0, 38, 42, 21, 6, 182, 0, 103, 153, 0, 29, 42, 21, 6, 6, 182, 0, 66]
abbrev dktX3_joined_2 : List UInt8 := dkwX3_joined_2 ++ dktX3_joined_3
def dkwX3_joined_1 : List UInt8 := [4, 46, 162, 0, 71, 4, 42, 21, 6, 3, 182, 0, 66, 120, 4, 42, 21, 6, 4, 182, 0, 66, 120, 128]
abbrev dktX3_joined_1 : List UInt8 := dkwX3_joined_1 ++ dktX3_joined_2
def dkwX3_joined_0 : List UInt8 := [4, 27, 120, 54, 4, 3, 54, 5, 21, 5, 16, 8, 162, 0, 91, 3, 54, 6, 21, 6, 42, 180, 0, 9]
abbrev dktX3_joined_0 : List UInt8 := dkwX3_joined_0 ++ dktX3_joined_1
theorem dksX3_joined_0 : cX3_joined.data.toList.drop 0 = dktX3_joined_0 := by decide +kernel
theorem dksX3_joined_1 : cX3_joined.data.toList.drop 24 = dktX3_joined_1 := dk_seg dksX3_joined_0 24 rfl rfl
theorem dksX3_joined_2 : cX3_joined.data.toList.drop 48 = dktX3_joined_2 := dk_seg dksX3_joined_1 24 rfl rfl
theorem dksX3_joined_3 : cX3_joined.data.toList.drop 72 = dktX3_joined_3 := dk_seg dksX3_joined_2 24 rfl rfl
theorem dksX3_joined_4 : cX3_joined.data.toList.drop 94 = dktX3_joined_4 := dk_seg dksX3_joined_3 22 rfl rfl
theorem dX3_joined_0 : decode cX3_joined 0 = .ok (.iconst 1, 1) := dk_4 (dk_at dksX3_joined_0 0 rfl rfl)
theorem dX3_joined_1 : decode cX3_joined 1 = .ok (.iload_n 1, 1) := dk_27 (dk_at dksX3_joined_0 1 rfl rfl)
theorem dX3_joined_2 : decode cX3_joined 2 = .ok (.ishl, 1) := dk_120 (dk_at dksX3_joined_0 2 rfl rfl)
theorem dX3_joined_3 : decode cX3_joined 3 = .ok (.istore 4, 2) := dk_54 4 (dk_at dksX3_joined_0 3 rfl rfl)
theorem dX3_joined_5 : decode cX3_joined 5 = .ok (.iconst 0, 1) := dk_3 (dk_at dksX3_joined_0 5 rfl rfl)
theorem dX3_joined_6 : decode cX3_joined 6 = .ok (.istore 5, 2) := dk_54 5 (dk_at dksX3_joined_0 6 rfl rfl)
theorem dX3_joined_8 : decode cX3_joined 8 = .ok (.iload 5, 2) := dk_21 5 (dk_at dksX3_joined_0 8 rfl rfl)
theorem dX3_joined_10 : decode cX3_joined 10 = .ok (.bipush 8, 2) := dk_16 8 (dk_at dksX3_joined_0 10 rfl rfl)
theorem dX3_joined_12 : decode cX3_joined 12 = .ok (.if_icmp .ge 91, 3) := dk_162 0 91 (dk_at dksX3_joined_0 12 rfl rfl)
theorem dX3_joined_15 : decode cX3_joined 15 = .ok (.iconst 0, 1) := dk_3 (dk_at dksX3_joined_0 15 rfl rfl)
theorem dX3_joined_16 : decode cX3_joined 16 = .ok (.istore 6, 2) := dk_54 6 (dk_at dksX3_joined_0 16 rfl rfl)
theorem dX3_joined_18 : decode cX3_joined 18 = .ok (.iload 6, 2) := dk_21 6 (dk_at dksX3_joined_0 18 rfl rfl)
theorem dX3_joined_20 : decode cX3_joined 20 = .ok (.aload_n 0, 1) := dk_42 (dk_at dksX3_joined_0 20 rfl rfl)
theorem dX3_joined_21 : decode cX3_joined 21 = .ok (.getfield 9, 3) := dk_180 0 9 (dk_at dksX3_joined_0 21 rfl rfl)
theorem dX3_joined_24 : decode cX3_joined 24 = .ok (.iconst 1, 1) := dk_4 (dk_at dksX3_joined_1 0 rfl rfl)
theorem dX3_joined_25 : decode cX3_joined 25 = .ok (.iaload, 1) := dk_46 (dk_at dksX3_joined_1 1 rfl rfl)
theorem dX3_joined_26 : decode cX3_joined 26 = .ok (.if_icmp .ge 71, 3) := dk_162 0 71 (dk_at dksX3_joined_1 2 rfl rfl)
theorem dX3_joined_29 : decode cX3_joined 29 = .ok (.iconst 1, 1) := dk_4 (dk_at dksX3_joined_1 5 rfl rfl)
theorem dX3_joined_30 : decode cX3_joined 30 = .ok (.aload_n 0, 1) := dk_42 (dk_at dksX3_joined_1 6 rfl rfl)
theorem dX3_joined_31 : decode cX3_joined 31 = .ok (.iload 6, 2) := dk_21 6 (dk_at dksX3_joined_1 7 rfl rfl)
theorem dX3_joined_33 : decode cX3_joined 33 = .ok (.iconst 0, 1) := dk_3 (dk_at dksX3_joined_1 9 rfl rfl)
theorem dX3_joined_34 : decode cX3_joined 34 = .ok (.invokevirtual 66, 3) := dk_182 0 66 (dk_at dksX3_joined_1 10 rfl rfl)
theorem dX3_joined_37 : decode cX3_joined 37 = .ok (.ishl, 1) := dk_120 (dk_at dksX3_joined_1 13 rfl rfl)
theorem dX3_joined_38 : decode cX3_joined 38 = .ok (.iconst 1, 1) := dk_4 (dk_at dksX3_joined_1 14 rfl rfl)
theorem dX3_joined_39 : decode cX3_joined 39 = .ok (.aload_n 0, 1) := dk_42 (dk_at dksX3_joined_1 15 rfl rfl)
theorem dX3_joined_40 : decode cX3_joined 40 = .ok (.iload 6, 2) := dk_21 6 (dk_at dksX3_joined_1 16 rfl rfl)
theorem dX3_joined_42 : decode cX3_joined 42 = .ok (.iconst 1, 1) := dk_4 (dk_at dksX3_joined_1 18 rfl rfl)
theorem dX3_joined_43 : decode cX3_joined 43 = .ok (.invokevirtual 66, 3) := dk_182 0 66 (dk_at dksX3_joined_1 19 rfl rfl)
theorem dX3_joined_46 : decode cX3_joined 46 = .ok (.ishl, 1) := dk_120 (dk_at dksX3_joined_1 22 rfl rfl)
theorem dX3_joined_47 : decode cX3_joined 47 = .ok (.ior, 1) := dk_128 (dk_at dksX3_joined_1 23 rfl rfl)
theorem dX3_joined_48 : decode cX3_joined 48 = .ok (.istore 7, 2) := dk_54 7 (dk_at dksX3_joined_2 0 rfl rfl)
theorem dX3_joined_50 : decode cX3_joined 50 = .ok (.iload 6, 2) := dk_21 6 (dk_at dksX3_joined_2 2 rfl rfl)
theorem dX3_joined_52 : decode cX3_joined 52 = .ok (.iload_n 3, 1) := dk_29 (dk_at dksX3_joined_2 4 rfl rfl)
theorem dX3_joined_53 : decode cX3_joined 53 = .ok (.if_icmp .eq 38, 3) := dk_159 0 38 (dk_at dksX3_joined_2 5 rfl rfl)
theorem dX3_joined_56 : decode cX3_joined 56 = .ok (.aload_n 0, 1) := dk_42 (dk_at dksX3_joined_2 8 rfl rfl)
theorem dX3_joined_57 : decode cX3_joined 57 = .ok (.iload 6, 2) := dk_21 6 (dk_at dksX3_joined_2 9 rfl rfl)
theorem dX3_joined_59 : decode cX3_joined 59 = .ok (.invokevirtual 103, 3) := dk_182 0 103 (dk_at dksX3_joined_2 11 rfl rfl)
theorem dX3_joined_62 : decode cX3_joined 62 = .ok (.ifCond .eq 29, 3) := dk_153 0 29 (dk_at dksX3_joined_2 14 rfl rfl)
theorem dX3_joined_65 : decode cX3_joined 65 = .ok (.aload_n 0, 1) := dk_42 (dk_at dksX3_joined_2 17 rfl rfl)
theorem dX3_joined_66 : decode cX3_joined 66 = .ok (.iload 6, 2) := dk_21 6 (dk_at dksX3_joined_2 18 rfl rfl)
theorem dX3_joined_68 : decode cX3_joined 68 = .ok (.iconst 3, 1) := dk_6 (dk_at dksX3_joined_2 20 rfl rfl)
theorem dX3_joined_69 : decode cX3_joined 69 = .ok (.invokevirtual 66, 3) := dk_182 0 66 (dk_at dksX3_joined_2 21 rfl rfl)
theorem dX3_joined_72 : decode cX3_joined 72 = .ok (.iload_n 2, 1) := dk_28 (dk_at dksX3_joined_3 0 rfl rfl)
theorem dX3_joined_73 : decode cX3_joined 73 = .ok (.if_icmp .lt 18, 3) := dk_161 0 18 (dk_at dksX3_joined_3 1 rfl rfl)
theorem dX3_joined_76 : decode cX3_joined 76 = .ok (.iload 4, 2) := dk_21 4 (dk_at dksX3_joined_3 4 rfl rfl)
theorem dX3_joined_78 : decode cX3_joined 78 = .ok (.iload 7, 2) := dk_21 7 (dk_at dksX3_joined_3 6 rfl rfl)
theorem dX3_joined_80 : decode cX3_joined 80 = .ok (.iand, 1) := dk_126 (dk_at dksX3_joined_3 8 rfl rfl)
theorem dX3_joined_81 : decode cX3_joined 81 = .ok (.ifCond .eq 10, 3) := dk_153 0 10 (dk_at dksX3_joined_3 9 rfl rfl)
theorem dX3_joined_84 : decode cX3_joined 84 = .ok (.iload 4, 2) := dk_21 4 (dk_at dksX3_joined_3 12 rfl rfl)
theorem dX3_joined_86 : decode cX3_joined 86 = .ok (.iload 7, 2) := dk_21 7 (dk_at dksX3_joined_3 14 rfl rfl)
theorem dX3_joined_88 : decode cX3_joined 88 = .ok (.ior, 1) := dk_128 (dk_at dksX3_joined_3 16 rfl rfl)
theorem dX3_joined_89 : decode cX3_joined 89 = .ok (.istore 4, 2) := dk_54 4 (dk_at dksX3_joined_3 17 rfl rfl)
theorem dX3_joined_91 : decode cX3_joined 91 = .ok (.iinc 6 1, 3) := dk_132 6 1 (dk_at dksX3_joined_3 19 rfl rfl)
theorem dX3_joined_94 : decode cX3_joined 94 = .ok (.goto (-76), 3) := dk_167 255 180 (dk_at dksX3_joined_4 0 rfl rfl)
theorem dX3_joined_97 : decode cX3_joined 97 = .ok (.iinc 5 1, 3) := dk_132 5 1 (dk_at dksX3_joined_4 3 rfl rfl)
theorem dX3_joined_100 : decode cX3_joined 100 = .ok (.goto (-92), 3) := dk_167 255 164 (dk_at dksX3_joined_4 6 rfl rfl)
theorem dX3_joined_103 : decode cX3_joined 103 = .ok (.iload 4, 2) := dk_21 4 (dk_at dksX3_joined_4 9 rfl rfl)
theorem dX3_joined_105 : decode cX3_joined 105 = .ok (.ireturn, 1) := dk_172 (dk_at dksX3_joined_4 11 rfl rfl)
abbrev cX3_groupCount : ByteArray := prog_18_method_55_code
def yX3_groupCount : MethodName := ⟨RX3, "groupCount", "()I"⟩
def dkwX3_groupCount_2 : List UInt8 := [132, 3, 1, 167, 255, 218, 28, 172]
abbrev dktX3_groupCount_2 : List UInt8 := dkwX3_groupCount_2 ++ []
def dkwX3_groupCount_1 : List UInt8 := [4, 126, 4, 160, 0, 6, 167, 0, 16, 27, 42, 29, 4, 2, 182, 0, 148, 128, 60, 132, 2, 1]
abbrev dktX3_groupCount_1 : List UInt8 := dkwX3_groupCount_1 ++ dktX3_groupCount_2
def dkwX3_groupCount_0 : List UInt8 := [42, 3, 181, 0, 49, 3, 60, 3, 61, 3, 62, 29, 42, 180, 0, 9, 3, 46, 162, 0, 34, 27, 29, 122]
abbrev dktX3_groupCount_0 : List UInt8 := dkwX3_groupCount_0 ++ dktX3_groupCount_1
theorem dksX3_groupCount_0 : cX3_groupCount.data.toList.drop 0 = dktX3_groupCount_0 := by decide +kernel
theorem dksX3_groupCount_1 : cX3_groupCount.data.toList.drop 24 = dktX3_groupCount_1 := dk_seg dksX3_groupCount_0 24 rfl rfl
theorem dksX3_groupCount_2 : cX3_groupCount.data.toList.drop 46 = dktX3_groupCount_2 := dk_seg dksX3_groupCount_1 22 rfl rfl
theorem dX3_groupCount_0 : decode cX3_groupCount 0 = .ok (.aload_n 0, 1) := dk_42 (dk_at dksX3_groupCount_0 0 rfl rfl)
theorem dX3_groupCount_1 : decode cX3_groupCount 1 = .ok (.iconst 0, 1) := dk_3 (dk_at dksX3_groupCount_0 1 rfl rfl)
theorem dX3_groupCount_2 : decode cX3_groupCount 2 = .ok (.putfield 49, 3) := dk_181 0 49 (dk_at dksX3_groupCount_0 2 rfl rfl)
theorem dX3_groupCount_5 : decode cX3_groupCount 5 = .ok (.iconst 0, 1) := dk_3 (dk_at dksX3_groupCount_0 5 rfl rfl)
theorem dX3_groupCount_6 : decode cX3_groupCount 6 = .ok (.istore_n 1, 1) := dk_60 (dk_at dksX3_groupCount_0 6 rfl rfl)
theorem dX3_groupCount_7 : decode cX3_groupCount 7 = .ok (.iconst 0, 1) := dk_3 (dk_at dksX3_groupCount_0 7 rfl rfl)
theorem dX3_groupCount_8 : decode cX3_groupCount 8 = .ok (.istore_n 2, 1) := dk_61 (dk_at dksX3_groupCount_0 8 rfl rfl)
theorem dX3_groupCount_9 : decode cX3_groupCount 9 = .ok (.iconst 0, 1) := dk_3 (dk_at dksX3_groupCount_0 9 rfl rfl)
theorem dX3_groupCount_10 : decode cX3_groupCount 10 = .ok (.istore_n 3, 1) := dk_62 (dk_at dksX3_groupCount_0 10 rfl rfl)
theorem dX3_groupCount_11 : decode cX3_groupCount 11 = .ok (.iload_n 3, 1) := dk_29 (dk_at dksX3_groupCount_0 11 rfl rfl)
theorem dX3_groupCount_12 : decode cX3_groupCount 12 = .ok (.aload_n 0, 1) := dk_42 (dk_at dksX3_groupCount_0 12 rfl rfl)
theorem dX3_groupCount_13 : decode cX3_groupCount 13 = .ok (.getfield 9, 3) := dk_180 0 9 (dk_at dksX3_groupCount_0 13 rfl rfl)
theorem dX3_groupCount_16 : decode cX3_groupCount 16 = .ok (.iconst 0, 1) := dk_3 (dk_at dksX3_groupCount_0 16 rfl rfl)
theorem dX3_groupCount_17 : decode cX3_groupCount 17 = .ok (.iaload, 1) := dk_46 (dk_at dksX3_groupCount_0 17 rfl rfl)
theorem dX3_groupCount_18 : decode cX3_groupCount 18 = .ok (.if_icmp .ge 34, 3) := dk_162 0 34 (dk_at dksX3_groupCount_0 18 rfl rfl)
theorem dX3_groupCount_21 : decode cX3_groupCount 21 = .ok (.iload_n 1, 1) := dk_27 (dk_at dksX3_groupCount_0 21 rfl rfl)
theorem dX3_groupCount_22 : decode cX3_groupCount 22 = .ok (.iload_n 3, 1) := dk_29 (dk_at dksX3_groupCount_0 22 rfl rfl)
theorem dX3_groupCount_23 : decode cX3_groupCount 23 = .ok (.ishr, 1) := dk_122 (dk_at dksX3_groupCount_0 23 rfl rfl)
theorem dX3_groupCount_24 : decode cX3_groupCount 24 = .ok (.iconst 1, 1) := dk_4 (dk_at dksX3_groupCount_1 0 rfl rfl)
theorem dX3_groupCount_25 : decode cX3_groupCount 25 = .ok (.iand, 1) := dk_126 (dk_at dksX3_groupCount_1 1 rfl rfl)
theorem dX3_groupCount_26 : decode cX3_groupCount 26 = .ok (.iconst 1, 1) := dk_4 (dk_at dksX3_groupCount_1 2 rfl rfl)
theorem dX3_groupCount_27 : decode cX3_groupCount 27 = .ok (.if_icmp .ne 6, 3) := dk_160 0 6 (dk_at dksX3_groupCount_1 3 rfl rfl)
theorem dX3_groupCount_30 : decode cX3_groupCount 30 = .ok (.goto 16, 3) := dk_167 0 16 (dk_at dksX3_groupCount_1 6 rfl rfl)
theorem dX3_groupCount_33 : decode cX3_groupCount 33 = .ok (.iload_n 1, 1) := dk_27 (dk_at dksX3_groupCount_1 9 rfl rfl)
theorem dX3_groupCount_34 : decode cX3_groupCount 34 = .ok (.aload_n 0, 1) := dk_42 (dk_at dksX3_groupCount_1 10 rfl rfl)
theorem dX3_groupCount_35 : decode cX3_groupCount 35 = .ok (.iload_n 3, 1) := dk_29 (dk_at dksX3_groupCount_1 11 rfl rfl)
theorem dX3_groupCount_36 : decode cX3_groupCount 36 = .ok (.iconst 1, 1) := dk_4 (dk_at dksX3_groupCount_1 12 rfl rfl)
theorem dX3_groupCount_37 : decode cX3_groupCount 37 = .ok (.iconst (-1), 1) := dk_2 (dk_at dksX3_groupCount_1 13 rfl rfl)
theorem dX3_groupCount_38 : decode cX3_groupCount 38 = .ok (.invokevirtual 148, 3) := dk_182 0 148 (dk_at dksX3_groupCount_1 14 rfl rfl)
theorem dX3_groupCount_41 : decode cX3_groupCount 41 = .ok (.ior, 1) := dk_128 (dk_at dksX3_groupCount_1 17 rfl rfl)
theorem dX3_groupCount_42 : decode cX3_groupCount 42 = .ok (.istore_n 1, 1) := dk_60 (dk_at dksX3_groupCount_1 18 rfl rfl)
theorem dX3_groupCount_43 : decode cX3_groupCount 43 = .ok (.iinc 2 1, 3) := dk_132 2 1 (dk_at dksX3_groupCount_1 19 rfl rfl)
theorem dX3_groupCount_46 : decode cX3_groupCount 46 = .ok (.iinc 3 1, 3) := dk_132 3 1 (dk_at dksX3_groupCount_2 0 rfl rfl)
theorem dX3_groupCount_49 : decode cX3_groupCount 49 = .ok (.goto (-38), 3) := dk_167 255 218 (dk_at dksX3_groupCount_2 3 rfl rfl)
theorem dX3_groupCount_52 : decode cX3_groupCount 52 = .ok (.iload_n 2, 1) := dk_28 (dk_at dksX3_groupCount_2 6 rfl rfl)
theorem dX3_groupCount_53 : decode cX3_groupCount 53 = .ok (.ireturn, 1) := dk_172 (dk_at dksX3_groupCount_2 7 rfl rfl)
abbrev cX3_groupCountByUnions : ByteArray := prog_18_method_56_code
def yX3_groupCountByUnions : MethodName := ⟨RX3, "groupCountByUnions", "()I"⟩
theorem dX3_groupCountByUnions_0 : decode cX3_groupCountByUnions 0 = .ok (.aload_n 0, 1) := by decide +kernel
theorem dX3_groupCountByUnions_1 : decode cX3_groupCountByUnions 1 = .ok (.invokevirtual 158, 3) := by decide +kernel
theorem dX3_groupCountByUnions_4 : decode cX3_groupCountByUnions 4 = .ok (.ireturn, 1) := by decide +kernel
abbrev cX3_isBridge : ByteArray := prog_18_method_58_code
def yX3_isBridge : MethodName := ⟨RX3, "isBridge", "(I)Z"⟩
def dkwX3_isBridge_1 : List UInt8 := [153, 0, 7, 4, 167, 0, 4, 3, 172]
abbrev dktX3_isBridge_1 : List UInt8 := dkwX3_isBridge_1 ++ []
def dkwX3_isBridge_0 : List UInt8 := [42, 27, 3, 182, 0, 145, 61, 42, 180, 0, 49, 154, 0, 19, 28, 155, 0, 15, 42, 27, 182, 0, 161]
abbrev dktX3_isBridge_0 : List UInt8 := dkwX3_isBridge_0 ++ dktX3_isBridge_1
theorem dksX3_isBridge_0 : cX3_isBridge.data.toList.drop 0 = dktX3_isBridge_0 := by decide +kernel
theorem dksX3_isBridge_1 : cX3_isBridge.data.toList.drop 23 = dktX3_isBridge_1 := dk_seg dksX3_isBridge_0 23 rfl rfl
theorem dX3_isBridge_0 : decode cX3_isBridge 0 = .ok (.aload_n 0, 1) := dk_42 (dk_at dksX3_isBridge_0 0 rfl rfl)
theorem dX3_isBridge_1 : decode cX3_isBridge 1 = .ok (.iload_n 1, 1) := dk_27 (dk_at dksX3_isBridge_0 1 rfl rfl)
theorem dX3_isBridge_2 : decode cX3_isBridge 2 = .ok (.iconst 0, 1) := dk_3 (dk_at dksX3_isBridge_0 2 rfl rfl)
theorem dX3_isBridge_3 : decode cX3_isBridge 3 = .ok (.invokevirtual 145, 3) := dk_182 0 145 (dk_at dksX3_isBridge_0 3 rfl rfl)
theorem dX3_isBridge_6 : decode cX3_isBridge 6 = .ok (.istore_n 2, 1) := dk_61 (dk_at dksX3_isBridge_0 6 rfl rfl)
theorem dX3_isBridge_7 : decode cX3_isBridge 7 = .ok (.aload_n 0, 1) := dk_42 (dk_at dksX3_isBridge_0 7 rfl rfl)
theorem dX3_isBridge_8 : decode cX3_isBridge 8 = .ok (.getfield 49, 3) := dk_180 0 49 (dk_at dksX3_isBridge_0 8 rfl rfl)
theorem dX3_isBridge_11 : decode cX3_isBridge 11 = .ok (.ifCond .ne 19, 3) := dk_154 0 19 (dk_at dksX3_isBridge_0 11 rfl rfl)
theorem dX3_isBridge_14 : decode cX3_isBridge 14 = .ok (.iload_n 2, 1) := dk_28 (dk_at dksX3_isBridge_0 14 rfl rfl)
theorem dX3_isBridge_15 : decode cX3_isBridge 15 = .ok (.ifCond .lt 15, 3) := dk_155 0 15 (dk_at dksX3_isBridge_0 15 rfl rfl)
theorem dX3_isBridge_18 : decode cX3_isBridge 18 = .ok (.aload_n 0, 1) := dk_42 (dk_at dksX3_isBridge_0 18 rfl rfl)
theorem dX3_isBridge_19 : decode cX3_isBridge 19 = .ok (.iload_n 1, 1) := dk_27 (dk_at dksX3_isBridge_0 19 rfl rfl)
theorem dX3_isBridge_20 : decode cX3_isBridge 20 = .ok (.invokevirtual 161, 3) := dk_182 0 161 (dk_at dksX3_isBridge_0 20 rfl rfl)
theorem dX3_isBridge_23 : decode cX3_isBridge 23 = .ok (.ifCond .eq 7, 3) := dk_153 0 7 (dk_at dksX3_isBridge_1 0 rfl rfl)
theorem dX3_isBridge_26 : decode cX3_isBridge 26 = .ok (.iconst 1, 1) := dk_4 (dk_at dksX3_isBridge_1 3 rfl rfl)
theorem dX3_isBridge_27 : decode cX3_isBridge 27 = .ok (.goto 4, 3) := dk_167 0 4 (dk_at dksX3_isBridge_1 4 rfl rfl)
theorem dX3_isBridge_30 : decode cX3_isBridge 30 = .ok (.iconst 0, 1) := dk_3 (dk_at dksX3_isBridge_1 7 rfl rfl)
theorem dX3_isBridge_31 : decode cX3_isBridge 31 = .ok (.ireturn, 1) := dk_172 (dk_at dksX3_isBridge_1 8 rfl rfl)
abbrev cX3_bridges : ByteArray := prog_18_method_57_code
def yX3_bridges : MethodName := ⟨RX3, "bridges", "(I)Z"⟩
def dkwX3_bridges_1 : List UInt8 := [182, 0, 66, 122, 4, 126, 154, 0, 7, 4, 167, 0, 4, 3, 172]
abbrev dktX3_bridges_1 : List UInt8 := dkwX3_bridges_1 ++ []
def dkwX3_bridges_0 : List UInt8 := [42, 27, 182, 0, 103, 153, 0, 31, 42, 42, 27, 3, 182, 0, 66, 4, 27, 182, 0, 148, 42, 27, 4]
abbrev dktX3_bridges_0 : List UInt8 := dkwX3_bridges_0 ++ dktX3_bridges_1
theorem dksX3_bridges_0 : cX3_bridges.data.toList.drop 0 = dktX3_bridges_0 := by decide +kernel
theorem dksX3_bridges_1 : cX3_bridges.data.toList.drop 23 = dktX3_bridges_1 := dk_seg dksX3_bridges_0 23 rfl rfl
theorem dX3_bridges_0 : decode cX3_bridges 0 = .ok (.aload_n 0, 1) := dk_42 (dk_at dksX3_bridges_0 0 rfl rfl)
theorem dX3_bridges_1 : decode cX3_bridges 1 = .ok (.iload_n 1, 1) := dk_27 (dk_at dksX3_bridges_0 1 rfl rfl)
theorem dX3_bridges_2 : decode cX3_bridges 2 = .ok (.invokevirtual 103, 3) := dk_182 0 103 (dk_at dksX3_bridges_0 2 rfl rfl)
theorem dX3_bridges_5 : decode cX3_bridges 5 = .ok (.ifCond .eq 31, 3) := dk_153 0 31 (dk_at dksX3_bridges_0 5 rfl rfl)
theorem dX3_bridges_8 : decode cX3_bridges 8 = .ok (.aload_n 0, 1) := dk_42 (dk_at dksX3_bridges_0 8 rfl rfl)
theorem dX3_bridges_9 : decode cX3_bridges 9 = .ok (.aload_n 0, 1) := dk_42 (dk_at dksX3_bridges_0 9 rfl rfl)
theorem dX3_bridges_10 : decode cX3_bridges 10 = .ok (.iload_n 1, 1) := dk_27 (dk_at dksX3_bridges_0 10 rfl rfl)
theorem dX3_bridges_11 : decode cX3_bridges 11 = .ok (.iconst 0, 1) := dk_3 (dk_at dksX3_bridges_0 11 rfl rfl)
theorem dX3_bridges_12 : decode cX3_bridges 12 = .ok (.invokevirtual 66, 3) := dk_182 0 66 (dk_at dksX3_bridges_0 12 rfl rfl)
theorem dX3_bridges_15 : decode cX3_bridges 15 = .ok (.iconst 1, 1) := dk_4 (dk_at dksX3_bridges_0 15 rfl rfl)
theorem dX3_bridges_16 : decode cX3_bridges 16 = .ok (.iload_n 1, 1) := dk_27 (dk_at dksX3_bridges_0 16 rfl rfl)
theorem dX3_bridges_17 : decode cX3_bridges 17 = .ok (.invokevirtual 148, 3) := dk_182 0 148 (dk_at dksX3_bridges_0 17 rfl rfl)
theorem dX3_bridges_20 : decode cX3_bridges 20 = .ok (.aload_n 0, 1) := dk_42 (dk_at dksX3_bridges_0 20 rfl rfl)
theorem dX3_bridges_21 : decode cX3_bridges 21 = .ok (.iload_n 1, 1) := dk_27 (dk_at dksX3_bridges_0 21 rfl rfl)
theorem dX3_bridges_22 : decode cX3_bridges 22 = .ok (.iconst 1, 1) := dk_4 (dk_at dksX3_bridges_0 22 rfl rfl)
theorem dX3_bridges_23 : decode cX3_bridges 23 = .ok (.invokevirtual 66, 3) := dk_182 0 66 (dk_at dksX3_bridges_1 0 rfl rfl)
theorem dX3_bridges_26 : decode cX3_bridges 26 = .ok (.ishr, 1) := dk_122 (dk_at dksX3_bridges_1 3 rfl rfl)
theorem dX3_bridges_27 : decode cX3_bridges 27 = .ok (.iconst 1, 1) := dk_4 (dk_at dksX3_bridges_1 4 rfl rfl)
theorem dX3_bridges_28 : decode cX3_bridges 28 = .ok (.iand, 1) := dk_126 (dk_at dksX3_bridges_1 5 rfl rfl)
theorem dX3_bridges_29 : decode cX3_bridges 29 = .ok (.ifCond .ne 7, 3) := dk_154 0 7 (dk_at dksX3_bridges_1 6 rfl rfl)
theorem dX3_bridges_32 : decode cX3_bridges 32 = .ok (.iconst 1, 1) := dk_4 (dk_at dksX3_bridges_1 9 rfl rfl)
theorem dX3_bridges_33 : decode cX3_bridges 33 = .ok (.goto 4, 3) := dk_167 0 4 (dk_at dksX3_bridges_1 10 rfl rfl)
theorem dX3_bridges_36 : decode cX3_bridges 36 = .ok (.iconst 0, 1) := dk_3 (dk_at dksX3_bridges_1 13 rfl rfl)
theorem dX3_bridges_37 : decode cX3_bridges 37 = .ok (.ireturn, 1) := dk_172 (dk_at dksX3_bridges_1 14 rfl rfl)
abbrev cX3_bridgeCount : ByteArray := prog_18_method_59_code
def yX3_bridgeCount : MethodName := ⟨RX3, "bridgeCount", "()I"⟩
def dkwX3_bridgeCount_1 : List UInt8 := [153, 0, 6, 132, 1, 1, 132, 2, 1, 167, 255, 232, 27, 172]
abbrev dktX3_bridgeCount_1 : List UInt8 := dkwX3_bridgeCount_1 ++ []
def dkwX3_bridgeCount_0 : List UInt8 := [42, 3, 181, 0, 49, 3, 60, 3, 61, 28, 42, 180, 0, 9, 4, 46, 162, 0, 20, 42, 28, 182, 0, 161]
abbrev dktX3_bridgeCount_0 : List UInt8 := dkwX3_bridgeCount_0 ++ dktX3_bridgeCount_1
theorem dksX3_bridgeCount_0 : cX3_bridgeCount.data.toList.drop 0 = dktX3_bridgeCount_0 := by decide +kernel
theorem dksX3_bridgeCount_1 : cX3_bridgeCount.data.toList.drop 24 = dktX3_bridgeCount_1 := dk_seg dksX3_bridgeCount_0 24 rfl rfl
theorem dX3_bridgeCount_0 : decode cX3_bridgeCount 0 = .ok (.aload_n 0, 1) := dk_42 (dk_at dksX3_bridgeCount_0 0 rfl rfl)
theorem dX3_bridgeCount_1 : decode cX3_bridgeCount 1 = .ok (.iconst 0, 1) := dk_3 (dk_at dksX3_bridgeCount_0 1 rfl rfl)
theorem dX3_bridgeCount_2 : decode cX3_bridgeCount 2 = .ok (.putfield 49, 3) := dk_181 0 49 (dk_at dksX3_bridgeCount_0 2 rfl rfl)
theorem dX3_bridgeCount_5 : decode cX3_bridgeCount 5 = .ok (.iconst 0, 1) := dk_3 (dk_at dksX3_bridgeCount_0 5 rfl rfl)
theorem dX3_bridgeCount_6 : decode cX3_bridgeCount 6 = .ok (.istore_n 1, 1) := dk_60 (dk_at dksX3_bridgeCount_0 6 rfl rfl)
theorem dX3_bridgeCount_7 : decode cX3_bridgeCount 7 = .ok (.iconst 0, 1) := dk_3 (dk_at dksX3_bridgeCount_0 7 rfl rfl)
theorem dX3_bridgeCount_8 : decode cX3_bridgeCount 8 = .ok (.istore_n 2, 1) := dk_61 (dk_at dksX3_bridgeCount_0 8 rfl rfl)
theorem dX3_bridgeCount_9 : decode cX3_bridgeCount 9 = .ok (.iload_n 2, 1) := dk_28 (dk_at dksX3_bridgeCount_0 9 rfl rfl)
theorem dX3_bridgeCount_10 : decode cX3_bridgeCount 10 = .ok (.aload_n 0, 1) := dk_42 (dk_at dksX3_bridgeCount_0 10 rfl rfl)
theorem dX3_bridgeCount_11 : decode cX3_bridgeCount 11 = .ok (.getfield 9, 3) := dk_180 0 9 (dk_at dksX3_bridgeCount_0 11 rfl rfl)
theorem dX3_bridgeCount_14 : decode cX3_bridgeCount 14 = .ok (.iconst 1, 1) := dk_4 (dk_at dksX3_bridgeCount_0 14 rfl rfl)
theorem dX3_bridgeCount_15 : decode cX3_bridgeCount 15 = .ok (.iaload, 1) := dk_46 (dk_at dksX3_bridgeCount_0 15 rfl rfl)
theorem dX3_bridgeCount_16 : decode cX3_bridgeCount 16 = .ok (.if_icmp .ge 20, 3) := dk_162 0 20 (dk_at dksX3_bridgeCount_0 16 rfl rfl)
theorem dX3_bridgeCount_19 : decode cX3_bridgeCount 19 = .ok (.aload_n 0, 1) := dk_42 (dk_at dksX3_bridgeCount_0 19 rfl rfl)
theorem dX3_bridgeCount_20 : decode cX3_bridgeCount 20 = .ok (.iload_n 2, 1) := dk_28 (dk_at dksX3_bridgeCount_0 20 rfl rfl)
theorem dX3_bridgeCount_21 : decode cX3_bridgeCount 21 = .ok (.invokevirtual 161, 3) := dk_182 0 161 (dk_at dksX3_bridgeCount_0 21 rfl rfl)
theorem dX3_bridgeCount_24 : decode cX3_bridgeCount 24 = .ok (.ifCond .eq 6, 3) := dk_153 0 6 (dk_at dksX3_bridgeCount_1 0 rfl rfl)
theorem dX3_bridgeCount_27 : decode cX3_bridgeCount 27 = .ok (.iinc 1 1, 3) := dk_132 1 1 (dk_at dksX3_bridgeCount_1 3 rfl rfl)
theorem dX3_bridgeCount_30 : decode cX3_bridgeCount 30 = .ok (.iinc 2 1, 3) := dk_132 2 1 (dk_at dksX3_bridgeCount_1 6 rfl rfl)
theorem dX3_bridgeCount_33 : decode cX3_bridgeCount 33 = .ok (.goto (-24), 3) := dk_167 255 232 (dk_at dksX3_bridgeCount_1 9 rfl rfl)
theorem dX3_bridgeCount_36 : decode cX3_bridgeCount 36 = .ok (.iload_n 1, 1) := dk_27 (dk_at dksX3_bridgeCount_1 12 rfl rfl)
theorem dX3_bridgeCount_37 : decode cX3_bridgeCount 37 = .ok (.ireturn, 1) := dk_172 (dk_at dksX3_bridgeCount_1 13 rfl rfl)
abbrev cX3_bridgeCountByLeavingOut : ByteArray := prog_18_method_60_code
def yX3_bridgeCountByLeavingOut : MethodName := ⟨RX3, "bridgeCountByLeavingOut", "()I"⟩
theorem dX3_bridgeCountByLeavingOut_0 : decode cX3_bridgeCountByLeavingOut 0 = .ok (.aload_n 0, 1) := by decide +kernel
theorem dX3_bridgeCountByLeavingOut_1 : decode cX3_bridgeCountByLeavingOut 1 = .ok (.invokevirtual 164, 3) := by decide +kernel
theorem dX3_bridgeCountByLeavingOut_4 : decode cX3_bridgeCountByLeavingOut 4 = .ok (.ireturn, 1) := by decide +kernel
abbrev cX3_width : ByteArray := prog_18_method_61_code
def yX3_width : MethodName := ⟨RX3, "width", "(II)I"⟩
def dkwX3_width_1 : List UInt8 := [154, 0, 9, 132, 3, 255, 167, 255, 239, 29, 172]
abbrev dktX3_width_1 : List UInt8 := dkwX3_width_1 ++ []
def dkwX3_width_0 : List UInt8 := [42, 27, 28, 182, 0, 151, 154, 0, 5, 3, 172, 7, 62, 29, 158, 0, 19, 42, 27, 28, 29, 182, 0, 155]
abbrev dktX3_width_0 : List UInt8 := dkwX3_width_0 ++ dktX3_width_1
theorem dksX3_width_0 : cX3_width.data.toList.drop 0 = dktX3_width_0 := by decide +kernel
theorem dksX3_width_1 : cX3_width.data.toList.drop 24 = dktX3_width_1 := dk_seg dksX3_width_0 24 rfl rfl
theorem dX3_width_0 : decode cX3_width 0 = .ok (.aload_n 0, 1) := dk_42 (dk_at dksX3_width_0 0 rfl rfl)
theorem dX3_width_1 : decode cX3_width 1 = .ok (.iload_n 1, 1) := dk_27 (dk_at dksX3_width_0 1 rfl rfl)
theorem dX3_width_2 : decode cX3_width 2 = .ok (.iload_n 2, 1) := dk_28 (dk_at dksX3_width_0 2 rfl rfl)
theorem dX3_width_3 : decode cX3_width 3 = .ok (.invokevirtual 151, 3) := dk_182 0 151 (dk_at dksX3_width_0 3 rfl rfl)
theorem dX3_width_6 : decode cX3_width 6 = .ok (.ifCond .ne 5, 3) := dk_154 0 5 (dk_at dksX3_width_0 6 rfl rfl)
theorem dX3_width_9 : decode cX3_width 9 = .ok (.iconst 0, 1) := dk_3 (dk_at dksX3_width_0 9 rfl rfl)
theorem dX3_width_10 : decode cX3_width 10 = .ok (.ireturn, 1) := dk_172 (dk_at dksX3_width_0 10 rfl rfl)
theorem dX3_width_11 : decode cX3_width 11 = .ok (.iconst 4, 1) := dk_7 (dk_at dksX3_width_0 11 rfl rfl)
theorem dX3_width_12 : decode cX3_width 12 = .ok (.istore_n 3, 1) := dk_62 (dk_at dksX3_width_0 12 rfl rfl)
theorem dX3_width_13 : decode cX3_width 13 = .ok (.iload_n 3, 1) := dk_29 (dk_at dksX3_width_0 13 rfl rfl)
theorem dX3_width_14 : decode cX3_width 14 = .ok (.ifCond .le 19, 3) := dk_158 0 19 (dk_at dksX3_width_0 14 rfl rfl)
theorem dX3_width_17 : decode cX3_width 17 = .ok (.aload_n 0, 1) := dk_42 (dk_at dksX3_width_0 17 rfl rfl)
theorem dX3_width_18 : decode cX3_width 18 = .ok (.iload_n 1, 1) := dk_27 (dk_at dksX3_width_0 18 rfl rfl)
theorem dX3_width_19 : decode cX3_width 19 = .ok (.iload_n 2, 1) := dk_28 (dk_at dksX3_width_0 19 rfl rfl)
theorem dX3_width_20 : decode cX3_width 20 = .ok (.iload_n 3, 1) := dk_29 (dk_at dksX3_width_0 20 rfl rfl)
theorem dX3_width_21 : decode cX3_width 21 = .ok (.invokevirtual 155, 3) := dk_182 0 155 (dk_at dksX3_width_0 21 rfl rfl)
theorem dX3_width_24 : decode cX3_width 24 = .ok (.ifCond .ne 9, 3) := dk_154 0 9 (dk_at dksX3_width_1 0 rfl rfl)
theorem dX3_width_27 : decode cX3_width 27 = .ok (.iinc 3 (-1), 3) := dk_132 3 255 (dk_at dksX3_width_1 3 rfl rfl)
theorem dX3_width_30 : decode cX3_width 30 = .ok (.goto (-17), 3) := dk_167 255 239 (dk_at dksX3_width_1 6 rfl rfl)
theorem dX3_width_33 : decode cX3_width 33 = .ok (.iload_n 3, 1) := dk_29 (dk_at dksX3_width_1 9 rfl rfl)
theorem dX3_width_34 : decode cX3_width 34 = .ok (.ireturn, 1) := dk_172 (dk_at dksX3_width_1 10 rfl rfl)
abbrev cX3_widthBySettings : ByteArray := prog_18_method_62_code
def yX3_widthBySettings : MethodName := ⟨RX3, "widthBySettings", "(II)I"⟩
def dkwX3_widthBySettings_0 : List UInt8 := [42, 27, 28, 182, 0, 167, 172]
abbrev dktX3_widthBySettings_0 : List UInt8 := dkwX3_widthBySettings_0 ++ []
theorem dksX3_widthBySettings_0 : cX3_widthBySettings.data.toList.drop 0 = dktX3_widthBySettings_0 := by decide +kernel
theorem dX3_widthBySettings_0 : decode cX3_widthBySettings 0 = .ok (.aload_n 0, 1) := dk_42 (dk_at dksX3_widthBySettings_0 0 rfl rfl)
theorem dX3_widthBySettings_1 : decode cX3_widthBySettings 1 = .ok (.iload_n 1, 1) := dk_27 (dk_at dksX3_widthBySettings_0 1 rfl rfl)
theorem dX3_widthBySettings_2 : decode cX3_widthBySettings 2 = .ok (.iload_n 2, 1) := dk_28 (dk_at dksX3_widthBySettings_0 2 rfl rfl)
theorem dX3_widthBySettings_3 : decode cX3_widthBySettings 3 = .ok (.invokevirtual 167, 3) := dk_182 0 167 (dk_at dksX3_widthBySettings_0 3 rfl rfl)
theorem dX3_widthBySettings_6 : decode cX3_widthBySettings 6 = .ok (.ireturn, 1) := dk_172 (dk_at dksX3_widthBySettings_0 6 rfl rfl)
abbrev cX3_cleanest : ByteArray := prog_18_method_64_code
def yX3_cleanest : MethodName := ⟨RX3, "cleanest", "(II)I"⟩
def dkwX3_cleanest_5 : List UInt8 := [153, 0, 13, 29, 21, 4, 184, 0, 120, 184, 0, 114, 62, 132, 4, 1, 167, 255, 219, 29, 172]
abbrev dktX3_cleanest_5 : List UInt8 := dkwX3_cleanest_5 ++ []
def dkwX3_cleanest_4 : List UInt8 := [54, 4, 21, 4, 17, 1, 0, 162, 0, 35, 42, 180, 0, 22, 17, 1, 0, 28, 104, 21, 4, 96, 51]
abbrev dktX3_cleanest_4 : List UInt8 := dkwX3_cleanest_4 ++ dktX3_cleanest_5
def dkwX3_cleanest_3 : List UInt8 := [182, 0, 106, 62, 29, 155, 0, 14, 42, 29, 182, 0, 170, 132, 3, 255, 167, 255, 244, 16, 8, 62, 3]
abbrev dktX3_cleanest_3 : List UInt8 := dkwX3_cleanest_3 ++ dktX3_cleanest_4
def dkwX3_cleanest_2 : List UInt8 := [167, 255, 239, 42, 180, 0, 22, 17, 1, 0, 27, 104, 42, 27, 5, 182, 0, 106, 96, 4, 84, 42, 27, 5]
abbrev dktX3_cleanest_2 : List UInt8 := dkwX3_cleanest_2 ++ dktX3_cleanest_3
def dkwX3_cleanest_1 : List UInt8 := [182, 0, 55, 172, 3, 62, 29, 17, 8, 0, 162, 0, 16, 42, 180, 0, 22, 29, 3, 84, 132, 3, 1]
abbrev dktX3_cleanest_1 : List UInt8 := dkwX3_cleanest_1 ++ dktX3_cleanest_2
def dkwX3_cleanest_0 : List UInt8 := [42, 27, 28, 182, 0, 151, 154, 0, 5, 3, 172, 42, 27, 28, 4, 182, 0, 155, 154, 0, 9, 42, 5]
abbrev dktX3_cleanest_0 : List UInt8 := dkwX3_cleanest_0 ++ dktX3_cleanest_1
theorem dksX3_cleanest_0 : cX3_cleanest.data.toList.drop 0 = dktX3_cleanest_0 := by decide +kernel
theorem dksX3_cleanest_1 : cX3_cleanest.data.toList.drop 23 = dktX3_cleanest_1 := dk_seg dksX3_cleanest_0 23 rfl rfl
theorem dksX3_cleanest_2 : cX3_cleanest.data.toList.drop 46 = dktX3_cleanest_2 := dk_seg dksX3_cleanest_1 23 rfl rfl
theorem dksX3_cleanest_3 : cX3_cleanest.data.toList.drop 70 = dktX3_cleanest_3 := dk_seg dksX3_cleanest_2 24 rfl rfl
theorem dksX3_cleanest_4 : cX3_cleanest.data.toList.drop 93 = dktX3_cleanest_4 := dk_seg dksX3_cleanest_3 23 rfl rfl
theorem dksX3_cleanest_5 : cX3_cleanest.data.toList.drop 116 = dktX3_cleanest_5 := dk_seg dksX3_cleanest_4 23 rfl rfl
theorem dX3_cleanest_0 : decode cX3_cleanest 0 = .ok (.aload_n 0, 1) := dk_42 (dk_at dksX3_cleanest_0 0 rfl rfl)
theorem dX3_cleanest_1 : decode cX3_cleanest 1 = .ok (.iload_n 1, 1) := dk_27 (dk_at dksX3_cleanest_0 1 rfl rfl)
theorem dX3_cleanest_2 : decode cX3_cleanest 2 = .ok (.iload_n 2, 1) := dk_28 (dk_at dksX3_cleanest_0 2 rfl rfl)
theorem dX3_cleanest_3 : decode cX3_cleanest 3 = .ok (.invokevirtual 151, 3) := dk_182 0 151 (dk_at dksX3_cleanest_0 3 rfl rfl)
theorem dX3_cleanest_6 : decode cX3_cleanest 6 = .ok (.ifCond .ne 5, 3) := dk_154 0 5 (dk_at dksX3_cleanest_0 6 rfl rfl)
theorem dX3_cleanest_9 : decode cX3_cleanest 9 = .ok (.iconst 0, 1) := dk_3 (dk_at dksX3_cleanest_0 9 rfl rfl)
theorem dX3_cleanest_10 : decode cX3_cleanest 10 = .ok (.ireturn, 1) := dk_172 (dk_at dksX3_cleanest_0 10 rfl rfl)
theorem dX3_cleanest_11 : decode cX3_cleanest 11 = .ok (.aload_n 0, 1) := dk_42 (dk_at dksX3_cleanest_0 11 rfl rfl)
theorem dX3_cleanest_12 : decode cX3_cleanest 12 = .ok (.iload_n 1, 1) := dk_27 (dk_at dksX3_cleanest_0 12 rfl rfl)
theorem dX3_cleanest_13 : decode cX3_cleanest 13 = .ok (.iload_n 2, 1) := dk_28 (dk_at dksX3_cleanest_0 13 rfl rfl)
theorem dX3_cleanest_14 : decode cX3_cleanest 14 = .ok (.iconst 1, 1) := dk_4 (dk_at dksX3_cleanest_0 14 rfl rfl)
theorem dX3_cleanest_15 : decode cX3_cleanest 15 = .ok (.invokevirtual 155, 3) := dk_182 0 155 (dk_at dksX3_cleanest_0 15 rfl rfl)
theorem dX3_cleanest_18 : decode cX3_cleanest 18 = .ok (.ifCond .ne 9, 3) := dk_154 0 9 (dk_at dksX3_cleanest_0 18 rfl rfl)
theorem dX3_cleanest_21 : decode cX3_cleanest 21 = .ok (.aload_n 0, 1) := dk_42 (dk_at dksX3_cleanest_0 21 rfl rfl)
theorem dX3_cleanest_22 : decode cX3_cleanest 22 = .ok (.iconst 2, 1) := dk_5 (dk_at dksX3_cleanest_0 22 rfl rfl)
theorem dX3_cleanest_23 : decode cX3_cleanest 23 = .ok (.invokevirtual 55, 3) := dk_182 0 55 (dk_at dksX3_cleanest_1 0 rfl rfl)
theorem dX3_cleanest_26 : decode cX3_cleanest 26 = .ok (.ireturn, 1) := dk_172 (dk_at dksX3_cleanest_1 3 rfl rfl)
theorem dX3_cleanest_27 : decode cX3_cleanest 27 = .ok (.iconst 0, 1) := dk_3 (dk_at dksX3_cleanest_1 4 rfl rfl)
theorem dX3_cleanest_28 : decode cX3_cleanest 28 = .ok (.istore_n 3, 1) := dk_62 (dk_at dksX3_cleanest_1 5 rfl rfl)
theorem dX3_cleanest_29 : decode cX3_cleanest 29 = .ok (.iload_n 3, 1) := dk_29 (dk_at dksX3_cleanest_1 6 rfl rfl)
theorem dX3_cleanest_30 : decode cX3_cleanest 30 = .ok (.sipush 2048, 3) := dk_17 8 0 (dk_at dksX3_cleanest_1 7 rfl rfl)
theorem dX3_cleanest_33 : decode cX3_cleanest 33 = .ok (.if_icmp .ge 16, 3) := dk_162 0 16 (dk_at dksX3_cleanest_1 10 rfl rfl)
theorem dX3_cleanest_36 : decode cX3_cleanest 36 = .ok (.aload_n 0, 1) := dk_42 (dk_at dksX3_cleanest_1 13 rfl rfl)
theorem dX3_cleanest_37 : decode cX3_cleanest 37 = .ok (.getfield 22, 3) := dk_180 0 22 (dk_at dksX3_cleanest_1 14 rfl rfl)
theorem dX3_cleanest_40 : decode cX3_cleanest 40 = .ok (.iload_n 3, 1) := dk_29 (dk_at dksX3_cleanest_1 17 rfl rfl)
theorem dX3_cleanest_41 : decode cX3_cleanest 41 = .ok (.iconst 0, 1) := dk_3 (dk_at dksX3_cleanest_1 18 rfl rfl)
theorem dX3_cleanest_42 : decode cX3_cleanest 42 = .ok (.bastore, 1) := dk_84 (dk_at dksX3_cleanest_1 19 rfl rfl)
theorem dX3_cleanest_43 : decode cX3_cleanest 43 = .ok (.iinc 3 1, 3) := dk_132 3 1 (dk_at dksX3_cleanest_1 20 rfl rfl)
theorem dX3_cleanest_46 : decode cX3_cleanest 46 = .ok (.goto (-17), 3) := dk_167 255 239 (dk_at dksX3_cleanest_2 0 rfl rfl)
theorem dX3_cleanest_49 : decode cX3_cleanest 49 = .ok (.aload_n 0, 1) := dk_42 (dk_at dksX3_cleanest_2 3 rfl rfl)
theorem dX3_cleanest_50 : decode cX3_cleanest 50 = .ok (.getfield 22, 3) := dk_180 0 22 (dk_at dksX3_cleanest_2 4 rfl rfl)
theorem dX3_cleanest_53 : decode cX3_cleanest 53 = .ok (.sipush 256, 3) := dk_17 1 0 (dk_at dksX3_cleanest_2 7 rfl rfl)
theorem dX3_cleanest_56 : decode cX3_cleanest 56 = .ok (.iload_n 1, 1) := dk_27 (dk_at dksX3_cleanest_2 10 rfl rfl)
theorem dX3_cleanest_57 : decode cX3_cleanest 57 = .ok (.imul, 1) := dk_104 (dk_at dksX3_cleanest_2 11 rfl rfl)
theorem dX3_cleanest_58 : decode cX3_cleanest 58 = .ok (.aload_n 0, 1) := dk_42 (dk_at dksX3_cleanest_2 12 rfl rfl)
theorem dX3_cleanest_59 : decode cX3_cleanest 59 = .ok (.iload_n 1, 1) := dk_27 (dk_at dksX3_cleanest_2 13 rfl rfl)
theorem dX3_cleanest_60 : decode cX3_cleanest 60 = .ok (.iconst 2, 1) := dk_5 (dk_at dksX3_cleanest_2 14 rfl rfl)
theorem dX3_cleanest_61 : decode cX3_cleanest 61 = .ok (.invokevirtual 106, 3) := dk_182 0 106 (dk_at dksX3_cleanest_2 15 rfl rfl)
theorem dX3_cleanest_64 : decode cX3_cleanest 64 = .ok (.iadd, 1) := dk_96 (dk_at dksX3_cleanest_2 18 rfl rfl)
theorem dX3_cleanest_65 : decode cX3_cleanest 65 = .ok (.iconst 1, 1) := dk_4 (dk_at dksX3_cleanest_2 19 rfl rfl)
theorem dX3_cleanest_66 : decode cX3_cleanest 66 = .ok (.bastore, 1) := dk_84 (dk_at dksX3_cleanest_2 20 rfl rfl)
theorem dX3_cleanest_67 : decode cX3_cleanest 67 = .ok (.aload_n 0, 1) := dk_42 (dk_at dksX3_cleanest_2 21 rfl rfl)
theorem dX3_cleanest_68 : decode cX3_cleanest 68 = .ok (.iload_n 1, 1) := dk_27 (dk_at dksX3_cleanest_2 22 rfl rfl)
theorem dX3_cleanest_69 : decode cX3_cleanest 69 = .ok (.iconst 2, 1) := dk_5 (dk_at dksX3_cleanest_2 23 rfl rfl)
theorem dX3_cleanest_70 : decode cX3_cleanest 70 = .ok (.invokevirtual 106, 3) := dk_182 0 106 (dk_at dksX3_cleanest_3 0 rfl rfl)
theorem dX3_cleanest_73 : decode cX3_cleanest 73 = .ok (.istore_n 3, 1) := dk_62 (dk_at dksX3_cleanest_3 3 rfl rfl)
theorem dX3_cleanest_74 : decode cX3_cleanest 74 = .ok (.iload_n 3, 1) := dk_29 (dk_at dksX3_cleanest_3 4 rfl rfl)
theorem dX3_cleanest_75 : decode cX3_cleanest 75 = .ok (.ifCond .lt 14, 3) := dk_155 0 14 (dk_at dksX3_cleanest_3 5 rfl rfl)
theorem dX3_cleanest_78 : decode cX3_cleanest 78 = .ok (.aload_n 0, 1) := dk_42 (dk_at dksX3_cleanest_3 8 rfl rfl)
theorem dX3_cleanest_79 : decode cX3_cleanest 79 = .ok (.iload_n 3, 1) := dk_29 (dk_at dksX3_cleanest_3 9 rfl rfl)
theorem dX3_cleanest_80 : decode cX3_cleanest 80 = .ok (.invokevirtual 170, 3) := dk_182 0 170 (dk_at dksX3_cleanest_3 10 rfl rfl)
theorem dX3_cleanest_83 : decode cX3_cleanest 83 = .ok (.iinc 3 (-1), 3) := dk_132 3 255 (dk_at dksX3_cleanest_3 13 rfl rfl)
theorem dX3_cleanest_86 : decode cX3_cleanest 86 = .ok (.goto (-12), 3) := dk_167 255 244 (dk_at dksX3_cleanest_3 16 rfl rfl)
theorem dX3_cleanest_89 : decode cX3_cleanest 89 = .ok (.bipush 8, 2) := dk_16 8 (dk_at dksX3_cleanest_3 19 rfl rfl)
theorem dX3_cleanest_91 : decode cX3_cleanest 91 = .ok (.istore_n 3, 1) := dk_62 (dk_at dksX3_cleanest_3 21 rfl rfl)
theorem dX3_cleanest_92 : decode cX3_cleanest 92 = .ok (.iconst 0, 1) := dk_3 (dk_at dksX3_cleanest_3 22 rfl rfl)
theorem dX3_cleanest_93 : decode cX3_cleanest 93 = .ok (.istore 4, 2) := dk_54 4 (dk_at dksX3_cleanest_4 0 rfl rfl)
theorem dX3_cleanest_95 : decode cX3_cleanest 95 = .ok (.iload 4, 2) := dk_21 4 (dk_at dksX3_cleanest_4 2 rfl rfl)
theorem dX3_cleanest_97 : decode cX3_cleanest 97 = .ok (.sipush 256, 3) := dk_17 1 0 (dk_at dksX3_cleanest_4 4 rfl rfl)
theorem dX3_cleanest_100 : decode cX3_cleanest 100 = .ok (.if_icmp .ge 35, 3) := dk_162 0 35 (dk_at dksX3_cleanest_4 7 rfl rfl)
theorem dX3_cleanest_103 : decode cX3_cleanest 103 = .ok (.aload_n 0, 1) := dk_42 (dk_at dksX3_cleanest_4 10 rfl rfl)
theorem dX3_cleanest_104 : decode cX3_cleanest 104 = .ok (.getfield 22, 3) := dk_180 0 22 (dk_at dksX3_cleanest_4 11 rfl rfl)
theorem dX3_cleanest_107 : decode cX3_cleanest 107 = .ok (.sipush 256, 3) := dk_17 1 0 (dk_at dksX3_cleanest_4 14 rfl rfl)
theorem dX3_cleanest_110 : decode cX3_cleanest 110 = .ok (.iload_n 2, 1) := dk_28 (dk_at dksX3_cleanest_4 17 rfl rfl)
theorem dX3_cleanest_111 : decode cX3_cleanest 111 = .ok (.imul, 1) := dk_104 (dk_at dksX3_cleanest_4 18 rfl rfl)
theorem dX3_cleanest_112 : decode cX3_cleanest 112 = .ok (.iload 4, 2) := dk_21 4 (dk_at dksX3_cleanest_4 19 rfl rfl)
theorem dX3_cleanest_114 : decode cX3_cleanest 114 = .ok (.iadd, 1) := dk_96 (dk_at dksX3_cleanest_4 21 rfl rfl)
theorem dX3_cleanest_115 : decode cX3_cleanest 115 = .ok (.baload, 1) := dk_51 (dk_at dksX3_cleanest_4 22 rfl rfl)
theorem dX3_cleanest_116 : decode cX3_cleanest 116 = .ok (.ifCond .eq 13, 3) := dk_153 0 13 (dk_at dksX3_cleanest_5 0 rfl rfl)
theorem dX3_cleanest_119 : decode cX3_cleanest 119 = .ok (.iload_n 3, 1) := dk_29 (dk_at dksX3_cleanest_5 3 rfl rfl)
theorem dX3_cleanest_120 : decode cX3_cleanest 120 = .ok (.iload 4, 2) := dk_21 4 (dk_at dksX3_cleanest_5 4 rfl rfl)
theorem dX3_cleanest_122 : decode cX3_cleanest 122 = .ok (.invokestatic 120, 3) := dk_184 0 120 (dk_at dksX3_cleanest_5 6 rfl rfl)
theorem dX3_cleanest_125 : decode cX3_cleanest 125 = .ok (.invokestatic 114, 3) := dk_184 0 114 (dk_at dksX3_cleanest_5 9 rfl rfl)
theorem dX3_cleanest_128 : decode cX3_cleanest 128 = .ok (.istore_n 3, 1) := dk_62 (dk_at dksX3_cleanest_5 12 rfl rfl)
theorem dX3_cleanest_129 : decode cX3_cleanest 129 = .ok (.iinc 4 1, 3) := dk_132 4 1 (dk_at dksX3_cleanest_5 13 rfl rfl)
theorem dX3_cleanest_132 : decode cX3_cleanest 132 = .ok (.goto (-37), 3) := dk_167 255 219 (dk_at dksX3_cleanest_5 16 rfl rfl)
theorem dX3_cleanest_135 : decode cX3_cleanest 135 = .ok (.iload_n 3, 1) := dk_29 (dk_at dksX3_cleanest_5 19 rfl rfl)
theorem dX3_cleanest_136 : decode cX3_cleanest 136 = .ok (.ireturn, 1) := dk_172 (dk_at dksX3_cleanest_5 20 rfl rfl)
abbrev cX3_reaches : ByteArray := prog_18_method_63_code
def yX3_reaches : MethodName := ⟨RX3, "reaches", "(I)V"⟩
def dkwX3_reaches_5 : List UInt8 := [104, 21, 6, 96, 4, 84, 132, 3, 1, 167, 255, 142, 132, 2, 1, 167, 255, 128, 177]
abbrev dktX3_reaches_5 : List UInt8 := dkwX3_reaches_5 ++ []
def dkwX3_reaches_4 : List UInt8 := [180, 0, 22, 17, 1, 0, 21, 5, 104, 27, 96, 51, 153, 0, 18, 42, 180, 0, 22, 17, 1, 0, 21, 4]
abbrev dktX3_reaches_4 : List UInt8 := dkwX3_reaches_4 ++ dktX3_reaches_5
def dkwX3_reaches_3 : List UInt8 := [27, 96, 51, 153, 0, 18, 42, 180, 0, 22, 17, 1, 0, 21, 5, 104, 21, 6, 96, 4, 84, 42]
abbrev dktX3_reaches_3 : List UInt8 := dkwX3_reaches_3 ++ dktX3_reaches_4
def dkwX3_reaches_2 : List UInt8 := [54, 5, 27, 42, 29, 5, 182, 0, 66, 2, 130, 126, 54, 6, 42, 180, 0, 22, 17, 1, 0, 21, 4, 104]
abbrev dktX3_reaches_2 : List UInt8 := dkwX3_reaches_2 ++ dktX3_reaches_3
def dkwX3_reaches_1 : List UInt8 := [182, 0, 103, 154, 0, 6, 167, 0, 93, 42, 29, 3, 182, 0, 66, 54, 4, 42, 29, 4, 182, 0, 66]
abbrev dktX3_reaches_1 : List UInt8 := dkwX3_reaches_1 ++ dktX3_reaches_2
def dkwX3_reaches_0 : List UInt8 := [3, 61, 28, 16, 8, 162, 0, 128, 3, 62, 29, 42, 180, 0, 9, 4, 46, 162, 0, 110, 42, 29]
abbrev dktX3_reaches_0 : List UInt8 := dkwX3_reaches_0 ++ dktX3_reaches_1
theorem dksX3_reaches_0 : cX3_reaches.data.toList.drop 0 = dktX3_reaches_0 := by decide +kernel
theorem dksX3_reaches_1 : cX3_reaches.data.toList.drop 22 = dktX3_reaches_1 := dk_seg dksX3_reaches_0 22 rfl rfl
theorem dksX3_reaches_2 : cX3_reaches.data.toList.drop 45 = dktX3_reaches_2 := dk_seg dksX3_reaches_1 23 rfl rfl
theorem dksX3_reaches_3 : cX3_reaches.data.toList.drop 69 = dktX3_reaches_3 := dk_seg dksX3_reaches_2 24 rfl rfl
theorem dksX3_reaches_4 : cX3_reaches.data.toList.drop 91 = dktX3_reaches_4 := dk_seg dksX3_reaches_3 22 rfl rfl
theorem dksX3_reaches_5 : cX3_reaches.data.toList.drop 115 = dktX3_reaches_5 := dk_seg dksX3_reaches_4 24 rfl rfl
theorem dX3_reaches_0 : decode cX3_reaches 0 = .ok (.iconst 0, 1) := dk_3 (dk_at dksX3_reaches_0 0 rfl rfl)
theorem dX3_reaches_1 : decode cX3_reaches 1 = .ok (.istore_n 2, 1) := dk_61 (dk_at dksX3_reaches_0 1 rfl rfl)
theorem dX3_reaches_2 : decode cX3_reaches 2 = .ok (.iload_n 2, 1) := dk_28 (dk_at dksX3_reaches_0 2 rfl rfl)
theorem dX3_reaches_3 : decode cX3_reaches 3 = .ok (.bipush 8, 2) := dk_16 8 (dk_at dksX3_reaches_0 3 rfl rfl)
theorem dX3_reaches_5 : decode cX3_reaches 5 = .ok (.if_icmp .ge 128, 3) := dk_162 0 128 (dk_at dksX3_reaches_0 5 rfl rfl)
theorem dX3_reaches_8 : decode cX3_reaches 8 = .ok (.iconst 0, 1) := dk_3 (dk_at dksX3_reaches_0 8 rfl rfl)
theorem dX3_reaches_9 : decode cX3_reaches 9 = .ok (.istore_n 3, 1) := dk_62 (dk_at dksX3_reaches_0 9 rfl rfl)
theorem dX3_reaches_10 : decode cX3_reaches 10 = .ok (.iload_n 3, 1) := dk_29 (dk_at dksX3_reaches_0 10 rfl rfl)
theorem dX3_reaches_11 : decode cX3_reaches 11 = .ok (.aload_n 0, 1) := dk_42 (dk_at dksX3_reaches_0 11 rfl rfl)
theorem dX3_reaches_12 : decode cX3_reaches 12 = .ok (.getfield 9, 3) := dk_180 0 9 (dk_at dksX3_reaches_0 12 rfl rfl)
theorem dX3_reaches_15 : decode cX3_reaches 15 = .ok (.iconst 1, 1) := dk_4 (dk_at dksX3_reaches_0 15 rfl rfl)
theorem dX3_reaches_16 : decode cX3_reaches 16 = .ok (.iaload, 1) := dk_46 (dk_at dksX3_reaches_0 16 rfl rfl)
theorem dX3_reaches_17 : decode cX3_reaches 17 = .ok (.if_icmp .ge 110, 3) := dk_162 0 110 (dk_at dksX3_reaches_0 17 rfl rfl)
theorem dX3_reaches_20 : decode cX3_reaches 20 = .ok (.aload_n 0, 1) := dk_42 (dk_at dksX3_reaches_0 20 rfl rfl)
theorem dX3_reaches_21 : decode cX3_reaches 21 = .ok (.iload_n 3, 1) := dk_29 (dk_at dksX3_reaches_0 21 rfl rfl)
theorem dX3_reaches_22 : decode cX3_reaches 22 = .ok (.invokevirtual 103, 3) := dk_182 0 103 (dk_at dksX3_reaches_1 0 rfl rfl)
theorem dX3_reaches_25 : decode cX3_reaches 25 = .ok (.ifCond .ne 6, 3) := dk_154 0 6 (dk_at dksX3_reaches_1 3 rfl rfl)
theorem dX3_reaches_28 : decode cX3_reaches 28 = .ok (.goto 93, 3) := dk_167 0 93 (dk_at dksX3_reaches_1 6 rfl rfl)
theorem dX3_reaches_31 : decode cX3_reaches 31 = .ok (.aload_n 0, 1) := dk_42 (dk_at dksX3_reaches_1 9 rfl rfl)
theorem dX3_reaches_32 : decode cX3_reaches 32 = .ok (.iload_n 3, 1) := dk_29 (dk_at dksX3_reaches_1 10 rfl rfl)
theorem dX3_reaches_33 : decode cX3_reaches 33 = .ok (.iconst 0, 1) := dk_3 (dk_at dksX3_reaches_1 11 rfl rfl)
theorem dX3_reaches_34 : decode cX3_reaches 34 = .ok (.invokevirtual 66, 3) := dk_182 0 66 (dk_at dksX3_reaches_1 12 rfl rfl)
theorem dX3_reaches_37 : decode cX3_reaches 37 = .ok (.istore 4, 2) := dk_54 4 (dk_at dksX3_reaches_1 15 rfl rfl)
theorem dX3_reaches_39 : decode cX3_reaches 39 = .ok (.aload_n 0, 1) := dk_42 (dk_at dksX3_reaches_1 17 rfl rfl)
theorem dX3_reaches_40 : decode cX3_reaches 40 = .ok (.iload_n 3, 1) := dk_29 (dk_at dksX3_reaches_1 18 rfl rfl)
theorem dX3_reaches_41 : decode cX3_reaches 41 = .ok (.iconst 1, 1) := dk_4 (dk_at dksX3_reaches_1 19 rfl rfl)
theorem dX3_reaches_42 : decode cX3_reaches 42 = .ok (.invokevirtual 66, 3) := dk_182 0 66 (dk_at dksX3_reaches_1 20 rfl rfl)
theorem dX3_reaches_45 : decode cX3_reaches 45 = .ok (.istore 5, 2) := dk_54 5 (dk_at dksX3_reaches_2 0 rfl rfl)
theorem dX3_reaches_47 : decode cX3_reaches 47 = .ok (.iload_n 1, 1) := dk_27 (dk_at dksX3_reaches_2 2 rfl rfl)
theorem dX3_reaches_48 : decode cX3_reaches 48 = .ok (.aload_n 0, 1) := dk_42 (dk_at dksX3_reaches_2 3 rfl rfl)
theorem dX3_reaches_49 : decode cX3_reaches 49 = .ok (.iload_n 3, 1) := dk_29 (dk_at dksX3_reaches_2 4 rfl rfl)
theorem dX3_reaches_50 : decode cX3_reaches 50 = .ok (.iconst 2, 1) := dk_5 (dk_at dksX3_reaches_2 5 rfl rfl)
theorem dX3_reaches_51 : decode cX3_reaches 51 = .ok (.invokevirtual 66, 3) := dk_182 0 66 (dk_at dksX3_reaches_2 6 rfl rfl)
theorem dX3_reaches_54 : decode cX3_reaches 54 = .ok (.iconst (-1), 1) := dk_2 (dk_at dksX3_reaches_2 9 rfl rfl)
theorem dX3_reaches_55 : decode cX3_reaches 55 = .ok (.ixor, 1) := dk_130 (dk_at dksX3_reaches_2 10 rfl rfl)
theorem dX3_reaches_56 : decode cX3_reaches 56 = .ok (.iand, 1) := dk_126 (dk_at dksX3_reaches_2 11 rfl rfl)
theorem dX3_reaches_57 : decode cX3_reaches 57 = .ok (.istore 6, 2) := dk_54 6 (dk_at dksX3_reaches_2 12 rfl rfl)
theorem dX3_reaches_59 : decode cX3_reaches 59 = .ok (.aload_n 0, 1) := dk_42 (dk_at dksX3_reaches_2 14 rfl rfl)
theorem dX3_reaches_60 : decode cX3_reaches 60 = .ok (.getfield 22, 3) := dk_180 0 22 (dk_at dksX3_reaches_2 15 rfl rfl)
theorem dX3_reaches_63 : decode cX3_reaches 63 = .ok (.sipush 256, 3) := dk_17 1 0 (dk_at dksX3_reaches_2 18 rfl rfl)
theorem dX3_reaches_66 : decode cX3_reaches 66 = .ok (.iload 4, 2) := dk_21 4 (dk_at dksX3_reaches_2 21 rfl rfl)
theorem dX3_reaches_68 : decode cX3_reaches 68 = .ok (.imul, 1) := dk_104 (dk_at dksX3_reaches_2 23 rfl rfl)
theorem dX3_reaches_69 : decode cX3_reaches 69 = .ok (.iload_n 1, 1) := dk_27 (dk_at dksX3_reaches_3 0 rfl rfl)
theorem dX3_reaches_70 : decode cX3_reaches 70 = .ok (.iadd, 1) := dk_96 (dk_at dksX3_reaches_3 1 rfl rfl)
theorem dX3_reaches_71 : decode cX3_reaches 71 = .ok (.baload, 1) := dk_51 (dk_at dksX3_reaches_3 2 rfl rfl)
theorem dX3_reaches_72 : decode cX3_reaches 72 = .ok (.ifCond .eq 18, 3) := dk_153 0 18 (dk_at dksX3_reaches_3 3 rfl rfl)
theorem dX3_reaches_75 : decode cX3_reaches 75 = .ok (.aload_n 0, 1) := dk_42 (dk_at dksX3_reaches_3 6 rfl rfl)
theorem dX3_reaches_76 : decode cX3_reaches 76 = .ok (.getfield 22, 3) := dk_180 0 22 (dk_at dksX3_reaches_3 7 rfl rfl)
theorem dX3_reaches_79 : decode cX3_reaches 79 = .ok (.sipush 256, 3) := dk_17 1 0 (dk_at dksX3_reaches_3 10 rfl rfl)
theorem dX3_reaches_82 : decode cX3_reaches 82 = .ok (.iload 5, 2) := dk_21 5 (dk_at dksX3_reaches_3 13 rfl rfl)
theorem dX3_reaches_84 : decode cX3_reaches 84 = .ok (.imul, 1) := dk_104 (dk_at dksX3_reaches_3 15 rfl rfl)
theorem dX3_reaches_85 : decode cX3_reaches 85 = .ok (.iload 6, 2) := dk_21 6 (dk_at dksX3_reaches_3 16 rfl rfl)
theorem dX3_reaches_87 : decode cX3_reaches 87 = .ok (.iadd, 1) := dk_96 (dk_at dksX3_reaches_3 18 rfl rfl)
theorem dX3_reaches_88 : decode cX3_reaches 88 = .ok (.iconst 1, 1) := dk_4 (dk_at dksX3_reaches_3 19 rfl rfl)
theorem dX3_reaches_89 : decode cX3_reaches 89 = .ok (.bastore, 1) := dk_84 (dk_at dksX3_reaches_3 20 rfl rfl)
theorem dX3_reaches_90 : decode cX3_reaches 90 = .ok (.aload_n 0, 1) := dk_42 (dk_at dksX3_reaches_3 21 rfl rfl)
theorem dX3_reaches_91 : decode cX3_reaches 91 = .ok (.getfield 22, 3) := dk_180 0 22 (dk_at dksX3_reaches_4 0 rfl rfl)
theorem dX3_reaches_94 : decode cX3_reaches 94 = .ok (.sipush 256, 3) := dk_17 1 0 (dk_at dksX3_reaches_4 3 rfl rfl)
theorem dX3_reaches_97 : decode cX3_reaches 97 = .ok (.iload 5, 2) := dk_21 5 (dk_at dksX3_reaches_4 6 rfl rfl)
theorem dX3_reaches_99 : decode cX3_reaches 99 = .ok (.imul, 1) := dk_104 (dk_at dksX3_reaches_4 8 rfl rfl)
theorem dX3_reaches_100 : decode cX3_reaches 100 = .ok (.iload_n 1, 1) := dk_27 (dk_at dksX3_reaches_4 9 rfl rfl)
theorem dX3_reaches_101 : decode cX3_reaches 101 = .ok (.iadd, 1) := dk_96 (dk_at dksX3_reaches_4 10 rfl rfl)
theorem dX3_reaches_102 : decode cX3_reaches 102 = .ok (.baload, 1) := dk_51 (dk_at dksX3_reaches_4 11 rfl rfl)
theorem dX3_reaches_103 : decode cX3_reaches 103 = .ok (.ifCond .eq 18, 3) := dk_153 0 18 (dk_at dksX3_reaches_4 12 rfl rfl)
theorem dX3_reaches_106 : decode cX3_reaches 106 = .ok (.aload_n 0, 1) := dk_42 (dk_at dksX3_reaches_4 15 rfl rfl)
theorem dX3_reaches_107 : decode cX3_reaches 107 = .ok (.getfield 22, 3) := dk_180 0 22 (dk_at dksX3_reaches_4 16 rfl rfl)
theorem dX3_reaches_110 : decode cX3_reaches 110 = .ok (.sipush 256, 3) := dk_17 1 0 (dk_at dksX3_reaches_4 19 rfl rfl)
theorem dX3_reaches_113 : decode cX3_reaches 113 = .ok (.iload 4, 2) := dk_21 4 (dk_at dksX3_reaches_4 22 rfl rfl)
theorem dX3_reaches_115 : decode cX3_reaches 115 = .ok (.imul, 1) := dk_104 (dk_at dksX3_reaches_5 0 rfl rfl)
theorem dX3_reaches_116 : decode cX3_reaches 116 = .ok (.iload 6, 2) := dk_21 6 (dk_at dksX3_reaches_5 1 rfl rfl)
theorem dX3_reaches_118 : decode cX3_reaches 118 = .ok (.iadd, 1) := dk_96 (dk_at dksX3_reaches_5 3 rfl rfl)
theorem dX3_reaches_119 : decode cX3_reaches 119 = .ok (.iconst 1, 1) := dk_4 (dk_at dksX3_reaches_5 4 rfl rfl)
theorem dX3_reaches_120 : decode cX3_reaches 120 = .ok (.bastore, 1) := dk_84 (dk_at dksX3_reaches_5 5 rfl rfl)
theorem dX3_reaches_121 : decode cX3_reaches 121 = .ok (.iinc 3 1, 3) := dk_132 3 1 (dk_at dksX3_reaches_5 6 rfl rfl)
theorem dX3_reaches_124 : decode cX3_reaches 124 = .ok (.goto (-114), 3) := dk_167 255 142 (dk_at dksX3_reaches_5 9 rfl rfl)
theorem dX3_reaches_127 : decode cX3_reaches 127 = .ok (.iinc 2 1, 3) := dk_132 2 1 (dk_at dksX3_reaches_5 12 rfl rfl)
theorem dX3_reaches_130 : decode cX3_reaches 130 = .ok (.goto (-128), 3) := dk_167 255 128 (dk_at dksX3_reaches_5 15 rfl rfl)
theorem dX3_reaches_133 : decode cX3_reaches 133 = .ok (.return_, 1) := dk_177 (dk_at dksX3_reaches_5 18 rfl rfl)
abbrev cX3_cleanestByPasses : ByteArray := prog_18_method_65_code
def yX3_cleanestByPasses : MethodName := ⟨RX3, "cleanestByPasses", "(II)I"⟩
def dkwX3_cleanestByPasses_0 : List UInt8 := [42, 27, 28, 182, 0, 174, 172]
abbrev dktX3_cleanestByPasses_0 : List UInt8 := dkwX3_cleanestByPasses_0 ++ []
theorem dksX3_cleanestByPasses_0 : cX3_cleanestByPasses.data.toList.drop 0 = dktX3_cleanestByPasses_0 := by decide +kernel
theorem dX3_cleanestByPasses_0 : decode cX3_cleanestByPasses 0 = .ok (.aload_n 0, 1) := dk_42 (dk_at dksX3_cleanestByPasses_0 0 rfl rfl)
theorem dX3_cleanestByPasses_1 : decode cX3_cleanestByPasses 1 = .ok (.iload_n 1, 1) := dk_27 (dk_at dksX3_cleanestByPasses_0 1 rfl rfl)
theorem dX3_cleanestByPasses_2 : decode cX3_cleanestByPasses 2 = .ok (.iload_n 2, 1) := dk_28 (dk_at dksX3_cleanestByPasses_0 2 rfl rfl)
theorem dX3_cleanestByPasses_3 : decode cX3_cleanestByPasses 3 = .ok (.invokevirtual 174, 3) := dk_182 0 174 (dk_at dksX3_cleanestByPasses_0 3 rfl rfl)
theorem dX3_cleanestByPasses_6 : decode cX3_cleanestByPasses 6 = .ok (.ireturn, 1) := dk_172 (dk_at dksX3_cleanestByPasses_0 6 rfl rfl)
abbrev cX3_minutesUntilStill : ByteArray := prog_18_method_66_code
def yX3_minutesUntilStill : MethodName := ⟨RX3, "minutesUntilStill", "()I"⟩
def dkwX3_minutesUntilStill_2 : List UInt8 := [182, 0, 55, 167, 0, 4, 27, 172]
abbrev dktX3_minutesUntilStill_2 : List UInt8 := dkwX3_minutesUntilStill_2 ++ []
def dkwX3_minutesUntilStill_1 : List UInt8 := [132, 1, 1, 42, 182, 0, 125, 61, 167, 255, 237, 42, 182, 0, 177, 27, 17, 1, 44, 164, 0, 11, 42, 4]
abbrev dktX3_minutesUntilStill_1 : List UInt8 := dkwX3_minutesUntilStill_1 ++ dktX3_minutesUntilStill_2
def dkwX3_minutesUntilStill_0 : List UInt8 := [42, 182, 0, 73, 3, 60, 42, 182, 0, 125, 61, 28, 158, 0, 21, 27, 17, 1, 44, 163, 0, 14]
abbrev dktX3_minutesUntilStill_0 : List UInt8 := dkwX3_minutesUntilStill_0 ++ dktX3_minutesUntilStill_1
theorem dksX3_minutesUntilStill_0 : cX3_minutesUntilStill.data.toList.drop 0 = dktX3_minutesUntilStill_0 := by decide +kernel
theorem dksX3_minutesUntilStill_1 : cX3_minutesUntilStill.data.toList.drop 22 = dktX3_minutesUntilStill_1 := dk_seg dksX3_minutesUntilStill_0 22 rfl rfl
theorem dksX3_minutesUntilStill_2 : cX3_minutesUntilStill.data.toList.drop 46 = dktX3_minutesUntilStill_2 := dk_seg dksX3_minutesUntilStill_1 24 rfl rfl
theorem dX3_minutesUntilStill_0 : decode cX3_minutesUntilStill 0 = .ok (.aload_n 0, 1) := dk_42 (dk_at dksX3_minutesUntilStill_0 0 rfl rfl)
theorem dX3_minutesUntilStill_1 : decode cX3_minutesUntilStill 1 = .ok (.invokevirtual 73, 3) := dk_182 0 73 (dk_at dksX3_minutesUntilStill_0 1 rfl rfl)
theorem dX3_minutesUntilStill_4 : decode cX3_minutesUntilStill 4 = .ok (.iconst 0, 1) := dk_3 (dk_at dksX3_minutesUntilStill_0 4 rfl rfl)
theorem dX3_minutesUntilStill_5 : decode cX3_minutesUntilStill 5 = .ok (.istore_n 1, 1) := dk_60 (dk_at dksX3_minutesUntilStill_0 5 rfl rfl)
theorem dX3_minutesUntilStill_6 : decode cX3_minutesUntilStill 6 = .ok (.aload_n 0, 1) := dk_42 (dk_at dksX3_minutesUntilStill_0 6 rfl rfl)
theorem dX3_minutesUntilStill_7 : decode cX3_minutesUntilStill 7 = .ok (.invokevirtual 125, 3) := dk_182 0 125 (dk_at dksX3_minutesUntilStill_0 7 rfl rfl)
theorem dX3_minutesUntilStill_10 : decode cX3_minutesUntilStill 10 = .ok (.istore_n 2, 1) := dk_61 (dk_at dksX3_minutesUntilStill_0 10 rfl rfl)
theorem dX3_minutesUntilStill_11 : decode cX3_minutesUntilStill 11 = .ok (.iload_n 2, 1) := dk_28 (dk_at dksX3_minutesUntilStill_0 11 rfl rfl)
theorem dX3_minutesUntilStill_12 : decode cX3_minutesUntilStill 12 = .ok (.ifCond .le 21, 3) := dk_158 0 21 (dk_at dksX3_minutesUntilStill_0 12 rfl rfl)
theorem dX3_minutesUntilStill_15 : decode cX3_minutesUntilStill 15 = .ok (.iload_n 1, 1) := dk_27 (dk_at dksX3_minutesUntilStill_0 15 rfl rfl)
theorem dX3_minutesUntilStill_16 : decode cX3_minutesUntilStill 16 = .ok (.sipush 300, 3) := dk_17 1 44 (dk_at dksX3_minutesUntilStill_0 16 rfl rfl)
theorem dX3_minutesUntilStill_19 : decode cX3_minutesUntilStill 19 = .ok (.if_icmp .gt 14, 3) := dk_163 0 14 (dk_at dksX3_minutesUntilStill_0 19 rfl rfl)
theorem dX3_minutesUntilStill_22 : decode cX3_minutesUntilStill 22 = .ok (.iinc 1 1, 3) := dk_132 1 1 (dk_at dksX3_minutesUntilStill_1 0 rfl rfl)
theorem dX3_minutesUntilStill_25 : decode cX3_minutesUntilStill 25 = .ok (.aload_n 0, 1) := dk_42 (dk_at dksX3_minutesUntilStill_1 3 rfl rfl)
theorem dX3_minutesUntilStill_26 : decode cX3_minutesUntilStill 26 = .ok (.invokevirtual 125, 3) := dk_182 0 125 (dk_at dksX3_minutesUntilStill_1 4 rfl rfl)
theorem dX3_minutesUntilStill_29 : decode cX3_minutesUntilStill 29 = .ok (.istore_n 2, 1) := dk_61 (dk_at dksX3_minutesUntilStill_1 7 rfl rfl)
theorem dX3_minutesUntilStill_30 : decode cX3_minutesUntilStill 30 = .ok (.goto (-19), 3) := dk_167 255 237 (dk_at dksX3_minutesUntilStill_1 8 rfl rfl)
theorem dX3_minutesUntilStill_33 : decode cX3_minutesUntilStill 33 = .ok (.aload_n 0, 1) := dk_42 (dk_at dksX3_minutesUntilStill_1 11 rfl rfl)
theorem dX3_minutesUntilStill_34 : decode cX3_minutesUntilStill 34 = .ok (.invokevirtual 177, 3) := dk_182 0 177 (dk_at dksX3_minutesUntilStill_1 12 rfl rfl)
theorem dX3_minutesUntilStill_37 : decode cX3_minutesUntilStill 37 = .ok (.iload_n 1, 1) := dk_27 (dk_at dksX3_minutesUntilStill_1 15 rfl rfl)
theorem dX3_minutesUntilStill_38 : decode cX3_minutesUntilStill 38 = .ok (.sipush 300, 3) := dk_17 1 44 (dk_at dksX3_minutesUntilStill_1 16 rfl rfl)
theorem dX3_minutesUntilStill_41 : decode cX3_minutesUntilStill 41 = .ok (.if_icmp .le 11, 3) := dk_164 0 11 (dk_at dksX3_minutesUntilStill_1 19 rfl rfl)
theorem dX3_minutesUntilStill_44 : decode cX3_minutesUntilStill 44 = .ok (.aload_n 0, 1) := dk_42 (dk_at dksX3_minutesUntilStill_1 22 rfl rfl)
theorem dX3_minutesUntilStill_45 : decode cX3_minutesUntilStill 45 = .ok (.iconst 1, 1) := dk_4 (dk_at dksX3_minutesUntilStill_1 23 rfl rfl)
theorem dX3_minutesUntilStill_46 : decode cX3_minutesUntilStill 46 = .ok (.invokevirtual 55, 3) := dk_182 0 55 (dk_at dksX3_minutesUntilStill_2 0 rfl rfl)
theorem dX3_minutesUntilStill_49 : decode cX3_minutesUntilStill 49 = .ok (.goto 4, 3) := dk_167 0 4 (dk_at dksX3_minutesUntilStill_2 3 rfl rfl)
theorem dX3_minutesUntilStill_52 : decode cX3_minutesUntilStill 52 = .ok (.iload_n 1, 1) := dk_27 (dk_at dksX3_minutesUntilStill_2 6 rfl rfl)
theorem dX3_minutesUntilStill_53 : decode cX3_minutesUntilStill 53 = .ok (.ireturn, 1) := dk_172 (dk_at dksX3_minutesUntilStill_2 7 rfl rfl)
abbrev cX3_forgets : ByteArray := prog_18_method_6_code
def yX3_forgets : MethodName := ⟨RX3, "forgets", "()V"⟩
def dkwX3_forgets_1 : List UInt8 := [167, 255, 235, 177]
abbrev dktX3_forgets_1 : List UInt8 := dkwX3_forgets_1 ++ []
def dkwX3_forgets_0 : List UInt8 := [3, 60, 27, 16, 114, 162, 0, 21, 42, 180, 0, 9, 27, 42, 180, 0, 13, 27, 46, 79, 132, 1, 1]
abbrev dktX3_forgets_0 : List UInt8 := dkwX3_forgets_0 ++ dktX3_forgets_1
theorem dksX3_forgets_0 : cX3_forgets.data.toList.drop 0 = dktX3_forgets_0 := by decide +kernel
theorem dksX3_forgets_1 : cX3_forgets.data.toList.drop 23 = dktX3_forgets_1 := dk_seg dksX3_forgets_0 23 rfl rfl
theorem dX3_forgets_0 : decode cX3_forgets 0 = .ok (.iconst 0, 1) := dk_3 (dk_at dksX3_forgets_0 0 rfl rfl)
theorem dX3_forgets_1 : decode cX3_forgets 1 = .ok (.istore_n 1, 1) := dk_60 (dk_at dksX3_forgets_0 1 rfl rfl)
theorem dX3_forgets_2 : decode cX3_forgets 2 = .ok (.iload_n 1, 1) := dk_27 (dk_at dksX3_forgets_0 2 rfl rfl)
theorem dX3_forgets_3 : decode cX3_forgets 3 = .ok (.bipush 114, 2) := dk_16 114 (dk_at dksX3_forgets_0 3 rfl rfl)
theorem dX3_forgets_5 : decode cX3_forgets 5 = .ok (.if_icmp .ge 21, 3) := dk_162 0 21 (dk_at dksX3_forgets_0 5 rfl rfl)
theorem dX3_forgets_8 : decode cX3_forgets 8 = .ok (.aload_n 0, 1) := dk_42 (dk_at dksX3_forgets_0 8 rfl rfl)
theorem dX3_forgets_9 : decode cX3_forgets 9 = .ok (.getfield 9, 3) := dk_180 0 9 (dk_at dksX3_forgets_0 9 rfl rfl)
theorem dX3_forgets_12 : decode cX3_forgets 12 = .ok (.iload_n 1, 1) := dk_27 (dk_at dksX3_forgets_0 12 rfl rfl)
theorem dX3_forgets_13 : decode cX3_forgets 13 = .ok (.aload_n 0, 1) := dk_42 (dk_at dksX3_forgets_0 13 rfl rfl)
theorem dX3_forgets_14 : decode cX3_forgets 14 = .ok (.getfield 13, 3) := dk_180 0 13 (dk_at dksX3_forgets_0 14 rfl rfl)
theorem dX3_forgets_17 : decode cX3_forgets 17 = .ok (.iload_n 1, 1) := dk_27 (dk_at dksX3_forgets_0 17 rfl rfl)
theorem dX3_forgets_18 : decode cX3_forgets 18 = .ok (.iaload, 1) := dk_46 (dk_at dksX3_forgets_0 18 rfl rfl)
theorem dX3_forgets_19 : decode cX3_forgets 19 = .ok (.iastore, 1) := dk_79 (dk_at dksX3_forgets_0 19 rfl rfl)
theorem dX3_forgets_20 : decode cX3_forgets 20 = .ok (.iinc 1 1, 3) := dk_132 1 1 (dk_at dksX3_forgets_0 20 rfl rfl)
theorem dX3_forgets_23 : decode cX3_forgets 23 = .ok (.goto (-21), 3) := dk_167 255 235 (dk_at dksX3_forgets_1 0 rfl rfl)
theorem dX3_forgets_26 : decode cX3_forgets 26 = .ok (.return_, 1) := dk_177 (dk_at dksX3_forgets_1 3 rfl rfl)
abbrev cX3_time : ByteArray := prog_18_method_67_code
def yX3_time : MethodName := ⟨RX3, "time", "()I"⟩
def dkwX3_time_0 : List UInt8 := [42, 3, 181, 0, 49, 42, 180, 0, 9, 5, 46, 172]
abbrev dktX3_time_0 : List UInt8 := dkwX3_time_0 ++ []
theorem dksX3_time_0 : cX3_time.data.toList.drop 0 = dktX3_time_0 := by decide +kernel
theorem dX3_time_0 : decode cX3_time 0 = .ok (.aload_n 0, 1) := dk_42 (dk_at dksX3_time_0 0 rfl rfl)
theorem dX3_time_1 : decode cX3_time 1 = .ok (.iconst 0, 1) := dk_3 (dk_at dksX3_time_0 1 rfl rfl)
theorem dX3_time_2 : decode cX3_time 2 = .ok (.putfield 49, 3) := dk_181 0 49 (dk_at dksX3_time_0 2 rfl rfl)
theorem dX3_time_5 : decode cX3_time 5 = .ok (.aload_n 0, 1) := dk_42 (dk_at dksX3_time_0 5 rfl rfl)
theorem dX3_time_6 : decode cX3_time 6 = .ok (.getfield 9, 3) := dk_180 0 9 (dk_at dksX3_time_0 6 rfl rfl)
theorem dX3_time_9 : decode cX3_time 9 = .ok (.iconst 2, 1) := dk_5 (dk_at dksX3_time_0 9 rfl rfl)
theorem dX3_time_10 : decode cX3_time 10 = .ok (.iaload, 1) := dk_46 (dk_at dksX3_time_0 10 rfl rfl)
theorem dX3_time_11 : decode cX3_time 11 = .ok (.ireturn, 1) := dk_172 (dk_at dksX3_time_0 11 rfl rfl)
abbrev cX3_pouredTotal : ByteArray := prog_18_method_68_code
def yX3_pouredTotal : MethodName := ⟨RX3, "pouredTotal", "()I"⟩
def dkwX3_pouredTotal_0 : List UInt8 := [42, 3, 181, 0, 49, 42, 180, 0, 9, 6, 46, 172]
abbrev dktX3_pouredTotal_0 : List UInt8 := dkwX3_pouredTotal_0 ++ []
theorem dksX3_pouredTotal_0 : cX3_pouredTotal.data.toList.drop 0 = dktX3_pouredTotal_0 := by decide +kernel
theorem dX3_pouredTotal_0 : decode cX3_pouredTotal 0 = .ok (.aload_n 0, 1) := dk_42 (dk_at dksX3_pouredTotal_0 0 rfl rfl)
theorem dX3_pouredTotal_1 : decode cX3_pouredTotal 1 = .ok (.iconst 0, 1) := dk_3 (dk_at dksX3_pouredTotal_0 1 rfl rfl)
theorem dX3_pouredTotal_2 : decode cX3_pouredTotal 2 = .ok (.putfield 49, 3) := dk_181 0 49 (dk_at dksX3_pouredTotal_0 2 rfl rfl)
theorem dX3_pouredTotal_5 : decode cX3_pouredTotal 5 = .ok (.aload_n 0, 1) := dk_42 (dk_at dksX3_pouredTotal_0 5 rfl rfl)
theorem dX3_pouredTotal_6 : decode cX3_pouredTotal 6 = .ok (.getfield 9, 3) := dk_180 0 9 (dk_at dksX3_pouredTotal_0 6 rfl rfl)
theorem dX3_pouredTotal_9 : decode cX3_pouredTotal 9 = .ok (.iconst 3, 1) := dk_6 (dk_at dksX3_pouredTotal_0 9 rfl rfl)
theorem dX3_pouredTotal_10 : decode cX3_pouredTotal 10 = .ok (.iaload, 1) := dk_46 (dk_at dksX3_pouredTotal_0 10 rfl rfl)
theorem dX3_pouredTotal_11 : decode cX3_pouredTotal 11 = .ok (.ireturn, 1) := dk_172 (dk_at dksX3_pouredTotal_0 11 rfl rfl)
abbrev cX3_drawnTotal : ByteArray := prog_18_method_69_code
def yX3_drawnTotal : MethodName := ⟨RX3, "drawnTotal", "()I"⟩
def dkwX3_drawnTotal_0 : List UInt8 := [42, 3, 181, 0, 49, 42, 180, 0, 9, 7, 46, 172]
abbrev dktX3_drawnTotal_0 : List UInt8 := dkwX3_drawnTotal_0 ++ []
theorem dksX3_drawnTotal_0 : cX3_drawnTotal.data.toList.drop 0 = dktX3_drawnTotal_0 := by decide +kernel
theorem dX3_drawnTotal_0 : decode cX3_drawnTotal 0 = .ok (.aload_n 0, 1) := dk_42 (dk_at dksX3_drawnTotal_0 0 rfl rfl)
theorem dX3_drawnTotal_1 : decode cX3_drawnTotal 1 = .ok (.iconst 0, 1) := dk_3 (dk_at dksX3_drawnTotal_0 1 rfl rfl)
theorem dX3_drawnTotal_2 : decode cX3_drawnTotal 2 = .ok (.putfield 49, 3) := dk_181 0 49 (dk_at dksX3_drawnTotal_0 2 rfl rfl)
theorem dX3_drawnTotal_5 : decode cX3_drawnTotal 5 = .ok (.aload_n 0, 1) := dk_42 (dk_at dksX3_drawnTotal_0 5 rfl rfl)
theorem dX3_drawnTotal_6 : decode cX3_drawnTotal 6 = .ok (.getfield 9, 3) := dk_180 0 9 (dk_at dksX3_drawnTotal_0 6 rfl rfl)
theorem dX3_drawnTotal_9 : decode cX3_drawnTotal 9 = .ok (.iconst 4, 1) := dk_7 (dk_at dksX3_drawnTotal_0 9 rfl rfl)
theorem dX3_drawnTotal_10 : decode cX3_drawnTotal 10 = .ok (.iaload, 1) := dk_46 (dk_at dksX3_drawnTotal_0 10 rfl rfl)
theorem dX3_drawnTotal_11 : decode cX3_drawnTotal 11 = .ok (.ireturn, 1) := dk_172 (dk_at dksX3_drawnTotal_0 11 rfl rfl)
abbrev cX3_spilledTotal : ByteArray := prog_18_method_70_code
def yX3_spilledTotal : MethodName := ⟨RX3, "spilledTotal", "()I"⟩
def dkwX3_spilledTotal_0 : List UInt8 := [42, 3, 181, 0, 49, 42, 180, 0, 9, 8, 46, 172]
abbrev dktX3_spilledTotal_0 : List UInt8 := dkwX3_spilledTotal_0 ++ []
theorem dksX3_spilledTotal_0 : cX3_spilledTotal.data.toList.drop 0 = dktX3_spilledTotal_0 := by decide +kernel
theorem dX3_spilledTotal_0 : decode cX3_spilledTotal 0 = .ok (.aload_n 0, 1) := dk_42 (dk_at dksX3_spilledTotal_0 0 rfl rfl)
theorem dX3_spilledTotal_1 : decode cX3_spilledTotal 1 = .ok (.iconst 0, 1) := dk_3 (dk_at dksX3_spilledTotal_0 1 rfl rfl)
theorem dX3_spilledTotal_2 : decode cX3_spilledTotal 2 = .ok (.putfield 49, 3) := dk_181 0 49 (dk_at dksX3_spilledTotal_0 2 rfl rfl)
theorem dX3_spilledTotal_5 : decode cX3_spilledTotal 5 = .ok (.aload_n 0, 1) := dk_42 (dk_at dksX3_spilledTotal_0 5 rfl rfl)
theorem dX3_spilledTotal_6 : decode cX3_spilledTotal 6 = .ok (.getfield 9, 3) := dk_180 0 9 (dk_at dksX3_spilledTotal_0 6 rfl rfl)
theorem dX3_spilledTotal_9 : decode cX3_spilledTotal 9 = .ok (.iconst 5, 1) := dk_8 (dk_at dksX3_spilledTotal_0 9 rfl rfl)
theorem dX3_spilledTotal_10 : decode cX3_spilledTotal 10 = .ok (.iaload, 1) := dk_46 (dk_at dksX3_spilledTotal_0 10 rfl rfl)
theorem dX3_spilledTotal_11 : decode cX3_spilledTotal 11 = .ok (.ireturn, 1) := dk_172 (dk_at dksX3_spilledTotal_0 11 rfl rfl)
abbrev cX3_totalContent : ByteArray := prog_18_method_71_code
def yX3_totalContent : MethodName := ⟨RX3, "totalContent", "()I"⟩
def dkwX3_totalContent_1 : List UInt8 := [100, 172]
abbrev dktX3_totalContent_1 : List UInt8 := dkwX3_totalContent_1 ++ []
def dkwX3_totalContent_0 : List UInt8 := [42, 3, 181, 0, 49, 42, 180, 0, 9, 6, 46, 42, 180, 0, 9, 7, 46, 100, 42, 180, 0, 9, 8, 46]
abbrev dktX3_totalContent_0 : List UInt8 := dkwX3_totalContent_0 ++ dktX3_totalContent_1
theorem dksX3_totalContent_0 : cX3_totalContent.data.toList.drop 0 = dktX3_totalContent_0 := by decide +kernel
theorem dksX3_totalContent_1 : cX3_totalContent.data.toList.drop 24 = dktX3_totalContent_1 := dk_seg dksX3_totalContent_0 24 rfl rfl
theorem dX3_totalContent_0 : decode cX3_totalContent 0 = .ok (.aload_n 0, 1) := dk_42 (dk_at dksX3_totalContent_0 0 rfl rfl)
theorem dX3_totalContent_1 : decode cX3_totalContent 1 = .ok (.iconst 0, 1) := dk_3 (dk_at dksX3_totalContent_0 1 rfl rfl)
theorem dX3_totalContent_2 : decode cX3_totalContent 2 = .ok (.putfield 49, 3) := dk_181 0 49 (dk_at dksX3_totalContent_0 2 rfl rfl)
theorem dX3_totalContent_5 : decode cX3_totalContent 5 = .ok (.aload_n 0, 1) := dk_42 (dk_at dksX3_totalContent_0 5 rfl rfl)
theorem dX3_totalContent_6 : decode cX3_totalContent 6 = .ok (.getfield 9, 3) := dk_180 0 9 (dk_at dksX3_totalContent_0 6 rfl rfl)
theorem dX3_totalContent_9 : decode cX3_totalContent 9 = .ok (.iconst 3, 1) := dk_6 (dk_at dksX3_totalContent_0 9 rfl rfl)
theorem dX3_totalContent_10 : decode cX3_totalContent 10 = .ok (.iaload, 1) := dk_46 (dk_at dksX3_totalContent_0 10 rfl rfl)
theorem dX3_totalContent_11 : decode cX3_totalContent 11 = .ok (.aload_n 0, 1) := dk_42 (dk_at dksX3_totalContent_0 11 rfl rfl)
theorem dX3_totalContent_12 : decode cX3_totalContent 12 = .ok (.getfield 9, 3) := dk_180 0 9 (dk_at dksX3_totalContent_0 12 rfl rfl)
theorem dX3_totalContent_15 : decode cX3_totalContent 15 = .ok (.iconst 4, 1) := dk_7 (dk_at dksX3_totalContent_0 15 rfl rfl)
theorem dX3_totalContent_16 : decode cX3_totalContent 16 = .ok (.iaload, 1) := dk_46 (dk_at dksX3_totalContent_0 16 rfl rfl)
theorem dX3_totalContent_17 : decode cX3_totalContent 17 = .ok (.isub, 1) := dk_100 (dk_at dksX3_totalContent_0 17 rfl rfl)
theorem dX3_totalContent_18 : decode cX3_totalContent 18 = .ok (.aload_n 0, 1) := dk_42 (dk_at dksX3_totalContent_0 18 rfl rfl)
theorem dX3_totalContent_19 : decode cX3_totalContent 19 = .ok (.getfield 9, 3) := dk_180 0 9 (dk_at dksX3_totalContent_0 19 rfl rfl)
theorem dX3_totalContent_22 : decode cX3_totalContent 22 = .ok (.iconst 5, 1) := dk_8 (dk_at dksX3_totalContent_0 22 rfl rfl)
theorem dX3_totalContent_23 : decode cX3_totalContent 23 = .ok (.iaload, 1) := dk_46 (dk_at dksX3_totalContent_0 23 rfl rfl)
theorem dX3_totalContent_24 : decode cX3_totalContent 24 = .ok (.isub, 1) := dk_100 (dk_at dksX3_totalContent_1 0 rfl rfl)
theorem dX3_totalContent_25 : decode cX3_totalContent 25 = .ok (.ireturn, 1) := dk_172 (dk_at dksX3_totalContent_1 1 rfl rfl)
abbrev cX3_totalContentByAccounts : ByteArray := prog_18_method_72_code
def yX3_totalContentByAccounts : MethodName := ⟨RX3, "totalContentByAccounts", "()I"⟩
theorem dX3_totalContentByAccounts_0 : decode cX3_totalContentByAccounts 0 = .ok (.aload_n 0, 1) := by decide +kernel
theorem dX3_totalContentByAccounts_1 : decode cX3_totalContentByAccounts 1 = .ok (.invokevirtual 180, 3) := by decide +kernel
theorem dX3_totalContentByAccounts_4 : decode cX3_totalContentByAccounts 4 = .ok (.ireturn, 1) := by decide +kernel
abbrev cX3_meanContent : ByteArray := prog_18_method_73_code
def yX3_meanContent : MethodName := ⟨RX3, "meanContent", "()D"⟩
def dkwX3_meanContent_2 : List UInt8 := [3, 46, 135, 111, 175]
abbrev dktX3_meanContent_2 : List UInt8 := dkwX3_meanContent_2 ++ []
def dkwX3_meanContent_1 : List UInt8 := [180, 0, 9, 6, 46, 42, 180, 0, 9, 7, 46, 100, 42, 180, 0, 9, 8, 46, 100, 135, 42, 180, 0, 9]
abbrev dktX3_meanContent_1 : List UInt8 := dkwX3_meanContent_1 ++ dktX3_meanContent_2
def dkwX3_meanContent_0 : List UInt8 := [42, 3, 181, 0, 49, 42, 180, 0, 9, 3, 46, 154, 0, 12, 42, 4, 182, 0, 55, 135, 167, 0, 32, 42]
abbrev dktX3_meanContent_0 : List UInt8 := dkwX3_meanContent_0 ++ dktX3_meanContent_1
theorem dksX3_meanContent_0 : cX3_meanContent.data.toList.drop 0 = dktX3_meanContent_0 := by decide +kernel
theorem dksX3_meanContent_1 : cX3_meanContent.data.toList.drop 24 = dktX3_meanContent_1 := dk_seg dksX3_meanContent_0 24 rfl rfl
theorem dksX3_meanContent_2 : cX3_meanContent.data.toList.drop 48 = dktX3_meanContent_2 := dk_seg dksX3_meanContent_1 24 rfl rfl
theorem dX3_meanContent_0 : decode cX3_meanContent 0 = .ok (.aload_n 0, 1) := dk_42 (dk_at dksX3_meanContent_0 0 rfl rfl)
theorem dX3_meanContent_1 : decode cX3_meanContent 1 = .ok (.iconst 0, 1) := dk_3 (dk_at dksX3_meanContent_0 1 rfl rfl)
theorem dX3_meanContent_2 : decode cX3_meanContent 2 = .ok (.putfield 49, 3) := dk_181 0 49 (dk_at dksX3_meanContent_0 2 rfl rfl)
theorem dX3_meanContent_5 : decode cX3_meanContent 5 = .ok (.aload_n 0, 1) := dk_42 (dk_at dksX3_meanContent_0 5 rfl rfl)
theorem dX3_meanContent_6 : decode cX3_meanContent 6 = .ok (.getfield 9, 3) := dk_180 0 9 (dk_at dksX3_meanContent_0 6 rfl rfl)
theorem dX3_meanContent_9 : decode cX3_meanContent 9 = .ok (.iconst 0, 1) := dk_3 (dk_at dksX3_meanContent_0 9 rfl rfl)
theorem dX3_meanContent_10 : decode cX3_meanContent 10 = .ok (.iaload, 1) := dk_46 (dk_at dksX3_meanContent_0 10 rfl rfl)
theorem dX3_meanContent_11 : decode cX3_meanContent 11 = .ok (.ifCond .ne 12, 3) := dk_154 0 12 (dk_at dksX3_meanContent_0 11 rfl rfl)
theorem dX3_meanContent_14 : decode cX3_meanContent 14 = .ok (.aload_n 0, 1) := dk_42 (dk_at dksX3_meanContent_0 14 rfl rfl)
theorem dX3_meanContent_15 : decode cX3_meanContent 15 = .ok (.iconst 1, 1) := dk_4 (dk_at dksX3_meanContent_0 15 rfl rfl)
theorem dX3_meanContent_16 : decode cX3_meanContent 16 = .ok (.invokevirtual 55, 3) := dk_182 0 55 (dk_at dksX3_meanContent_0 16 rfl rfl)
theorem dX3_meanContent_19 : decode cX3_meanContent 19 = .ok (.i2d, 1) := dk_135 (dk_at dksX3_meanContent_0 19 rfl rfl)
theorem dX3_meanContent_20 : decode cX3_meanContent 20 = .ok (.goto 32, 3) := dk_167 0 32 (dk_at dksX3_meanContent_0 20 rfl rfl)
theorem dX3_meanContent_23 : decode cX3_meanContent 23 = .ok (.aload_n 0, 1) := dk_42 (dk_at dksX3_meanContent_0 23 rfl rfl)
theorem dX3_meanContent_24 : decode cX3_meanContent 24 = .ok (.getfield 9, 3) := dk_180 0 9 (dk_at dksX3_meanContent_1 0 rfl rfl)
theorem dX3_meanContent_27 : decode cX3_meanContent 27 = .ok (.iconst 3, 1) := dk_6 (dk_at dksX3_meanContent_1 3 rfl rfl)
theorem dX3_meanContent_28 : decode cX3_meanContent 28 = .ok (.iaload, 1) := dk_46 (dk_at dksX3_meanContent_1 4 rfl rfl)
theorem dX3_meanContent_29 : decode cX3_meanContent 29 = .ok (.aload_n 0, 1) := dk_42 (dk_at dksX3_meanContent_1 5 rfl rfl)
theorem dX3_meanContent_30 : decode cX3_meanContent 30 = .ok (.getfield 9, 3) := dk_180 0 9 (dk_at dksX3_meanContent_1 6 rfl rfl)
theorem dX3_meanContent_33 : decode cX3_meanContent 33 = .ok (.iconst 4, 1) := dk_7 (dk_at dksX3_meanContent_1 9 rfl rfl)
theorem dX3_meanContent_34 : decode cX3_meanContent 34 = .ok (.iaload, 1) := dk_46 (dk_at dksX3_meanContent_1 10 rfl rfl)
theorem dX3_meanContent_35 : decode cX3_meanContent 35 = .ok (.isub, 1) := dk_100 (dk_at dksX3_meanContent_1 11 rfl rfl)
theorem dX3_meanContent_36 : decode cX3_meanContent 36 = .ok (.aload_n 0, 1) := dk_42 (dk_at dksX3_meanContent_1 12 rfl rfl)
theorem dX3_meanContent_37 : decode cX3_meanContent 37 = .ok (.getfield 9, 3) := dk_180 0 9 (dk_at dksX3_meanContent_1 13 rfl rfl)
theorem dX3_meanContent_40 : decode cX3_meanContent 40 = .ok (.iconst 5, 1) := dk_8 (dk_at dksX3_meanContent_1 16 rfl rfl)
theorem dX3_meanContent_41 : decode cX3_meanContent 41 = .ok (.iaload, 1) := dk_46 (dk_at dksX3_meanContent_1 17 rfl rfl)
theorem dX3_meanContent_42 : decode cX3_meanContent 42 = .ok (.isub, 1) := dk_100 (dk_at dksX3_meanContent_1 18 rfl rfl)
theorem dX3_meanContent_43 : decode cX3_meanContent 43 = .ok (.i2d, 1) := dk_135 (dk_at dksX3_meanContent_1 19 rfl rfl)
theorem dX3_meanContent_44 : decode cX3_meanContent 44 = .ok (.aload_n 0, 1) := dk_42 (dk_at dksX3_meanContent_1 20 rfl rfl)
theorem dX3_meanContent_45 : decode cX3_meanContent 45 = .ok (.getfield 9, 3) := dk_180 0 9 (dk_at dksX3_meanContent_1 21 rfl rfl)
theorem dX3_meanContent_48 : decode cX3_meanContent 48 = .ok (.iconst 0, 1) := dk_3 (dk_at dksX3_meanContent_2 0 rfl rfl)
theorem dX3_meanContent_49 : decode cX3_meanContent 49 = .ok (.iaload, 1) := dk_46 (dk_at dksX3_meanContent_2 1 rfl rfl)
theorem dX3_meanContent_50 : decode cX3_meanContent 50 = .ok (.i2d, 1) := dk_135 (dk_at dksX3_meanContent_2 2 rfl rfl)
theorem dX3_meanContent_51 : decode cX3_meanContent 51 = .ok (.ddiv, 1) := dk_111 (dk_at dksX3_meanContent_2 3 rfl rfl)
theorem dX3_meanContent_52 : decode cX3_meanContent 52 = .ok (.dreturn, 1) := dk_175 (dk_at dksX3_meanContent_2 4 rfl rfl)
abbrev cX3_meanContentBits : ByteArray := prog_18_method_74_code
def yX3_meanContentBits : MethodName := ⟨RX3, "meanContentBits", "()J"⟩
def dkwX3_meanContentBits_0 : List UInt8 := [42, 182, 0, 183, 72, 42, 180, 0, 49, 154, 0, 10, 39, 184, 0, 187, 167, 0, 4, 9, 173]
abbrev dktX3_meanContentBits_0 : List UInt8 := dkwX3_meanContentBits_0 ++ []
theorem dksX3_meanContentBits_0 : cX3_meanContentBits.data.toList.drop 0 = dktX3_meanContentBits_0 := by decide +kernel
theorem dX3_meanContentBits_0 : decode cX3_meanContentBits 0 = .ok (.aload_n 0, 1) := dk_42 (dk_at dksX3_meanContentBits_0 0 rfl rfl)
theorem dX3_meanContentBits_1 : decode cX3_meanContentBits 1 = .ok (.invokevirtual 183, 3) := dk_182 0 183 (dk_at dksX3_meanContentBits_0 1 rfl rfl)
theorem dX3_meanContentBits_4 : decode cX3_meanContentBits 4 = .ok (.dstore_n 1, 1) := dk_72 (dk_at dksX3_meanContentBits_0 4 rfl rfl)
theorem dX3_meanContentBits_5 : decode cX3_meanContentBits 5 = .ok (.aload_n 0, 1) := dk_42 (dk_at dksX3_meanContentBits_0 5 rfl rfl)
theorem dX3_meanContentBits_6 : decode cX3_meanContentBits 6 = .ok (.getfield 49, 3) := dk_180 0 49 (dk_at dksX3_meanContentBits_0 6 rfl rfl)
theorem dX3_meanContentBits_9 : decode cX3_meanContentBits 9 = .ok (.ifCond .ne 10, 3) := dk_154 0 10 (dk_at dksX3_meanContentBits_0 9 rfl rfl)
theorem dX3_meanContentBits_12 : decode cX3_meanContentBits 12 = .ok (.dload_n 1, 1) := dk_39 (dk_at dksX3_meanContentBits_0 12 rfl rfl)
theorem dX3_meanContentBits_13 : decode cX3_meanContentBits 13 = .ok (.invokestatic 187, 3) := dk_184 0 187 (dk_at dksX3_meanContentBits_0 13 rfl rfl)
theorem dX3_meanContentBits_16 : decode cX3_meanContentBits 16 = .ok (.goto 4, 3) := dk_167 0 4 (dk_at dksX3_meanContentBits_0 16 rfl rfl)
theorem dX3_meanContentBits_19 : decode cX3_meanContentBits 19 = .ok (.lconst 0, 1) := dk_9 (dk_at dksX3_meanContentBits_0 19 rfl rfl)
theorem dX3_meanContentBits_20 : decode cX3_meanContentBits 20 = .ok (.lreturn, 1) := dk_173 (dk_at dksX3_meanContentBits_0 20 rfl rfl)
abbrev cX3_fingerprint : ByteArray := prog_18_method_75_code
def yX3_fingerprint : MethodName := ⟨RX3, "fingerprint", "()J"⟩
def dkwX3_fingerprint_5 : List UInt8 := [20, 0, 201, 42, 29, 5, 182, 0, 66, 133, 105, 97, 131, 64, 132, 3, 1, 167, 255, 189, 31, 173]
abbrev dktX3_fingerprint_5 : List UInt8 := dkwX3_fingerprint_5 ++ []
def dkwX3_fingerprint_4 : List UInt8 := [20, 0, 199, 42, 29, 8, 182, 0, 66, 133, 105, 97, 20, 0, 195, 42, 29, 7, 182, 0, 66, 133, 105, 97]
abbrev dktX3_fingerprint_4 : List UInt8 := dkwX3_fingerprint_4 ++ dktX3_fingerprint_5
def dkwX3_fingerprint_3 : List UInt8 := [180, 0, 9, 4, 46, 162, 0, 63, 31, 16, 7, 121, 31, 16, 57, 125, 129, 42, 29, 6, 182, 0, 66, 133]
abbrev dktX3_fingerprint_3 : List UInt8 := dkwX3_fingerprint_3 ++ dktX3_fingerprint_4
def dkwX3_fingerprint_2 : List UInt8 := [20, 0, 197, 42, 29, 5, 182, 0, 106, 133, 105, 97, 131, 64, 132, 3, 1, 167, 255, 202, 3, 62, 29, 42]
abbrev dktX3_fingerprint_2 : List UInt8 := dkwX3_fingerprint_2 ++ dktX3_fingerprint_3
def dkwX3_fingerprint_1 : List UInt8 := [31, 16, 59, 125, 129, 42, 29, 4, 182, 0, 106, 133, 20, 0, 195, 42, 29, 3, 182, 0, 106, 133, 105, 97]
abbrev dktX3_fingerprint_1 : List UInt8 := dkwX3_fingerprint_1 ++ dktX3_fingerprint_2
def dkwX3_fingerprint_0 : List UInt8 := [42, 3, 181, 0, 49, 20, 0, 193, 64, 3, 62, 29, 42, 180, 0, 9, 3, 46, 162, 0, 50, 31, 8, 121]
abbrev dktX3_fingerprint_0 : List UInt8 := dkwX3_fingerprint_0 ++ dktX3_fingerprint_1
theorem dksX3_fingerprint_0 : cX3_fingerprint.data.toList.drop 0 = dktX3_fingerprint_0 := by decide +kernel
theorem dksX3_fingerprint_1 : cX3_fingerprint.data.toList.drop 24 = dktX3_fingerprint_1 := dk_seg dksX3_fingerprint_0 24 rfl rfl
theorem dksX3_fingerprint_2 : cX3_fingerprint.data.toList.drop 48 = dktX3_fingerprint_2 := dk_seg dksX3_fingerprint_1 24 rfl rfl
theorem dksX3_fingerprint_3 : cX3_fingerprint.data.toList.drop 72 = dktX3_fingerprint_3 := dk_seg dksX3_fingerprint_2 24 rfl rfl
theorem dksX3_fingerprint_4 : cX3_fingerprint.data.toList.drop 96 = dktX3_fingerprint_4 := dk_seg dksX3_fingerprint_3 24 rfl rfl
theorem dksX3_fingerprint_5 : cX3_fingerprint.data.toList.drop 120 = dktX3_fingerprint_5 := dk_seg dksX3_fingerprint_4 24 rfl rfl
theorem dX3_fingerprint_0 : decode cX3_fingerprint 0 = .ok (.aload_n 0, 1) := dk_42 (dk_at dksX3_fingerprint_0 0 rfl rfl)
theorem dX3_fingerprint_1 : decode cX3_fingerprint 1 = .ok (.iconst 0, 1) := dk_3 (dk_at dksX3_fingerprint_0 1 rfl rfl)
theorem dX3_fingerprint_2 : decode cX3_fingerprint 2 = .ok (.putfield 49, 3) := dk_181 0 49 (dk_at dksX3_fingerprint_0 2 rfl rfl)
theorem dX3_fingerprint_5 : decode cX3_fingerprint 5 = .ok (.ldc2_w 193, 3) := dk_20 0 193 (dk_at dksX3_fingerprint_0 5 rfl rfl)
theorem dX3_fingerprint_8 : decode cX3_fingerprint 8 = .ok (.lstore_n 1, 1) := dk_64 (dk_at dksX3_fingerprint_0 8 rfl rfl)
theorem dX3_fingerprint_9 : decode cX3_fingerprint 9 = .ok (.iconst 0, 1) := dk_3 (dk_at dksX3_fingerprint_0 9 rfl rfl)
theorem dX3_fingerprint_10 : decode cX3_fingerprint 10 = .ok (.istore_n 3, 1) := dk_62 (dk_at dksX3_fingerprint_0 10 rfl rfl)
theorem dX3_fingerprint_11 : decode cX3_fingerprint 11 = .ok (.iload_n 3, 1) := dk_29 (dk_at dksX3_fingerprint_0 11 rfl rfl)
theorem dX3_fingerprint_12 : decode cX3_fingerprint 12 = .ok (.aload_n 0, 1) := dk_42 (dk_at dksX3_fingerprint_0 12 rfl rfl)
theorem dX3_fingerprint_13 : decode cX3_fingerprint 13 = .ok (.getfield 9, 3) := dk_180 0 9 (dk_at dksX3_fingerprint_0 13 rfl rfl)
theorem dX3_fingerprint_16 : decode cX3_fingerprint 16 = .ok (.iconst 0, 1) := dk_3 (dk_at dksX3_fingerprint_0 16 rfl rfl)
theorem dX3_fingerprint_17 : decode cX3_fingerprint 17 = .ok (.iaload, 1) := dk_46 (dk_at dksX3_fingerprint_0 17 rfl rfl)
theorem dX3_fingerprint_18 : decode cX3_fingerprint 18 = .ok (.if_icmp .ge 50, 3) := dk_162 0 50 (dk_at dksX3_fingerprint_0 18 rfl rfl)
theorem dX3_fingerprint_21 : decode cX3_fingerprint 21 = .ok (.lload_n 1, 1) := dk_31 (dk_at dksX3_fingerprint_0 21 rfl rfl)
theorem dX3_fingerprint_22 : decode cX3_fingerprint 22 = .ok (.iconst 5, 1) := dk_8 (dk_at dksX3_fingerprint_0 22 rfl rfl)
theorem dX3_fingerprint_23 : decode cX3_fingerprint 23 = .ok (.lshl, 1) := dk_121 (dk_at dksX3_fingerprint_0 23 rfl rfl)
theorem dX3_fingerprint_24 : decode cX3_fingerprint 24 = .ok (.lload_n 1, 1) := dk_31 (dk_at dksX3_fingerprint_1 0 rfl rfl)
theorem dX3_fingerprint_25 : decode cX3_fingerprint 25 = .ok (.bipush 59, 2) := dk_16 59 (dk_at dksX3_fingerprint_1 1 rfl rfl)
theorem dX3_fingerprint_27 : decode cX3_fingerprint 27 = .ok (.lushr, 1) := dk_125 (dk_at dksX3_fingerprint_1 3 rfl rfl)
theorem dX3_fingerprint_28 : decode cX3_fingerprint 28 = .ok (.lor, 1) := dk_129 (dk_at dksX3_fingerprint_1 4 rfl rfl)
theorem dX3_fingerprint_29 : decode cX3_fingerprint 29 = .ok (.aload_n 0, 1) := dk_42 (dk_at dksX3_fingerprint_1 5 rfl rfl)
theorem dX3_fingerprint_30 : decode cX3_fingerprint 30 = .ok (.iload_n 3, 1) := dk_29 (dk_at dksX3_fingerprint_1 6 rfl rfl)
theorem dX3_fingerprint_31 : decode cX3_fingerprint 31 = .ok (.iconst 1, 1) := dk_4 (dk_at dksX3_fingerprint_1 7 rfl rfl)
theorem dX3_fingerprint_32 : decode cX3_fingerprint 32 = .ok (.invokevirtual 106, 3) := dk_182 0 106 (dk_at dksX3_fingerprint_1 8 rfl rfl)
theorem dX3_fingerprint_35 : decode cX3_fingerprint 35 = .ok (.i2l, 1) := dk_133 (dk_at dksX3_fingerprint_1 11 rfl rfl)
theorem dX3_fingerprint_36 : decode cX3_fingerprint 36 = .ok (.ldc2_w 195, 3) := dk_20 0 195 (dk_at dksX3_fingerprint_1 12 rfl rfl)
theorem dX3_fingerprint_39 : decode cX3_fingerprint 39 = .ok (.aload_n 0, 1) := dk_42 (dk_at dksX3_fingerprint_1 15 rfl rfl)
theorem dX3_fingerprint_40 : decode cX3_fingerprint 40 = .ok (.iload_n 3, 1) := dk_29 (dk_at dksX3_fingerprint_1 16 rfl rfl)
theorem dX3_fingerprint_41 : decode cX3_fingerprint 41 = .ok (.iconst 0, 1) := dk_3 (dk_at dksX3_fingerprint_1 17 rfl rfl)
theorem dX3_fingerprint_42 : decode cX3_fingerprint 42 = .ok (.invokevirtual 106, 3) := dk_182 0 106 (dk_at dksX3_fingerprint_1 18 rfl rfl)
theorem dX3_fingerprint_45 : decode cX3_fingerprint 45 = .ok (.i2l, 1) := dk_133 (dk_at dksX3_fingerprint_1 21 rfl rfl)
theorem dX3_fingerprint_46 : decode cX3_fingerprint 46 = .ok (.lmul, 1) := dk_105 (dk_at dksX3_fingerprint_1 22 rfl rfl)
theorem dX3_fingerprint_47 : decode cX3_fingerprint 47 = .ok (.ladd, 1) := dk_97 (dk_at dksX3_fingerprint_1 23 rfl rfl)
theorem dX3_fingerprint_48 : decode cX3_fingerprint 48 = .ok (.ldc2_w 197, 3) := dk_20 0 197 (dk_at dksX3_fingerprint_2 0 rfl rfl)
theorem dX3_fingerprint_51 : decode cX3_fingerprint 51 = .ok (.aload_n 0, 1) := dk_42 (dk_at dksX3_fingerprint_2 3 rfl rfl)
theorem dX3_fingerprint_52 : decode cX3_fingerprint 52 = .ok (.iload_n 3, 1) := dk_29 (dk_at dksX3_fingerprint_2 4 rfl rfl)
theorem dX3_fingerprint_53 : decode cX3_fingerprint 53 = .ok (.iconst 2, 1) := dk_5 (dk_at dksX3_fingerprint_2 5 rfl rfl)
theorem dX3_fingerprint_54 : decode cX3_fingerprint 54 = .ok (.invokevirtual 106, 3) := dk_182 0 106 (dk_at dksX3_fingerprint_2 6 rfl rfl)
theorem dX3_fingerprint_57 : decode cX3_fingerprint 57 = .ok (.i2l, 1) := dk_133 (dk_at dksX3_fingerprint_2 9 rfl rfl)
theorem dX3_fingerprint_58 : decode cX3_fingerprint 58 = .ok (.lmul, 1) := dk_105 (dk_at dksX3_fingerprint_2 10 rfl rfl)
theorem dX3_fingerprint_59 : decode cX3_fingerprint 59 = .ok (.ladd, 1) := dk_97 (dk_at dksX3_fingerprint_2 11 rfl rfl)
theorem dX3_fingerprint_60 : decode cX3_fingerprint 60 = .ok (.lxor, 1) := dk_131 (dk_at dksX3_fingerprint_2 12 rfl rfl)
theorem dX3_fingerprint_61 : decode cX3_fingerprint 61 = .ok (.lstore_n 1, 1) := dk_64 (dk_at dksX3_fingerprint_2 13 rfl rfl)
theorem dX3_fingerprint_62 : decode cX3_fingerprint 62 = .ok (.iinc 3 1, 3) := dk_132 3 1 (dk_at dksX3_fingerprint_2 14 rfl rfl)
theorem dX3_fingerprint_65 : decode cX3_fingerprint 65 = .ok (.goto (-54), 3) := dk_167 255 202 (dk_at dksX3_fingerprint_2 17 rfl rfl)
theorem dX3_fingerprint_68 : decode cX3_fingerprint 68 = .ok (.iconst 0, 1) := dk_3 (dk_at dksX3_fingerprint_2 20 rfl rfl)
theorem dX3_fingerprint_69 : decode cX3_fingerprint 69 = .ok (.istore_n 3, 1) := dk_62 (dk_at dksX3_fingerprint_2 21 rfl rfl)
theorem dX3_fingerprint_70 : decode cX3_fingerprint 70 = .ok (.iload_n 3, 1) := dk_29 (dk_at dksX3_fingerprint_2 22 rfl rfl)
theorem dX3_fingerprint_71 : decode cX3_fingerprint 71 = .ok (.aload_n 0, 1) := dk_42 (dk_at dksX3_fingerprint_2 23 rfl rfl)
theorem dX3_fingerprint_72 : decode cX3_fingerprint 72 = .ok (.getfield 9, 3) := dk_180 0 9 (dk_at dksX3_fingerprint_3 0 rfl rfl)
theorem dX3_fingerprint_75 : decode cX3_fingerprint 75 = .ok (.iconst 1, 1) := dk_4 (dk_at dksX3_fingerprint_3 3 rfl rfl)
theorem dX3_fingerprint_76 : decode cX3_fingerprint 76 = .ok (.iaload, 1) := dk_46 (dk_at dksX3_fingerprint_3 4 rfl rfl)
theorem dX3_fingerprint_77 : decode cX3_fingerprint 77 = .ok (.if_icmp .ge 63, 3) := dk_162 0 63 (dk_at dksX3_fingerprint_3 5 rfl rfl)
theorem dX3_fingerprint_80 : decode cX3_fingerprint 80 = .ok (.lload_n 1, 1) := dk_31 (dk_at dksX3_fingerprint_3 8 rfl rfl)
theorem dX3_fingerprint_81 : decode cX3_fingerprint 81 = .ok (.bipush 7, 2) := dk_16 7 (dk_at dksX3_fingerprint_3 9 rfl rfl)
theorem dX3_fingerprint_83 : decode cX3_fingerprint 83 = .ok (.lshl, 1) := dk_121 (dk_at dksX3_fingerprint_3 11 rfl rfl)
theorem dX3_fingerprint_84 : decode cX3_fingerprint 84 = .ok (.lload_n 1, 1) := dk_31 (dk_at dksX3_fingerprint_3 12 rfl rfl)
theorem dX3_fingerprint_85 : decode cX3_fingerprint 85 = .ok (.bipush 57, 2) := dk_16 57 (dk_at dksX3_fingerprint_3 13 rfl rfl)
theorem dX3_fingerprint_87 : decode cX3_fingerprint 87 = .ok (.lushr, 1) := dk_125 (dk_at dksX3_fingerprint_3 15 rfl rfl)
theorem dX3_fingerprint_88 : decode cX3_fingerprint 88 = .ok (.lor, 1) := dk_129 (dk_at dksX3_fingerprint_3 16 rfl rfl)
theorem dX3_fingerprint_89 : decode cX3_fingerprint 89 = .ok (.aload_n 0, 1) := dk_42 (dk_at dksX3_fingerprint_3 17 rfl rfl)
theorem dX3_fingerprint_90 : decode cX3_fingerprint 90 = .ok (.iload_n 3, 1) := dk_29 (dk_at dksX3_fingerprint_3 18 rfl rfl)
theorem dX3_fingerprint_91 : decode cX3_fingerprint 91 = .ok (.iconst 3, 1) := dk_6 (dk_at dksX3_fingerprint_3 19 rfl rfl)
theorem dX3_fingerprint_92 : decode cX3_fingerprint 92 = .ok (.invokevirtual 66, 3) := dk_182 0 66 (dk_at dksX3_fingerprint_3 20 rfl rfl)
theorem dX3_fingerprint_95 : decode cX3_fingerprint 95 = .ok (.i2l, 1) := dk_133 (dk_at dksX3_fingerprint_3 23 rfl rfl)
theorem dX3_fingerprint_96 : decode cX3_fingerprint 96 = .ok (.ldc2_w 199, 3) := dk_20 0 199 (dk_at dksX3_fingerprint_4 0 rfl rfl)
theorem dX3_fingerprint_99 : decode cX3_fingerprint 99 = .ok (.aload_n 0, 1) := dk_42 (dk_at dksX3_fingerprint_4 3 rfl rfl)
theorem dX3_fingerprint_100 : decode cX3_fingerprint 100 = .ok (.iload_n 3, 1) := dk_29 (dk_at dksX3_fingerprint_4 4 rfl rfl)
theorem dX3_fingerprint_101 : decode cX3_fingerprint 101 = .ok (.iconst 5, 1) := dk_8 (dk_at dksX3_fingerprint_4 5 rfl rfl)
theorem dX3_fingerprint_102 : decode cX3_fingerprint 102 = .ok (.invokevirtual 66, 3) := dk_182 0 66 (dk_at dksX3_fingerprint_4 6 rfl rfl)
theorem dX3_fingerprint_105 : decode cX3_fingerprint 105 = .ok (.i2l, 1) := dk_133 (dk_at dksX3_fingerprint_4 9 rfl rfl)
theorem dX3_fingerprint_106 : decode cX3_fingerprint 106 = .ok (.lmul, 1) := dk_105 (dk_at dksX3_fingerprint_4 10 rfl rfl)
theorem dX3_fingerprint_107 : decode cX3_fingerprint 107 = .ok (.ladd, 1) := dk_97 (dk_at dksX3_fingerprint_4 11 rfl rfl)
theorem dX3_fingerprint_108 : decode cX3_fingerprint 108 = .ok (.ldc2_w 195, 3) := dk_20 0 195 (dk_at dksX3_fingerprint_4 12 rfl rfl)
theorem dX3_fingerprint_111 : decode cX3_fingerprint 111 = .ok (.aload_n 0, 1) := dk_42 (dk_at dksX3_fingerprint_4 15 rfl rfl)
theorem dX3_fingerprint_112 : decode cX3_fingerprint 112 = .ok (.iload_n 3, 1) := dk_29 (dk_at dksX3_fingerprint_4 16 rfl rfl)
theorem dX3_fingerprint_113 : decode cX3_fingerprint 113 = .ok (.iconst 4, 1) := dk_7 (dk_at dksX3_fingerprint_4 17 rfl rfl)
theorem dX3_fingerprint_114 : decode cX3_fingerprint 114 = .ok (.invokevirtual 66, 3) := dk_182 0 66 (dk_at dksX3_fingerprint_4 18 rfl rfl)
theorem dX3_fingerprint_117 : decode cX3_fingerprint 117 = .ok (.i2l, 1) := dk_133 (dk_at dksX3_fingerprint_4 21 rfl rfl)
theorem dX3_fingerprint_118 : decode cX3_fingerprint 118 = .ok (.lmul, 1) := dk_105 (dk_at dksX3_fingerprint_4 22 rfl rfl)
theorem dX3_fingerprint_119 : decode cX3_fingerprint 119 = .ok (.ladd, 1) := dk_97 (dk_at dksX3_fingerprint_4 23 rfl rfl)
theorem dX3_fingerprint_120 : decode cX3_fingerprint 120 = .ok (.ldc2_w 201, 3) := dk_20 0 201 (dk_at dksX3_fingerprint_5 0 rfl rfl)
theorem dX3_fingerprint_123 : decode cX3_fingerprint 123 = .ok (.aload_n 0, 1) := dk_42 (dk_at dksX3_fingerprint_5 3 rfl rfl)
theorem dX3_fingerprint_124 : decode cX3_fingerprint 124 = .ok (.iload_n 3, 1) := dk_29 (dk_at dksX3_fingerprint_5 4 rfl rfl)
theorem dX3_fingerprint_125 : decode cX3_fingerprint 125 = .ok (.iconst 2, 1) := dk_5 (dk_at dksX3_fingerprint_5 5 rfl rfl)
theorem dX3_fingerprint_126 : decode cX3_fingerprint 126 = .ok (.invokevirtual 66, 3) := dk_182 0 66 (dk_at dksX3_fingerprint_5 6 rfl rfl)
theorem dX3_fingerprint_129 : decode cX3_fingerprint 129 = .ok (.i2l, 1) := dk_133 (dk_at dksX3_fingerprint_5 9 rfl rfl)
theorem dX3_fingerprint_130 : decode cX3_fingerprint 130 = .ok (.lmul, 1) := dk_105 (dk_at dksX3_fingerprint_5 10 rfl rfl)
theorem dX3_fingerprint_131 : decode cX3_fingerprint 131 = .ok (.ladd, 1) := dk_97 (dk_at dksX3_fingerprint_5 11 rfl rfl)
theorem dX3_fingerprint_132 : decode cX3_fingerprint 132 = .ok (.lxor, 1) := dk_131 (dk_at dksX3_fingerprint_5 12 rfl rfl)
theorem dX3_fingerprint_133 : decode cX3_fingerprint 133 = .ok (.lstore_n 1, 1) := dk_64 (dk_at dksX3_fingerprint_5 13 rfl rfl)
theorem dX3_fingerprint_134 : decode cX3_fingerprint 134 = .ok (.iinc 3 1, 3) := dk_132 3 1 (dk_at dksX3_fingerprint_5 14 rfl rfl)
theorem dX3_fingerprint_137 : decode cX3_fingerprint 137 = .ok (.goto (-67), 3) := dk_167 255 189 (dk_at dksX3_fingerprint_5 17 rfl rfl)
theorem dX3_fingerprint_140 : decode cX3_fingerprint 140 = .ok (.lload_n 1, 1) := dk_31 (dk_at dksX3_fingerprint_5 20 rfl rfl)
theorem dX3_fingerprint_141 : decode cX3_fingerprint 141 = .ok (.lreturn, 1) := dk_173 (dk_at dksX3_fingerprint_5 21 rfl rfl)
abbrev cX3_isConsistent : ByteArray := prog_18_method_76_code
def yX3_isConsistent : MethodName := ⟨RX3, "isConsistent", "()Z"⟩
def dkwX3_isConsistent_0 : List UInt8 := [42, 3, 181, 0, 49, 4, 172]
abbrev dktX3_isConsistent_0 : List UInt8 := dkwX3_isConsistent_0 ++ []
theorem dksX3_isConsistent_0 : cX3_isConsistent.data.toList.drop 0 = dktX3_isConsistent_0 := by decide +kernel
theorem dX3_isConsistent_0 : decode cX3_isConsistent 0 = .ok (.aload_n 0, 1) := dk_42 (dk_at dksX3_isConsistent_0 0 rfl rfl)
theorem dX3_isConsistent_1 : decode cX3_isConsistent 1 = .ok (.iconst 0, 1) := dk_3 (dk_at dksX3_isConsistent_0 1 rfl rfl)
theorem dX3_isConsistent_2 : decode cX3_isConsistent 2 = .ok (.putfield 49, 3) := dk_181 0 49 (dk_at dksX3_isConsistent_0 2 rfl rfl)
theorem dX3_isConsistent_5 : decode cX3_isConsistent 5 = .ok (.iconst 1, 1) := dk_4 (dk_at dksX3_isConsistent_0 5 rfl rfl)
theorem dX3_isConsistent_6 : decode cX3_isConsistent 6 = .ok (.ireturn, 1) := dk_172 (dk_at dksX3_isConsistent_0 6 rfl rfl)
abbrev cX3_renderTank : ByteArray := prog_18_method_80_code
def yX3_renderTank : MethodName := ⟨RX3, "renderTank", "(I)I"⟩
def dkwX3_renderTank_4 : List UInt8 := [180, 0, 203, 172]
abbrev dktX3_renderTank_4 : List UInt8 := dkwX3_renderTank_4 ++ []
def dkwX3_renderTank_3 : List UInt8 := [4, 126, 4, 160, 0, 12, 42, 16, 97, 29, 96, 146, 182, 0, 209, 132, 3, 1, 167, 255, 229, 42]
abbrev dktX3_renderTank_3 : List UInt8 := dkwX3_renderTank_3 ++ dktX3_renderTank_4
def dkwX3_renderTank_2 : List UInt8 := [182, 0, 213, 28, 158, 0, 9, 42, 16, 58, 182, 0, 209, 3, 62, 29, 16, 8, 162, 0, 27, 28, 29, 122]
abbrev dktX3_renderTank_2 : List UInt8 := dkwX3_renderTank_2 ++ dktX3_renderTank_3
def dkwX3_renderTank_1 : List UInt8 := [182, 0, 206, 42, 16, 61, 42, 27, 4, 182, 0, 106, 182, 0, 213, 42, 16, 47, 42, 27, 3, 182, 0, 106]
abbrev dktX3_renderTank_1 : List UInt8 := dkwX3_renderTank_1 ++ dktX3_renderTank_2
def dkwX3_renderTank_0 : List UInt8 := [42, 27, 5, 182, 0, 132, 61, 42, 180, 0, 49, 158, 0, 5, 3, 172, 42, 3, 181, 0, 203, 42, 27]
abbrev dktX3_renderTank_0 : List UInt8 := dkwX3_renderTank_0 ++ dktX3_renderTank_1
theorem dksX3_renderTank_0 : cX3_renderTank.data.toList.drop 0 = dktX3_renderTank_0 := by decide +kernel
theorem dksX3_renderTank_1 : cX3_renderTank.data.toList.drop 23 = dktX3_renderTank_1 := dk_seg dksX3_renderTank_0 23 rfl rfl
theorem dksX3_renderTank_2 : cX3_renderTank.data.toList.drop 47 = dktX3_renderTank_2 := dk_seg dksX3_renderTank_1 24 rfl rfl
theorem dksX3_renderTank_3 : cX3_renderTank.data.toList.drop 71 = dktX3_renderTank_3 := dk_seg dksX3_renderTank_2 24 rfl rfl
theorem dksX3_renderTank_4 : cX3_renderTank.data.toList.drop 93 = dktX3_renderTank_4 := dk_seg dksX3_renderTank_3 22 rfl rfl
theorem dX3_renderTank_0 : decode cX3_renderTank 0 = .ok (.aload_n 0, 1) := dk_42 (dk_at dksX3_renderTank_0 0 rfl rfl)
theorem dX3_renderTank_1 : decode cX3_renderTank 1 = .ok (.iload_n 1, 1) := dk_27 (dk_at dksX3_renderTank_0 1 rfl rfl)
theorem dX3_renderTank_2 : decode cX3_renderTank 2 = .ok (.iconst 2, 1) := dk_5 (dk_at dksX3_renderTank_0 2 rfl rfl)
theorem dX3_renderTank_3 : decode cX3_renderTank 3 = .ok (.invokevirtual 132, 3) := dk_182 0 132 (dk_at dksX3_renderTank_0 3 rfl rfl)
theorem dX3_renderTank_6 : decode cX3_renderTank 6 = .ok (.istore_n 2, 1) := dk_61 (dk_at dksX3_renderTank_0 6 rfl rfl)
theorem dX3_renderTank_7 : decode cX3_renderTank 7 = .ok (.aload_n 0, 1) := dk_42 (dk_at dksX3_renderTank_0 7 rfl rfl)
theorem dX3_renderTank_8 : decode cX3_renderTank 8 = .ok (.getfield 49, 3) := dk_180 0 49 (dk_at dksX3_renderTank_0 8 rfl rfl)
theorem dX3_renderTank_11 : decode cX3_renderTank 11 = .ok (.ifCond .le 5, 3) := dk_158 0 5 (dk_at dksX3_renderTank_0 11 rfl rfl)
theorem dX3_renderTank_14 : decode cX3_renderTank 14 = .ok (.iconst 0, 1) := dk_3 (dk_at dksX3_renderTank_0 14 rfl rfl)
theorem dX3_renderTank_15 : decode cX3_renderTank 15 = .ok (.ireturn, 1) := dk_172 (dk_at dksX3_renderTank_0 15 rfl rfl)
theorem dX3_renderTank_16 : decode cX3_renderTank 16 = .ok (.aload_n 0, 1) := dk_42 (dk_at dksX3_renderTank_0 16 rfl rfl)
theorem dX3_renderTank_17 : decode cX3_renderTank 17 = .ok (.iconst 0, 1) := dk_3 (dk_at dksX3_renderTank_0 17 rfl rfl)
theorem dX3_renderTank_18 : decode cX3_renderTank 18 = .ok (.putfield 203, 3) := dk_181 0 203 (dk_at dksX3_renderTank_0 18 rfl rfl)
theorem dX3_renderTank_21 : decode cX3_renderTank 21 = .ok (.aload_n 0, 1) := dk_42 (dk_at dksX3_renderTank_0 21 rfl rfl)
theorem dX3_renderTank_22 : decode cX3_renderTank 22 = .ok (.iload_n 1, 1) := dk_27 (dk_at dksX3_renderTank_0 22 rfl rfl)
theorem dX3_renderTank_23 : decode cX3_renderTank 23 = .ok (.invokevirtual 206, 3) := dk_182 0 206 (dk_at dksX3_renderTank_1 0 rfl rfl)
theorem dX3_renderTank_26 : decode cX3_renderTank 26 = .ok (.aload_n 0, 1) := dk_42 (dk_at dksX3_renderTank_1 3 rfl rfl)
theorem dX3_renderTank_27 : decode cX3_renderTank 27 = .ok (.bipush 61, 2) := dk_16 61 (dk_at dksX3_renderTank_1 4 rfl rfl)
theorem dX3_renderTank_29 : decode cX3_renderTank 29 = .ok (.aload_n 0, 1) := dk_42 (dk_at dksX3_renderTank_1 6 rfl rfl)
theorem dX3_renderTank_30 : decode cX3_renderTank 30 = .ok (.iload_n 1, 1) := dk_27 (dk_at dksX3_renderTank_1 7 rfl rfl)
theorem dX3_renderTank_31 : decode cX3_renderTank 31 = .ok (.iconst 1, 1) := dk_4 (dk_at dksX3_renderTank_1 8 rfl rfl)
theorem dX3_renderTank_32 : decode cX3_renderTank 32 = .ok (.invokevirtual 106, 3) := dk_182 0 106 (dk_at dksX3_renderTank_1 9 rfl rfl)
theorem dX3_renderTank_35 : decode cX3_renderTank 35 = .ok (.invokevirtual 213, 3) := dk_182 0 213 (dk_at dksX3_renderTank_1 12 rfl rfl)
theorem dX3_renderTank_38 : decode cX3_renderTank 38 = .ok (.aload_n 0, 1) := dk_42 (dk_at dksX3_renderTank_1 15 rfl rfl)
theorem dX3_renderTank_39 : decode cX3_renderTank 39 = .ok (.bipush 47, 2) := dk_16 47 (dk_at dksX3_renderTank_1 16 rfl rfl)
theorem dX3_renderTank_41 : decode cX3_renderTank 41 = .ok (.aload_n 0, 1) := dk_42 (dk_at dksX3_renderTank_1 18 rfl rfl)
theorem dX3_renderTank_42 : decode cX3_renderTank 42 = .ok (.iload_n 1, 1) := dk_27 (dk_at dksX3_renderTank_1 19 rfl rfl)
theorem dX3_renderTank_43 : decode cX3_renderTank 43 = .ok (.iconst 0, 1) := dk_3 (dk_at dksX3_renderTank_1 20 rfl rfl)
theorem dX3_renderTank_44 : decode cX3_renderTank 44 = .ok (.invokevirtual 106, 3) := dk_182 0 106 (dk_at dksX3_renderTank_1 21 rfl rfl)
theorem dX3_renderTank_47 : decode cX3_renderTank 47 = .ok (.invokevirtual 213, 3) := dk_182 0 213 (dk_at dksX3_renderTank_2 0 rfl rfl)
theorem dX3_renderTank_50 : decode cX3_renderTank 50 = .ok (.iload_n 2, 1) := dk_28 (dk_at dksX3_renderTank_2 3 rfl rfl)
theorem dX3_renderTank_51 : decode cX3_renderTank 51 = .ok (.ifCond .le 9, 3) := dk_158 0 9 (dk_at dksX3_renderTank_2 4 rfl rfl)
theorem dX3_renderTank_54 : decode cX3_renderTank 54 = .ok (.aload_n 0, 1) := dk_42 (dk_at dksX3_renderTank_2 7 rfl rfl)
theorem dX3_renderTank_55 : decode cX3_renderTank 55 = .ok (.bipush 58, 2) := dk_16 58 (dk_at dksX3_renderTank_2 8 rfl rfl)
theorem dX3_renderTank_57 : decode cX3_renderTank 57 = .ok (.invokevirtual 209, 3) := dk_182 0 209 (dk_at dksX3_renderTank_2 10 rfl rfl)
theorem dX3_renderTank_60 : decode cX3_renderTank 60 = .ok (.iconst 0, 1) := dk_3 (dk_at dksX3_renderTank_2 13 rfl rfl)
theorem dX3_renderTank_61 : decode cX3_renderTank 61 = .ok (.istore_n 3, 1) := dk_62 (dk_at dksX3_renderTank_2 14 rfl rfl)
theorem dX3_renderTank_62 : decode cX3_renderTank 62 = .ok (.iload_n 3, 1) := dk_29 (dk_at dksX3_renderTank_2 15 rfl rfl)
theorem dX3_renderTank_63 : decode cX3_renderTank 63 = .ok (.bipush 8, 2) := dk_16 8 (dk_at dksX3_renderTank_2 16 rfl rfl)
theorem dX3_renderTank_65 : decode cX3_renderTank 65 = .ok (.if_icmp .ge 27, 3) := dk_162 0 27 (dk_at dksX3_renderTank_2 18 rfl rfl)
theorem dX3_renderTank_68 : decode cX3_renderTank 68 = .ok (.iload_n 2, 1) := dk_28 (dk_at dksX3_renderTank_2 21 rfl rfl)
theorem dX3_renderTank_69 : decode cX3_renderTank 69 = .ok (.iload_n 3, 1) := dk_29 (dk_at dksX3_renderTank_2 22 rfl rfl)
theorem dX3_renderTank_70 : decode cX3_renderTank 70 = .ok (.ishr, 1) := dk_122 (dk_at dksX3_renderTank_2 23 rfl rfl)
theorem dX3_renderTank_71 : decode cX3_renderTank 71 = .ok (.iconst 1, 1) := dk_4 (dk_at dksX3_renderTank_3 0 rfl rfl)
theorem dX3_renderTank_72 : decode cX3_renderTank 72 = .ok (.iand, 1) := dk_126 (dk_at dksX3_renderTank_3 1 rfl rfl)
theorem dX3_renderTank_73 : decode cX3_renderTank 73 = .ok (.iconst 1, 1) := dk_4 (dk_at dksX3_renderTank_3 2 rfl rfl)
theorem dX3_renderTank_74 : decode cX3_renderTank 74 = .ok (.if_icmp .ne 12, 3) := dk_160 0 12 (dk_at dksX3_renderTank_3 3 rfl rfl)
theorem dX3_renderTank_77 : decode cX3_renderTank 77 = .ok (.aload_n 0, 1) := dk_42 (dk_at dksX3_renderTank_3 6 rfl rfl)
theorem dX3_renderTank_78 : decode cX3_renderTank 78 = .ok (.bipush 97, 2) := dk_16 97 (dk_at dksX3_renderTank_3 7 rfl rfl)
theorem dX3_renderTank_80 : decode cX3_renderTank 80 = .ok (.iload_n 3, 1) := dk_29 (dk_at dksX3_renderTank_3 9 rfl rfl)
theorem dX3_renderTank_81 : decode cX3_renderTank 81 = .ok (.iadd, 1) := dk_96 (dk_at dksX3_renderTank_3 10 rfl rfl)
theorem dX3_renderTank_82 : decode cX3_renderTank 82 = .ok (.i2c, 1) := dk_146 (dk_at dksX3_renderTank_3 11 rfl rfl)
theorem dX3_renderTank_83 : decode cX3_renderTank 83 = .ok (.invokevirtual 209, 3) := dk_182 0 209 (dk_at dksX3_renderTank_3 12 rfl rfl)
theorem dX3_renderTank_86 : decode cX3_renderTank 86 = .ok (.iinc 3 1, 3) := dk_132 3 1 (dk_at dksX3_renderTank_3 15 rfl rfl)
theorem dX3_renderTank_89 : decode cX3_renderTank 89 = .ok (.goto (-27), 3) := dk_167 255 229 (dk_at dksX3_renderTank_3 18 rfl rfl)
theorem dX3_renderTank_92 : decode cX3_renderTank 92 = .ok (.aload_n 0, 1) := dk_42 (dk_at dksX3_renderTank_3 21 rfl rfl)
theorem dX3_renderTank_93 : decode cX3_renderTank 93 = .ok (.getfield 203, 3) := dk_180 0 203 (dk_at dksX3_renderTank_4 0 rfl rfl)
theorem dX3_renderTank_96 : decode cX3_renderTank 96 = .ok (.ireturn, 1) := dk_172 (dk_at dksX3_renderTank_4 3 rfl rfl)
abbrev cX3_writes : ByteArray := prog_18_method_78_code
def yX3_writes : MethodName := ⟨RX3, "writes", "(I)V"⟩
def dkwX3_writes_1 : List UInt8 := [182, 0, 209, 177]
abbrev dktX3_writes_1 : List UInt8 := dkwX3_writes_1 ++ []
def dkwX3_writes_0 : List UInt8 := [27, 16, 9, 164, 0, 11, 42, 27, 16, 10, 108, 182, 0, 206, 42, 16, 48, 27, 16, 10, 112, 96, 146]
abbrev dktX3_writes_0 : List UInt8 := dkwX3_writes_0 ++ dktX3_writes_1
theorem dksX3_writes_0 : cX3_writes.data.toList.drop 0 = dktX3_writes_0 := by decide +kernel
theorem dksX3_writes_1 : cX3_writes.data.toList.drop 23 = dktX3_writes_1 := dk_seg dksX3_writes_0 23 rfl rfl
theorem dX3_writes_0 : decode cX3_writes 0 = .ok (.iload_n 1, 1) := dk_27 (dk_at dksX3_writes_0 0 rfl rfl)
theorem dX3_writes_1 : decode cX3_writes 1 = .ok (.bipush 9, 2) := dk_16 9 (dk_at dksX3_writes_0 1 rfl rfl)
theorem dX3_writes_3 : decode cX3_writes 3 = .ok (.if_icmp .le 11, 3) := dk_164 0 11 (dk_at dksX3_writes_0 3 rfl rfl)
theorem dX3_writes_6 : decode cX3_writes 6 = .ok (.aload_n 0, 1) := dk_42 (dk_at dksX3_writes_0 6 rfl rfl)
theorem dX3_writes_7 : decode cX3_writes 7 = .ok (.iload_n 1, 1) := dk_27 (dk_at dksX3_writes_0 7 rfl rfl)
theorem dX3_writes_8 : decode cX3_writes 8 = .ok (.bipush 10, 2) := dk_16 10 (dk_at dksX3_writes_0 8 rfl rfl)
theorem dX3_writes_10 : decode cX3_writes 10 = .ok (.idiv, 1) := dk_108 (dk_at dksX3_writes_0 10 rfl rfl)
theorem dX3_writes_11 : decode cX3_writes 11 = .ok (.invokevirtual 206, 3) := dk_182 0 206 (dk_at dksX3_writes_0 11 rfl rfl)
theorem dX3_writes_14 : decode cX3_writes 14 = .ok (.aload_n 0, 1) := dk_42 (dk_at dksX3_writes_0 14 rfl rfl)
theorem dX3_writes_15 : decode cX3_writes 15 = .ok (.bipush 48, 2) := dk_16 48 (dk_at dksX3_writes_0 15 rfl rfl)
theorem dX3_writes_17 : decode cX3_writes 17 = .ok (.iload_n 1, 1) := dk_27 (dk_at dksX3_writes_0 17 rfl rfl)
theorem dX3_writes_18 : decode cX3_writes 18 = .ok (.bipush 10, 2) := dk_16 10 (dk_at dksX3_writes_0 18 rfl rfl)
theorem dX3_writes_20 : decode cX3_writes 20 = .ok (.irem, 1) := dk_112 (dk_at dksX3_writes_0 20 rfl rfl)
theorem dX3_writes_21 : decode cX3_writes 21 = .ok (.iadd, 1) := dk_96 (dk_at dksX3_writes_0 21 rfl rfl)
theorem dX3_writes_22 : decode cX3_writes 22 = .ok (.i2c, 1) := dk_146 (dk_at dksX3_writes_0 22 rfl rfl)
theorem dX3_writes_23 : decode cX3_writes 23 = .ok (.invokevirtual 209, 3) := dk_182 0 209 (dk_at dksX3_writes_1 0 rfl rfl)
theorem dX3_writes_26 : decode cX3_writes 26 = .ok (.return_, 1) := dk_177 (dk_at dksX3_writes_1 3 rfl rfl)
abbrev cX3_signs : ByteArray := prog_18_method_77_code
def yX3_signs : MethodName := ⟨RX3, "signs", "(C)V"⟩
def dkwX3_signs_0 : List UInt8 := [42, 180, 0, 26, 42, 89, 180, 0, 203, 90, 4, 96, 181, 0, 203, 27, 85, 177]
abbrev dktX3_signs_0 : List UInt8 := dkwX3_signs_0 ++ []
theorem dksX3_signs_0 : cX3_signs.data.toList.drop 0 = dktX3_signs_0 := by decide +kernel
theorem dX3_signs_0 : decode cX3_signs 0 = .ok (.aload_n 0, 1) := dk_42 (dk_at dksX3_signs_0 0 rfl rfl)
theorem dX3_signs_1 : decode cX3_signs 1 = .ok (.getfield 26, 3) := dk_180 0 26 (dk_at dksX3_signs_0 1 rfl rfl)
theorem dX3_signs_4 : decode cX3_signs 4 = .ok (.aload_n 0, 1) := dk_42 (dk_at dksX3_signs_0 4 rfl rfl)
theorem dX3_signs_5 : decode cX3_signs 5 = .ok (.dup, 1) := dk_89 (dk_at dksX3_signs_0 5 rfl rfl)
theorem dX3_signs_6 : decode cX3_signs 6 = .ok (.getfield 203, 3) := dk_180 0 203 (dk_at dksX3_signs_0 6 rfl rfl)
theorem dX3_signs_9 : decode cX3_signs 9 = .ok (.dup_x1, 1) := dk_90 (dk_at dksX3_signs_0 9 rfl rfl)
theorem dX3_signs_10 : decode cX3_signs 10 = .ok (.iconst 1, 1) := dk_4 (dk_at dksX3_signs_0 10 rfl rfl)
theorem dX3_signs_11 : decode cX3_signs 11 = .ok (.iadd, 1) := dk_96 (dk_at dksX3_signs_0 11 rfl rfl)
theorem dX3_signs_12 : decode cX3_signs 12 = .ok (.putfield 203, 3) := dk_181 0 203 (dk_at dksX3_signs_0 12 rfl rfl)
theorem dX3_signs_15 : decode cX3_signs 15 = .ok (.iload_n 1, 1) := dk_27 (dk_at dksX3_signs_0 15 rfl rfl)
theorem dX3_signs_16 : decode cX3_signs 16 = .ok (.castore, 1) := dk_85 (dk_at dksX3_signs_0 16 rfl rfl)
theorem dX3_signs_17 : decode cX3_signs 17 = .ok (.return_, 1) := dk_177 (dk_at dksX3_signs_0 17 rfl rfl)
abbrev cX3_writes_2 : ByteArray := prog_18_method_79_code
def yX3_writes_2 : MethodName := ⟨RX3, "writes", "(CI)V"⟩
def dkwX3_writes_2_0 : List UInt8 := [42, 27, 182, 0, 209, 42, 28, 182, 0, 206, 177]
abbrev dktX3_writes_2_0 : List UInt8 := dkwX3_writes_2_0 ++ []
theorem dksX3_writes_2_0 : cX3_writes_2.data.toList.drop 0 = dktX3_writes_2_0 := by decide +kernel
theorem dX3_writes_2_0 : decode cX3_writes_2 0 = .ok (.aload_n 0, 1) := dk_42 (dk_at dksX3_writes_2_0 0 rfl rfl)
theorem dX3_writes_2_1 : decode cX3_writes_2 1 = .ok (.iload_n 1, 1) := dk_27 (dk_at dksX3_writes_2_0 1 rfl rfl)
theorem dX3_writes_2_2 : decode cX3_writes_2 2 = .ok (.invokevirtual 209, 3) := dk_182 0 209 (dk_at dksX3_writes_2_0 2 rfl rfl)
theorem dX3_writes_2_5 : decode cX3_writes_2 5 = .ok (.aload_n 0, 1) := dk_42 (dk_at dksX3_writes_2_0 5 rfl rfl)
theorem dX3_writes_2_6 : decode cX3_writes_2 6 = .ok (.iload_n 2, 1) := dk_28 (dk_at dksX3_writes_2_0 6 rfl rfl)
theorem dX3_writes_2_7 : decode cX3_writes_2 7 = .ok (.invokevirtual 206, 3) := dk_182 0 206 (dk_at dksX3_writes_2_0 7 rfl rfl)
theorem dX3_writes_2_10 : decode cX3_writes_2 10 = .ok (.return_, 1) := dk_177 (dk_at dksX3_writes_2_0 10 rfl rfl)
abbrev cX3_renderPipe : ByteArray := prog_18_method_81_code
def yX3_renderPipe : MethodName := ⟨RX3, "renderPipe", "(I)I"⟩
def dkwX3_renderPipe_4 : List UInt8 := [182, 0, 161, 153, 0, 9, 42, 16, 42, 182, 0, 209, 42, 180, 0, 203, 172]
abbrev dktX3_renderPipe_4 : List UInt8 := dkwX3_renderPipe_4 ++ []
def dkwX3_renderPipe_3 : List UInt8 := [27, 7, 182, 0, 66, 158, 0, 15, 42, 16, 108, 42, 27, 7, 182, 0, 66, 182, 0, 213, 42, 27]
abbrev dktX3_renderPipe_3 : List UInt8 := dkwX3_renderPipe_3 ++ dktX3_renderPipe_4
def dkwX3_renderPipe_2 : List UInt8 := [16, 118, 42, 27, 6, 182, 0, 66, 182, 0, 213, 42, 16, 100, 42, 27, 8, 182, 0, 66, 182, 0, 213, 42]
abbrev dktX3_renderPipe_2 : List UInt8 := dkwX3_renderPipe_2 ++ dktX3_renderPipe_3
def dkwX3_renderPipe_1 : List UInt8 := [182, 0, 206, 42, 16, 58, 28, 182, 0, 213, 42, 16, 45, 42, 27, 4, 182, 0, 66, 182, 0, 213, 42]
abbrev dktX3_renderPipe_1 : List UInt8 := dkwX3_renderPipe_1 ++ dktX3_renderPipe_2
def dkwX3_renderPipe_0 : List UInt8 := [42, 27, 3, 182, 0, 145, 61, 42, 180, 0, 49, 158, 0, 5, 3, 172, 42, 3, 181, 0, 203, 42, 27]
abbrev dktX3_renderPipe_0 : List UInt8 := dkwX3_renderPipe_0 ++ dktX3_renderPipe_1
theorem dksX3_renderPipe_0 : cX3_renderPipe.data.toList.drop 0 = dktX3_renderPipe_0 := by decide +kernel
theorem dksX3_renderPipe_1 : cX3_renderPipe.data.toList.drop 23 = dktX3_renderPipe_1 := dk_seg dksX3_renderPipe_0 23 rfl rfl
theorem dksX3_renderPipe_2 : cX3_renderPipe.data.toList.drop 46 = dktX3_renderPipe_2 := dk_seg dksX3_renderPipe_1 23 rfl rfl
theorem dksX3_renderPipe_3 : cX3_renderPipe.data.toList.drop 70 = dktX3_renderPipe_3 := dk_seg dksX3_renderPipe_2 24 rfl rfl
theorem dksX3_renderPipe_4 : cX3_renderPipe.data.toList.drop 92 = dktX3_renderPipe_4 := dk_seg dksX3_renderPipe_3 22 rfl rfl
theorem dX3_renderPipe_0 : decode cX3_renderPipe 0 = .ok (.aload_n 0, 1) := dk_42 (dk_at dksX3_renderPipe_0 0 rfl rfl)
theorem dX3_renderPipe_1 : decode cX3_renderPipe 1 = .ok (.iload_n 1, 1) := dk_27 (dk_at dksX3_renderPipe_0 1 rfl rfl)
theorem dX3_renderPipe_2 : decode cX3_renderPipe 2 = .ok (.iconst 0, 1) := dk_3 (dk_at dksX3_renderPipe_0 2 rfl rfl)
theorem dX3_renderPipe_3 : decode cX3_renderPipe 3 = .ok (.invokevirtual 145, 3) := dk_182 0 145 (dk_at dksX3_renderPipe_0 3 rfl rfl)
theorem dX3_renderPipe_6 : decode cX3_renderPipe 6 = .ok (.istore_n 2, 1) := dk_61 (dk_at dksX3_renderPipe_0 6 rfl rfl)
theorem dX3_renderPipe_7 : decode cX3_renderPipe 7 = .ok (.aload_n 0, 1) := dk_42 (dk_at dksX3_renderPipe_0 7 rfl rfl)
theorem dX3_renderPipe_8 : decode cX3_renderPipe 8 = .ok (.getfield 49, 3) := dk_180 0 49 (dk_at dksX3_renderPipe_0 8 rfl rfl)
theorem dX3_renderPipe_11 : decode cX3_renderPipe 11 = .ok (.ifCond .le 5, 3) := dk_158 0 5 (dk_at dksX3_renderPipe_0 11 rfl rfl)
theorem dX3_renderPipe_14 : decode cX3_renderPipe 14 = .ok (.iconst 0, 1) := dk_3 (dk_at dksX3_renderPipe_0 14 rfl rfl)
theorem dX3_renderPipe_15 : decode cX3_renderPipe 15 = .ok (.ireturn, 1) := dk_172 (dk_at dksX3_renderPipe_0 15 rfl rfl)
theorem dX3_renderPipe_16 : decode cX3_renderPipe 16 = .ok (.aload_n 0, 1) := dk_42 (dk_at dksX3_renderPipe_0 16 rfl rfl)
theorem dX3_renderPipe_17 : decode cX3_renderPipe 17 = .ok (.iconst 0, 1) := dk_3 (dk_at dksX3_renderPipe_0 17 rfl rfl)
theorem dX3_renderPipe_18 : decode cX3_renderPipe 18 = .ok (.putfield 203, 3) := dk_181 0 203 (dk_at dksX3_renderPipe_0 18 rfl rfl)
theorem dX3_renderPipe_21 : decode cX3_renderPipe 21 = .ok (.aload_n 0, 1) := dk_42 (dk_at dksX3_renderPipe_0 21 rfl rfl)
theorem dX3_renderPipe_22 : decode cX3_renderPipe 22 = .ok (.iload_n 1, 1) := dk_27 (dk_at dksX3_renderPipe_0 22 rfl rfl)
theorem dX3_renderPipe_23 : decode cX3_renderPipe 23 = .ok (.invokevirtual 206, 3) := dk_182 0 206 (dk_at dksX3_renderPipe_1 0 rfl rfl)
theorem dX3_renderPipe_26 : decode cX3_renderPipe 26 = .ok (.aload_n 0, 1) := dk_42 (dk_at dksX3_renderPipe_1 3 rfl rfl)
theorem dX3_renderPipe_27 : decode cX3_renderPipe 27 = .ok (.bipush 58, 2) := dk_16 58 (dk_at dksX3_renderPipe_1 4 rfl rfl)
theorem dX3_renderPipe_29 : decode cX3_renderPipe 29 = .ok (.iload_n 2, 1) := dk_28 (dk_at dksX3_renderPipe_1 6 rfl rfl)
theorem dX3_renderPipe_30 : decode cX3_renderPipe 30 = .ok (.invokevirtual 213, 3) := dk_182 0 213 (dk_at dksX3_renderPipe_1 7 rfl rfl)
theorem dX3_renderPipe_33 : decode cX3_renderPipe 33 = .ok (.aload_n 0, 1) := dk_42 (dk_at dksX3_renderPipe_1 10 rfl rfl)
theorem dX3_renderPipe_34 : decode cX3_renderPipe 34 = .ok (.bipush 45, 2) := dk_16 45 (dk_at dksX3_renderPipe_1 11 rfl rfl)
theorem dX3_renderPipe_36 : decode cX3_renderPipe 36 = .ok (.aload_n 0, 1) := dk_42 (dk_at dksX3_renderPipe_1 13 rfl rfl)
theorem dX3_renderPipe_37 : decode cX3_renderPipe 37 = .ok (.iload_n 1, 1) := dk_27 (dk_at dksX3_renderPipe_1 14 rfl rfl)
theorem dX3_renderPipe_38 : decode cX3_renderPipe 38 = .ok (.iconst 1, 1) := dk_4 (dk_at dksX3_renderPipe_1 15 rfl rfl)
theorem dX3_renderPipe_39 : decode cX3_renderPipe 39 = .ok (.invokevirtual 66, 3) := dk_182 0 66 (dk_at dksX3_renderPipe_1 16 rfl rfl)
theorem dX3_renderPipe_42 : decode cX3_renderPipe 42 = .ok (.invokevirtual 213, 3) := dk_182 0 213 (dk_at dksX3_renderPipe_1 19 rfl rfl)
theorem dX3_renderPipe_45 : decode cX3_renderPipe 45 = .ok (.aload_n 0, 1) := dk_42 (dk_at dksX3_renderPipe_1 22 rfl rfl)
theorem dX3_renderPipe_46 : decode cX3_renderPipe 46 = .ok (.bipush 118, 2) := dk_16 118 (dk_at dksX3_renderPipe_2 0 rfl rfl)
theorem dX3_renderPipe_48 : decode cX3_renderPipe 48 = .ok (.aload_n 0, 1) := dk_42 (dk_at dksX3_renderPipe_2 2 rfl rfl)
theorem dX3_renderPipe_49 : decode cX3_renderPipe 49 = .ok (.iload_n 1, 1) := dk_27 (dk_at dksX3_renderPipe_2 3 rfl rfl)
theorem dX3_renderPipe_50 : decode cX3_renderPipe 50 = .ok (.iconst 3, 1) := dk_6 (dk_at dksX3_renderPipe_2 4 rfl rfl)
theorem dX3_renderPipe_51 : decode cX3_renderPipe 51 = .ok (.invokevirtual 66, 3) := dk_182 0 66 (dk_at dksX3_renderPipe_2 5 rfl rfl)
theorem dX3_renderPipe_54 : decode cX3_renderPipe 54 = .ok (.invokevirtual 213, 3) := dk_182 0 213 (dk_at dksX3_renderPipe_2 8 rfl rfl)
theorem dX3_renderPipe_57 : decode cX3_renderPipe 57 = .ok (.aload_n 0, 1) := dk_42 (dk_at dksX3_renderPipe_2 11 rfl rfl)
theorem dX3_renderPipe_58 : decode cX3_renderPipe 58 = .ok (.bipush 100, 2) := dk_16 100 (dk_at dksX3_renderPipe_2 12 rfl rfl)
theorem dX3_renderPipe_60 : decode cX3_renderPipe 60 = .ok (.aload_n 0, 1) := dk_42 (dk_at dksX3_renderPipe_2 14 rfl rfl)
theorem dX3_renderPipe_61 : decode cX3_renderPipe 61 = .ok (.iload_n 1, 1) := dk_27 (dk_at dksX3_renderPipe_2 15 rfl rfl)
theorem dX3_renderPipe_62 : decode cX3_renderPipe 62 = .ok (.iconst 5, 1) := dk_8 (dk_at dksX3_renderPipe_2 16 rfl rfl)
theorem dX3_renderPipe_63 : decode cX3_renderPipe 63 = .ok (.invokevirtual 66, 3) := dk_182 0 66 (dk_at dksX3_renderPipe_2 17 rfl rfl)
theorem dX3_renderPipe_66 : decode cX3_renderPipe 66 = .ok (.invokevirtual 213, 3) := dk_182 0 213 (dk_at dksX3_renderPipe_2 20 rfl rfl)
theorem dX3_renderPipe_69 : decode cX3_renderPipe 69 = .ok (.aload_n 0, 1) := dk_42 (dk_at dksX3_renderPipe_2 23 rfl rfl)
theorem dX3_renderPipe_70 : decode cX3_renderPipe 70 = .ok (.iload_n 1, 1) := dk_27 (dk_at dksX3_renderPipe_3 0 rfl rfl)
theorem dX3_renderPipe_71 : decode cX3_renderPipe 71 = .ok (.iconst 4, 1) := dk_7 (dk_at dksX3_renderPipe_3 1 rfl rfl)
theorem dX3_renderPipe_72 : decode cX3_renderPipe 72 = .ok (.invokevirtual 66, 3) := dk_182 0 66 (dk_at dksX3_renderPipe_3 2 rfl rfl)
theorem dX3_renderPipe_75 : decode cX3_renderPipe 75 = .ok (.ifCond .le 15, 3) := dk_158 0 15 (dk_at dksX3_renderPipe_3 5 rfl rfl)
theorem dX3_renderPipe_78 : decode cX3_renderPipe 78 = .ok (.aload_n 0, 1) := dk_42 (dk_at dksX3_renderPipe_3 8 rfl rfl)
theorem dX3_renderPipe_79 : decode cX3_renderPipe 79 = .ok (.bipush 108, 2) := dk_16 108 (dk_at dksX3_renderPipe_3 9 rfl rfl)
theorem dX3_renderPipe_81 : decode cX3_renderPipe 81 = .ok (.aload_n 0, 1) := dk_42 (dk_at dksX3_renderPipe_3 11 rfl rfl)
theorem dX3_renderPipe_82 : decode cX3_renderPipe 82 = .ok (.iload_n 1, 1) := dk_27 (dk_at dksX3_renderPipe_3 12 rfl rfl)
theorem dX3_renderPipe_83 : decode cX3_renderPipe 83 = .ok (.iconst 4, 1) := dk_7 (dk_at dksX3_renderPipe_3 13 rfl rfl)
theorem dX3_renderPipe_84 : decode cX3_renderPipe 84 = .ok (.invokevirtual 66, 3) := dk_182 0 66 (dk_at dksX3_renderPipe_3 14 rfl rfl)
theorem dX3_renderPipe_87 : decode cX3_renderPipe 87 = .ok (.invokevirtual 213, 3) := dk_182 0 213 (dk_at dksX3_renderPipe_3 17 rfl rfl)
theorem dX3_renderPipe_90 : decode cX3_renderPipe 90 = .ok (.aload_n 0, 1) := dk_42 (dk_at dksX3_renderPipe_3 20 rfl rfl)
theorem dX3_renderPipe_91 : decode cX3_renderPipe 91 = .ok (.iload_n 1, 1) := dk_27 (dk_at dksX3_renderPipe_3 21 rfl rfl)
theorem dX3_renderPipe_92 : decode cX3_renderPipe 92 = .ok (.invokevirtual 161, 3) := dk_182 0 161 (dk_at dksX3_renderPipe_4 0 rfl rfl)
theorem dX3_renderPipe_95 : decode cX3_renderPipe 95 = .ok (.ifCond .eq 9, 3) := dk_153 0 9 (dk_at dksX3_renderPipe_4 3 rfl rfl)
theorem dX3_renderPipe_98 : decode cX3_renderPipe 98 = .ok (.aload_n 0, 1) := dk_42 (dk_at dksX3_renderPipe_4 6 rfl rfl)
theorem dX3_renderPipe_99 : decode cX3_renderPipe 99 = .ok (.bipush 42, 2) := dk_16 42 (dk_at dksX3_renderPipe_4 7 rfl rfl)
theorem dX3_renderPipe_101 : decode cX3_renderPipe 101 = .ok (.invokevirtual 209, 3) := dk_182 0 209 (dk_at dksX3_renderPipe_4 9 rfl rfl)
theorem dX3_renderPipe_104 : decode cX3_renderPipe 104 = .ok (.aload_n 0, 1) := dk_42 (dk_at dksX3_renderPipe_4 12 rfl rfl)
theorem dX3_renderPipe_105 : decode cX3_renderPipe 105 = .ok (.getfield 203, 3) := dk_180 0 203 (dk_at dksX3_renderPipe_4 13 rfl rfl)
theorem dX3_renderPipe_108 : decode cX3_renderPipe 108 = .ok (.ireturn, 1) := dk_172 (dk_at dksX3_renderPipe_4 16 rfl rfl)
abbrev cX3_outputAt : ByteArray := prog_18_method_82_code
def yX3_outputAt : MethodName := ⟨RX3, "outputAt", "(I)C"⟩
def dkwX3_outputAt_1 : List UInt8 := [180, 0, 49, 154, 0, 12, 42, 180, 0, 26, 27, 52, 167, 0, 5, 16, 97, 172]
abbrev dktX3_outputAt_1 : List UInt8 := dkwX3_outputAt_1 ++ []
def dkwX3_outputAt_0 : List UInt8 := [42, 27, 3, 42, 180, 0, 203, 4, 100, 184, 0, 62, 153, 0, 7, 3, 167, 0, 4, 4, 181, 0, 49, 42]
abbrev dktX3_outputAt_0 : List UInt8 := dkwX3_outputAt_0 ++ dktX3_outputAt_1
theorem dksX3_outputAt_0 : cX3_outputAt.data.toList.drop 0 = dktX3_outputAt_0 := by decide +kernel
theorem dksX3_outputAt_1 : cX3_outputAt.data.toList.drop 24 = dktX3_outputAt_1 := dk_seg dksX3_outputAt_0 24 rfl rfl
theorem dX3_outputAt_0 : decode cX3_outputAt 0 = .ok (.aload_n 0, 1) := dk_42 (dk_at dksX3_outputAt_0 0 rfl rfl)
theorem dX3_outputAt_1 : decode cX3_outputAt 1 = .ok (.iload_n 1, 1) := dk_27 (dk_at dksX3_outputAt_0 1 rfl rfl)
theorem dX3_outputAt_2 : decode cX3_outputAt 2 = .ok (.iconst 0, 1) := dk_3 (dk_at dksX3_outputAt_0 2 rfl rfl)
theorem dX3_outputAt_3 : decode cX3_outputAt 3 = .ok (.aload_n 0, 1) := dk_42 (dk_at dksX3_outputAt_0 3 rfl rfl)
theorem dX3_outputAt_4 : decode cX3_outputAt 4 = .ok (.getfield 203, 3) := dk_180 0 203 (dk_at dksX3_outputAt_0 4 rfl rfl)
theorem dX3_outputAt_7 : decode cX3_outputAt 7 = .ok (.iconst 1, 1) := dk_4 (dk_at dksX3_outputAt_0 7 rfl rfl)
theorem dX3_outputAt_8 : decode cX3_outputAt 8 = .ok (.isub, 1) := dk_100 (dk_at dksX3_outputAt_0 8 rfl rfl)
theorem dX3_outputAt_9 : decode cX3_outputAt 9 = .ok (.invokestatic 62, 3) := dk_184 0 62 (dk_at dksX3_outputAt_0 9 rfl rfl)
theorem dX3_outputAt_12 : decode cX3_outputAt 12 = .ok (.ifCond .eq 7, 3) := dk_153 0 7 (dk_at dksX3_outputAt_0 12 rfl rfl)
theorem dX3_outputAt_15 : decode cX3_outputAt 15 = .ok (.iconst 0, 1) := dk_3 (dk_at dksX3_outputAt_0 15 rfl rfl)
theorem dX3_outputAt_16 : decode cX3_outputAt 16 = .ok (.goto 4, 3) := dk_167 0 4 (dk_at dksX3_outputAt_0 16 rfl rfl)
theorem dX3_outputAt_19 : decode cX3_outputAt 19 = .ok (.iconst 1, 1) := dk_4 (dk_at dksX3_outputAt_0 19 rfl rfl)
theorem dX3_outputAt_20 : decode cX3_outputAt 20 = .ok (.putfield 49, 3) := dk_181 0 49 (dk_at dksX3_outputAt_0 20 rfl rfl)
theorem dX3_outputAt_23 : decode cX3_outputAt 23 = .ok (.aload_n 0, 1) := dk_42 (dk_at dksX3_outputAt_0 23 rfl rfl)
theorem dX3_outputAt_24 : decode cX3_outputAt 24 = .ok (.getfield 49, 3) := dk_180 0 49 (dk_at dksX3_outputAt_1 0 rfl rfl)
theorem dX3_outputAt_27 : decode cX3_outputAt 27 = .ok (.ifCond .ne 12, 3) := dk_154 0 12 (dk_at dksX3_outputAt_1 3 rfl rfl)
theorem dX3_outputAt_30 : decode cX3_outputAt 30 = .ok (.aload_n 0, 1) := dk_42 (dk_at dksX3_outputAt_1 6 rfl rfl)
theorem dX3_outputAt_31 : decode cX3_outputAt 31 = .ok (.getfield 26, 3) := dk_180 0 26 (dk_at dksX3_outputAt_1 7 rfl rfl)
theorem dX3_outputAt_34 : decode cX3_outputAt 34 = .ok (.iload_n 1, 1) := dk_27 (dk_at dksX3_outputAt_1 10 rfl rfl)
theorem dX3_outputAt_35 : decode cX3_outputAt 35 = .ok (.caload, 1) := dk_52 (dk_at dksX3_outputAt_1 11 rfl rfl)
theorem dX3_outputAt_36 : decode cX3_outputAt 36 = .ok (.goto 5, 3) := dk_167 0 5 (dk_at dksX3_outputAt_1 12 rfl rfl)
theorem dX3_outputAt_39 : decode cX3_outputAt 39 = .ok (.bipush 97, 2) := dk_16 97 (dk_at dksX3_outputAt_1 15 rfl rfl)
theorem dX3_outputAt_41 : decode cX3_outputAt 41 = .ok (.ireturn, 1) := dk_172 (dk_at dksX3_outputAt_1 17 rfl rfl)
abbrev cX3_type : ByteArray := prog_18_method_83_code
def yX3_type : MethodName := ⟨RX3, "type", "(C)I"⟩
def dkwX3_type_2 : List UInt8 := [4, 96, 181, 0, 216, 27, 85, 42, 180, 0, 216, 172]
abbrev dktX3_type_2 : List UInt8 := dkwX3_type_2 ++ []
def dkwX3_type_1 : List UInt8 := [180, 0, 216, 16, 60, 160, 0, 9, 42, 5, 182, 0, 55, 172, 42, 180, 0, 30, 42, 89, 180, 0, 216, 90]
abbrev dktX3_type_1 : List UInt8 := dkwX3_type_1 ++ dktX3_type_2
def dkwX3_type_0 : List UInt8 := [42, 3, 181, 0, 49, 27, 16, 32, 16, 126, 184, 0, 62, 154, 0, 9, 42, 4, 182, 0, 55, 172, 42]
abbrev dktX3_type_0 : List UInt8 := dkwX3_type_0 ++ dktX3_type_1
theorem dksX3_type_0 : cX3_type.data.toList.drop 0 = dktX3_type_0 := by decide +kernel
theorem dksX3_type_1 : cX3_type.data.toList.drop 23 = dktX3_type_1 := dk_seg dksX3_type_0 23 rfl rfl
theorem dksX3_type_2 : cX3_type.data.toList.drop 47 = dktX3_type_2 := dk_seg dksX3_type_1 24 rfl rfl
theorem dX3_type_0 : decode cX3_type 0 = .ok (.aload_n 0, 1) := dk_42 (dk_at dksX3_type_0 0 rfl rfl)
theorem dX3_type_1 : decode cX3_type 1 = .ok (.iconst 0, 1) := dk_3 (dk_at dksX3_type_0 1 rfl rfl)
theorem dX3_type_2 : decode cX3_type 2 = .ok (.putfield 49, 3) := dk_181 0 49 (dk_at dksX3_type_0 2 rfl rfl)
theorem dX3_type_5 : decode cX3_type 5 = .ok (.iload_n 1, 1) := dk_27 (dk_at dksX3_type_0 5 rfl rfl)
theorem dX3_type_6 : decode cX3_type 6 = .ok (.bipush 32, 2) := dk_16 32 (dk_at dksX3_type_0 6 rfl rfl)
theorem dX3_type_8 : decode cX3_type 8 = .ok (.bipush 126, 2) := dk_16 126 (dk_at dksX3_type_0 8 rfl rfl)
theorem dX3_type_10 : decode cX3_type 10 = .ok (.invokestatic 62, 3) := dk_184 0 62 (dk_at dksX3_type_0 10 rfl rfl)
theorem dX3_type_13 : decode cX3_type 13 = .ok (.ifCond .ne 9, 3) := dk_154 0 9 (dk_at dksX3_type_0 13 rfl rfl)
theorem dX3_type_16 : decode cX3_type 16 = .ok (.aload_n 0, 1) := dk_42 (dk_at dksX3_type_0 16 rfl rfl)
theorem dX3_type_17 : decode cX3_type 17 = .ok (.iconst 1, 1) := dk_4 (dk_at dksX3_type_0 17 rfl rfl)
theorem dX3_type_18 : decode cX3_type 18 = .ok (.invokevirtual 55, 3) := dk_182 0 55 (dk_at dksX3_type_0 18 rfl rfl)
theorem dX3_type_21 : decode cX3_type 21 = .ok (.ireturn, 1) := dk_172 (dk_at dksX3_type_0 21 rfl rfl)
theorem dX3_type_22 : decode cX3_type 22 = .ok (.aload_n 0, 1) := dk_42 (dk_at dksX3_type_0 22 rfl rfl)
theorem dX3_type_23 : decode cX3_type 23 = .ok (.getfield 216, 3) := dk_180 0 216 (dk_at dksX3_type_1 0 rfl rfl)
theorem dX3_type_26 : decode cX3_type 26 = .ok (.bipush 60, 2) := dk_16 60 (dk_at dksX3_type_1 3 rfl rfl)
theorem dX3_type_28 : decode cX3_type 28 = .ok (.if_icmp .ne 9, 3) := dk_160 0 9 (dk_at dksX3_type_1 5 rfl rfl)
theorem dX3_type_31 : decode cX3_type 31 = .ok (.aload_n 0, 1) := dk_42 (dk_at dksX3_type_1 8 rfl rfl)
theorem dX3_type_32 : decode cX3_type 32 = .ok (.iconst 2, 1) := dk_5 (dk_at dksX3_type_1 9 rfl rfl)
theorem dX3_type_33 : decode cX3_type 33 = .ok (.invokevirtual 55, 3) := dk_182 0 55 (dk_at dksX3_type_1 10 rfl rfl)
theorem dX3_type_36 : decode cX3_type 36 = .ok (.ireturn, 1) := dk_172 (dk_at dksX3_type_1 13 rfl rfl)
theorem dX3_type_37 : decode cX3_type 37 = .ok (.aload_n 0, 1) := dk_42 (dk_at dksX3_type_1 14 rfl rfl)
theorem dX3_type_38 : decode cX3_type 38 = .ok (.getfield 30, 3) := dk_180 0 30 (dk_at dksX3_type_1 15 rfl rfl)
theorem dX3_type_41 : decode cX3_type 41 = .ok (.aload_n 0, 1) := dk_42 (dk_at dksX3_type_1 18 rfl rfl)
theorem dX3_type_42 : decode cX3_type 42 = .ok (.dup, 1) := dk_89 (dk_at dksX3_type_1 19 rfl rfl)
theorem dX3_type_43 : decode cX3_type 43 = .ok (.getfield 216, 3) := dk_180 0 216 (dk_at dksX3_type_1 20 rfl rfl)
theorem dX3_type_46 : decode cX3_type 46 = .ok (.dup_x1, 1) := dk_90 (dk_at dksX3_type_1 23 rfl rfl)
theorem dX3_type_47 : decode cX3_type 47 = .ok (.iconst 1, 1) := dk_4 (dk_at dksX3_type_2 0 rfl rfl)
theorem dX3_type_48 : decode cX3_type 48 = .ok (.iadd, 1) := dk_96 (dk_at dksX3_type_2 1 rfl rfl)
theorem dX3_type_49 : decode cX3_type 49 = .ok (.putfield 216, 3) := dk_181 0 216 (dk_at dksX3_type_2 2 rfl rfl)
theorem dX3_type_52 : decode cX3_type 52 = .ok (.iload_n 1, 1) := dk_27 (dk_at dksX3_type_2 5 rfl rfl)
theorem dX3_type_53 : decode cX3_type 53 = .ok (.castore, 1) := dk_85 (dk_at dksX3_type_2 6 rfl rfl)
theorem dX3_type_54 : decode cX3_type 54 = .ok (.aload_n 0, 1) := dk_42 (dk_at dksX3_type_2 7 rfl rfl)
theorem dX3_type_55 : decode cX3_type 55 = .ok (.getfield 216, 3) := dk_180 0 216 (dk_at dksX3_type_2 8 rfl rfl)
theorem dX3_type_58 : decode cX3_type 58 = .ok (.ireturn, 1) := dk_172 (dk_at dksX3_type_2 11 rfl rfl)
abbrev cX3_runScript : ByteArray := prog_18_method_90_code
def yX3_runScript : MethodName := ⟨RX3, "runScript", "()I"⟩
def dkwX3_runScript_7 : List UInt8 := [5, 182, 0, 55, 172]
abbrev dktX3_runScript_7 : List UInt8 := dkwX3_runScript_7 ++ []
def dkwX3_runScript_6 : List UInt8 := [29, 154, 0, 13, 42, 42, 28, 182, 0, 70, 182, 0, 79, 172, 42, 28, 181, 0, 46, 42, 182, 0, 177, 42]
abbrev dktX3_runScript_6 : List UInt8 := dkwX3_runScript_6 ++ dktX3_runScript_7
def dkwX3_runScript_5 : List UInt8 := [42, 16, 59, 182, 0, 240, 153, 0, 7, 4, 167, 0, 4, 3, 54, 4, 167, 255, 214, 42, 3, 181, 0, 216]
abbrev dktX3_runScript_5 : List UInt8 := dkwX3_runScript_5 ++ dktX3_runScript_6
def dkwX3_runScript_4 : List UInt8 := [153, 0, 43, 42, 182, 1, 24, 60, 42, 182, 1, 27, 62, 29, 154, 0, 6, 132, 2, 1, 29, 154, 0, 16]
abbrev dktX3_runScript_4 : List UInt8 := dkwX3_runScript_4 ++ dktX3_runScript_5
def dkwX3_runScript_3 : List UInt8 := [181, 0, 216, 42, 4, 182, 0, 55, 172, 42, 3, 181, 0, 219, 3, 61, 3, 62, 4, 54, 4, 21, 4]
abbrev dktX3_runScript_3 : List UInt8 := dkwX3_runScript_3 ++ dktX3_runScript_4
def dkwX3_runScript_2 : List UInt8 := [167, 0, 4, 3, 60, 167, 255, 219, 27, 154, 0, 22, 42, 42, 180, 0, 219, 181, 0, 42, 42, 3]
abbrev dktX3_runScript_2 : List UInt8 := dkwX3_runScript_2 ++ dktX3_runScript_3
def dkwX3_runScript_1 : List UInt8 := [180, 0, 216, 162, 0, 28, 42, 16, 59, 182, 0, 240, 153, 0, 14, 42, 182, 1, 24, 153, 0, 7, 4]
abbrev dktX3_runScript_1 : List UInt8 := dkwX3_runScript_1 ++ dktX3_runScript_2
def dkwX3_runScript_0 : List UInt8 := [42, 182, 0, 73, 42, 3, 181, 0, 219, 42, 182, 1, 24, 60, 27, 153, 0, 39, 42, 180, 0, 219, 42]
abbrev dktX3_runScript_0 : List UInt8 := dkwX3_runScript_0 ++ dktX3_runScript_1
theorem dksX3_runScript_0 : cX3_runScript.data.toList.drop 0 = dktX3_runScript_0 := by decide +kernel
theorem dksX3_runScript_1 : cX3_runScript.data.toList.drop 23 = dktX3_runScript_1 := dk_seg dksX3_runScript_0 23 rfl rfl
theorem dksX3_runScript_2 : cX3_runScript.data.toList.drop 46 = dktX3_runScript_2 := dk_seg dksX3_runScript_1 23 rfl rfl
theorem dksX3_runScript_3 : cX3_runScript.data.toList.drop 68 = dktX3_runScript_3 := dk_seg dksX3_runScript_2 22 rfl rfl
theorem dksX3_runScript_4 : cX3_runScript.data.toList.drop 91 = dktX3_runScript_4 := dk_seg dksX3_runScript_3 23 rfl rfl
theorem dksX3_runScript_5 : cX3_runScript.data.toList.drop 115 = dktX3_runScript_5 := dk_seg dksX3_runScript_4 24 rfl rfl
theorem dksX3_runScript_6 : cX3_runScript.data.toList.drop 139 = dktX3_runScript_6 := dk_seg dksX3_runScript_5 24 rfl rfl
theorem dksX3_runScript_7 : cX3_runScript.data.toList.drop 163 = dktX3_runScript_7 := dk_seg dksX3_runScript_6 24 rfl rfl
theorem dX3_runScript_0 : decode cX3_runScript 0 = .ok (.aload_n 0, 1) := dk_42 (dk_at dksX3_runScript_0 0 rfl rfl)
theorem dX3_runScript_1 : decode cX3_runScript 1 = .ok (.invokevirtual 73, 3) := dk_182 0 73 (dk_at dksX3_runScript_0 1 rfl rfl)
theorem dX3_runScript_4 : decode cX3_runScript 4 = .ok (.aload_n 0, 1) := dk_42 (dk_at dksX3_runScript_0 4 rfl rfl)
theorem dX3_runScript_5 : decode cX3_runScript 5 = .ok (.iconst 0, 1) := dk_3 (dk_at dksX3_runScript_0 5 rfl rfl)
theorem dX3_runScript_6 : decode cX3_runScript 6 = .ok (.putfield 219, 3) := dk_181 0 219 (dk_at dksX3_runScript_0 6 rfl rfl)
theorem dX3_runScript_9 : decode cX3_runScript 9 = .ok (.aload_n 0, 1) := dk_42 (dk_at dksX3_runScript_0 9 rfl rfl)
theorem dX3_runScript_10 : decode cX3_runScript 10 = .ok (.invokevirtual 280, 3) := dk_182 1 24 (dk_at dksX3_runScript_0 10 rfl rfl)
theorem dX3_runScript_13 : decode cX3_runScript 13 = .ok (.istore_n 1, 1) := dk_60 (dk_at dksX3_runScript_0 13 rfl rfl)
theorem dX3_runScript_14 : decode cX3_runScript 14 = .ok (.iload_n 1, 1) := dk_27 (dk_at dksX3_runScript_0 14 rfl rfl)
theorem dX3_runScript_15 : decode cX3_runScript 15 = .ok (.ifCond .eq 39, 3) := dk_153 0 39 (dk_at dksX3_runScript_0 15 rfl rfl)
theorem dX3_runScript_18 : decode cX3_runScript 18 = .ok (.aload_n 0, 1) := dk_42 (dk_at dksX3_runScript_0 18 rfl rfl)
theorem dX3_runScript_19 : decode cX3_runScript 19 = .ok (.getfield 219, 3) := dk_180 0 219 (dk_at dksX3_runScript_0 19 rfl rfl)
theorem dX3_runScript_22 : decode cX3_runScript 22 = .ok (.aload_n 0, 1) := dk_42 (dk_at dksX3_runScript_0 22 rfl rfl)
theorem dX3_runScript_23 : decode cX3_runScript 23 = .ok (.getfield 216, 3) := dk_180 0 216 (dk_at dksX3_runScript_1 0 rfl rfl)
theorem dX3_runScript_26 : decode cX3_runScript 26 = .ok (.if_icmp .ge 28, 3) := dk_162 0 28 (dk_at dksX3_runScript_1 3 rfl rfl)
theorem dX3_runScript_29 : decode cX3_runScript 29 = .ok (.aload_n 0, 1) := dk_42 (dk_at dksX3_runScript_1 6 rfl rfl)
theorem dX3_runScript_30 : decode cX3_runScript 30 = .ok (.bipush 59, 2) := dk_16 59 (dk_at dksX3_runScript_1 7 rfl rfl)
theorem dX3_runScript_32 : decode cX3_runScript 32 = .ok (.invokevirtual 240, 3) := dk_182 0 240 (dk_at dksX3_runScript_1 9 rfl rfl)
theorem dX3_runScript_35 : decode cX3_runScript 35 = .ok (.ifCond .eq 14, 3) := dk_153 0 14 (dk_at dksX3_runScript_1 12 rfl rfl)
theorem dX3_runScript_38 : decode cX3_runScript 38 = .ok (.aload_n 0, 1) := dk_42 (dk_at dksX3_runScript_1 15 rfl rfl)
theorem dX3_runScript_39 : decode cX3_runScript 39 = .ok (.invokevirtual 280, 3) := dk_182 1 24 (dk_at dksX3_runScript_1 16 rfl rfl)
theorem dX3_runScript_42 : decode cX3_runScript 42 = .ok (.ifCond .eq 7, 3) := dk_153 0 7 (dk_at dksX3_runScript_1 19 rfl rfl)
theorem dX3_runScript_45 : decode cX3_runScript 45 = .ok (.iconst 1, 1) := dk_4 (dk_at dksX3_runScript_1 22 rfl rfl)
theorem dX3_runScript_46 : decode cX3_runScript 46 = .ok (.goto 4, 3) := dk_167 0 4 (dk_at dksX3_runScript_2 0 rfl rfl)
theorem dX3_runScript_49 : decode cX3_runScript 49 = .ok (.iconst 0, 1) := dk_3 (dk_at dksX3_runScript_2 3 rfl rfl)
theorem dX3_runScript_50 : decode cX3_runScript 50 = .ok (.istore_n 1, 1) := dk_60 (dk_at dksX3_runScript_2 4 rfl rfl)
theorem dX3_runScript_51 : decode cX3_runScript 51 = .ok (.goto (-37), 3) := dk_167 255 219 (dk_at dksX3_runScript_2 5 rfl rfl)
theorem dX3_runScript_54 : decode cX3_runScript 54 = .ok (.iload_n 1, 1) := dk_27 (dk_at dksX3_runScript_2 8 rfl rfl)
theorem dX3_runScript_55 : decode cX3_runScript 55 = .ok (.ifCond .ne 22, 3) := dk_154 0 22 (dk_at dksX3_runScript_2 9 rfl rfl)
theorem dX3_runScript_58 : decode cX3_runScript 58 = .ok (.aload_n 0, 1) := dk_42 (dk_at dksX3_runScript_2 12 rfl rfl)
theorem dX3_runScript_59 : decode cX3_runScript 59 = .ok (.aload_n 0, 1) := dk_42 (dk_at dksX3_runScript_2 13 rfl rfl)
theorem dX3_runScript_60 : decode cX3_runScript 60 = .ok (.getfield 219, 3) := dk_180 0 219 (dk_at dksX3_runScript_2 14 rfl rfl)
theorem dX3_runScript_63 : decode cX3_runScript 63 = .ok (.putfield 42, 3) := dk_181 0 42 (dk_at dksX3_runScript_2 17 rfl rfl)
theorem dX3_runScript_66 : decode cX3_runScript 66 = .ok (.aload_n 0, 1) := dk_42 (dk_at dksX3_runScript_2 20 rfl rfl)
theorem dX3_runScript_67 : decode cX3_runScript 67 = .ok (.iconst 0, 1) := dk_3 (dk_at dksX3_runScript_2 21 rfl rfl)
theorem dX3_runScript_68 : decode cX3_runScript 68 = .ok (.putfield 216, 3) := dk_181 0 216 (dk_at dksX3_runScript_3 0 rfl rfl)
theorem dX3_runScript_71 : decode cX3_runScript 71 = .ok (.aload_n 0, 1) := dk_42 (dk_at dksX3_runScript_3 3 rfl rfl)
theorem dX3_runScript_72 : decode cX3_runScript 72 = .ok (.iconst 1, 1) := dk_4 (dk_at dksX3_runScript_3 4 rfl rfl)
theorem dX3_runScript_73 : decode cX3_runScript 73 = .ok (.invokevirtual 55, 3) := dk_182 0 55 (dk_at dksX3_runScript_3 5 rfl rfl)
theorem dX3_runScript_76 : decode cX3_runScript 76 = .ok (.ireturn, 1) := dk_172 (dk_at dksX3_runScript_3 8 rfl rfl)
theorem dX3_runScript_77 : decode cX3_runScript 77 = .ok (.aload_n 0, 1) := dk_42 (dk_at dksX3_runScript_3 9 rfl rfl)
theorem dX3_runScript_78 : decode cX3_runScript 78 = .ok (.iconst 0, 1) := dk_3 (dk_at dksX3_runScript_3 10 rfl rfl)
theorem dX3_runScript_79 : decode cX3_runScript 79 = .ok (.putfield 219, 3) := dk_181 0 219 (dk_at dksX3_runScript_3 11 rfl rfl)
theorem dX3_runScript_82 : decode cX3_runScript 82 = .ok (.iconst 0, 1) := dk_3 (dk_at dksX3_runScript_3 14 rfl rfl)
theorem dX3_runScript_83 : decode cX3_runScript 83 = .ok (.istore_n 2, 1) := dk_61 (dk_at dksX3_runScript_3 15 rfl rfl)
theorem dX3_runScript_84 : decode cX3_runScript 84 = .ok (.iconst 0, 1) := dk_3 (dk_at dksX3_runScript_3 16 rfl rfl)
theorem dX3_runScript_85 : decode cX3_runScript 85 = .ok (.istore_n 3, 1) := dk_62 (dk_at dksX3_runScript_3 17 rfl rfl)
theorem dX3_runScript_86 : decode cX3_runScript 86 = .ok (.iconst 1, 1) := dk_4 (dk_at dksX3_runScript_3 18 rfl rfl)
theorem dX3_runScript_87 : decode cX3_runScript 87 = .ok (.istore 4, 2) := dk_54 4 (dk_at dksX3_runScript_3 19 rfl rfl)
theorem dX3_runScript_89 : decode cX3_runScript 89 = .ok (.iload 4, 2) := dk_21 4 (dk_at dksX3_runScript_3 21 rfl rfl)
theorem dX3_runScript_91 : decode cX3_runScript 91 = .ok (.ifCond .eq 43, 3) := dk_153 0 43 (dk_at dksX3_runScript_4 0 rfl rfl)
theorem dX3_runScript_94 : decode cX3_runScript 94 = .ok (.aload_n 0, 1) := dk_42 (dk_at dksX3_runScript_4 3 rfl rfl)
theorem dX3_runScript_95 : decode cX3_runScript 95 = .ok (.invokevirtual 280, 3) := dk_182 1 24 (dk_at dksX3_runScript_4 4 rfl rfl)
theorem dX3_runScript_98 : decode cX3_runScript 98 = .ok (.istore_n 1, 1) := dk_60 (dk_at dksX3_runScript_4 7 rfl rfl)
theorem dX3_runScript_99 : decode cX3_runScript 99 = .ok (.aload_n 0, 1) := dk_42 (dk_at dksX3_runScript_4 8 rfl rfl)
theorem dX3_runScript_100 : decode cX3_runScript 100 = .ok (.invokevirtual 283, 3) := dk_182 1 27 (dk_at dksX3_runScript_4 9 rfl rfl)
theorem dX3_runScript_103 : decode cX3_runScript 103 = .ok (.istore_n 3, 1) := dk_62 (dk_at dksX3_runScript_4 12 rfl rfl)
theorem dX3_runScript_104 : decode cX3_runScript 104 = .ok (.iload_n 3, 1) := dk_29 (dk_at dksX3_runScript_4 13 rfl rfl)
theorem dX3_runScript_105 : decode cX3_runScript 105 = .ok (.ifCond .ne 6, 3) := dk_154 0 6 (dk_at dksX3_runScript_4 14 rfl rfl)
theorem dX3_runScript_108 : decode cX3_runScript 108 = .ok (.iinc 2 1, 3) := dk_132 2 1 (dk_at dksX3_runScript_4 17 rfl rfl)
theorem dX3_runScript_111 : decode cX3_runScript 111 = .ok (.iload_n 3, 1) := dk_29 (dk_at dksX3_runScript_4 20 rfl rfl)
theorem dX3_runScript_112 : decode cX3_runScript 112 = .ok (.ifCond .ne 16, 3) := dk_154 0 16 (dk_at dksX3_runScript_4 21 rfl rfl)
theorem dX3_runScript_115 : decode cX3_runScript 115 = .ok (.aload_n 0, 1) := dk_42 (dk_at dksX3_runScript_5 0 rfl rfl)
theorem dX3_runScript_116 : decode cX3_runScript 116 = .ok (.bipush 59, 2) := dk_16 59 (dk_at dksX3_runScript_5 1 rfl rfl)
theorem dX3_runScript_118 : decode cX3_runScript 118 = .ok (.invokevirtual 240, 3) := dk_182 0 240 (dk_at dksX3_runScript_5 3 rfl rfl)
theorem dX3_runScript_121 : decode cX3_runScript 121 = .ok (.ifCond .eq 7, 3) := dk_153 0 7 (dk_at dksX3_runScript_5 6 rfl rfl)
theorem dX3_runScript_124 : decode cX3_runScript 124 = .ok (.iconst 1, 1) := dk_4 (dk_at dksX3_runScript_5 9 rfl rfl)
theorem dX3_runScript_125 : decode cX3_runScript 125 = .ok (.goto 4, 3) := dk_167 0 4 (dk_at dksX3_runScript_5 10 rfl rfl)
theorem dX3_runScript_128 : decode cX3_runScript 128 = .ok (.iconst 0, 1) := dk_3 (dk_at dksX3_runScript_5 13 rfl rfl)
theorem dX3_runScript_129 : decode cX3_runScript 129 = .ok (.istore 4, 2) := dk_54 4 (dk_at dksX3_runScript_5 14 rfl rfl)
theorem dX3_runScript_131 : decode cX3_runScript 131 = .ok (.goto (-42), 3) := dk_167 255 214 (dk_at dksX3_runScript_5 16 rfl rfl)
theorem dX3_runScript_134 : decode cX3_runScript 134 = .ok (.aload_n 0, 1) := dk_42 (dk_at dksX3_runScript_5 19 rfl rfl)
theorem dX3_runScript_135 : decode cX3_runScript 135 = .ok (.iconst 0, 1) := dk_3 (dk_at dksX3_runScript_5 20 rfl rfl)
theorem dX3_runScript_136 : decode cX3_runScript 136 = .ok (.putfield 216, 3) := dk_181 0 216 (dk_at dksX3_runScript_5 21 rfl rfl)
theorem dX3_runScript_139 : decode cX3_runScript 139 = .ok (.iload_n 3, 1) := dk_29 (dk_at dksX3_runScript_6 0 rfl rfl)
theorem dX3_runScript_140 : decode cX3_runScript 140 = .ok (.ifCond .ne 13, 3) := dk_154 0 13 (dk_at dksX3_runScript_6 1 rfl rfl)
theorem dX3_runScript_143 : decode cX3_runScript 143 = .ok (.aload_n 0, 1) := dk_42 (dk_at dksX3_runScript_6 4 rfl rfl)
theorem dX3_runScript_144 : decode cX3_runScript 144 = .ok (.aload_n 0, 1) := dk_42 (dk_at dksX3_runScript_6 5 rfl rfl)
theorem dX3_runScript_145 : decode cX3_runScript 145 = .ok (.iload_n 2, 1) := dk_28 (dk_at dksX3_runScript_6 6 rfl rfl)
theorem dX3_runScript_146 : decode cX3_runScript 146 = .ok (.invokevirtual 70, 3) := dk_182 0 70 (dk_at dksX3_runScript_6 7 rfl rfl)
theorem dX3_runScript_149 : decode cX3_runScript 149 = .ok (.invokevirtual 79, 3) := dk_182 0 79 (dk_at dksX3_runScript_6 10 rfl rfl)
theorem dX3_runScript_152 : decode cX3_runScript 152 = .ok (.ireturn, 1) := dk_172 (dk_at dksX3_runScript_6 13 rfl rfl)
theorem dX3_runScript_153 : decode cX3_runScript 153 = .ok (.aload_n 0, 1) := dk_42 (dk_at dksX3_runScript_6 14 rfl rfl)
theorem dX3_runScript_154 : decode cX3_runScript 154 = .ok (.iload_n 2, 1) := dk_28 (dk_at dksX3_runScript_6 15 rfl rfl)
theorem dX3_runScript_155 : decode cX3_runScript 155 = .ok (.putfield 46, 3) := dk_181 0 46 (dk_at dksX3_runScript_6 16 rfl rfl)
theorem dX3_runScript_158 : decode cX3_runScript 158 = .ok (.aload_n 0, 1) := dk_42 (dk_at dksX3_runScript_6 19 rfl rfl)
theorem dX3_runScript_159 : decode cX3_runScript 159 = .ok (.invokevirtual 177, 3) := dk_182 0 177 (dk_at dksX3_runScript_6 20 rfl rfl)
theorem dX3_runScript_162 : decode cX3_runScript 162 = .ok (.aload_n 0, 1) := dk_42 (dk_at dksX3_runScript_6 23 rfl rfl)
theorem dX3_runScript_163 : decode cX3_runScript 163 = .ok (.iconst 2, 1) := dk_5 (dk_at dksX3_runScript_7 0 rfl rfl)
theorem dX3_runScript_164 : decode cX3_runScript 164 = .ok (.invokevirtual 55, 3) := dk_182 0 55 (dk_at dksX3_runScript_7 1 rfl rfl)
theorem dX3_runScript_167 : decode cX3_runScript 167 = .ok (.ireturn, 1) := dk_172 (dk_at dksX3_runScript_7 4 rfl rfl)
abbrev cX3_isCommand : ByteArray := prog_18_method_88_code
def yX3_isCommand : MethodName := ⟨RX3, "isCommand", "()Z"⟩
def dkwX3_isCommand_14 : List UInt8 := [42, 4, 4, 182, 1, 13, 153, 0, 7, 4, 167, 0, 4, 3, 172]
abbrev dktX3_isCommand_14 : List UInt8 := dkwX3_isCommand_14 ++ []
def dkwX3_isCommand_13 : List UInt8 := [4, 167, 0, 4, 3, 172, 42, 3, 6, 182, 1, 13, 153, 0, 25, 42, 16, 32, 182, 0, 240, 153, 0, 16]
abbrev dktX3_isCommand_13 : List UInt8 := dkwX3_isCommand_13 ++ dktX3_isCommand_14
def dkwX3_isCommand_12 : List UInt8 := [180, 0, 39, 3, 4, 79, 42, 16, 32, 182, 0, 240, 153, 0, 12, 42, 3, 6, 182, 1, 13, 153, 0, 7]
abbrev dktX3_isCommand_12 : List UInt8 := dkwX3_isCommand_12 ++ dktX3_isCommand_13
def dkwX3_isCommand_11 : List UInt8 := [182, 0, 240, 153, 0, 16, 42, 4, 6, 182, 1, 13, 153, 0, 7, 4, 167, 0, 4, 3, 172, 42]
abbrev dktX3_isCommand_11 : List UInt8 := dkwX3_isCommand_11 ++ dktX3_isCommand_12
def dkwX3_isCommand_10 : List UInt8 := [182, 1, 16, 153, 0, 7, 4, 167, 0, 4, 3, 172, 42, 3, 4, 182, 1, 13, 153, 0, 25, 42, 16, 32]
abbrev dktX3_isCommand_10 : List UInt8 := dkwX3_isCommand_10 ++ dktX3_isCommand_11
def dkwX3_isCommand_9 : List UInt8 := [153, 0, 32, 42, 16, 32, 182, 0, 240, 153, 0, 23, 42, 4, 6, 182, 1, 13, 153, 0, 14, 42]
abbrev dktX3_isCommand_9 : List UInt8 := dkwX3_isCommand_9 ++ dktX3_isCommand_10
def dkwX3_isCommand_8 : List UInt8 := [153, 0, 14, 42, 182, 1, 16, 153, 0, 7, 4, 167, 0, 4, 3, 172, 42, 3, 4, 182, 1, 13]
abbrev dktX3_isCommand_8 : List UInt8 := dkwX3_isCommand_8 ++ dktX3_isCommand_9
def dkwX3_isCommand_7 : List UInt8 := [42, 3, 6, 182, 1, 13, 172, 42, 3, 4, 182, 1, 13, 153, 0, 23, 42, 4, 4, 182, 1, 13]
abbrev dktX3_isCommand_7 : List UInt8 := dkwX3_isCommand_7 ++ dktX3_isCommand_8
def dkwX3_isCommand_6 : List UInt8 := [170, 0, 0, 0, 179, 0, 0, 0, 0, 0, 0, 0, 5, 0, 0, 0, 37, 0, 0, 0, 37, 0, 0, 0, 44, 0, 0, 0, 75, 0, 0, 0, 115, 0, 0, 0, 148]
abbrev dktX3_isCommand_6 : List UInt8 := dkwX3_isCommand_6 ++ dktX3_isCommand_7
def dkwX3_isCommand_5 : List UInt8 := [167, 0, 15, 43, 19, 1, 11, 182, 0, 255, 153, 0, 5, 8, 61, 28]
abbrev dktX3_isCommand_5 : List UInt8 := dkwX3_isCommand_5 ++ dktX3_isCommand_6
def dkwX3_isCommand_4 : List UInt8 := [182, 0, 255, 153, 0, 35, 6, 61, 167, 0, 30, 43, 19, 1, 9, 182, 0, 255, 153, 0, 20, 7, 61]
abbrev dktX3_isCommand_4 : List UInt8 := dkwX3_isCommand_4 ++ dktX3_isCommand_5
def dkwX3_isCommand_3 : List UInt8 := [4, 61, 167, 0, 60, 43, 19, 1, 5, 182, 0, 255, 153, 0, 50, 5, 61, 167, 0, 45, 43, 19, 1, 7]
abbrev dktX3_isCommand_3 : List UInt8 := dkwX3_isCommand_3 ++ dktX3_isCommand_4
def dkwX3_isCommand_2 : List UInt8 := [43, 18, 253, 182, 0, 255, 153, 0, 80, 3, 61, 167, 0, 75, 43, 19, 1, 3, 182, 0, 255, 153, 0, 65]
abbrev dktX3_isCommand_2 : List UInt8 := dkwX3_isCommand_2 ++ dktX3_isCommand_3
def dkwX3_isCommand_1 : List UInt8 := [171, 0, 0, 0, 0, 144, 0, 0, 0, 6, 175, 17, 18, 247, 0, 0, 0, 72, 0, 55, 145, 117, 0, 0, 0, 132, 5, 182, 123, 92, 0, 0, 0, 117, 6, 91, 180, 50, 0, 0, 0, 87, 6, 94, 130, 196, 0, 0, 0, 102, 6, 144, 104, 118, 0, 0, 0, 58]
abbrev dktX3_isCommand_1 : List UInt8 := dkwX3_isCommand_1 ++ dktX3_isCommand_2
def dkwX3_isCommand_0 : List UInt8 := [42, 18, 244, 182, 0, 246, 154, 0, 5, 3, 172, 42, 180, 0, 35, 76, 2, 61, 43, 182, 0, 250]
abbrev dktX3_isCommand_0 : List UInt8 := dkwX3_isCommand_0 ++ dktX3_isCommand_1
theorem dksX3_isCommand_0 : cX3_isCommand.data.toList.drop 0 = dktX3_isCommand_0 := by decide +kernel
theorem dksX3_isCommand_1 : cX3_isCommand.data.toList.drop 22 = dktX3_isCommand_1 := dk_seg dksX3_isCommand_0 22 rfl rfl
theorem dksX3_isCommand_2 : cX3_isCommand.data.toList.drop 80 = dktX3_isCommand_2 := dk_seg dksX3_isCommand_1 58 rfl rfl
theorem dksX3_isCommand_3 : cX3_isCommand.data.toList.drop 104 = dktX3_isCommand_3 := dk_seg dksX3_isCommand_2 24 rfl rfl
theorem dksX3_isCommand_4 : cX3_isCommand.data.toList.drop 128 = dktX3_isCommand_4 := dk_seg dksX3_isCommand_3 24 rfl rfl
theorem dksX3_isCommand_5 : cX3_isCommand.data.toList.drop 151 = dktX3_isCommand_5 := dk_seg dksX3_isCommand_4 23 rfl rfl
theorem dksX3_isCommand_6 : cX3_isCommand.data.toList.drop 167 = dktX3_isCommand_6 := dk_seg dksX3_isCommand_5 16 rfl rfl
theorem dksX3_isCommand_7 : cX3_isCommand.data.toList.drop 204 = dktX3_isCommand_7 := dk_seg dksX3_isCommand_6 37 rfl rfl
theorem dksX3_isCommand_8 : cX3_isCommand.data.toList.drop 226 = dktX3_isCommand_8 := dk_seg dksX3_isCommand_7 22 rfl rfl
theorem dksX3_isCommand_9 : cX3_isCommand.data.toList.drop 248 = dktX3_isCommand_9 := dk_seg dksX3_isCommand_8 22 rfl rfl
theorem dksX3_isCommand_10 : cX3_isCommand.data.toList.drop 270 = dktX3_isCommand_10 := dk_seg dksX3_isCommand_9 22 rfl rfl
theorem dksX3_isCommand_11 : cX3_isCommand.data.toList.drop 294 = dktX3_isCommand_11 := dk_seg dksX3_isCommand_10 24 rfl rfl
theorem dksX3_isCommand_12 : cX3_isCommand.data.toList.drop 316 = dktX3_isCommand_12 := dk_seg dksX3_isCommand_11 22 rfl rfl
theorem dksX3_isCommand_13 : cX3_isCommand.data.toList.drop 340 = dktX3_isCommand_13 := dk_seg dksX3_isCommand_12 24 rfl rfl
theorem dksX3_isCommand_14 : cX3_isCommand.data.toList.drop 364 = dktX3_isCommand_14 := dk_seg dksX3_isCommand_13 24 rfl rfl
theorem dX3_isCommand_0 : decode cX3_isCommand 0 = .ok (.aload_n 0, 1) := dk_42 (dk_at dksX3_isCommand_0 0 rfl rfl)
theorem dX3_isCommand_1 : decode cX3_isCommand 1 = .ok (.ldc 244, 2) := dk_18 244 (dk_at dksX3_isCommand_0 1 rfl rfl)
theorem dX3_isCommand_3 : decode cX3_isCommand 3 = .ok (.invokevirtual 246, 3) := dk_182 0 246 (dk_at dksX3_isCommand_0 3 rfl rfl)
theorem dX3_isCommand_6 : decode cX3_isCommand 6 = .ok (.ifCond .ne 5, 3) := dk_154 0 5 (dk_at dksX3_isCommand_0 6 rfl rfl)
theorem dX3_isCommand_9 : decode cX3_isCommand 9 = .ok (.iconst 0, 1) := dk_3 (dk_at dksX3_isCommand_0 9 rfl rfl)
theorem dX3_isCommand_10 : decode cX3_isCommand 10 = .ok (.ireturn, 1) := dk_172 (dk_at dksX3_isCommand_0 10 rfl rfl)
theorem dX3_isCommand_11 : decode cX3_isCommand 11 = .ok (.aload_n 0, 1) := dk_42 (dk_at dksX3_isCommand_0 11 rfl rfl)
theorem dX3_isCommand_12 : decode cX3_isCommand 12 = .ok (.getfield 35, 3) := dk_180 0 35 (dk_at dksX3_isCommand_0 12 rfl rfl)
theorem dX3_isCommand_15 : decode cX3_isCommand 15 = .ok (.astore_n 1, 1) := dk_76 (dk_at dksX3_isCommand_0 15 rfl rfl)
theorem dX3_isCommand_16 : decode cX3_isCommand 16 = .ok (.iconst (-1), 1) := dk_2 (dk_at dksX3_isCommand_0 16 rfl rfl)
theorem dX3_isCommand_17 : decode cX3_isCommand 17 = .ok (.istore_n 2, 1) := dk_61 (dk_at dksX3_isCommand_0 17 rfl rfl)
theorem dX3_isCommand_18 : decode cX3_isCommand 18 = .ok (.aload_n 1, 1) := dk_43 (dk_at dksX3_isCommand_0 18 rfl rfl)
theorem dX3_isCommand_19 : decode cX3_isCommand 19 = .ok (.invokevirtual 250, 3) := dk_182 0 250 (dk_at dksX3_isCommand_0 19 rfl rfl)
theorem dX3_isCommand_22 : decode cX3_isCommand 22 = .ok (.lookupswitch 144 #[(-1357835529, 72), (3641717, 132), (95845212, 117), (106673202, 87), (106857156, 102), (110127222, 58)], 58) := by decide +kernel
theorem dX3_isCommand_80 : decode cX3_isCommand 80 = .ok (.aload_n 1, 1) := dk_43 (dk_at dksX3_isCommand_2 0 rfl rfl)
theorem dX3_isCommand_81 : decode cX3_isCommand 81 = .ok (.ldc 253, 2) := dk_18 253 (dk_at dksX3_isCommand_2 1 rfl rfl)
theorem dX3_isCommand_83 : decode cX3_isCommand 83 = .ok (.invokevirtual 255, 3) := dk_182 0 255 (dk_at dksX3_isCommand_2 3 rfl rfl)
theorem dX3_isCommand_86 : decode cX3_isCommand 86 = .ok (.ifCond .eq 80, 3) := dk_153 0 80 (dk_at dksX3_isCommand_2 6 rfl rfl)
theorem dX3_isCommand_89 : decode cX3_isCommand 89 = .ok (.iconst 0, 1) := dk_3 (dk_at dksX3_isCommand_2 9 rfl rfl)
theorem dX3_isCommand_90 : decode cX3_isCommand 90 = .ok (.istore_n 2, 1) := dk_61 (dk_at dksX3_isCommand_2 10 rfl rfl)
theorem dX3_isCommand_91 : decode cX3_isCommand 91 = .ok (.goto 75, 3) := dk_167 0 75 (dk_at dksX3_isCommand_2 11 rfl rfl)
theorem dX3_isCommand_94 : decode cX3_isCommand 94 = .ok (.aload_n 1, 1) := dk_43 (dk_at dksX3_isCommand_2 14 rfl rfl)
theorem dX3_isCommand_95 : decode cX3_isCommand 95 = .ok (.ldc_w 259, 3) := dk_19 1 3 (dk_at dksX3_isCommand_2 15 rfl rfl)
theorem dX3_isCommand_98 : decode cX3_isCommand 98 = .ok (.invokevirtual 255, 3) := dk_182 0 255 (dk_at dksX3_isCommand_2 18 rfl rfl)
theorem dX3_isCommand_101 : decode cX3_isCommand 101 = .ok (.ifCond .eq 65, 3) := dk_153 0 65 (dk_at dksX3_isCommand_2 21 rfl rfl)
theorem dX3_isCommand_104 : decode cX3_isCommand 104 = .ok (.iconst 1, 1) := dk_4 (dk_at dksX3_isCommand_3 0 rfl rfl)
theorem dX3_isCommand_105 : decode cX3_isCommand 105 = .ok (.istore_n 2, 1) := dk_61 (dk_at dksX3_isCommand_3 1 rfl rfl)
theorem dX3_isCommand_106 : decode cX3_isCommand 106 = .ok (.goto 60, 3) := dk_167 0 60 (dk_at dksX3_isCommand_3 2 rfl rfl)
theorem dX3_isCommand_109 : decode cX3_isCommand 109 = .ok (.aload_n 1, 1) := dk_43 (dk_at dksX3_isCommand_3 5 rfl rfl)
theorem dX3_isCommand_110 : decode cX3_isCommand 110 = .ok (.ldc_w 261, 3) := dk_19 1 5 (dk_at dksX3_isCommand_3 6 rfl rfl)
theorem dX3_isCommand_113 : decode cX3_isCommand 113 = .ok (.invokevirtual 255, 3) := dk_182 0 255 (dk_at dksX3_isCommand_3 9 rfl rfl)
theorem dX3_isCommand_116 : decode cX3_isCommand 116 = .ok (.ifCond .eq 50, 3) := dk_153 0 50 (dk_at dksX3_isCommand_3 12 rfl rfl)
theorem dX3_isCommand_119 : decode cX3_isCommand 119 = .ok (.iconst 2, 1) := dk_5 (dk_at dksX3_isCommand_3 15 rfl rfl)
theorem dX3_isCommand_120 : decode cX3_isCommand 120 = .ok (.istore_n 2, 1) := dk_61 (dk_at dksX3_isCommand_3 16 rfl rfl)
theorem dX3_isCommand_121 : decode cX3_isCommand 121 = .ok (.goto 45, 3) := dk_167 0 45 (dk_at dksX3_isCommand_3 17 rfl rfl)
theorem dX3_isCommand_124 : decode cX3_isCommand 124 = .ok (.aload_n 1, 1) := dk_43 (dk_at dksX3_isCommand_3 20 rfl rfl)
theorem dX3_isCommand_125 : decode cX3_isCommand 125 = .ok (.ldc_w 263, 3) := dk_19 1 7 (dk_at dksX3_isCommand_3 21 rfl rfl)
theorem dX3_isCommand_128 : decode cX3_isCommand 128 = .ok (.invokevirtual 255, 3) := dk_182 0 255 (dk_at dksX3_isCommand_4 0 rfl rfl)
theorem dX3_isCommand_131 : decode cX3_isCommand 131 = .ok (.ifCond .eq 35, 3) := dk_153 0 35 (dk_at dksX3_isCommand_4 3 rfl rfl)
theorem dX3_isCommand_134 : decode cX3_isCommand 134 = .ok (.iconst 3, 1) := dk_6 (dk_at dksX3_isCommand_4 6 rfl rfl)
theorem dX3_isCommand_135 : decode cX3_isCommand 135 = .ok (.istore_n 2, 1) := dk_61 (dk_at dksX3_isCommand_4 7 rfl rfl)
theorem dX3_isCommand_136 : decode cX3_isCommand 136 = .ok (.goto 30, 3) := dk_167 0 30 (dk_at dksX3_isCommand_4 8 rfl rfl)
theorem dX3_isCommand_139 : decode cX3_isCommand 139 = .ok (.aload_n 1, 1) := dk_43 (dk_at dksX3_isCommand_4 11 rfl rfl)
theorem dX3_isCommand_140 : decode cX3_isCommand 140 = .ok (.ldc_w 265, 3) := dk_19 1 9 (dk_at dksX3_isCommand_4 12 rfl rfl)
theorem dX3_isCommand_143 : decode cX3_isCommand 143 = .ok (.invokevirtual 255, 3) := dk_182 0 255 (dk_at dksX3_isCommand_4 15 rfl rfl)
theorem dX3_isCommand_146 : decode cX3_isCommand 146 = .ok (.ifCond .eq 20, 3) := dk_153 0 20 (dk_at dksX3_isCommand_4 18 rfl rfl)
theorem dX3_isCommand_149 : decode cX3_isCommand 149 = .ok (.iconst 4, 1) := dk_7 (dk_at dksX3_isCommand_4 21 rfl rfl)
theorem dX3_isCommand_150 : decode cX3_isCommand 150 = .ok (.istore_n 2, 1) := dk_61 (dk_at dksX3_isCommand_4 22 rfl rfl)
theorem dX3_isCommand_151 : decode cX3_isCommand 151 = .ok (.goto 15, 3) := dk_167 0 15 (dk_at dksX3_isCommand_5 0 rfl rfl)
theorem dX3_isCommand_154 : decode cX3_isCommand 154 = .ok (.aload_n 1, 1) := dk_43 (dk_at dksX3_isCommand_5 3 rfl rfl)
theorem dX3_isCommand_155 : decode cX3_isCommand 155 = .ok (.ldc_w 267, 3) := dk_19 1 11 (dk_at dksX3_isCommand_5 4 rfl rfl)
theorem dX3_isCommand_158 : decode cX3_isCommand 158 = .ok (.invokevirtual 255, 3) := dk_182 0 255 (dk_at dksX3_isCommand_5 7 rfl rfl)
theorem dX3_isCommand_161 : decode cX3_isCommand 161 = .ok (.ifCond .eq 5, 3) := dk_153 0 5 (dk_at dksX3_isCommand_5 10 rfl rfl)
theorem dX3_isCommand_164 : decode cX3_isCommand 164 = .ok (.iconst 5, 1) := dk_8 (dk_at dksX3_isCommand_5 13 rfl rfl)
theorem dX3_isCommand_165 : decode cX3_isCommand 165 = .ok (.istore_n 2, 1) := dk_61 (dk_at dksX3_isCommand_5 14 rfl rfl)
theorem dX3_isCommand_166 : decode cX3_isCommand 166 = .ok (.iload_n 2, 1) := dk_28 (dk_at dksX3_isCommand_5 15 rfl rfl)
theorem dX3_isCommand_167 : decode cX3_isCommand 167 = .ok (.tableswitch 179 0 5 #[37, 37, 44, 75, 115, 148], 37) := by decide +kernel
theorem dX3_isCommand_204 : decode cX3_isCommand 204 = .ok (.aload_n 0, 1) := dk_42 (dk_at dksX3_isCommand_7 0 rfl rfl)
theorem dX3_isCommand_205 : decode cX3_isCommand 205 = .ok (.iconst 0, 1) := dk_3 (dk_at dksX3_isCommand_7 1 rfl rfl)
theorem dX3_isCommand_206 : decode cX3_isCommand 206 = .ok (.iconst 3, 1) := dk_6 (dk_at dksX3_isCommand_7 2 rfl rfl)
theorem dX3_isCommand_207 : decode cX3_isCommand 207 = .ok (.invokevirtual 269, 3) := dk_182 1 13 (dk_at dksX3_isCommand_7 3 rfl rfl)
theorem dX3_isCommand_210 : decode cX3_isCommand 210 = .ok (.ireturn, 1) := dk_172 (dk_at dksX3_isCommand_7 6 rfl rfl)
theorem dX3_isCommand_211 : decode cX3_isCommand 211 = .ok (.aload_n 0, 1) := dk_42 (dk_at dksX3_isCommand_7 7 rfl rfl)
theorem dX3_isCommand_212 : decode cX3_isCommand 212 = .ok (.iconst 0, 1) := dk_3 (dk_at dksX3_isCommand_7 8 rfl rfl)
theorem dX3_isCommand_213 : decode cX3_isCommand 213 = .ok (.iconst 1, 1) := dk_4 (dk_at dksX3_isCommand_7 9 rfl rfl)
theorem dX3_isCommand_214 : decode cX3_isCommand 214 = .ok (.invokevirtual 269, 3) := dk_182 1 13 (dk_at dksX3_isCommand_7 10 rfl rfl)
theorem dX3_isCommand_217 : decode cX3_isCommand 217 = .ok (.ifCond .eq 23, 3) := dk_153 0 23 (dk_at dksX3_isCommand_7 13 rfl rfl)
theorem dX3_isCommand_220 : decode cX3_isCommand 220 = .ok (.aload_n 0, 1) := dk_42 (dk_at dksX3_isCommand_7 16 rfl rfl)
theorem dX3_isCommand_221 : decode cX3_isCommand 221 = .ok (.iconst 1, 1) := dk_4 (dk_at dksX3_isCommand_7 17 rfl rfl)
theorem dX3_isCommand_222 : decode cX3_isCommand 222 = .ok (.iconst 1, 1) := dk_4 (dk_at dksX3_isCommand_7 18 rfl rfl)
theorem dX3_isCommand_223 : decode cX3_isCommand 223 = .ok (.invokevirtual 269, 3) := dk_182 1 13 (dk_at dksX3_isCommand_7 19 rfl rfl)
theorem dX3_isCommand_226 : decode cX3_isCommand 226 = .ok (.ifCond .eq 14, 3) := dk_153 0 14 (dk_at dksX3_isCommand_8 0 rfl rfl)
theorem dX3_isCommand_229 : decode cX3_isCommand 229 = .ok (.aload_n 0, 1) := dk_42 (dk_at dksX3_isCommand_8 3 rfl rfl)
theorem dX3_isCommand_230 : decode cX3_isCommand 230 = .ok (.invokevirtual 272, 3) := dk_182 1 16 (dk_at dksX3_isCommand_8 4 rfl rfl)
theorem dX3_isCommand_233 : decode cX3_isCommand 233 = .ok (.ifCond .eq 7, 3) := dk_153 0 7 (dk_at dksX3_isCommand_8 7 rfl rfl)
theorem dX3_isCommand_236 : decode cX3_isCommand 236 = .ok (.iconst 1, 1) := dk_4 (dk_at dksX3_isCommand_8 10 rfl rfl)
theorem dX3_isCommand_237 : decode cX3_isCommand 237 = .ok (.goto 4, 3) := dk_167 0 4 (dk_at dksX3_isCommand_8 11 rfl rfl)
theorem dX3_isCommand_240 : decode cX3_isCommand 240 = .ok (.iconst 0, 1) := dk_3 (dk_at dksX3_isCommand_8 14 rfl rfl)
theorem dX3_isCommand_241 : decode cX3_isCommand 241 = .ok (.ireturn, 1) := dk_172 (dk_at dksX3_isCommand_8 15 rfl rfl)
theorem dX3_isCommand_242 : decode cX3_isCommand 242 = .ok (.aload_n 0, 1) := dk_42 (dk_at dksX3_isCommand_8 16 rfl rfl)
theorem dX3_isCommand_243 : decode cX3_isCommand 243 = .ok (.iconst 0, 1) := dk_3 (dk_at dksX3_isCommand_8 17 rfl rfl)
theorem dX3_isCommand_244 : decode cX3_isCommand 244 = .ok (.iconst 1, 1) := dk_4 (dk_at dksX3_isCommand_8 18 rfl rfl)
theorem dX3_isCommand_245 : decode cX3_isCommand 245 = .ok (.invokevirtual 269, 3) := dk_182 1 13 (dk_at dksX3_isCommand_8 19 rfl rfl)
theorem dX3_isCommand_248 : decode cX3_isCommand 248 = .ok (.ifCond .eq 32, 3) := dk_153 0 32 (dk_at dksX3_isCommand_9 0 rfl rfl)
theorem dX3_isCommand_251 : decode cX3_isCommand 251 = .ok (.aload_n 0, 1) := dk_42 (dk_at dksX3_isCommand_9 3 rfl rfl)
theorem dX3_isCommand_252 : decode cX3_isCommand 252 = .ok (.bipush 32, 2) := dk_16 32 (dk_at dksX3_isCommand_9 4 rfl rfl)
theorem dX3_isCommand_254 : decode cX3_isCommand 254 = .ok (.invokevirtual 240, 3) := dk_182 0 240 (dk_at dksX3_isCommand_9 6 rfl rfl)
theorem dX3_isCommand_257 : decode cX3_isCommand 257 = .ok (.ifCond .eq 23, 3) := dk_153 0 23 (dk_at dksX3_isCommand_9 9 rfl rfl)
theorem dX3_isCommand_260 : decode cX3_isCommand 260 = .ok (.aload_n 0, 1) := dk_42 (dk_at dksX3_isCommand_9 12 rfl rfl)
theorem dX3_isCommand_261 : decode cX3_isCommand 261 = .ok (.iconst 1, 1) := dk_4 (dk_at dksX3_isCommand_9 13 rfl rfl)
theorem dX3_isCommand_262 : decode cX3_isCommand 262 = .ok (.iconst 3, 1) := dk_6 (dk_at dksX3_isCommand_9 14 rfl rfl)
theorem dX3_isCommand_263 : decode cX3_isCommand 263 = .ok (.invokevirtual 269, 3) := dk_182 1 13 (dk_at dksX3_isCommand_9 15 rfl rfl)
theorem dX3_isCommand_266 : decode cX3_isCommand 266 = .ok (.ifCond .eq 14, 3) := dk_153 0 14 (dk_at dksX3_isCommand_9 18 rfl rfl)
theorem dX3_isCommand_269 : decode cX3_isCommand 269 = .ok (.aload_n 0, 1) := dk_42 (dk_at dksX3_isCommand_9 21 rfl rfl)
theorem dX3_isCommand_270 : decode cX3_isCommand 270 = .ok (.invokevirtual 272, 3) := dk_182 1 16 (dk_at dksX3_isCommand_10 0 rfl rfl)
theorem dX3_isCommand_273 : decode cX3_isCommand 273 = .ok (.ifCond .eq 7, 3) := dk_153 0 7 (dk_at dksX3_isCommand_10 3 rfl rfl)
theorem dX3_isCommand_276 : decode cX3_isCommand 276 = .ok (.iconst 1, 1) := dk_4 (dk_at dksX3_isCommand_10 6 rfl rfl)
theorem dX3_isCommand_277 : decode cX3_isCommand 277 = .ok (.goto 4, 3) := dk_167 0 4 (dk_at dksX3_isCommand_10 7 rfl rfl)
theorem dX3_isCommand_280 : decode cX3_isCommand 280 = .ok (.iconst 0, 1) := dk_3 (dk_at dksX3_isCommand_10 10 rfl rfl)
theorem dX3_isCommand_281 : decode cX3_isCommand 281 = .ok (.ireturn, 1) := dk_172 (dk_at dksX3_isCommand_10 11 rfl rfl)
theorem dX3_isCommand_282 : decode cX3_isCommand 282 = .ok (.aload_n 0, 1) := dk_42 (dk_at dksX3_isCommand_10 12 rfl rfl)
theorem dX3_isCommand_283 : decode cX3_isCommand 283 = .ok (.iconst 0, 1) := dk_3 (dk_at dksX3_isCommand_10 13 rfl rfl)
theorem dX3_isCommand_284 : decode cX3_isCommand 284 = .ok (.iconst 1, 1) := dk_4 (dk_at dksX3_isCommand_10 14 rfl rfl)
theorem dX3_isCommand_285 : decode cX3_isCommand 285 = .ok (.invokevirtual 269, 3) := dk_182 1 13 (dk_at dksX3_isCommand_10 15 rfl rfl)
theorem dX3_isCommand_288 : decode cX3_isCommand 288 = .ok (.ifCond .eq 25, 3) := dk_153 0 25 (dk_at dksX3_isCommand_10 18 rfl rfl)
theorem dX3_isCommand_291 : decode cX3_isCommand 291 = .ok (.aload_n 0, 1) := dk_42 (dk_at dksX3_isCommand_10 21 rfl rfl)
theorem dX3_isCommand_292 : decode cX3_isCommand 292 = .ok (.bipush 32, 2) := dk_16 32 (dk_at dksX3_isCommand_10 22 rfl rfl)
theorem dX3_isCommand_294 : decode cX3_isCommand 294 = .ok (.invokevirtual 240, 3) := dk_182 0 240 (dk_at dksX3_isCommand_11 0 rfl rfl)
theorem dX3_isCommand_297 : decode cX3_isCommand 297 = .ok (.ifCond .eq 16, 3) := dk_153 0 16 (dk_at dksX3_isCommand_11 3 rfl rfl)
theorem dX3_isCommand_300 : decode cX3_isCommand 300 = .ok (.aload_n 0, 1) := dk_42 (dk_at dksX3_isCommand_11 6 rfl rfl)
theorem dX3_isCommand_301 : decode cX3_isCommand 301 = .ok (.iconst 1, 1) := dk_4 (dk_at dksX3_isCommand_11 7 rfl rfl)
theorem dX3_isCommand_302 : decode cX3_isCommand 302 = .ok (.iconst 3, 1) := dk_6 (dk_at dksX3_isCommand_11 8 rfl rfl)
theorem dX3_isCommand_303 : decode cX3_isCommand 303 = .ok (.invokevirtual 269, 3) := dk_182 1 13 (dk_at dksX3_isCommand_11 9 rfl rfl)
theorem dX3_isCommand_306 : decode cX3_isCommand 306 = .ok (.ifCond .eq 7, 3) := dk_153 0 7 (dk_at dksX3_isCommand_11 12 rfl rfl)
theorem dX3_isCommand_309 : decode cX3_isCommand 309 = .ok (.iconst 1, 1) := dk_4 (dk_at dksX3_isCommand_11 15 rfl rfl)
theorem dX3_isCommand_310 : decode cX3_isCommand 310 = .ok (.goto 4, 3) := dk_167 0 4 (dk_at dksX3_isCommand_11 16 rfl rfl)
theorem dX3_isCommand_313 : decode cX3_isCommand 313 = .ok (.iconst 0, 1) := dk_3 (dk_at dksX3_isCommand_11 19 rfl rfl)
theorem dX3_isCommand_314 : decode cX3_isCommand 314 = .ok (.ireturn, 1) := dk_172 (dk_at dksX3_isCommand_11 20 rfl rfl)
theorem dX3_isCommand_315 : decode cX3_isCommand 315 = .ok (.aload_n 0, 1) := dk_42 (dk_at dksX3_isCommand_11 21 rfl rfl)
theorem dX3_isCommand_316 : decode cX3_isCommand 316 = .ok (.getfield 39, 3) := dk_180 0 39 (dk_at dksX3_isCommand_12 0 rfl rfl)
theorem dX3_isCommand_319 : decode cX3_isCommand 319 = .ok (.iconst 0, 1) := dk_3 (dk_at dksX3_isCommand_12 3 rfl rfl)
theorem dX3_isCommand_320 : decode cX3_isCommand 320 = .ok (.iconst 1, 1) := dk_4 (dk_at dksX3_isCommand_12 4 rfl rfl)
theorem dX3_isCommand_321 : decode cX3_isCommand 321 = .ok (.iastore, 1) := dk_79 (dk_at dksX3_isCommand_12 5 rfl rfl)
theorem dX3_isCommand_322 : decode cX3_isCommand 322 = .ok (.aload_n 0, 1) := dk_42 (dk_at dksX3_isCommand_12 6 rfl rfl)
theorem dX3_isCommand_323 : decode cX3_isCommand 323 = .ok (.bipush 32, 2) := dk_16 32 (dk_at dksX3_isCommand_12 7 rfl rfl)
theorem dX3_isCommand_325 : decode cX3_isCommand 325 = .ok (.invokevirtual 240, 3) := dk_182 0 240 (dk_at dksX3_isCommand_12 9 rfl rfl)
theorem dX3_isCommand_328 : decode cX3_isCommand 328 = .ok (.ifCond .eq 12, 3) := dk_153 0 12 (dk_at dksX3_isCommand_12 12 rfl rfl)
theorem dX3_isCommand_331 : decode cX3_isCommand 331 = .ok (.aload_n 0, 1) := dk_42 (dk_at dksX3_isCommand_12 15 rfl rfl)
theorem dX3_isCommand_332 : decode cX3_isCommand 332 = .ok (.iconst 0, 1) := dk_3 (dk_at dksX3_isCommand_12 16 rfl rfl)
theorem dX3_isCommand_333 : decode cX3_isCommand 333 = .ok (.iconst 3, 1) := dk_6 (dk_at dksX3_isCommand_12 17 rfl rfl)
theorem dX3_isCommand_334 : decode cX3_isCommand 334 = .ok (.invokevirtual 269, 3) := dk_182 1 13 (dk_at dksX3_isCommand_12 18 rfl rfl)
theorem dX3_isCommand_337 : decode cX3_isCommand 337 = .ok (.ifCond .eq 7, 3) := dk_153 0 7 (dk_at dksX3_isCommand_12 21 rfl rfl)
theorem dX3_isCommand_340 : decode cX3_isCommand 340 = .ok (.iconst 1, 1) := dk_4 (dk_at dksX3_isCommand_13 0 rfl rfl)
theorem dX3_isCommand_341 : decode cX3_isCommand 341 = .ok (.goto 4, 3) := dk_167 0 4 (dk_at dksX3_isCommand_13 1 rfl rfl)
theorem dX3_isCommand_344 : decode cX3_isCommand 344 = .ok (.iconst 0, 1) := dk_3 (dk_at dksX3_isCommand_13 4 rfl rfl)
theorem dX3_isCommand_345 : decode cX3_isCommand 345 = .ok (.ireturn, 1) := dk_172 (dk_at dksX3_isCommand_13 5 rfl rfl)
theorem dX3_isCommand_346 : decode cX3_isCommand 346 = .ok (.aload_n 0, 1) := dk_42 (dk_at dksX3_isCommand_13 6 rfl rfl)
theorem dX3_isCommand_347 : decode cX3_isCommand 347 = .ok (.iconst 0, 1) := dk_3 (dk_at dksX3_isCommand_13 7 rfl rfl)
theorem dX3_isCommand_348 : decode cX3_isCommand 348 = .ok (.iconst 3, 1) := dk_6 (dk_at dksX3_isCommand_13 8 rfl rfl)
theorem dX3_isCommand_349 : decode cX3_isCommand 349 = .ok (.invokevirtual 269, 3) := dk_182 1 13 (dk_at dksX3_isCommand_13 9 rfl rfl)
theorem dX3_isCommand_352 : decode cX3_isCommand 352 = .ok (.ifCond .eq 25, 3) := dk_153 0 25 (dk_at dksX3_isCommand_13 12 rfl rfl)
theorem dX3_isCommand_355 : decode cX3_isCommand 355 = .ok (.aload_n 0, 1) := dk_42 (dk_at dksX3_isCommand_13 15 rfl rfl)
theorem dX3_isCommand_356 : decode cX3_isCommand 356 = .ok (.bipush 32, 2) := dk_16 32 (dk_at dksX3_isCommand_13 16 rfl rfl)
theorem dX3_isCommand_358 : decode cX3_isCommand 358 = .ok (.invokevirtual 240, 3) := dk_182 0 240 (dk_at dksX3_isCommand_13 18 rfl rfl)
theorem dX3_isCommand_361 : decode cX3_isCommand 361 = .ok (.ifCond .eq 16, 3) := dk_153 0 16 (dk_at dksX3_isCommand_13 21 rfl rfl)
theorem dX3_isCommand_364 : decode cX3_isCommand 364 = .ok (.aload_n 0, 1) := dk_42 (dk_at dksX3_isCommand_14 0 rfl rfl)
theorem dX3_isCommand_365 : decode cX3_isCommand 365 = .ok (.iconst 1, 1) := dk_4 (dk_at dksX3_isCommand_14 1 rfl rfl)
theorem dX3_isCommand_366 : decode cX3_isCommand 366 = .ok (.iconst 1, 1) := dk_4 (dk_at dksX3_isCommand_14 2 rfl rfl)
theorem dX3_isCommand_367 : decode cX3_isCommand 367 = .ok (.invokevirtual 269, 3) := dk_182 1 13 (dk_at dksX3_isCommand_14 3 rfl rfl)
theorem dX3_isCommand_370 : decode cX3_isCommand 370 = .ok (.ifCond .eq 7, 3) := dk_153 0 7 (dk_at dksX3_isCommand_14 6 rfl rfl)
theorem dX3_isCommand_373 : decode cX3_isCommand 373 = .ok (.iconst 1, 1) := dk_4 (dk_at dksX3_isCommand_14 9 rfl rfl)
theorem dX3_isCommand_374 : decode cX3_isCommand 374 = .ok (.goto 4, 3) := dk_167 0 4 (dk_at dksX3_isCommand_14 10 rfl rfl)
theorem dX3_isCommand_377 : decode cX3_isCommand 377 = .ok (.iconst 0, 1) := dk_3 (dk_at dksX3_isCommand_14 13 rfl rfl)
theorem dX3_isCommand_378 : decode cX3_isCommand 378 = .ok (.ireturn, 1) := dk_172 (dk_at dksX3_isCommand_14 14 rfl rfl)
abbrev cX3_isOneOf : ByteArray := prog_18_method_85_code
def yX3_isOneOf : MethodName := ⟨RX3, "isOneOf", "(Ljava/lang/String;)Z"⟩
def dkwX3_isOneOf_5 : List UInt8 := [21, 4, 4, 96, 62, 167, 255, 139, 42, 89, 180, 0, 219, 28, 96, 181, 0, 219, 3, 172]
abbrev dktX3_isOneOf_5 : List UInt8 := dkwX3_isOneOf_5 ++ []
def dkwX3_isOneOf_4 : List UInt8 := [181, 0, 35, 42, 89, 180, 0, 219, 21, 5, 96, 181, 0, 219, 4, 172, 28, 21, 5, 184, 0, 237, 61]
abbrev dktX3_isOneOf_4 : List UInt8 := dkwX3_isOneOf_4 ++ dktX3_isOneOf_5
def dkwX3_isOneOf_3 : List UInt8 := [132, 5, 1, 167, 255, 207, 21, 5, 21, 4, 29, 100, 160, 0, 27, 42, 43, 29, 21, 4, 182, 0, 233]
abbrev dktX3_isOneOf_3 : List UInt8 := dkwX3_isOneOf_3 ++ dktX3_isOneOf_4
def dkwX3_isOneOf_2 : List UInt8 := [180, 0, 30, 42, 180, 0, 219, 21, 5, 96, 52, 43, 29, 21, 5, 96, 182, 0, 229, 160, 0, 9]
abbrev dktX3_isOneOf_2 : List UInt8 := dkwX3_isOneOf_2 ++ dktX3_isOneOf_3
def dkwX3_isOneOf_1 : List UInt8 := [21, 5, 21, 4, 29, 100, 162, 0, 46, 42, 180, 0, 219, 21, 5, 96, 42, 180, 0, 216, 162, 0, 32, 42]
abbrev dktX3_isOneOf_1 : List UInt8 := dkwX3_isOneOf_1 ++ dktX3_isOneOf_2
def dkwX3_isOneOf_0 : List UInt8 := [3, 61, 3, 62, 29, 43, 182, 0, 222, 162, 0, 115, 43, 16, 95, 29, 182, 0, 226, 54, 4, 3, 54, 5]
abbrev dktX3_isOneOf_0 : List UInt8 := dkwX3_isOneOf_0 ++ dktX3_isOneOf_1
theorem dksX3_isOneOf_0 : cX3_isOneOf.data.toList.drop 0 = dktX3_isOneOf_0 := by decide +kernel
theorem dksX3_isOneOf_1 : cX3_isOneOf.data.toList.drop 24 = dktX3_isOneOf_1 := dk_seg dksX3_isOneOf_0 24 rfl rfl
theorem dksX3_isOneOf_2 : cX3_isOneOf.data.toList.drop 48 = dktX3_isOneOf_2 := dk_seg dksX3_isOneOf_1 24 rfl rfl
theorem dksX3_isOneOf_3 : cX3_isOneOf.data.toList.drop 70 = dktX3_isOneOf_3 := dk_seg dksX3_isOneOf_2 22 rfl rfl
theorem dksX3_isOneOf_4 : cX3_isOneOf.data.toList.drop 93 = dktX3_isOneOf_4 := dk_seg dksX3_isOneOf_3 23 rfl rfl
theorem dksX3_isOneOf_5 : cX3_isOneOf.data.toList.drop 116 = dktX3_isOneOf_5 := dk_seg dksX3_isOneOf_4 23 rfl rfl
theorem dX3_isOneOf_0 : decode cX3_isOneOf 0 = .ok (.iconst 0, 1) := dk_3 (dk_at dksX3_isOneOf_0 0 rfl rfl)
theorem dX3_isOneOf_1 : decode cX3_isOneOf 1 = .ok (.istore_n 2, 1) := dk_61 (dk_at dksX3_isOneOf_0 1 rfl rfl)
theorem dX3_isOneOf_2 : decode cX3_isOneOf 2 = .ok (.iconst 0, 1) := dk_3 (dk_at dksX3_isOneOf_0 2 rfl rfl)
theorem dX3_isOneOf_3 : decode cX3_isOneOf 3 = .ok (.istore_n 3, 1) := dk_62 (dk_at dksX3_isOneOf_0 3 rfl rfl)
theorem dX3_isOneOf_4 : decode cX3_isOneOf 4 = .ok (.iload_n 3, 1) := dk_29 (dk_at dksX3_isOneOf_0 4 rfl rfl)
theorem dX3_isOneOf_5 : decode cX3_isOneOf 5 = .ok (.aload_n 1, 1) := dk_43 (dk_at dksX3_isOneOf_0 5 rfl rfl)
theorem dX3_isOneOf_6 : decode cX3_isOneOf 6 = .ok (.invokevirtual 222, 3) := dk_182 0 222 (dk_at dksX3_isOneOf_0 6 rfl rfl)
theorem dX3_isOneOf_9 : decode cX3_isOneOf 9 = .ok (.if_icmp .ge 115, 3) := dk_162 0 115 (dk_at dksX3_isOneOf_0 9 rfl rfl)
theorem dX3_isOneOf_12 : decode cX3_isOneOf 12 = .ok (.aload_n 1, 1) := dk_43 (dk_at dksX3_isOneOf_0 12 rfl rfl)
theorem dX3_isOneOf_13 : decode cX3_isOneOf 13 = .ok (.bipush 95, 2) := dk_16 95 (dk_at dksX3_isOneOf_0 13 rfl rfl)
theorem dX3_isOneOf_15 : decode cX3_isOneOf 15 = .ok (.iload_n 3, 1) := dk_29 (dk_at dksX3_isOneOf_0 15 rfl rfl)
theorem dX3_isOneOf_16 : decode cX3_isOneOf 16 = .ok (.invokevirtual 226, 3) := dk_182 0 226 (dk_at dksX3_isOneOf_0 16 rfl rfl)
theorem dX3_isOneOf_19 : decode cX3_isOneOf 19 = .ok (.istore 4, 2) := dk_54 4 (dk_at dksX3_isOneOf_0 19 rfl rfl)
theorem dX3_isOneOf_21 : decode cX3_isOneOf 21 = .ok (.iconst 0, 1) := dk_3 (dk_at dksX3_isOneOf_0 21 rfl rfl)
theorem dX3_isOneOf_22 : decode cX3_isOneOf 22 = .ok (.istore 5, 2) := dk_54 5 (dk_at dksX3_isOneOf_0 22 rfl rfl)
theorem dX3_isOneOf_24 : decode cX3_isOneOf 24 = .ok (.iload 5, 2) := dk_21 5 (dk_at dksX3_isOneOf_1 0 rfl rfl)
theorem dX3_isOneOf_26 : decode cX3_isOneOf 26 = .ok (.iload 4, 2) := dk_21 4 (dk_at dksX3_isOneOf_1 2 rfl rfl)
theorem dX3_isOneOf_28 : decode cX3_isOneOf 28 = .ok (.iload_n 3, 1) := dk_29 (dk_at dksX3_isOneOf_1 4 rfl rfl)
theorem dX3_isOneOf_29 : decode cX3_isOneOf 29 = .ok (.isub, 1) := dk_100 (dk_at dksX3_isOneOf_1 5 rfl rfl)
theorem dX3_isOneOf_30 : decode cX3_isOneOf 30 = .ok (.if_icmp .ge 46, 3) := dk_162 0 46 (dk_at dksX3_isOneOf_1 6 rfl rfl)
theorem dX3_isOneOf_33 : decode cX3_isOneOf 33 = .ok (.aload_n 0, 1) := dk_42 (dk_at dksX3_isOneOf_1 9 rfl rfl)
theorem dX3_isOneOf_34 : decode cX3_isOneOf 34 = .ok (.getfield 219, 3) := dk_180 0 219 (dk_at dksX3_isOneOf_1 10 rfl rfl)
theorem dX3_isOneOf_37 : decode cX3_isOneOf 37 = .ok (.iload 5, 2) := dk_21 5 (dk_at dksX3_isOneOf_1 13 rfl rfl)
theorem dX3_isOneOf_39 : decode cX3_isOneOf 39 = .ok (.iadd, 1) := dk_96 (dk_at dksX3_isOneOf_1 15 rfl rfl)
theorem dX3_isOneOf_40 : decode cX3_isOneOf 40 = .ok (.aload_n 0, 1) := dk_42 (dk_at dksX3_isOneOf_1 16 rfl rfl)
theorem dX3_isOneOf_41 : decode cX3_isOneOf 41 = .ok (.getfield 216, 3) := dk_180 0 216 (dk_at dksX3_isOneOf_1 17 rfl rfl)
theorem dX3_isOneOf_44 : decode cX3_isOneOf 44 = .ok (.if_icmp .ge 32, 3) := dk_162 0 32 (dk_at dksX3_isOneOf_1 20 rfl rfl)
theorem dX3_isOneOf_47 : decode cX3_isOneOf 47 = .ok (.aload_n 0, 1) := dk_42 (dk_at dksX3_isOneOf_1 23 rfl rfl)
theorem dX3_isOneOf_48 : decode cX3_isOneOf 48 = .ok (.getfield 30, 3) := dk_180 0 30 (dk_at dksX3_isOneOf_2 0 rfl rfl)
theorem dX3_isOneOf_51 : decode cX3_isOneOf 51 = .ok (.aload_n 0, 1) := dk_42 (dk_at dksX3_isOneOf_2 3 rfl rfl)
theorem dX3_isOneOf_52 : decode cX3_isOneOf 52 = .ok (.getfield 219, 3) := dk_180 0 219 (dk_at dksX3_isOneOf_2 4 rfl rfl)
theorem dX3_isOneOf_55 : decode cX3_isOneOf 55 = .ok (.iload 5, 2) := dk_21 5 (dk_at dksX3_isOneOf_2 7 rfl rfl)
theorem dX3_isOneOf_57 : decode cX3_isOneOf 57 = .ok (.iadd, 1) := dk_96 (dk_at dksX3_isOneOf_2 9 rfl rfl)
theorem dX3_isOneOf_58 : decode cX3_isOneOf 58 = .ok (.caload, 1) := dk_52 (dk_at dksX3_isOneOf_2 10 rfl rfl)
theorem dX3_isOneOf_59 : decode cX3_isOneOf 59 = .ok (.aload_n 1, 1) := dk_43 (dk_at dksX3_isOneOf_2 11 rfl rfl)
theorem dX3_isOneOf_60 : decode cX3_isOneOf 60 = .ok (.iload_n 3, 1) := dk_29 (dk_at dksX3_isOneOf_2 12 rfl rfl)
theorem dX3_isOneOf_61 : decode cX3_isOneOf 61 = .ok (.iload 5, 2) := dk_21 5 (dk_at dksX3_isOneOf_2 13 rfl rfl)
theorem dX3_isOneOf_63 : decode cX3_isOneOf 63 = .ok (.iadd, 1) := dk_96 (dk_at dksX3_isOneOf_2 15 rfl rfl)
theorem dX3_isOneOf_64 : decode cX3_isOneOf 64 = .ok (.invokevirtual 229, 3) := dk_182 0 229 (dk_at dksX3_isOneOf_2 16 rfl rfl)
theorem dX3_isOneOf_67 : decode cX3_isOneOf 67 = .ok (.if_icmp .ne 9, 3) := dk_160 0 9 (dk_at dksX3_isOneOf_2 19 rfl rfl)
theorem dX3_isOneOf_70 : decode cX3_isOneOf 70 = .ok (.iinc 5 1, 3) := dk_132 5 1 (dk_at dksX3_isOneOf_3 0 rfl rfl)
theorem dX3_isOneOf_73 : decode cX3_isOneOf 73 = .ok (.goto (-49), 3) := dk_167 255 207 (dk_at dksX3_isOneOf_3 3 rfl rfl)
theorem dX3_isOneOf_76 : decode cX3_isOneOf 76 = .ok (.iload 5, 2) := dk_21 5 (dk_at dksX3_isOneOf_3 6 rfl rfl)
theorem dX3_isOneOf_78 : decode cX3_isOneOf 78 = .ok (.iload 4, 2) := dk_21 4 (dk_at dksX3_isOneOf_3 8 rfl rfl)
theorem dX3_isOneOf_80 : decode cX3_isOneOf 80 = .ok (.iload_n 3, 1) := dk_29 (dk_at dksX3_isOneOf_3 10 rfl rfl)
theorem dX3_isOneOf_81 : decode cX3_isOneOf 81 = .ok (.isub, 1) := dk_100 (dk_at dksX3_isOneOf_3 11 rfl rfl)
theorem dX3_isOneOf_82 : decode cX3_isOneOf 82 = .ok (.if_icmp .ne 27, 3) := dk_160 0 27 (dk_at dksX3_isOneOf_3 12 rfl rfl)
theorem dX3_isOneOf_85 : decode cX3_isOneOf 85 = .ok (.aload_n 0, 1) := dk_42 (dk_at dksX3_isOneOf_3 15 rfl rfl)
theorem dX3_isOneOf_86 : decode cX3_isOneOf 86 = .ok (.aload_n 1, 1) := dk_43 (dk_at dksX3_isOneOf_3 16 rfl rfl)
theorem dX3_isOneOf_87 : decode cX3_isOneOf 87 = .ok (.iload_n 3, 1) := dk_29 (dk_at dksX3_isOneOf_3 17 rfl rfl)
theorem dX3_isOneOf_88 : decode cX3_isOneOf 88 = .ok (.iload 4, 2) := dk_21 4 (dk_at dksX3_isOneOf_3 18 rfl rfl)
theorem dX3_isOneOf_90 : decode cX3_isOneOf 90 = .ok (.invokevirtual 233, 3) := dk_182 0 233 (dk_at dksX3_isOneOf_3 20 rfl rfl)
theorem dX3_isOneOf_93 : decode cX3_isOneOf 93 = .ok (.putfield 35, 3) := dk_181 0 35 (dk_at dksX3_isOneOf_4 0 rfl rfl)
theorem dX3_isOneOf_96 : decode cX3_isOneOf 96 = .ok (.aload_n 0, 1) := dk_42 (dk_at dksX3_isOneOf_4 3 rfl rfl)
theorem dX3_isOneOf_97 : decode cX3_isOneOf 97 = .ok (.dup, 1) := dk_89 (dk_at dksX3_isOneOf_4 4 rfl rfl)
theorem dX3_isOneOf_98 : decode cX3_isOneOf 98 = .ok (.getfield 219, 3) := dk_180 0 219 (dk_at dksX3_isOneOf_4 5 rfl rfl)
theorem dX3_isOneOf_101 : decode cX3_isOneOf 101 = .ok (.iload 5, 2) := dk_21 5 (dk_at dksX3_isOneOf_4 8 rfl rfl)
theorem dX3_isOneOf_103 : decode cX3_isOneOf 103 = .ok (.iadd, 1) := dk_96 (dk_at dksX3_isOneOf_4 10 rfl rfl)
theorem dX3_isOneOf_104 : decode cX3_isOneOf 104 = .ok (.putfield 219, 3) := dk_181 0 219 (dk_at dksX3_isOneOf_4 11 rfl rfl)
theorem dX3_isOneOf_107 : decode cX3_isOneOf 107 = .ok (.iconst 1, 1) := dk_4 (dk_at dksX3_isOneOf_4 14 rfl rfl)
theorem dX3_isOneOf_108 : decode cX3_isOneOf 108 = .ok (.ireturn, 1) := dk_172 (dk_at dksX3_isOneOf_4 15 rfl rfl)
theorem dX3_isOneOf_109 : decode cX3_isOneOf 109 = .ok (.iload_n 2, 1) := dk_28 (dk_at dksX3_isOneOf_4 16 rfl rfl)
theorem dX3_isOneOf_110 : decode cX3_isOneOf 110 = .ok (.iload 5, 2) := dk_21 5 (dk_at dksX3_isOneOf_4 17 rfl rfl)
theorem dX3_isOneOf_112 : decode cX3_isOneOf 112 = .ok (.invokestatic 237, 3) := dk_184 0 237 (dk_at dksX3_isOneOf_4 19 rfl rfl)
theorem dX3_isOneOf_115 : decode cX3_isOneOf 115 = .ok (.istore_n 2, 1) := dk_61 (dk_at dksX3_isOneOf_4 22 rfl rfl)
theorem dX3_isOneOf_116 : decode cX3_isOneOf 116 = .ok (.iload 4, 2) := dk_21 4 (dk_at dksX3_isOneOf_5 0 rfl rfl)
theorem dX3_isOneOf_118 : decode cX3_isOneOf 118 = .ok (.iconst 1, 1) := dk_4 (dk_at dksX3_isOneOf_5 2 rfl rfl)
theorem dX3_isOneOf_119 : decode cX3_isOneOf 119 = .ok (.iadd, 1) := dk_96 (dk_at dksX3_isOneOf_5 3 rfl rfl)
theorem dX3_isOneOf_120 : decode cX3_isOneOf 120 = .ok (.istore_n 3, 1) := dk_62 (dk_at dksX3_isOneOf_5 4 rfl rfl)
theorem dX3_isOneOf_121 : decode cX3_isOneOf 121 = .ok (.goto (-117), 3) := dk_167 255 139 (dk_at dksX3_isOneOf_5 5 rfl rfl)
theorem dX3_isOneOf_124 : decode cX3_isOneOf 124 = .ok (.aload_n 0, 1) := dk_42 (dk_at dksX3_isOneOf_5 8 rfl rfl)
theorem dX3_isOneOf_125 : decode cX3_isOneOf 125 = .ok (.dup, 1) := dk_89 (dk_at dksX3_isOneOf_5 9 rfl rfl)
theorem dX3_isOneOf_126 : decode cX3_isOneOf 126 = .ok (.getfield 219, 3) := dk_180 0 219 (dk_at dksX3_isOneOf_5 10 rfl rfl)
theorem dX3_isOneOf_129 : decode cX3_isOneOf 129 = .ok (.iload_n 2, 1) := dk_28 (dk_at dksX3_isOneOf_5 13 rfl rfl)
theorem dX3_isOneOf_130 : decode cX3_isOneOf 130 = .ok (.iadd, 1) := dk_96 (dk_at dksX3_isOneOf_5 14 rfl rfl)
theorem dX3_isOneOf_131 : decode cX3_isOneOf 131 = .ok (.putfield 219, 3) := dk_181 0 219 (dk_at dksX3_isOneOf_5 15 rfl rfl)
theorem dX3_isOneOf_134 : decode cX3_isOneOf 134 = .ok (.iconst 0, 1) := dk_3 (dk_at dksX3_isOneOf_5 18 rfl rfl)
theorem dX3_isOneOf_135 : decode cX3_isOneOf 135 = .ok (.ireturn, 1) := dk_172 (dk_at dksX3_isOneOf_5 19 rfl rfl)
abbrev cX3_digits : ByteArray := prog_18_method_86_code
def yX3_digits : MethodName := ⟨RX3, "digits", "(II)Z"⟩
def dkwX3_digits_4 : List UInt8 := [3, 172]
abbrev dktX3_digits_4 : List UInt8 := dkwX3_digits_4 ++ []
def dkwX3_digits_3 : List UInt8 := [96, 181, 0, 219, 52, 96, 16, 48, 100, 79, 132, 3, 1, 167, 255, 183, 29, 158, 0, 7, 4, 167, 0, 4]
abbrev dktX3_digits_3 : List UInt8 := dkwX3_digits_3 ++ dktX3_digits_4
def dkwX3_digits_2 : List UInt8 := [180, 0, 39, 27, 16, 10, 42, 180, 0, 39, 27, 46, 104, 42, 180, 0, 30, 42, 89, 180, 0, 219, 90, 4]
abbrev dktX3_digits_2 : List UInt8 := dkwX3_digits_2 ++ dktX3_digits_3
def dkwX3_digits_1 : List UInt8 := [162, 0, 63, 42, 180, 0, 30, 42, 180, 0, 219, 52, 16, 48, 16, 57, 184, 0, 62, 153, 0, 44, 42]
abbrev dktX3_digits_1 : List UInt8 := dkwX3_digits_1 ++ dktX3_digits_2
def dkwX3_digits_0 : List UInt8 := [3, 62, 42, 180, 0, 39, 27, 3, 79, 29, 28, 162, 0, 74, 42, 180, 0, 219, 42, 180, 0, 216]
abbrev dktX3_digits_0 : List UInt8 := dkwX3_digits_0 ++ dktX3_digits_1
theorem dksX3_digits_0 : cX3_digits.data.toList.drop 0 = dktX3_digits_0 := by decide +kernel
theorem dksX3_digits_1 : cX3_digits.data.toList.drop 22 = dktX3_digits_1 := dk_seg dksX3_digits_0 22 rfl rfl
theorem dksX3_digits_2 : cX3_digits.data.toList.drop 45 = dktX3_digits_2 := dk_seg dksX3_digits_1 23 rfl rfl
theorem dksX3_digits_3 : cX3_digits.data.toList.drop 69 = dktX3_digits_3 := dk_seg dksX3_digits_2 24 rfl rfl
theorem dksX3_digits_4 : cX3_digits.data.toList.drop 93 = dktX3_digits_4 := dk_seg dksX3_digits_3 24 rfl rfl
theorem dX3_digits_0 : decode cX3_digits 0 = .ok (.iconst 0, 1) := dk_3 (dk_at dksX3_digits_0 0 rfl rfl)
theorem dX3_digits_1 : decode cX3_digits 1 = .ok (.istore_n 3, 1) := dk_62 (dk_at dksX3_digits_0 1 rfl rfl)
theorem dX3_digits_2 : decode cX3_digits 2 = .ok (.aload_n 0, 1) := dk_42 (dk_at dksX3_digits_0 2 rfl rfl)
theorem dX3_digits_3 : decode cX3_digits 3 = .ok (.getfield 39, 3) := dk_180 0 39 (dk_at dksX3_digits_0 3 rfl rfl)
theorem dX3_digits_6 : decode cX3_digits 6 = .ok (.iload_n 1, 1) := dk_27 (dk_at dksX3_digits_0 6 rfl rfl)
theorem dX3_digits_7 : decode cX3_digits 7 = .ok (.iconst 0, 1) := dk_3 (dk_at dksX3_digits_0 7 rfl rfl)
theorem dX3_digits_8 : decode cX3_digits 8 = .ok (.iastore, 1) := dk_79 (dk_at dksX3_digits_0 8 rfl rfl)
theorem dX3_digits_9 : decode cX3_digits 9 = .ok (.iload_n 3, 1) := dk_29 (dk_at dksX3_digits_0 9 rfl rfl)
theorem dX3_digits_10 : decode cX3_digits 10 = .ok (.iload_n 2, 1) := dk_28 (dk_at dksX3_digits_0 10 rfl rfl)
theorem dX3_digits_11 : decode cX3_digits 11 = .ok (.if_icmp .ge 74, 3) := dk_162 0 74 (dk_at dksX3_digits_0 11 rfl rfl)
theorem dX3_digits_14 : decode cX3_digits 14 = .ok (.aload_n 0, 1) := dk_42 (dk_at dksX3_digits_0 14 rfl rfl)
theorem dX3_digits_15 : decode cX3_digits 15 = .ok (.getfield 219, 3) := dk_180 0 219 (dk_at dksX3_digits_0 15 rfl rfl)
theorem dX3_digits_18 : decode cX3_digits 18 = .ok (.aload_n 0, 1) := dk_42 (dk_at dksX3_digits_0 18 rfl rfl)
theorem dX3_digits_19 : decode cX3_digits 19 = .ok (.getfield 216, 3) := dk_180 0 216 (dk_at dksX3_digits_0 19 rfl rfl)
theorem dX3_digits_22 : decode cX3_digits 22 = .ok (.if_icmp .ge 63, 3) := dk_162 0 63 (dk_at dksX3_digits_1 0 rfl rfl)
theorem dX3_digits_25 : decode cX3_digits 25 = .ok (.aload_n 0, 1) := dk_42 (dk_at dksX3_digits_1 3 rfl rfl)
theorem dX3_digits_26 : decode cX3_digits 26 = .ok (.getfield 30, 3) := dk_180 0 30 (dk_at dksX3_digits_1 4 rfl rfl)
theorem dX3_digits_29 : decode cX3_digits 29 = .ok (.aload_n 0, 1) := dk_42 (dk_at dksX3_digits_1 7 rfl rfl)
theorem dX3_digits_30 : decode cX3_digits 30 = .ok (.getfield 219, 3) := dk_180 0 219 (dk_at dksX3_digits_1 8 rfl rfl)
theorem dX3_digits_33 : decode cX3_digits 33 = .ok (.caload, 1) := dk_52 (dk_at dksX3_digits_1 11 rfl rfl)
theorem dX3_digits_34 : decode cX3_digits 34 = .ok (.bipush 48, 2) := dk_16 48 (dk_at dksX3_digits_1 12 rfl rfl)
theorem dX3_digits_36 : decode cX3_digits 36 = .ok (.bipush 57, 2) := dk_16 57 (dk_at dksX3_digits_1 14 rfl rfl)
theorem dX3_digits_38 : decode cX3_digits 38 = .ok (.invokestatic 62, 3) := dk_184 0 62 (dk_at dksX3_digits_1 16 rfl rfl)
theorem dX3_digits_41 : decode cX3_digits 41 = .ok (.ifCond .eq 44, 3) := dk_153 0 44 (dk_at dksX3_digits_1 19 rfl rfl)
theorem dX3_digits_44 : decode cX3_digits 44 = .ok (.aload_n 0, 1) := dk_42 (dk_at dksX3_digits_1 22 rfl rfl)
theorem dX3_digits_45 : decode cX3_digits 45 = .ok (.getfield 39, 3) := dk_180 0 39 (dk_at dksX3_digits_2 0 rfl rfl)
theorem dX3_digits_48 : decode cX3_digits 48 = .ok (.iload_n 1, 1) := dk_27 (dk_at dksX3_digits_2 3 rfl rfl)
theorem dX3_digits_49 : decode cX3_digits 49 = .ok (.bipush 10, 2) := dk_16 10 (dk_at dksX3_digits_2 4 rfl rfl)
theorem dX3_digits_51 : decode cX3_digits 51 = .ok (.aload_n 0, 1) := dk_42 (dk_at dksX3_digits_2 6 rfl rfl)
theorem dX3_digits_52 : decode cX3_digits 52 = .ok (.getfield 39, 3) := dk_180 0 39 (dk_at dksX3_digits_2 7 rfl rfl)
theorem dX3_digits_55 : decode cX3_digits 55 = .ok (.iload_n 1, 1) := dk_27 (dk_at dksX3_digits_2 10 rfl rfl)
theorem dX3_digits_56 : decode cX3_digits 56 = .ok (.iaload, 1) := dk_46 (dk_at dksX3_digits_2 11 rfl rfl)
theorem dX3_digits_57 : decode cX3_digits 57 = .ok (.imul, 1) := dk_104 (dk_at dksX3_digits_2 12 rfl rfl)
theorem dX3_digits_58 : decode cX3_digits 58 = .ok (.aload_n 0, 1) := dk_42 (dk_at dksX3_digits_2 13 rfl rfl)
theorem dX3_digits_59 : decode cX3_digits 59 = .ok (.getfield 30, 3) := dk_180 0 30 (dk_at dksX3_digits_2 14 rfl rfl)
theorem dX3_digits_62 : decode cX3_digits 62 = .ok (.aload_n 0, 1) := dk_42 (dk_at dksX3_digits_2 17 rfl rfl)
theorem dX3_digits_63 : decode cX3_digits 63 = .ok (.dup, 1) := dk_89 (dk_at dksX3_digits_2 18 rfl rfl)
theorem dX3_digits_64 : decode cX3_digits 64 = .ok (.getfield 219, 3) := dk_180 0 219 (dk_at dksX3_digits_2 19 rfl rfl)
theorem dX3_digits_67 : decode cX3_digits 67 = .ok (.dup_x1, 1) := dk_90 (dk_at dksX3_digits_2 22 rfl rfl)
theorem dX3_digits_68 : decode cX3_digits 68 = .ok (.iconst 1, 1) := dk_4 (dk_at dksX3_digits_2 23 rfl rfl)
theorem dX3_digits_69 : decode cX3_digits 69 = .ok (.iadd, 1) := dk_96 (dk_at dksX3_digits_3 0 rfl rfl)
theorem dX3_digits_70 : decode cX3_digits 70 = .ok (.putfield 219, 3) := dk_181 0 219 (dk_at dksX3_digits_3 1 rfl rfl)
theorem dX3_digits_73 : decode cX3_digits 73 = .ok (.caload, 1) := dk_52 (dk_at dksX3_digits_3 4 rfl rfl)
theorem dX3_digits_74 : decode cX3_digits 74 = .ok (.iadd, 1) := dk_96 (dk_at dksX3_digits_3 5 rfl rfl)
theorem dX3_digits_75 : decode cX3_digits 75 = .ok (.bipush 48, 2) := dk_16 48 (dk_at dksX3_digits_3 6 rfl rfl)
theorem dX3_digits_77 : decode cX3_digits 77 = .ok (.isub, 1) := dk_100 (dk_at dksX3_digits_3 8 rfl rfl)
theorem dX3_digits_78 : decode cX3_digits 78 = .ok (.iastore, 1) := dk_79 (dk_at dksX3_digits_3 9 rfl rfl)
theorem dX3_digits_79 : decode cX3_digits 79 = .ok (.iinc 3 1, 3) := dk_132 3 1 (dk_at dksX3_digits_3 10 rfl rfl)
theorem dX3_digits_82 : decode cX3_digits 82 = .ok (.goto (-73), 3) := dk_167 255 183 (dk_at dksX3_digits_3 13 rfl rfl)
theorem dX3_digits_85 : decode cX3_digits 85 = .ok (.iload_n 3, 1) := dk_29 (dk_at dksX3_digits_3 16 rfl rfl)
theorem dX3_digits_86 : decode cX3_digits 86 = .ok (.ifCond .le 7, 3) := dk_158 0 7 (dk_at dksX3_digits_3 17 rfl rfl)
theorem dX3_digits_89 : decode cX3_digits 89 = .ok (.iconst 1, 1) := dk_4 (dk_at dksX3_digits_3 20 rfl rfl)
theorem dX3_digits_90 : decode cX3_digits 90 = .ok (.goto 4, 3) := dk_167 0 4 (dk_at dksX3_digits_3 21 rfl rfl)
theorem dX3_digits_93 : decode cX3_digits 93 = .ok (.iconst 0, 1) := dk_3 (dk_at dksX3_digits_4 0 rfl rfl)
theorem dX3_digits_94 : decode cX3_digits 94 = .ok (.ireturn, 1) := dk_172 (dk_at dksX3_digits_4 1 rfl rfl)
abbrev cX3_isSet : ByteArray := prog_18_method_87_code
def yX3_isSet : MethodName := ⟨RX3, "isSet", "()Z"⟩
def dkwX3_isSet_4 : List UInt8 := [146, 60, 167, 255, 184, 4, 172]
abbrev dktX3_isSet_4 : List UInt8 := dkwX3_isSet_4 ++ []
def dkwX3_isSet_3 : List UInt8 := [16, 97, 100, 120, 128, 79, 42, 180, 0, 30, 42, 89, 180, 0, 219, 90, 4, 96, 181, 0, 219, 52, 4, 96]
abbrev dktX3_isSet_3 : List UInt8 := dkwX3_isSet_3 ++ dktX3_isSet_4
def dkwX3_isSet_2 : List UInt8 := [184, 0, 62, 153, 0, 49, 42, 180, 0, 39, 5, 92, 46, 4, 42, 180, 0, 30, 42, 180, 0, 219, 52]
abbrev dktX3_isSet_2 : List UInt8 := dkwX3_isSet_2 ++ dktX3_isSet_3
def dkwX3_isSet_1 : List UInt8 := [180, 0, 219, 42, 180, 0, 216, 162, 0, 67, 42, 180, 0, 30, 42, 180, 0, 219, 52, 27, 16, 104]
abbrev dktX3_isSet_1 : List UInt8 := dkwX3_isSet_1 ++ dktX3_isSet_2
def dkwX3_isSet_0 : List UInt8 := [42, 180, 0, 39, 5, 3, 79, 42, 16, 47, 182, 0, 240, 154, 0, 5, 3, 172, 16, 97, 60, 42]
abbrev dktX3_isSet_0 : List UInt8 := dkwX3_isSet_0 ++ dktX3_isSet_1
theorem dksX3_isSet_0 : cX3_isSet.data.toList.drop 0 = dktX3_isSet_0 := by decide +kernel
theorem dksX3_isSet_1 : cX3_isSet.data.toList.drop 22 = dktX3_isSet_1 := dk_seg dksX3_isSet_0 22 rfl rfl
theorem dksX3_isSet_2 : cX3_isSet.data.toList.drop 44 = dktX3_isSet_2 := dk_seg dksX3_isSet_1 22 rfl rfl
theorem dksX3_isSet_3 : cX3_isSet.data.toList.drop 67 = dktX3_isSet_3 := dk_seg dksX3_isSet_2 23 rfl rfl
theorem dksX3_isSet_4 : cX3_isSet.data.toList.drop 91 = dktX3_isSet_4 := dk_seg dksX3_isSet_3 24 rfl rfl
theorem dX3_isSet_0 : decode cX3_isSet 0 = .ok (.aload_n 0, 1) := dk_42 (dk_at dksX3_isSet_0 0 rfl rfl)
theorem dX3_isSet_1 : decode cX3_isSet 1 = .ok (.getfield 39, 3) := dk_180 0 39 (dk_at dksX3_isSet_0 1 rfl rfl)
theorem dX3_isSet_4 : decode cX3_isSet 4 = .ok (.iconst 2, 1) := dk_5 (dk_at dksX3_isSet_0 4 rfl rfl)
theorem dX3_isSet_5 : decode cX3_isSet 5 = .ok (.iconst 0, 1) := dk_3 (dk_at dksX3_isSet_0 5 rfl rfl)
theorem dX3_isSet_6 : decode cX3_isSet 6 = .ok (.iastore, 1) := dk_79 (dk_at dksX3_isSet_0 6 rfl rfl)
theorem dX3_isSet_7 : decode cX3_isSet 7 = .ok (.aload_n 0, 1) := dk_42 (dk_at dksX3_isSet_0 7 rfl rfl)
theorem dX3_isSet_8 : decode cX3_isSet 8 = .ok (.bipush 47, 2) := dk_16 47 (dk_at dksX3_isSet_0 8 rfl rfl)
theorem dX3_isSet_10 : decode cX3_isSet 10 = .ok (.invokevirtual 240, 3) := dk_182 0 240 (dk_at dksX3_isSet_0 10 rfl rfl)
theorem dX3_isSet_13 : decode cX3_isSet 13 = .ok (.ifCond .ne 5, 3) := dk_154 0 5 (dk_at dksX3_isSet_0 13 rfl rfl)
theorem dX3_isSet_16 : decode cX3_isSet 16 = .ok (.iconst 0, 1) := dk_3 (dk_at dksX3_isSet_0 16 rfl rfl)
theorem dX3_isSet_17 : decode cX3_isSet 17 = .ok (.ireturn, 1) := dk_172 (dk_at dksX3_isSet_0 17 rfl rfl)
theorem dX3_isSet_18 : decode cX3_isSet 18 = .ok (.bipush 97, 2) := dk_16 97 (dk_at dksX3_isSet_0 18 rfl rfl)
theorem dX3_isSet_20 : decode cX3_isSet 20 = .ok (.istore_n 1, 1) := dk_60 (dk_at dksX3_isSet_0 20 rfl rfl)
theorem dX3_isSet_21 : decode cX3_isSet 21 = .ok (.aload_n 0, 1) := dk_42 (dk_at dksX3_isSet_0 21 rfl rfl)
theorem dX3_isSet_22 : decode cX3_isSet 22 = .ok (.getfield 219, 3) := dk_180 0 219 (dk_at dksX3_isSet_1 0 rfl rfl)
theorem dX3_isSet_25 : decode cX3_isSet 25 = .ok (.aload_n 0, 1) := dk_42 (dk_at dksX3_isSet_1 3 rfl rfl)
theorem dX3_isSet_26 : decode cX3_isSet 26 = .ok (.getfield 216, 3) := dk_180 0 216 (dk_at dksX3_isSet_1 4 rfl rfl)
theorem dX3_isSet_29 : decode cX3_isSet 29 = .ok (.if_icmp .ge 67, 3) := dk_162 0 67 (dk_at dksX3_isSet_1 7 rfl rfl)
theorem dX3_isSet_32 : decode cX3_isSet 32 = .ok (.aload_n 0, 1) := dk_42 (dk_at dksX3_isSet_1 10 rfl rfl)
theorem dX3_isSet_33 : decode cX3_isSet 33 = .ok (.getfield 30, 3) := dk_180 0 30 (dk_at dksX3_isSet_1 11 rfl rfl)
theorem dX3_isSet_36 : decode cX3_isSet 36 = .ok (.aload_n 0, 1) := dk_42 (dk_at dksX3_isSet_1 14 rfl rfl)
theorem dX3_isSet_37 : decode cX3_isSet 37 = .ok (.getfield 219, 3) := dk_180 0 219 (dk_at dksX3_isSet_1 15 rfl rfl)
theorem dX3_isSet_40 : decode cX3_isSet 40 = .ok (.caload, 1) := dk_52 (dk_at dksX3_isSet_1 18 rfl rfl)
theorem dX3_isSet_41 : decode cX3_isSet 41 = .ok (.iload_n 1, 1) := dk_27 (dk_at dksX3_isSet_1 19 rfl rfl)
theorem dX3_isSet_42 : decode cX3_isSet 42 = .ok (.bipush 104, 2) := dk_16 104 (dk_at dksX3_isSet_1 20 rfl rfl)
theorem dX3_isSet_44 : decode cX3_isSet 44 = .ok (.invokestatic 62, 3) := dk_184 0 62 (dk_at dksX3_isSet_2 0 rfl rfl)
theorem dX3_isSet_47 : decode cX3_isSet 47 = .ok (.ifCond .eq 49, 3) := dk_153 0 49 (dk_at dksX3_isSet_2 3 rfl rfl)
theorem dX3_isSet_50 : decode cX3_isSet 50 = .ok (.aload_n 0, 1) := dk_42 (dk_at dksX3_isSet_2 6 rfl rfl)
theorem dX3_isSet_51 : decode cX3_isSet 51 = .ok (.getfield 39, 3) := dk_180 0 39 (dk_at dksX3_isSet_2 7 rfl rfl)
theorem dX3_isSet_54 : decode cX3_isSet 54 = .ok (.iconst 2, 1) := dk_5 (dk_at dksX3_isSet_2 10 rfl rfl)
theorem dX3_isSet_55 : decode cX3_isSet 55 = .ok (.dup2, 1) := dk_92 (dk_at dksX3_isSet_2 11 rfl rfl)
theorem dX3_isSet_56 : decode cX3_isSet 56 = .ok (.iaload, 1) := dk_46 (dk_at dksX3_isSet_2 12 rfl rfl)
theorem dX3_isSet_57 : decode cX3_isSet 57 = .ok (.iconst 1, 1) := dk_4 (dk_at dksX3_isSet_2 13 rfl rfl)
theorem dX3_isSet_58 : decode cX3_isSet 58 = .ok (.aload_n 0, 1) := dk_42 (dk_at dksX3_isSet_2 14 rfl rfl)
theorem dX3_isSet_59 : decode cX3_isSet 59 = .ok (.getfield 30, 3) := dk_180 0 30 (dk_at dksX3_isSet_2 15 rfl rfl)
theorem dX3_isSet_62 : decode cX3_isSet 62 = .ok (.aload_n 0, 1) := dk_42 (dk_at dksX3_isSet_2 18 rfl rfl)
theorem dX3_isSet_63 : decode cX3_isSet 63 = .ok (.getfield 219, 3) := dk_180 0 219 (dk_at dksX3_isSet_2 19 rfl rfl)
theorem dX3_isSet_66 : decode cX3_isSet 66 = .ok (.caload, 1) := dk_52 (dk_at dksX3_isSet_2 22 rfl rfl)
theorem dX3_isSet_67 : decode cX3_isSet 67 = .ok (.bipush 97, 2) := dk_16 97 (dk_at dksX3_isSet_3 0 rfl rfl)
theorem dX3_isSet_69 : decode cX3_isSet 69 = .ok (.isub, 1) := dk_100 (dk_at dksX3_isSet_3 2 rfl rfl)
theorem dX3_isSet_70 : decode cX3_isSet 70 = .ok (.ishl, 1) := dk_120 (dk_at dksX3_isSet_3 3 rfl rfl)
theorem dX3_isSet_71 : decode cX3_isSet 71 = .ok (.ior, 1) := dk_128 (dk_at dksX3_isSet_3 4 rfl rfl)
theorem dX3_isSet_72 : decode cX3_isSet 72 = .ok (.iastore, 1) := dk_79 (dk_at dksX3_isSet_3 5 rfl rfl)
theorem dX3_isSet_73 : decode cX3_isSet 73 = .ok (.aload_n 0, 1) := dk_42 (dk_at dksX3_isSet_3 6 rfl rfl)
theorem dX3_isSet_74 : decode cX3_isSet 74 = .ok (.getfield 30, 3) := dk_180 0 30 (dk_at dksX3_isSet_3 7 rfl rfl)
theorem dX3_isSet_77 : decode cX3_isSet 77 = .ok (.aload_n 0, 1) := dk_42 (dk_at dksX3_isSet_3 10 rfl rfl)
theorem dX3_isSet_78 : decode cX3_isSet 78 = .ok (.dup, 1) := dk_89 (dk_at dksX3_isSet_3 11 rfl rfl)
theorem dX3_isSet_79 : decode cX3_isSet 79 = .ok (.getfield 219, 3) := dk_180 0 219 (dk_at dksX3_isSet_3 12 rfl rfl)
theorem dX3_isSet_82 : decode cX3_isSet 82 = .ok (.dup_x1, 1) := dk_90 (dk_at dksX3_isSet_3 15 rfl rfl)
theorem dX3_isSet_83 : decode cX3_isSet 83 = .ok (.iconst 1, 1) := dk_4 (dk_at dksX3_isSet_3 16 rfl rfl)
theorem dX3_isSet_84 : decode cX3_isSet 84 = .ok (.iadd, 1) := dk_96 (dk_at dksX3_isSet_3 17 rfl rfl)
theorem dX3_isSet_85 : decode cX3_isSet 85 = .ok (.putfield 219, 3) := dk_181 0 219 (dk_at dksX3_isSet_3 18 rfl rfl)
theorem dX3_isSet_88 : decode cX3_isSet 88 = .ok (.caload, 1) := dk_52 (dk_at dksX3_isSet_3 21 rfl rfl)
theorem dX3_isSet_89 : decode cX3_isSet 89 = .ok (.iconst 1, 1) := dk_4 (dk_at dksX3_isSet_3 22 rfl rfl)
theorem dX3_isSet_90 : decode cX3_isSet 90 = .ok (.iadd, 1) := dk_96 (dk_at dksX3_isSet_3 23 rfl rfl)
theorem dX3_isSet_91 : decode cX3_isSet 91 = .ok (.i2c, 1) := dk_146 (dk_at dksX3_isSet_4 0 rfl rfl)
theorem dX3_isSet_92 : decode cX3_isSet 92 = .ok (.istore_n 1, 1) := dk_60 (dk_at dksX3_isSet_4 1 rfl rfl)
theorem dX3_isSet_93 : decode cX3_isSet 93 = .ok (.goto (-72), 3) := dk_167 255 184 (dk_at dksX3_isSet_4 2 rfl rfl)
theorem dX3_isSet_96 : decode cX3_isSet 96 = .ok (.iconst 1, 1) := dk_4 (dk_at dksX3_isSet_4 5 rfl rfl)
theorem dX3_isSet_97 : decode cX3_isSet 97 = .ok (.ireturn, 1) := dk_172 (dk_at dksX3_isSet_4 6 rfl rfl)
abbrev cX3_takes : ByteArray := prog_18_method_84_code
def yX3_takes : MethodName := ⟨RX3, "takes", "(C)Z"⟩
def dkwX3_takes_1 : List UInt8 := [3, 172, 42, 89, 180, 0, 219, 4, 96, 181, 0, 219, 4, 172]
abbrev dktX3_takes_1 : List UInt8 := dkwX3_takes_1 ++ []
def dkwX3_takes_0 : List UInt8 := [42, 180, 0, 219, 42, 180, 0, 216, 159, 0, 16, 42, 180, 0, 30, 42, 180, 0, 219, 52, 27, 159, 0, 5]
abbrev dktX3_takes_0 : List UInt8 := dkwX3_takes_0 ++ dktX3_takes_1
theorem dksX3_takes_0 : cX3_takes.data.toList.drop 0 = dktX3_takes_0 := by decide +kernel
theorem dksX3_takes_1 : cX3_takes.data.toList.drop 24 = dktX3_takes_1 := dk_seg dksX3_takes_0 24 rfl rfl
theorem dX3_takes_0 : decode cX3_takes 0 = .ok (.aload_n 0, 1) := dk_42 (dk_at dksX3_takes_0 0 rfl rfl)
theorem dX3_takes_1 : decode cX3_takes 1 = .ok (.getfield 219, 3) := dk_180 0 219 (dk_at dksX3_takes_0 1 rfl rfl)
theorem dX3_takes_4 : decode cX3_takes 4 = .ok (.aload_n 0, 1) := dk_42 (dk_at dksX3_takes_0 4 rfl rfl)
theorem dX3_takes_5 : decode cX3_takes 5 = .ok (.getfield 216, 3) := dk_180 0 216 (dk_at dksX3_takes_0 5 rfl rfl)
theorem dX3_takes_8 : decode cX3_takes 8 = .ok (.if_icmp .eq 16, 3) := dk_159 0 16 (dk_at dksX3_takes_0 8 rfl rfl)
theorem dX3_takes_11 : decode cX3_takes 11 = .ok (.aload_n 0, 1) := dk_42 (dk_at dksX3_takes_0 11 rfl rfl)
theorem dX3_takes_12 : decode cX3_takes 12 = .ok (.getfield 30, 3) := dk_180 0 30 (dk_at dksX3_takes_0 12 rfl rfl)
theorem dX3_takes_15 : decode cX3_takes 15 = .ok (.aload_n 0, 1) := dk_42 (dk_at dksX3_takes_0 15 rfl rfl)
theorem dX3_takes_16 : decode cX3_takes 16 = .ok (.getfield 219, 3) := dk_180 0 219 (dk_at dksX3_takes_0 16 rfl rfl)
theorem dX3_takes_19 : decode cX3_takes 19 = .ok (.caload, 1) := dk_52 (dk_at dksX3_takes_0 19 rfl rfl)
theorem dX3_takes_20 : decode cX3_takes 20 = .ok (.iload_n 1, 1) := dk_27 (dk_at dksX3_takes_0 20 rfl rfl)
theorem dX3_takes_21 : decode cX3_takes 21 = .ok (.if_icmp .eq 5, 3) := dk_159 0 5 (dk_at dksX3_takes_0 21 rfl rfl)
theorem dX3_takes_24 : decode cX3_takes 24 = .ok (.iconst 0, 1) := dk_3 (dk_at dksX3_takes_1 0 rfl rfl)
theorem dX3_takes_25 : decode cX3_takes 25 = .ok (.ireturn, 1) := dk_172 (dk_at dksX3_takes_1 1 rfl rfl)
theorem dX3_takes_26 : decode cX3_takes 26 = .ok (.aload_n 0, 1) := dk_42 (dk_at dksX3_takes_1 2 rfl rfl)
theorem dX3_takes_27 : decode cX3_takes 27 = .ok (.dup, 1) := dk_89 (dk_at dksX3_takes_1 3 rfl rfl)
theorem dX3_takes_28 : decode cX3_takes 28 = .ok (.getfield 219, 3) := dk_180 0 219 (dk_at dksX3_takes_1 4 rfl rfl)
theorem dX3_takes_31 : decode cX3_takes 31 = .ok (.iconst 1, 1) := dk_4 (dk_at dksX3_takes_1 7 rfl rfl)
theorem dX3_takes_32 : decode cX3_takes 32 = .ok (.iadd, 1) := dk_96 (dk_at dksX3_takes_1 8 rfl rfl)
theorem dX3_takes_33 : decode cX3_takes 33 = .ok (.putfield 219, 3) := dk_181 0 219 (dk_at dksX3_takes_1 9 rfl rfl)
theorem dX3_takes_36 : decode cX3_takes 36 = .ok (.iconst 1, 1) := dk_4 (dk_at dksX3_takes_1 12 rfl rfl)
theorem dX3_takes_37 : decode cX3_takes 37 = .ok (.ireturn, 1) := dk_172 (dk_at dksX3_takes_1 13 rfl rfl)
abbrev cX3_carries : ByteArray := prog_18_method_89_code
def yX3_carries : MethodName := ⟨RX3, "carries", "()I"⟩
def dkwX3_carries_13 : List UInt8 := [3, 46, 8, 3, 3, 182, 0, 99, 172, 42, 42, 180, 0, 39, 3, 46, 182, 0, 129, 172]
abbrev dktX3_carries_13 : List UInt8 := dkwX3_carries_13 ++ []
def dkwX3_carries_12 : List UInt8 := [42, 180, 0, 39, 3, 46, 7, 42, 180, 0, 39, 4, 46, 16, 9, 182, 0, 99, 172, 42, 42, 180, 0, 39]
abbrev dktX3_carries_12 : List UInt8 := dkwX3_carries_12 ++ dktX3_carries_13
def dkwX3_carries_11 : List UInt8 := [182, 0, 93, 172, 42, 42, 180, 0, 39, 3, 46, 6, 42, 180, 0, 39, 4, 46, 7, 182, 0, 99, 172, 42]
abbrev dktX3_carries_11 : List UInt8 := dkwX3_carries_11 ++ dktX3_carries_12
def dkwX3_carries_10 : List UInt8 := [180, 0, 39, 5, 46, 182, 0, 90, 172, 42, 42, 180, 0, 39, 3, 46, 42, 180, 0, 39, 4, 46]
abbrev dktX3_carries_10 : List UInt8 := dkwX3_carries_10 ++ dktX3_carries_11
def dkwX3_carries_9 : List UInt8 := [42, 180, 0, 39, 5, 46, 182, 0, 86, 172, 42, 42, 180, 0, 39, 3, 46, 42, 180, 0, 39, 4, 46, 42]
abbrev dktX3_carries_9 : List UInt8 := dkwX3_carries_9 ++ dktX3_carries_10
def dkwX3_carries_8 : List UInt8 := [42, 42, 180, 0, 39, 3, 46, 182, 0, 76, 172, 42, 42, 180, 0, 39, 3, 46, 42, 180, 0, 39, 4, 46]
abbrev dktX3_carries_8 : List UInt8 := dkwX3_carries_8 ++ dktX3_carries_9
def dkwX3_carries_7 : List UInt8 := [170, 0, 0, 0, 168, 0, 0, 0, 0, 0, 0, 0, 6, 0, 0, 0, 41, 0, 0, 0, 52, 0, 0, 0, 75, 0, 0, 0, 98, 0, 0, 0, 115, 0, 0, 0, 134, 0, 0, 0, 154]
abbrev dktX3_carries_7 : List UInt8 := dkwX3_carries_7 ++ dktX3_carries_8
def dkwX3_carries_6 : List UInt8 := [182, 0, 255, 153, 0, 6, 16, 6, 61, 28]
abbrev dktX3_carries_6 : List UInt8 := dkwX3_carries_6 ++ dktX3_carries_7
def dkwX3_carries_5 : List UInt8 := [167, 0, 31, 43, 19, 1, 22, 182, 0, 255, 153, 0, 21, 8, 61, 167, 0, 16, 43, 19, 1, 3]
abbrev dktX3_carries_5 : List UInt8 := dkwX3_carries_5 ++ dktX3_carries_6
def dkwX3_carries_4 : List UInt8 := [182, 0, 255, 153, 0, 51, 6, 61, 167, 0, 46, 43, 19, 1, 20, 182, 0, 255, 153, 0, 36, 7, 61]
abbrev dktX3_carries_4 : List UInt8 := dkwX3_carries_4 ++ dktX3_carries_5
def dkwX3_carries_3 : List UInt8 := [4, 61, 167, 0, 76, 43, 19, 1, 7, 182, 0, 255, 153, 0, 66, 5, 61, 167, 0, 61, 43, 19, 1, 9]
abbrev dktX3_carries_3 : List UInt8 := dkwX3_carries_3 ++ dktX3_carries_4
def dkwX3_carries_2 : List UInt8 := [43, 18, 253, 182, 0, 255, 153, 0, 96, 3, 61, 167, 0, 91, 43, 19, 1, 5, 182, 0, 255, 153, 0, 81]
abbrev dktX3_carries_2 : List UInt8 := dkwX3_carries_2 ++ dktX3_carries_3
def dkwX3_carries_1 : List UInt8 := [171, 0, 0, 0, 167, 0, 0, 0, 7, 175, 17, 18, 247, 0, 0, 0, 154, 206, 229, 160, 144, 0, 0, 0, 124, 5, 182, 123, 92, 0, 0, 0, 109, 6, 33, 77, 29, 0, 0, 0, 139, 6, 91, 180, 50, 0, 0, 0, 79, 6, 94, 130, 196, 0, 0, 0, 94, 6, 144, 104, 118, 0, 0, 0, 65]
abbrev dktX3_carries_1 : List UInt8 := dkwX3_carries_1 ++ dktX3_carries_2
def dkwX3_carries_0 : List UInt8 := [42, 180, 0, 35, 76, 2, 61, 43, 182, 0, 250]
abbrev dktX3_carries_0 : List UInt8 := dkwX3_carries_0 ++ dktX3_carries_1
theorem dksX3_carries_0 : cX3_carries.data.toList.drop 0 = dktX3_carries_0 := by decide +kernel
theorem dksX3_carries_1 : cX3_carries.data.toList.drop 11 = dktX3_carries_1 := dk_seg dksX3_carries_0 11 rfl rfl
theorem dksX3_carries_2 : cX3_carries.data.toList.drop 76 = dktX3_carries_2 := dk_seg dksX3_carries_1 65 rfl rfl
theorem dksX3_carries_3 : cX3_carries.data.toList.drop 100 = dktX3_carries_3 := dk_seg dksX3_carries_2 24 rfl rfl
theorem dksX3_carries_4 : cX3_carries.data.toList.drop 124 = dktX3_carries_4 := dk_seg dksX3_carries_3 24 rfl rfl
theorem dksX3_carries_5 : cX3_carries.data.toList.drop 147 = dktX3_carries_5 := dk_seg dksX3_carries_4 23 rfl rfl
theorem dksX3_carries_6 : cX3_carries.data.toList.drop 169 = dktX3_carries_6 := dk_seg dksX3_carries_5 22 rfl rfl
theorem dksX3_carries_7 : cX3_carries.data.toList.drop 179 = dktX3_carries_7 := dk_seg dksX3_carries_6 10 rfl rfl
theorem dksX3_carries_8 : cX3_carries.data.toList.drop 220 = dktX3_carries_8 := dk_seg dksX3_carries_7 41 rfl rfl
theorem dksX3_carries_9 : cX3_carries.data.toList.drop 244 = dktX3_carries_9 := dk_seg dksX3_carries_8 24 rfl rfl
theorem dksX3_carries_10 : cX3_carries.data.toList.drop 268 = dktX3_carries_10 := dk_seg dksX3_carries_9 24 rfl rfl
theorem dksX3_carries_11 : cX3_carries.data.toList.drop 290 = dktX3_carries_11 := dk_seg dksX3_carries_10 22 rfl rfl
theorem dksX3_carries_12 : cX3_carries.data.toList.drop 314 = dktX3_carries_12 := dk_seg dksX3_carries_11 24 rfl rfl
theorem dksX3_carries_13 : cX3_carries.data.toList.drop 338 = dktX3_carries_13 := dk_seg dksX3_carries_12 24 rfl rfl
theorem dX3_carries_0 : decode cX3_carries 0 = .ok (.aload_n 0, 1) := dk_42 (dk_at dksX3_carries_0 0 rfl rfl)
theorem dX3_carries_1 : decode cX3_carries 1 = .ok (.getfield 35, 3) := dk_180 0 35 (dk_at dksX3_carries_0 1 rfl rfl)
theorem dX3_carries_4 : decode cX3_carries 4 = .ok (.astore_n 1, 1) := dk_76 (dk_at dksX3_carries_0 4 rfl rfl)
theorem dX3_carries_5 : decode cX3_carries 5 = .ok (.iconst (-1), 1) := dk_2 (dk_at dksX3_carries_0 5 rfl rfl)
theorem dX3_carries_6 : decode cX3_carries 6 = .ok (.istore_n 2, 1) := dk_61 (dk_at dksX3_carries_0 6 rfl rfl)
theorem dX3_carries_7 : decode cX3_carries 7 = .ok (.aload_n 1, 1) := dk_43 (dk_at dksX3_carries_0 7 rfl rfl)
theorem dX3_carries_8 : decode cX3_carries 8 = .ok (.invokevirtual 250, 3) := dk_182 0 250 (dk_at dksX3_carries_0 8 rfl rfl)
theorem dX3_carries_11 : decode cX3_carries 11 = .ok (.lookupswitch 167 #[(-1357835529, 154), (-823811952, 124), (95845212, 109), (102845725, 139), (106673202, 79), (106857156, 94), (110127222, 65)], 65) := by decide +kernel
theorem dX3_carries_76 : decode cX3_carries 76 = .ok (.aload_n 1, 1) := dk_43 (dk_at dksX3_carries_2 0 rfl rfl)
theorem dX3_carries_77 : decode cX3_carries 77 = .ok (.ldc 253, 2) := dk_18 253 (dk_at dksX3_carries_2 1 rfl rfl)
theorem dX3_carries_79 : decode cX3_carries 79 = .ok (.invokevirtual 255, 3) := dk_182 0 255 (dk_at dksX3_carries_2 3 rfl rfl)
theorem dX3_carries_82 : decode cX3_carries 82 = .ok (.ifCond .eq 96, 3) := dk_153 0 96 (dk_at dksX3_carries_2 6 rfl rfl)
theorem dX3_carries_85 : decode cX3_carries 85 = .ok (.iconst 0, 1) := dk_3 (dk_at dksX3_carries_2 9 rfl rfl)
theorem dX3_carries_86 : decode cX3_carries 86 = .ok (.istore_n 2, 1) := dk_61 (dk_at dksX3_carries_2 10 rfl rfl)
theorem dX3_carries_87 : decode cX3_carries 87 = .ok (.goto 91, 3) := dk_167 0 91 (dk_at dksX3_carries_2 11 rfl rfl)
theorem dX3_carries_90 : decode cX3_carries 90 = .ok (.aload_n 1, 1) := dk_43 (dk_at dksX3_carries_2 14 rfl rfl)
theorem dX3_carries_91 : decode cX3_carries 91 = .ok (.ldc_w 261, 3) := dk_19 1 5 (dk_at dksX3_carries_2 15 rfl rfl)
theorem dX3_carries_94 : decode cX3_carries 94 = .ok (.invokevirtual 255, 3) := dk_182 0 255 (dk_at dksX3_carries_2 18 rfl rfl)
theorem dX3_carries_97 : decode cX3_carries 97 = .ok (.ifCond .eq 81, 3) := dk_153 0 81 (dk_at dksX3_carries_2 21 rfl rfl)
theorem dX3_carries_100 : decode cX3_carries 100 = .ok (.iconst 1, 1) := dk_4 (dk_at dksX3_carries_3 0 rfl rfl)
theorem dX3_carries_101 : decode cX3_carries 101 = .ok (.istore_n 2, 1) := dk_61 (dk_at dksX3_carries_3 1 rfl rfl)
theorem dX3_carries_102 : decode cX3_carries 102 = .ok (.goto 76, 3) := dk_167 0 76 (dk_at dksX3_carries_3 2 rfl rfl)
theorem dX3_carries_105 : decode cX3_carries 105 = .ok (.aload_n 1, 1) := dk_43 (dk_at dksX3_carries_3 5 rfl rfl)
theorem dX3_carries_106 : decode cX3_carries 106 = .ok (.ldc_w 263, 3) := dk_19 1 7 (dk_at dksX3_carries_3 6 rfl rfl)
theorem dX3_carries_109 : decode cX3_carries 109 = .ok (.invokevirtual 255, 3) := dk_182 0 255 (dk_at dksX3_carries_3 9 rfl rfl)
theorem dX3_carries_112 : decode cX3_carries 112 = .ok (.ifCond .eq 66, 3) := dk_153 0 66 (dk_at dksX3_carries_3 12 rfl rfl)
theorem dX3_carries_115 : decode cX3_carries 115 = .ok (.iconst 2, 1) := dk_5 (dk_at dksX3_carries_3 15 rfl rfl)
theorem dX3_carries_116 : decode cX3_carries 116 = .ok (.istore_n 2, 1) := dk_61 (dk_at dksX3_carries_3 16 rfl rfl)
theorem dX3_carries_117 : decode cX3_carries 117 = .ok (.goto 61, 3) := dk_167 0 61 (dk_at dksX3_carries_3 17 rfl rfl)
theorem dX3_carries_120 : decode cX3_carries 120 = .ok (.aload_n 1, 1) := dk_43 (dk_at dksX3_carries_3 20 rfl rfl)
theorem dX3_carries_121 : decode cX3_carries 121 = .ok (.ldc_w 265, 3) := dk_19 1 9 (dk_at dksX3_carries_3 21 rfl rfl)
theorem dX3_carries_124 : decode cX3_carries 124 = .ok (.invokevirtual 255, 3) := dk_182 0 255 (dk_at dksX3_carries_4 0 rfl rfl)
theorem dX3_carries_127 : decode cX3_carries 127 = .ok (.ifCond .eq 51, 3) := dk_153 0 51 (dk_at dksX3_carries_4 3 rfl rfl)
theorem dX3_carries_130 : decode cX3_carries 130 = .ok (.iconst 3, 1) := dk_6 (dk_at dksX3_carries_4 6 rfl rfl)
theorem dX3_carries_131 : decode cX3_carries 131 = .ok (.istore_n 2, 1) := dk_61 (dk_at dksX3_carries_4 7 rfl rfl)
theorem dX3_carries_132 : decode cX3_carries 132 = .ok (.goto 46, 3) := dk_167 0 46 (dk_at dksX3_carries_4 8 rfl rfl)
theorem dX3_carries_135 : decode cX3_carries 135 = .ok (.aload_n 1, 1) := dk_43 (dk_at dksX3_carries_4 11 rfl rfl)
theorem dX3_carries_136 : decode cX3_carries 136 = .ok (.ldc_w 276, 3) := dk_19 1 20 (dk_at dksX3_carries_4 12 rfl rfl)
theorem dX3_carries_139 : decode cX3_carries 139 = .ok (.invokevirtual 255, 3) := dk_182 0 255 (dk_at dksX3_carries_4 15 rfl rfl)
theorem dX3_carries_142 : decode cX3_carries 142 = .ok (.ifCond .eq 36, 3) := dk_153 0 36 (dk_at dksX3_carries_4 18 rfl rfl)
theorem dX3_carries_145 : decode cX3_carries 145 = .ok (.iconst 4, 1) := dk_7 (dk_at dksX3_carries_4 21 rfl rfl)
theorem dX3_carries_146 : decode cX3_carries 146 = .ok (.istore_n 2, 1) := dk_61 (dk_at dksX3_carries_4 22 rfl rfl)
theorem dX3_carries_147 : decode cX3_carries 147 = .ok (.goto 31, 3) := dk_167 0 31 (dk_at dksX3_carries_5 0 rfl rfl)
theorem dX3_carries_150 : decode cX3_carries 150 = .ok (.aload_n 1, 1) := dk_43 (dk_at dksX3_carries_5 3 rfl rfl)
theorem dX3_carries_151 : decode cX3_carries 151 = .ok (.ldc_w 278, 3) := dk_19 1 22 (dk_at dksX3_carries_5 4 rfl rfl)
theorem dX3_carries_154 : decode cX3_carries 154 = .ok (.invokevirtual 255, 3) := dk_182 0 255 (dk_at dksX3_carries_5 7 rfl rfl)
theorem dX3_carries_157 : decode cX3_carries 157 = .ok (.ifCond .eq 21, 3) := dk_153 0 21 (dk_at dksX3_carries_5 10 rfl rfl)
theorem dX3_carries_160 : decode cX3_carries 160 = .ok (.iconst 5, 1) := dk_8 (dk_at dksX3_carries_5 13 rfl rfl)
theorem dX3_carries_161 : decode cX3_carries 161 = .ok (.istore_n 2, 1) := dk_61 (dk_at dksX3_carries_5 14 rfl rfl)
theorem dX3_carries_162 : decode cX3_carries 162 = .ok (.goto 16, 3) := dk_167 0 16 (dk_at dksX3_carries_5 15 rfl rfl)
theorem dX3_carries_165 : decode cX3_carries 165 = .ok (.aload_n 1, 1) := dk_43 (dk_at dksX3_carries_5 18 rfl rfl)
theorem dX3_carries_166 : decode cX3_carries 166 = .ok (.ldc_w 259, 3) := dk_19 1 3 (dk_at dksX3_carries_5 19 rfl rfl)
theorem dX3_carries_169 : decode cX3_carries 169 = .ok (.invokevirtual 255, 3) := dk_182 0 255 (dk_at dksX3_carries_6 0 rfl rfl)
theorem dX3_carries_172 : decode cX3_carries 172 = .ok (.ifCond .eq 6, 3) := dk_153 0 6 (dk_at dksX3_carries_6 3 rfl rfl)
theorem dX3_carries_175 : decode cX3_carries 175 = .ok (.bipush 6, 2) := dk_16 6 (dk_at dksX3_carries_6 6 rfl rfl)
theorem dX3_carries_177 : decode cX3_carries 177 = .ok (.istore_n 2, 1) := dk_61 (dk_at dksX3_carries_6 8 rfl rfl)
theorem dX3_carries_178 : decode cX3_carries 178 = .ok (.iload_n 2, 1) := dk_28 (dk_at dksX3_carries_6 9 rfl rfl)
theorem dX3_carries_179 : decode cX3_carries 179 = .ok (.tableswitch 168 0 6 #[41, 52, 75, 98, 115, 134, 154], 41) := by decide +kernel
theorem dX3_carries_220 : decode cX3_carries 220 = .ok (.aload_n 0, 1) := dk_42 (dk_at dksX3_carries_8 0 rfl rfl)
theorem dX3_carries_221 : decode cX3_carries 221 = .ok (.aload_n 0, 1) := dk_42 (dk_at dksX3_carries_8 1 rfl rfl)
theorem dX3_carries_222 : decode cX3_carries 222 = .ok (.getfield 39, 3) := dk_180 0 39 (dk_at dksX3_carries_8 2 rfl rfl)
theorem dX3_carries_225 : decode cX3_carries 225 = .ok (.iconst 0, 1) := dk_3 (dk_at dksX3_carries_8 5 rfl rfl)
theorem dX3_carries_226 : decode cX3_carries 226 = .ok (.iaload, 1) := dk_46 (dk_at dksX3_carries_8 6 rfl rfl)
theorem dX3_carries_227 : decode cX3_carries 227 = .ok (.invokevirtual 76, 3) := dk_182 0 76 (dk_at dksX3_carries_8 7 rfl rfl)
theorem dX3_carries_230 : decode cX3_carries 230 = .ok (.ireturn, 1) := dk_172 (dk_at dksX3_carries_8 10 rfl rfl)
theorem dX3_carries_231 : decode cX3_carries 231 = .ok (.aload_n 0, 1) := dk_42 (dk_at dksX3_carries_8 11 rfl rfl)
theorem dX3_carries_232 : decode cX3_carries 232 = .ok (.aload_n 0, 1) := dk_42 (dk_at dksX3_carries_8 12 rfl rfl)
theorem dX3_carries_233 : decode cX3_carries 233 = .ok (.getfield 39, 3) := dk_180 0 39 (dk_at dksX3_carries_8 13 rfl rfl)
theorem dX3_carries_236 : decode cX3_carries 236 = .ok (.iconst 0, 1) := dk_3 (dk_at dksX3_carries_8 16 rfl rfl)
theorem dX3_carries_237 : decode cX3_carries 237 = .ok (.iaload, 1) := dk_46 (dk_at dksX3_carries_8 17 rfl rfl)
theorem dX3_carries_238 : decode cX3_carries 238 = .ok (.aload_n 0, 1) := dk_42 (dk_at dksX3_carries_8 18 rfl rfl)
theorem dX3_carries_239 : decode cX3_carries 239 = .ok (.getfield 39, 3) := dk_180 0 39 (dk_at dksX3_carries_8 19 rfl rfl)
theorem dX3_carries_242 : decode cX3_carries 242 = .ok (.iconst 1, 1) := dk_4 (dk_at dksX3_carries_8 22 rfl rfl)
theorem dX3_carries_243 : decode cX3_carries 243 = .ok (.iaload, 1) := dk_46 (dk_at dksX3_carries_8 23 rfl rfl)
theorem dX3_carries_244 : decode cX3_carries 244 = .ok (.aload_n 0, 1) := dk_42 (dk_at dksX3_carries_9 0 rfl rfl)
theorem dX3_carries_245 : decode cX3_carries 245 = .ok (.getfield 39, 3) := dk_180 0 39 (dk_at dksX3_carries_9 1 rfl rfl)
theorem dX3_carries_248 : decode cX3_carries 248 = .ok (.iconst 2, 1) := dk_5 (dk_at dksX3_carries_9 4 rfl rfl)
theorem dX3_carries_249 : decode cX3_carries 249 = .ok (.iaload, 1) := dk_46 (dk_at dksX3_carries_9 5 rfl rfl)
theorem dX3_carries_250 : decode cX3_carries 250 = .ok (.invokevirtual 86, 3) := dk_182 0 86 (dk_at dksX3_carries_9 6 rfl rfl)
theorem dX3_carries_253 : decode cX3_carries 253 = .ok (.ireturn, 1) := dk_172 (dk_at dksX3_carries_9 9 rfl rfl)
theorem dX3_carries_254 : decode cX3_carries 254 = .ok (.aload_n 0, 1) := dk_42 (dk_at dksX3_carries_9 10 rfl rfl)
theorem dX3_carries_255 : decode cX3_carries 255 = .ok (.aload_n 0, 1) := dk_42 (dk_at dksX3_carries_9 11 rfl rfl)
theorem dX3_carries_256 : decode cX3_carries 256 = .ok (.getfield 39, 3) := dk_180 0 39 (dk_at dksX3_carries_9 12 rfl rfl)
theorem dX3_carries_259 : decode cX3_carries 259 = .ok (.iconst 0, 1) := dk_3 (dk_at dksX3_carries_9 15 rfl rfl)
theorem dX3_carries_260 : decode cX3_carries 260 = .ok (.iaload, 1) := dk_46 (dk_at dksX3_carries_9 16 rfl rfl)
theorem dX3_carries_261 : decode cX3_carries 261 = .ok (.aload_n 0, 1) := dk_42 (dk_at dksX3_carries_9 17 rfl rfl)
theorem dX3_carries_262 : decode cX3_carries 262 = .ok (.getfield 39, 3) := dk_180 0 39 (dk_at dksX3_carries_9 18 rfl rfl)
theorem dX3_carries_265 : decode cX3_carries 265 = .ok (.iconst 1, 1) := dk_4 (dk_at dksX3_carries_9 21 rfl rfl)
theorem dX3_carries_266 : decode cX3_carries 266 = .ok (.iaload, 1) := dk_46 (dk_at dksX3_carries_9 22 rfl rfl)
theorem dX3_carries_267 : decode cX3_carries 267 = .ok (.aload_n 0, 1) := dk_42 (dk_at dksX3_carries_9 23 rfl rfl)
theorem dX3_carries_268 : decode cX3_carries 268 = .ok (.getfield 39, 3) := dk_180 0 39 (dk_at dksX3_carries_10 0 rfl rfl)
theorem dX3_carries_271 : decode cX3_carries 271 = .ok (.iconst 2, 1) := dk_5 (dk_at dksX3_carries_10 3 rfl rfl)
theorem dX3_carries_272 : decode cX3_carries 272 = .ok (.iaload, 1) := dk_46 (dk_at dksX3_carries_10 4 rfl rfl)
theorem dX3_carries_273 : decode cX3_carries 273 = .ok (.invokevirtual 90, 3) := dk_182 0 90 (dk_at dksX3_carries_10 5 rfl rfl)
theorem dX3_carries_276 : decode cX3_carries 276 = .ok (.ireturn, 1) := dk_172 (dk_at dksX3_carries_10 8 rfl rfl)
theorem dX3_carries_277 : decode cX3_carries 277 = .ok (.aload_n 0, 1) := dk_42 (dk_at dksX3_carries_10 9 rfl rfl)
theorem dX3_carries_278 : decode cX3_carries 278 = .ok (.aload_n 0, 1) := dk_42 (dk_at dksX3_carries_10 10 rfl rfl)
theorem dX3_carries_279 : decode cX3_carries 279 = .ok (.getfield 39, 3) := dk_180 0 39 (dk_at dksX3_carries_10 11 rfl rfl)
theorem dX3_carries_282 : decode cX3_carries 282 = .ok (.iconst 0, 1) := dk_3 (dk_at dksX3_carries_10 14 rfl rfl)
theorem dX3_carries_283 : decode cX3_carries 283 = .ok (.iaload, 1) := dk_46 (dk_at dksX3_carries_10 15 rfl rfl)
theorem dX3_carries_284 : decode cX3_carries 284 = .ok (.aload_n 0, 1) := dk_42 (dk_at dksX3_carries_10 16 rfl rfl)
theorem dX3_carries_285 : decode cX3_carries 285 = .ok (.getfield 39, 3) := dk_180 0 39 (dk_at dksX3_carries_10 17 rfl rfl)
theorem dX3_carries_288 : decode cX3_carries 288 = .ok (.iconst 1, 1) := dk_4 (dk_at dksX3_carries_10 20 rfl rfl)
theorem dX3_carries_289 : decode cX3_carries 289 = .ok (.iaload, 1) := dk_46 (dk_at dksX3_carries_10 21 rfl rfl)
theorem dX3_carries_290 : decode cX3_carries 290 = .ok (.invokevirtual 93, 3) := dk_182 0 93 (dk_at dksX3_carries_11 0 rfl rfl)
theorem dX3_carries_293 : decode cX3_carries 293 = .ok (.ireturn, 1) := dk_172 (dk_at dksX3_carries_11 3 rfl rfl)
theorem dX3_carries_294 : decode cX3_carries 294 = .ok (.aload_n 0, 1) := dk_42 (dk_at dksX3_carries_11 4 rfl rfl)
theorem dX3_carries_295 : decode cX3_carries 295 = .ok (.aload_n 0, 1) := dk_42 (dk_at dksX3_carries_11 5 rfl rfl)
theorem dX3_carries_296 : decode cX3_carries 296 = .ok (.getfield 39, 3) := dk_180 0 39 (dk_at dksX3_carries_11 6 rfl rfl)
theorem dX3_carries_299 : decode cX3_carries 299 = .ok (.iconst 0, 1) := dk_3 (dk_at dksX3_carries_11 9 rfl rfl)
theorem dX3_carries_300 : decode cX3_carries 300 = .ok (.iaload, 1) := dk_46 (dk_at dksX3_carries_11 10 rfl rfl)
theorem dX3_carries_301 : decode cX3_carries 301 = .ok (.iconst 3, 1) := dk_6 (dk_at dksX3_carries_11 11 rfl rfl)
theorem dX3_carries_302 : decode cX3_carries 302 = .ok (.aload_n 0, 1) := dk_42 (dk_at dksX3_carries_11 12 rfl rfl)
theorem dX3_carries_303 : decode cX3_carries 303 = .ok (.getfield 39, 3) := dk_180 0 39 (dk_at dksX3_carries_11 13 rfl rfl)
theorem dX3_carries_306 : decode cX3_carries 306 = .ok (.iconst 1, 1) := dk_4 (dk_at dksX3_carries_11 16 rfl rfl)
theorem dX3_carries_307 : decode cX3_carries 307 = .ok (.iaload, 1) := dk_46 (dk_at dksX3_carries_11 17 rfl rfl)
theorem dX3_carries_308 : decode cX3_carries 308 = .ok (.iconst 4, 1) := dk_7 (dk_at dksX3_carries_11 18 rfl rfl)
theorem dX3_carries_309 : decode cX3_carries 309 = .ok (.invokevirtual 99, 3) := dk_182 0 99 (dk_at dksX3_carries_11 19 rfl rfl)
theorem dX3_carries_312 : decode cX3_carries 312 = .ok (.ireturn, 1) := dk_172 (dk_at dksX3_carries_11 22 rfl rfl)
theorem dX3_carries_313 : decode cX3_carries 313 = .ok (.aload_n 0, 1) := dk_42 (dk_at dksX3_carries_11 23 rfl rfl)
theorem dX3_carries_314 : decode cX3_carries 314 = .ok (.aload_n 0, 1) := dk_42 (dk_at dksX3_carries_12 0 rfl rfl)
theorem dX3_carries_315 : decode cX3_carries 315 = .ok (.getfield 39, 3) := dk_180 0 39 (dk_at dksX3_carries_12 1 rfl rfl)
theorem dX3_carries_318 : decode cX3_carries 318 = .ok (.iconst 0, 1) := dk_3 (dk_at dksX3_carries_12 4 rfl rfl)
theorem dX3_carries_319 : decode cX3_carries 319 = .ok (.iaload, 1) := dk_46 (dk_at dksX3_carries_12 5 rfl rfl)
theorem dX3_carries_320 : decode cX3_carries 320 = .ok (.iconst 4, 1) := dk_7 (dk_at dksX3_carries_12 6 rfl rfl)
theorem dX3_carries_321 : decode cX3_carries 321 = .ok (.aload_n 0, 1) := dk_42 (dk_at dksX3_carries_12 7 rfl rfl)
theorem dX3_carries_322 : decode cX3_carries 322 = .ok (.getfield 39, 3) := dk_180 0 39 (dk_at dksX3_carries_12 8 rfl rfl)
theorem dX3_carries_325 : decode cX3_carries 325 = .ok (.iconst 1, 1) := dk_4 (dk_at dksX3_carries_12 11 rfl rfl)
theorem dX3_carries_326 : decode cX3_carries 326 = .ok (.iaload, 1) := dk_46 (dk_at dksX3_carries_12 12 rfl rfl)
theorem dX3_carries_327 : decode cX3_carries 327 = .ok (.bipush 9, 2) := dk_16 9 (dk_at dksX3_carries_12 13 rfl rfl)
theorem dX3_carries_329 : decode cX3_carries 329 = .ok (.invokevirtual 99, 3) := dk_182 0 99 (dk_at dksX3_carries_12 15 rfl rfl)
theorem dX3_carries_332 : decode cX3_carries 332 = .ok (.ireturn, 1) := dk_172 (dk_at dksX3_carries_12 18 rfl rfl)
theorem dX3_carries_333 : decode cX3_carries 333 = .ok (.aload_n 0, 1) := dk_42 (dk_at dksX3_carries_12 19 rfl rfl)
theorem dX3_carries_334 : decode cX3_carries 334 = .ok (.aload_n 0, 1) := dk_42 (dk_at dksX3_carries_12 20 rfl rfl)
theorem dX3_carries_335 : decode cX3_carries 335 = .ok (.getfield 39, 3) := dk_180 0 39 (dk_at dksX3_carries_12 21 rfl rfl)
theorem dX3_carries_338 : decode cX3_carries 338 = .ok (.iconst 0, 1) := dk_3 (dk_at dksX3_carries_13 0 rfl rfl)
theorem dX3_carries_339 : decode cX3_carries 339 = .ok (.iaload, 1) := dk_46 (dk_at dksX3_carries_13 1 rfl rfl)
theorem dX3_carries_340 : decode cX3_carries 340 = .ok (.iconst 5, 1) := dk_8 (dk_at dksX3_carries_13 2 rfl rfl)
theorem dX3_carries_341 : decode cX3_carries 341 = .ok (.iconst 0, 1) := dk_3 (dk_at dksX3_carries_13 3 rfl rfl)
theorem dX3_carries_342 : decode cX3_carries 342 = .ok (.iconst 0, 1) := dk_3 (dk_at dksX3_carries_13 4 rfl rfl)
theorem dX3_carries_343 : decode cX3_carries 343 = .ok (.invokevirtual 99, 3) := dk_182 0 99 (dk_at dksX3_carries_13 5 rfl rfl)
theorem dX3_carries_346 : decode cX3_carries 346 = .ok (.ireturn, 1) := dk_172 (dk_at dksX3_carries_13 8 rfl rfl)
theorem dX3_carries_347 : decode cX3_carries 347 = .ok (.aload_n 0, 1) := dk_42 (dk_at dksX3_carries_13 9 rfl rfl)
theorem dX3_carries_348 : decode cX3_carries 348 = .ok (.aload_n 0, 1) := dk_42 (dk_at dksX3_carries_13 10 rfl rfl)
theorem dX3_carries_349 : decode cX3_carries 349 = .ok (.getfield 39, 3) := dk_180 0 39 (dk_at dksX3_carries_13 11 rfl rfl)
theorem dX3_carries_352 : decode cX3_carries 352 = .ok (.iconst 0, 1) := dk_3 (dk_at dksX3_carries_13 14 rfl rfl)
theorem dX3_carries_353 : decode cX3_carries 353 = .ok (.iaload, 1) := dk_46 (dk_at dksX3_carries_13 15 rfl rfl)
theorem dX3_carries_354 : decode cX3_carries 354 = .ok (.invokevirtual 129, 3) := dk_182 0 129 (dk_at dksX3_carries_13 16 rfl rfl)
theorem dX3_carries_357 : decode cX3_carries 357 = .ok (.ireturn, 1) := dk_172 (dk_at dksX3_carries_13 19 rfl rfl)
abbrev cX3_errorPosition : ByteArray := prog_18_method_91_code
def yX3_errorPosition : MethodName := ⟨RX3, "errorPosition", "()I"⟩
def dkwX3_errorPosition_1 : List UInt8 := [172]
abbrev dktX3_errorPosition_1 : List UInt8 := dkwX3_errorPosition_1 ++ []
def dkwX3_errorPosition_0 : List UInt8 := [42, 3, 181, 0, 49, 42, 180, 0, 42, 156, 0, 11, 42, 4, 182, 0, 55, 167, 0, 7, 42, 180, 0, 42]
abbrev dktX3_errorPosition_0 : List UInt8 := dkwX3_errorPosition_0 ++ dktX3_errorPosition_1
theorem dksX3_errorPosition_0 : cX3_errorPosition.data.toList.drop 0 = dktX3_errorPosition_0 := by decide +kernel
theorem dksX3_errorPosition_1 : cX3_errorPosition.data.toList.drop 24 = dktX3_errorPosition_1 := dk_seg dksX3_errorPosition_0 24 rfl rfl
theorem dX3_errorPosition_0 : decode cX3_errorPosition 0 = .ok (.aload_n 0, 1) := dk_42 (dk_at dksX3_errorPosition_0 0 rfl rfl)
theorem dX3_errorPosition_1 : decode cX3_errorPosition 1 = .ok (.iconst 0, 1) := dk_3 (dk_at dksX3_errorPosition_0 1 rfl rfl)
theorem dX3_errorPosition_2 : decode cX3_errorPosition 2 = .ok (.putfield 49, 3) := dk_181 0 49 (dk_at dksX3_errorPosition_0 2 rfl rfl)
theorem dX3_errorPosition_5 : decode cX3_errorPosition 5 = .ok (.aload_n 0, 1) := dk_42 (dk_at dksX3_errorPosition_0 5 rfl rfl)
theorem dX3_errorPosition_6 : decode cX3_errorPosition 6 = .ok (.getfield 42, 3) := dk_180 0 42 (dk_at dksX3_errorPosition_0 6 rfl rfl)
theorem dX3_errorPosition_9 : decode cX3_errorPosition 9 = .ok (.ifCond .ge 11, 3) := dk_156 0 11 (dk_at dksX3_errorPosition_0 9 rfl rfl)
theorem dX3_errorPosition_12 : decode cX3_errorPosition 12 = .ok (.aload_n 0, 1) := dk_42 (dk_at dksX3_errorPosition_0 12 rfl rfl)
theorem dX3_errorPosition_13 : decode cX3_errorPosition 13 = .ok (.iconst 1, 1) := dk_4 (dk_at dksX3_errorPosition_0 13 rfl rfl)
theorem dX3_errorPosition_14 : decode cX3_errorPosition 14 = .ok (.invokevirtual 55, 3) := dk_182 0 55 (dk_at dksX3_errorPosition_0 14 rfl rfl)
theorem dX3_errorPosition_17 : decode cX3_errorPosition 17 = .ok (.goto 7, 3) := dk_167 0 7 (dk_at dksX3_errorPosition_0 17 rfl rfl)
theorem dX3_errorPosition_20 : decode cX3_errorPosition 20 = .ok (.aload_n 0, 1) := dk_42 (dk_at dksX3_errorPosition_0 20 rfl rfl)
theorem dX3_errorPosition_21 : decode cX3_errorPosition 21 = .ok (.getfield 42, 3) := dk_180 0 42 (dk_at dksX3_errorPosition_0 21 rfl rfl)
theorem dX3_errorPosition_24 : decode cX3_errorPosition 24 = .ok (.ireturn, 1) := dk_172 (dk_at dksX3_errorPosition_1 0 rfl rfl)
abbrev cX3_failedCommand : ByteArray := prog_18_method_92_code
def yX3_failedCommand : MethodName := ⟨RX3, "failedCommand", "()I"⟩
def dkwX3_failedCommand_1 : List UInt8 := [172]
abbrev dktX3_failedCommand_1 : List UInt8 := dkwX3_failedCommand_1 ++ []
def dkwX3_failedCommand_0 : List UInt8 := [42, 3, 181, 0, 49, 42, 180, 0, 46, 156, 0, 11, 42, 4, 182, 0, 55, 167, 0, 7, 42, 180, 0, 46]
abbrev dktX3_failedCommand_0 : List UInt8 := dkwX3_failedCommand_0 ++ dktX3_failedCommand_1
theorem dksX3_failedCommand_0 : cX3_failedCommand.data.toList.drop 0 = dktX3_failedCommand_0 := by decide +kernel
theorem dksX3_failedCommand_1 : cX3_failedCommand.data.toList.drop 24 = dktX3_failedCommand_1 := dk_seg dksX3_failedCommand_0 24 rfl rfl
theorem dX3_failedCommand_0 : decode cX3_failedCommand 0 = .ok (.aload_n 0, 1) := dk_42 (dk_at dksX3_failedCommand_0 0 rfl rfl)
theorem dX3_failedCommand_1 : decode cX3_failedCommand 1 = .ok (.iconst 0, 1) := dk_3 (dk_at dksX3_failedCommand_0 1 rfl rfl)
theorem dX3_failedCommand_2 : decode cX3_failedCommand 2 = .ok (.putfield 49, 3) := dk_181 0 49 (dk_at dksX3_failedCommand_0 2 rfl rfl)
theorem dX3_failedCommand_5 : decode cX3_failedCommand 5 = .ok (.aload_n 0, 1) := dk_42 (dk_at dksX3_failedCommand_0 5 rfl rfl)
theorem dX3_failedCommand_6 : decode cX3_failedCommand 6 = .ok (.getfield 46, 3) := dk_180 0 46 (dk_at dksX3_failedCommand_0 6 rfl rfl)
theorem dX3_failedCommand_9 : decode cX3_failedCommand 9 = .ok (.ifCond .ge 11, 3) := dk_156 0 11 (dk_at dksX3_failedCommand_0 9 rfl rfl)
theorem dX3_failedCommand_12 : decode cX3_failedCommand 12 = .ok (.aload_n 0, 1) := dk_42 (dk_at dksX3_failedCommand_0 12 rfl rfl)
theorem dX3_failedCommand_13 : decode cX3_failedCommand 13 = .ok (.iconst 1, 1) := dk_4 (dk_at dksX3_failedCommand_0 13 rfl rfl)
theorem dX3_failedCommand_14 : decode cX3_failedCommand 14 = .ok (.invokevirtual 55, 3) := dk_182 0 55 (dk_at dksX3_failedCommand_0 14 rfl rfl)
theorem dX3_failedCommand_17 : decode cX3_failedCommand 17 = .ok (.goto 7, 3) := dk_167 0 7 (dk_at dksX3_failedCommand_0 17 rfl rfl)
theorem dX3_failedCommand_20 : decode cX3_failedCommand 20 = .ok (.aload_n 0, 1) := dk_42 (dk_at dksX3_failedCommand_0 20 rfl rfl)
theorem dX3_failedCommand_21 : decode cX3_failedCommand 21 = .ok (.getfield 46, 3) := dk_180 0 46 (dk_at dksX3_failedCommand_0 21 rfl rfl)
theorem dX3_failedCommand_24 : decode cX3_failedCommand 24 = .ok (.ireturn, 1) := dk_172 (dk_at dksX3_failedCommand_1 0 rfl rfl)
abbrev cX3_undo : ByteArray := prog_18_method_93_code
def yX3_undo : MethodName := ⟨RX3, "undo", "()I"⟩
def dkwX3_undo_2 : List UInt8 := [180, 0, 59, 104, 27, 96, 46, 79, 132, 1, 1, 167, 255, 227, 42, 180, 0, 59, 172]
abbrev dktX3_undo_2 : List UInt8 := dkwX3_undo_2 ++ []
def dkwX3_undo_1 : List UInt8 := [100, 181, 0, 59, 3, 60, 27, 16, 114, 162, 0, 29, 42, 180, 0, 9, 27, 42, 180, 0, 16, 16, 114, 42]
abbrev dktX3_undo_1 : List UInt8 := dkwX3_undo_1 ++ dktX3_undo_2
def dkwX3_undo_0 : List UInt8 := [42, 3, 181, 0, 49, 42, 180, 0, 59, 154, 0, 9, 42, 4, 182, 0, 55, 172, 42, 89, 180, 0, 59, 4]
abbrev dktX3_undo_0 : List UInt8 := dkwX3_undo_0 ++ dktX3_undo_1
theorem dksX3_undo_0 : cX3_undo.data.toList.drop 0 = dktX3_undo_0 := by decide +kernel
theorem dksX3_undo_1 : cX3_undo.data.toList.drop 24 = dktX3_undo_1 := dk_seg dksX3_undo_0 24 rfl rfl
theorem dksX3_undo_2 : cX3_undo.data.toList.drop 48 = dktX3_undo_2 := dk_seg dksX3_undo_1 24 rfl rfl
theorem dX3_undo_0 : decode cX3_undo 0 = .ok (.aload_n 0, 1) := dk_42 (dk_at dksX3_undo_0 0 rfl rfl)
theorem dX3_undo_1 : decode cX3_undo 1 = .ok (.iconst 0, 1) := dk_3 (dk_at dksX3_undo_0 1 rfl rfl)
theorem dX3_undo_2 : decode cX3_undo 2 = .ok (.putfield 49, 3) := dk_181 0 49 (dk_at dksX3_undo_0 2 rfl rfl)
theorem dX3_undo_5 : decode cX3_undo 5 = .ok (.aload_n 0, 1) := dk_42 (dk_at dksX3_undo_0 5 rfl rfl)
theorem dX3_undo_6 : decode cX3_undo 6 = .ok (.getfield 59, 3) := dk_180 0 59 (dk_at dksX3_undo_0 6 rfl rfl)
theorem dX3_undo_9 : decode cX3_undo 9 = .ok (.ifCond .ne 9, 3) := dk_154 0 9 (dk_at dksX3_undo_0 9 rfl rfl)
theorem dX3_undo_12 : decode cX3_undo 12 = .ok (.aload_n 0, 1) := dk_42 (dk_at dksX3_undo_0 12 rfl rfl)
theorem dX3_undo_13 : decode cX3_undo 13 = .ok (.iconst 1, 1) := dk_4 (dk_at dksX3_undo_0 13 rfl rfl)
theorem dX3_undo_14 : decode cX3_undo 14 = .ok (.invokevirtual 55, 3) := dk_182 0 55 (dk_at dksX3_undo_0 14 rfl rfl)
theorem dX3_undo_17 : decode cX3_undo 17 = .ok (.ireturn, 1) := dk_172 (dk_at dksX3_undo_0 17 rfl rfl)
theorem dX3_undo_18 : decode cX3_undo 18 = .ok (.aload_n 0, 1) := dk_42 (dk_at dksX3_undo_0 18 rfl rfl)
theorem dX3_undo_19 : decode cX3_undo 19 = .ok (.dup, 1) := dk_89 (dk_at dksX3_undo_0 19 rfl rfl)
theorem dX3_undo_20 : decode cX3_undo 20 = .ok (.getfield 59, 3) := dk_180 0 59 (dk_at dksX3_undo_0 20 rfl rfl)
theorem dX3_undo_23 : decode cX3_undo 23 = .ok (.iconst 1, 1) := dk_4 (dk_at dksX3_undo_0 23 rfl rfl)
theorem dX3_undo_24 : decode cX3_undo 24 = .ok (.isub, 1) := dk_100 (dk_at dksX3_undo_1 0 rfl rfl)
theorem dX3_undo_25 : decode cX3_undo 25 = .ok (.putfield 59, 3) := dk_181 0 59 (dk_at dksX3_undo_1 1 rfl rfl)
theorem dX3_undo_28 : decode cX3_undo 28 = .ok (.iconst 0, 1) := dk_3 (dk_at dksX3_undo_1 4 rfl rfl)
theorem dX3_undo_29 : decode cX3_undo 29 = .ok (.istore_n 1, 1) := dk_60 (dk_at dksX3_undo_1 5 rfl rfl)
theorem dX3_undo_30 : decode cX3_undo 30 = .ok (.iload_n 1, 1) := dk_27 (dk_at dksX3_undo_1 6 rfl rfl)
theorem dX3_undo_31 : decode cX3_undo 31 = .ok (.bipush 114, 2) := dk_16 114 (dk_at dksX3_undo_1 7 rfl rfl)
theorem dX3_undo_33 : decode cX3_undo 33 = .ok (.if_icmp .ge 29, 3) := dk_162 0 29 (dk_at dksX3_undo_1 9 rfl rfl)
theorem dX3_undo_36 : decode cX3_undo 36 = .ok (.aload_n 0, 1) := dk_42 (dk_at dksX3_undo_1 12 rfl rfl)
theorem dX3_undo_37 : decode cX3_undo 37 = .ok (.getfield 9, 3) := dk_180 0 9 (dk_at dksX3_undo_1 13 rfl rfl)
theorem dX3_undo_40 : decode cX3_undo 40 = .ok (.iload_n 1, 1) := dk_27 (dk_at dksX3_undo_1 16 rfl rfl)
theorem dX3_undo_41 : decode cX3_undo 41 = .ok (.aload_n 0, 1) := dk_42 (dk_at dksX3_undo_1 17 rfl rfl)
theorem dX3_undo_42 : decode cX3_undo 42 = .ok (.getfield 16, 3) := dk_180 0 16 (dk_at dksX3_undo_1 18 rfl rfl)
theorem dX3_undo_45 : decode cX3_undo 45 = .ok (.bipush 114, 2) := dk_16 114 (dk_at dksX3_undo_1 21 rfl rfl)
theorem dX3_undo_47 : decode cX3_undo 47 = .ok (.aload_n 0, 1) := dk_42 (dk_at dksX3_undo_1 23 rfl rfl)
theorem dX3_undo_48 : decode cX3_undo 48 = .ok (.getfield 59, 3) := dk_180 0 59 (dk_at dksX3_undo_2 0 rfl rfl)
theorem dX3_undo_51 : decode cX3_undo 51 = .ok (.imul, 1) := dk_104 (dk_at dksX3_undo_2 3 rfl rfl)
theorem dX3_undo_52 : decode cX3_undo 52 = .ok (.iload_n 1, 1) := dk_27 (dk_at dksX3_undo_2 4 rfl rfl)
theorem dX3_undo_53 : decode cX3_undo 53 = .ok (.iadd, 1) := dk_96 (dk_at dksX3_undo_2 5 rfl rfl)
theorem dX3_undo_54 : decode cX3_undo 54 = .ok (.iaload, 1) := dk_46 (dk_at dksX3_undo_2 6 rfl rfl)
theorem dX3_undo_55 : decode cX3_undo 55 = .ok (.iastore, 1) := dk_79 (dk_at dksX3_undo_2 7 rfl rfl)
theorem dX3_undo_56 : decode cX3_undo 56 = .ok (.iinc 1 1, 3) := dk_132 1 1 (dk_at dksX3_undo_2 8 rfl rfl)
theorem dX3_undo_59 : decode cX3_undo 59 = .ok (.goto (-29), 3) := dk_167 255 227 (dk_at dksX3_undo_2 11 rfl rfl)
theorem dX3_undo_62 : decode cX3_undo 62 = .ok (.aload_n 0, 1) := dk_42 (dk_at dksX3_undo_2 14 rfl rfl)
theorem dX3_undo_63 : decode cX3_undo 63 = .ok (.getfield 59, 3) := dk_180 0 59 (dk_at dksX3_undo_2 15 rfl rfl)
theorem dX3_undo_66 : decode cX3_undo 66 = .ok (.ireturn, 1) := dk_172 (dk_at dksX3_undo_2 18 rfl rfl)
abbrev cX3_save : ByteArray := prog_18_method_94_code
def yX3_save : MethodName := ⟨RX3, "save", "()I"⟩
def dkwX3_save_1 : List UInt8 := [180, 0, 9, 27, 46, 79, 132, 1, 1, 167, 255, 235, 42, 180, 0, 9, 3, 46, 172]
abbrev dktX3_save_1 : List UInt8 := dkwX3_save_1 ++ []
def dkwX3_save_0 : List UInt8 := [42, 3, 181, 0, 49, 42, 4, 181, 1, 30, 3, 60, 27, 16, 114, 162, 0, 21, 42, 180, 0, 19, 27, 42]
abbrev dktX3_save_0 : List UInt8 := dkwX3_save_0 ++ dktX3_save_1
theorem dksX3_save_0 : cX3_save.data.toList.drop 0 = dktX3_save_0 := by decide +kernel
theorem dksX3_save_1 : cX3_save.data.toList.drop 24 = dktX3_save_1 := dk_seg dksX3_save_0 24 rfl rfl
theorem dX3_save_0 : decode cX3_save 0 = .ok (.aload_n 0, 1) := dk_42 (dk_at dksX3_save_0 0 rfl rfl)
theorem dX3_save_1 : decode cX3_save 1 = .ok (.iconst 0, 1) := dk_3 (dk_at dksX3_save_0 1 rfl rfl)
theorem dX3_save_2 : decode cX3_save 2 = .ok (.putfield 49, 3) := dk_181 0 49 (dk_at dksX3_save_0 2 rfl rfl)
theorem dX3_save_5 : decode cX3_save 5 = .ok (.aload_n 0, 1) := dk_42 (dk_at dksX3_save_0 5 rfl rfl)
theorem dX3_save_6 : decode cX3_save 6 = .ok (.iconst 1, 1) := dk_4 (dk_at dksX3_save_0 6 rfl rfl)
theorem dX3_save_7 : decode cX3_save 7 = .ok (.putfield 286, 3) := dk_181 1 30 (dk_at dksX3_save_0 7 rfl rfl)
theorem dX3_save_10 : decode cX3_save 10 = .ok (.iconst 0, 1) := dk_3 (dk_at dksX3_save_0 10 rfl rfl)
theorem dX3_save_11 : decode cX3_save 11 = .ok (.istore_n 1, 1) := dk_60 (dk_at dksX3_save_0 11 rfl rfl)
theorem dX3_save_12 : decode cX3_save 12 = .ok (.iload_n 1, 1) := dk_27 (dk_at dksX3_save_0 12 rfl rfl)
theorem dX3_save_13 : decode cX3_save 13 = .ok (.bipush 114, 2) := dk_16 114 (dk_at dksX3_save_0 13 rfl rfl)
theorem dX3_save_15 : decode cX3_save 15 = .ok (.if_icmp .ge 21, 3) := dk_162 0 21 (dk_at dksX3_save_0 15 rfl rfl)
theorem dX3_save_18 : decode cX3_save 18 = .ok (.aload_n 0, 1) := dk_42 (dk_at dksX3_save_0 18 rfl rfl)
theorem dX3_save_19 : decode cX3_save 19 = .ok (.getfield 19, 3) := dk_180 0 19 (dk_at dksX3_save_0 19 rfl rfl)
theorem dX3_save_22 : decode cX3_save 22 = .ok (.iload_n 1, 1) := dk_27 (dk_at dksX3_save_0 22 rfl rfl)
theorem dX3_save_23 : decode cX3_save 23 = .ok (.aload_n 0, 1) := dk_42 (dk_at dksX3_save_0 23 rfl rfl)
theorem dX3_save_24 : decode cX3_save 24 = .ok (.getfield 9, 3) := dk_180 0 9 (dk_at dksX3_save_1 0 rfl rfl)
theorem dX3_save_27 : decode cX3_save 27 = .ok (.iload_n 1, 1) := dk_27 (dk_at dksX3_save_1 3 rfl rfl)
theorem dX3_save_28 : decode cX3_save 28 = .ok (.iaload, 1) := dk_46 (dk_at dksX3_save_1 4 rfl rfl)
theorem dX3_save_29 : decode cX3_save 29 = .ok (.iastore, 1) := dk_79 (dk_at dksX3_save_1 5 rfl rfl)
theorem dX3_save_30 : decode cX3_save 30 = .ok (.iinc 1 1, 3) := dk_132 1 1 (dk_at dksX3_save_1 6 rfl rfl)
theorem dX3_save_33 : decode cX3_save 33 = .ok (.goto (-21), 3) := dk_167 255 235 (dk_at dksX3_save_1 9 rfl rfl)
theorem dX3_save_36 : decode cX3_save 36 = .ok (.aload_n 0, 1) := dk_42 (dk_at dksX3_save_1 12 rfl rfl)
theorem dX3_save_37 : decode cX3_save 37 = .ok (.getfield 9, 3) := dk_180 0 9 (dk_at dksX3_save_1 13 rfl rfl)
theorem dX3_save_40 : decode cX3_save 40 = .ok (.iconst 0, 1) := dk_3 (dk_at dksX3_save_1 16 rfl rfl)
theorem dX3_save_41 : decode cX3_save 41 = .ok (.iaload, 1) := dk_46 (dk_at dksX3_save_1 17 rfl rfl)
theorem dX3_save_42 : decode cX3_save 42 = .ok (.ireturn, 1) := dk_172 (dk_at dksX3_save_1 18 rfl rfl)
abbrev cX3_restore : ByteArray := prog_18_method_95_code
def yX3_restore : MethodName := ⟨RX3, "restore", "()I"⟩
def dkwX3_restore_2 : List UInt8 := [181, 0, 59, 42, 180, 0, 9, 3, 46, 172]
abbrev dktX3_restore_2 : List UInt8 := dkwX3_restore_2 ++ []
def dkwX3_restore_1 : List UInt8 := [162, 0, 21, 42, 180, 0, 9, 27, 42, 180, 0, 19, 27, 46, 79, 132, 1, 1, 167, 255, 235, 42, 3]
abbrev dktX3_restore_1 : List UInt8 := dkwX3_restore_1 ++ dktX3_restore_2
def dkwX3_restore_0 : List UInt8 := [42, 3, 181, 0, 49, 42, 180, 1, 30, 154, 0, 9, 42, 4, 182, 0, 55, 172, 3, 60, 27, 16, 114]
abbrev dktX3_restore_0 : List UInt8 := dkwX3_restore_0 ++ dktX3_restore_1
theorem dksX3_restore_0 : cX3_restore.data.toList.drop 0 = dktX3_restore_0 := by decide +kernel
theorem dksX3_restore_1 : cX3_restore.data.toList.drop 23 = dktX3_restore_1 := dk_seg dksX3_restore_0 23 rfl rfl
theorem dksX3_restore_2 : cX3_restore.data.toList.drop 46 = dktX3_restore_2 := dk_seg dksX3_restore_1 23 rfl rfl
theorem dX3_restore_0 : decode cX3_restore 0 = .ok (.aload_n 0, 1) := dk_42 (dk_at dksX3_restore_0 0 rfl rfl)
theorem dX3_restore_1 : decode cX3_restore 1 = .ok (.iconst 0, 1) := dk_3 (dk_at dksX3_restore_0 1 rfl rfl)
theorem dX3_restore_2 : decode cX3_restore 2 = .ok (.putfield 49, 3) := dk_181 0 49 (dk_at dksX3_restore_0 2 rfl rfl)
theorem dX3_restore_5 : decode cX3_restore 5 = .ok (.aload_n 0, 1) := dk_42 (dk_at dksX3_restore_0 5 rfl rfl)
theorem dX3_restore_6 : decode cX3_restore 6 = .ok (.getfield 286, 3) := dk_180 1 30 (dk_at dksX3_restore_0 6 rfl rfl)
theorem dX3_restore_9 : decode cX3_restore 9 = .ok (.ifCond .ne 9, 3) := dk_154 0 9 (dk_at dksX3_restore_0 9 rfl rfl)
theorem dX3_restore_12 : decode cX3_restore 12 = .ok (.aload_n 0, 1) := dk_42 (dk_at dksX3_restore_0 12 rfl rfl)
theorem dX3_restore_13 : decode cX3_restore 13 = .ok (.iconst 1, 1) := dk_4 (dk_at dksX3_restore_0 13 rfl rfl)
theorem dX3_restore_14 : decode cX3_restore 14 = .ok (.invokevirtual 55, 3) := dk_182 0 55 (dk_at dksX3_restore_0 14 rfl rfl)
theorem dX3_restore_17 : decode cX3_restore 17 = .ok (.ireturn, 1) := dk_172 (dk_at dksX3_restore_0 17 rfl rfl)
theorem dX3_restore_18 : decode cX3_restore 18 = .ok (.iconst 0, 1) := dk_3 (dk_at dksX3_restore_0 18 rfl rfl)
theorem dX3_restore_19 : decode cX3_restore 19 = .ok (.istore_n 1, 1) := dk_60 (dk_at dksX3_restore_0 19 rfl rfl)
theorem dX3_restore_20 : decode cX3_restore 20 = .ok (.iload_n 1, 1) := dk_27 (dk_at dksX3_restore_0 20 rfl rfl)
theorem dX3_restore_21 : decode cX3_restore 21 = .ok (.bipush 114, 2) := dk_16 114 (dk_at dksX3_restore_0 21 rfl rfl)
theorem dX3_restore_23 : decode cX3_restore 23 = .ok (.if_icmp .ge 21, 3) := dk_162 0 21 (dk_at dksX3_restore_1 0 rfl rfl)
theorem dX3_restore_26 : decode cX3_restore 26 = .ok (.aload_n 0, 1) := dk_42 (dk_at dksX3_restore_1 3 rfl rfl)
theorem dX3_restore_27 : decode cX3_restore 27 = .ok (.getfield 9, 3) := dk_180 0 9 (dk_at dksX3_restore_1 4 rfl rfl)
theorem dX3_restore_30 : decode cX3_restore 30 = .ok (.iload_n 1, 1) := dk_27 (dk_at dksX3_restore_1 7 rfl rfl)
theorem dX3_restore_31 : decode cX3_restore 31 = .ok (.aload_n 0, 1) := dk_42 (dk_at dksX3_restore_1 8 rfl rfl)
theorem dX3_restore_32 : decode cX3_restore 32 = .ok (.getfield 19, 3) := dk_180 0 19 (dk_at dksX3_restore_1 9 rfl rfl)
theorem dX3_restore_35 : decode cX3_restore 35 = .ok (.iload_n 1, 1) := dk_27 (dk_at dksX3_restore_1 12 rfl rfl)
theorem dX3_restore_36 : decode cX3_restore 36 = .ok (.iaload, 1) := dk_46 (dk_at dksX3_restore_1 13 rfl rfl)
theorem dX3_restore_37 : decode cX3_restore 37 = .ok (.iastore, 1) := dk_79 (dk_at dksX3_restore_1 14 rfl rfl)
theorem dX3_restore_38 : decode cX3_restore 38 = .ok (.iinc 1 1, 3) := dk_132 1 1 (dk_at dksX3_restore_1 15 rfl rfl)
theorem dX3_restore_41 : decode cX3_restore 41 = .ok (.goto (-21), 3) := dk_167 255 235 (dk_at dksX3_restore_1 18 rfl rfl)
theorem dX3_restore_44 : decode cX3_restore 44 = .ok (.aload_n 0, 1) := dk_42 (dk_at dksX3_restore_1 21 rfl rfl)
theorem dX3_restore_45 : decode cX3_restore 45 = .ok (.iconst 0, 1) := dk_3 (dk_at dksX3_restore_1 22 rfl rfl)
theorem dX3_restore_46 : decode cX3_restore 46 = .ok (.putfield 59, 3) := dk_181 0 59 (dk_at dksX3_restore_2 0 rfl rfl)
theorem dX3_restore_49 : decode cX3_restore 49 = .ok (.aload_n 0, 1) := dk_42 (dk_at dksX3_restore_2 3 rfl rfl)
theorem dX3_restore_50 : decode cX3_restore 50 = .ok (.getfield 9, 3) := dk_180 0 9 (dk_at dksX3_restore_2 4 rfl rfl)
theorem dX3_restore_53 : decode cX3_restore 53 = .ok (.iconst 0, 1) := dk_3 (dk_at dksX3_restore_2 7 rfl rfl)
theorem dX3_restore_54 : decode cX3_restore 54 = .ok (.iaload, 1) := dk_46 (dk_at dksX3_restore_2 8 rfl rfl)
theorem dX3_restore_55 : decode cX3_restore 55 = .ok (.ireturn, 1) := dk_172 (dk_at dksX3_restore_2 9 rfl rfl)
theorem q79 : (Jvm.Cond.initialized "FilterWaterworksModel") ∈ lw_all := lw_g (lw_at lw_m1 12 rfl) rfl
theorem q1005 : (Jvm.Cond.selects "FilterWaterworksModel" ({ cls := "java/lang/Object", name := "getClass", desc := "()Ljava/lang/Class;" } : Jvm.MethodName) ({ cls := "java/lang/Object", name := "getClass", desc := "()Ljava/lang/Class;" } : Jvm.MethodName)) ∈ lw_all := lw_g (lw_at lw_m4 218 rfl) rfl
theorem q2077 : (Jvm.Cond.selects "FilterWaterworksModel" ({ cls := "java/lang/Object", name := "toString", desc := "()Ljava/lang/String;" } : Jvm.MethodName) ({ cls := "java/lang/Object", name := "toString", desc := "()Ljava/lang/String;" } : Jvm.MethodName)) ∈ lw_all := lw_g (lw_at lw_m9 90 rfl) rfl
theorem q2273 : (Jvm.Cond.instantiable "FilterWaterworksModel" (18 : Nat)) ∈ lw_all := lw_g (lw_at lw_m10 46 rfl) rfl
theorem q2275 : (Jvm.Cond.instanceMethod ({ cls := "FilterWaterworksModel", name := "<init>", desc := "()V" } : Jvm.MethodName)) ∈ lw_all := lw_g (lw_at lw_m10 48 rfl) rfl
theorem q2276 : (Jvm.Cond.code ({ cls := "FilterWaterworksModel", name := "<init>", desc := "()V" } : Jvm.MethodName) prog_18_method_1_code (1 : Nat) (Option.none : Option Jvm.ClassFile.FieldType)) ∈ lw_all := lw_g (lw_at lw_m10 49 rfl) rfl
theorem q2277 : (Jvm.Cond.methodLink "FilterWaterworksModel" (3 : Nat) ({ cls := "java/lang/Object", name := "<init>", desc := "()V" } : Jvm.MethodName)) ∈ lw_all := lw_g (lw_at lw_m10 50 rfl) rfl
theorem q2278 : (Jvm.Cond.stringRef "FilterWaterworksModel" (33 : Nat) "") ∈ lw_tbl := lw_at lw_m10 51 rfl
theorem q2279 : (Jvm.Cond.fieldLink "FilterWaterworksModel" (9 : Nat) "FilterWaterworksModel" "now" "[I") ∈ lw_all := lw_g (lw_at lw_m10 52 rfl) rfl
theorem q2280 : (Jvm.Cond.fieldLink "FilterWaterworksModel" (13 : Nat) "FilterWaterworksModel" "tried" "[I") ∈ lw_all := lw_g (lw_at lw_m10 53 rfl) rfl
theorem q2281 : (Jvm.Cond.fieldLink "FilterWaterworksModel" (16 : Nat) "FilterWaterworksModel" "kept" "[I") ∈ lw_all := lw_g (lw_at lw_m10 54 rfl) rfl
theorem q2282 : (Jvm.Cond.fieldLink "FilterWaterworksModel" (59 : Nat) "FilterWaterworksModel" "undos" "I") ∈ lw_all := lw_g (lw_at lw_m10 55 rfl) rfl
theorem q2283 : (Jvm.Cond.fieldLink "FilterWaterworksModel" (19 : Nat) "FilterWaterworksModel" "saved" "[I") ∈ lw_all := lw_g (lw_at lw_m10 56 rfl) rfl
theorem q2284 : (Jvm.Cond.fieldLink "FilterWaterworksModel" (286 : Nat) "FilterWaterworksModel" "isSaved" "Z") ∈ lw_all := lw_g (lw_at lw_m10 57 rfl) rfl
theorem q2285 : (Jvm.Cond.fieldLink "FilterWaterworksModel" (22 : Nat) "FilterWaterworksModel" "reached" "[Z") ∈ lw_all := lw_g (lw_at lw_m10 58 rfl) rfl
theorem q2286 : (Jvm.Cond.fieldLink "FilterWaterworksModel" (26 : Nat) "FilterWaterworksModel" "output" "[C") ∈ lw_all := lw_g (lw_at lw_m10 59 rfl) rfl
theorem q2287 : (Jvm.Cond.fieldLink "FilterWaterworksModel" (203 : Nat) "FilterWaterworksModel" "written" "I") ∈ lw_all := lw_g (lw_at lw_m10 60 rfl) rfl
theorem q2288 : (Jvm.Cond.fieldLink "FilterWaterworksModel" (30 : Nat) "FilterWaterworksModel" "text" "[C") ∈ lw_all := lw_g (lw_at lw_m10 61 rfl) rfl
theorem q2289 : (Jvm.Cond.fieldLink "FilterWaterworksModel" (216 : Nat) "FilterWaterworksModel" "length" "I") ∈ lw_all := lw_g (lw_at lw_m10 62 rfl) rfl
theorem q2290 : (Jvm.Cond.fieldLink "FilterWaterworksModel" (219 : Nat) "FilterWaterworksModel" "at" "I") ∈ lw_all := lw_g (lw_at lw_m10 63 rfl) rfl
theorem q2291 : (Jvm.Cond.fieldLink "FilterWaterworksModel" (35 : Nat) "FilterWaterworksModel" "word" "Ljava/lang/String;") ∈ lw_all := lw_g (lw_at lw_m10 64 rfl) rfl
theorem q2292 : (Jvm.Cond.fieldLink "FilterWaterworksModel" (39 : Nat) "FilterWaterworksModel" "told" "[I") ∈ lw_all := lw_g (lw_at lw_m10 65 rfl) rfl
theorem q2293 : (Jvm.Cond.fieldLink "FilterWaterworksModel" (42 : Nat) "FilterWaterworksModel" "fault" "I") ∈ lw_all := lw_g (lw_at lw_m10 66 rfl) rfl
theorem q2294 : (Jvm.Cond.fieldLink "FilterWaterworksModel" (46 : Nat) "FilterWaterworksModel" "failed" "I") ∈ lw_all := lw_g (lw_at lw_m10 67 rfl) rfl
theorem q2295 : (Jvm.Cond.fieldLink "FilterWaterworksModel" (52 : Nat) "FilterWaterworksModel" "answer" "I") ∈ lw_all := lw_g (lw_at lw_m10 68 rfl) rfl
theorem q2296 : (Jvm.Cond.fieldLink "FilterWaterworksModel" (49 : Nat) "FilterWaterworksModel" "thrown" "I") ∈ lw_all := lw_g (lw_at lw_m10 69 rfl) rfl
theorem q2297 : (Jvm.Cond.laysFinal "FilterWaterworksModel" "FilterWaterworksModel" "now" "[I") ∈ lw_all := lw_g (lw_at lw_m10 70 rfl) rfl
theorem q2298 : (Jvm.Cond.soleField "FilterWaterworksModel" "now") ∈ lw_all := lw_g (lw_at lw_m10 71 rfl) rfl
theorem q2299 : (Jvm.Cond.laysFinal "FilterWaterworksModel" "FilterWaterworksModel" "tried" "[I") ∈ lw_all := lw_g (lw_at lw_m10 72 rfl) rfl
theorem q2300 : (Jvm.Cond.soleField "FilterWaterworksModel" "tried") ∈ lw_all := lw_g (lw_at lw_m10 73 rfl) rfl
theorem q2301 : (Jvm.Cond.laysFinal "FilterWaterworksModel" "FilterWaterworksModel" "kept" "[I") ∈ lw_all := lw_g (lw_at lw_m10 74 rfl) rfl
theorem q2302 : (Jvm.Cond.soleField "FilterWaterworksModel" "kept") ∈ lw_all := lw_g (lw_at lw_m10 75 rfl) rfl
theorem q2303 : (Jvm.Cond.lays "FilterWaterworksModel" "FilterWaterworksModel" "undos" "I") ∈ lw_all := lw_g (lw_at lw_m10 76 rfl) rfl
theorem q2304 : (Jvm.Cond.soleField "FilterWaterworksModel" "undos") ∈ lw_all := lw_g (lw_at lw_m10 77 rfl) rfl
theorem q2305 : (Jvm.Cond.laysFinal "FilterWaterworksModel" "FilterWaterworksModel" "saved" "[I") ∈ lw_all := lw_g (lw_at lw_m10 78 rfl) rfl
theorem q2306 : (Jvm.Cond.soleField "FilterWaterworksModel" "saved") ∈ lw_all := lw_g (lw_at lw_m10 79 rfl) rfl
theorem q2307 : (Jvm.Cond.lays "FilterWaterworksModel" "FilterWaterworksModel" "isSaved" "Z") ∈ lw_all := lw_g (lw_at lw_m10 80 rfl) rfl
theorem q2308 : (Jvm.Cond.soleField "FilterWaterworksModel" "isSaved") ∈ lw_all := lw_g (lw_at lw_m10 81 rfl) rfl
theorem q2309 : (Jvm.Cond.laysFinal "FilterWaterworksModel" "FilterWaterworksModel" "reached" "[Z") ∈ lw_all := lw_g (lw_at lw_m10 82 rfl) rfl
theorem q2310 : (Jvm.Cond.soleField "FilterWaterworksModel" "reached") ∈ lw_all := lw_g (lw_at lw_m10 83 rfl) rfl
theorem q2311 : (Jvm.Cond.laysFinal "FilterWaterworksModel" "FilterWaterworksModel" "output" "[C") ∈ lw_all := lw_g (lw_at lw_m10 84 rfl) rfl
theorem q2312 : (Jvm.Cond.soleField "FilterWaterworksModel" "output") ∈ lw_all := lw_g (lw_at lw_m10 85 rfl) rfl
theorem q2313 : (Jvm.Cond.lays "FilterWaterworksModel" "FilterWaterworksModel" "written" "I") ∈ lw_all := lw_g (lw_at lw_m10 86 rfl) rfl
theorem q2314 : (Jvm.Cond.soleField "FilterWaterworksModel" "written") ∈ lw_all := lw_g (lw_at lw_m10 87 rfl) rfl
theorem q2315 : (Jvm.Cond.laysFinal "FilterWaterworksModel" "FilterWaterworksModel" "text" "[C") ∈ lw_all := lw_g (lw_at lw_m10 88 rfl) rfl
theorem q2316 : (Jvm.Cond.soleField "FilterWaterworksModel" "text") ∈ lw_all := lw_g (lw_at lw_m10 89 rfl) rfl
theorem q2317 : (Jvm.Cond.lays "FilterWaterworksModel" "FilterWaterworksModel" "length" "I") ∈ lw_all := lw_g (lw_at lw_m10 90 rfl) rfl
theorem q2318 : (Jvm.Cond.soleField "FilterWaterworksModel" "length") ∈ lw_all := lw_g (lw_at lw_m10 91 rfl) rfl
theorem q2319 : (Jvm.Cond.lays "FilterWaterworksModel" "FilterWaterworksModel" "at" "I") ∈ lw_all := lw_g (lw_at lw_m10 92 rfl) rfl
theorem q2320 : (Jvm.Cond.soleField "FilterWaterworksModel" "at") ∈ lw_all := lw_g (lw_at lw_m10 93 rfl) rfl
theorem q2321 : (Jvm.Cond.lays "FilterWaterworksModel" "FilterWaterworksModel" "word" "Ljava/lang/String;") ∈ lw_all := lw_g (lw_at lw_m10 94 rfl) rfl
theorem q2322 : (Jvm.Cond.soleField "FilterWaterworksModel" "word") ∈ lw_all := lw_g (lw_at lw_m10 95 rfl) rfl
theorem q2323 : (Jvm.Cond.laysFinal "FilterWaterworksModel" "FilterWaterworksModel" "told" "[I") ∈ lw_all := lw_g (lw_at lw_m10 96 rfl) rfl
theorem q2324 : (Jvm.Cond.soleField "FilterWaterworksModel" "told") ∈ lw_all := lw_g (lw_at lw_m10 97 rfl) rfl
theorem q2325 : (Jvm.Cond.lays "FilterWaterworksModel" "FilterWaterworksModel" "fault" "I") ∈ lw_all := lw_g (lw_at lw_m10 98 rfl) rfl
theorem q2326 : (Jvm.Cond.soleField "FilterWaterworksModel" "fault") ∈ lw_all := lw_g (lw_at lw_m10 99 rfl) rfl
theorem q2327 : (Jvm.Cond.lays "FilterWaterworksModel" "FilterWaterworksModel" "failed" "I") ∈ lw_all := lw_g (lw_at lw_m10 100 rfl) rfl
theorem q2328 : (Jvm.Cond.soleField "FilterWaterworksModel" "failed") ∈ lw_all := lw_g (lw_at lw_m10 101 rfl) rfl
theorem q2329 : (Jvm.Cond.lays "FilterWaterworksModel" "FilterWaterworksModel" "answer" "I") ∈ lw_all := lw_g (lw_at lw_m10 102 rfl) rfl
theorem q2330 : (Jvm.Cond.soleField "FilterWaterworksModel" "answer") ∈ lw_all := lw_g (lw_at lw_m10 103 rfl) rfl
theorem q2331 : (Jvm.Cond.lays "FilterWaterworksModel" "FilterWaterworksModel" "thrown" "I") ∈ lw_all := lw_g (lw_at lw_m10 104 rfl) rfl
theorem q2332 : (Jvm.Cond.soleField "FilterWaterworksModel" "thrown") ∈ lw_all := lw_g (lw_at lw_m10 105 rfl) rfl
theorem q2333 : (Jvm.Cond.superclass "FilterWaterworksModel" "java/lang/Object") ∈ lw_all := lw_g (lw_at lw_m10 106 rfl) rfl
theorem q2336 : (Jvm.Cond.instanceMethod ({ cls := "FilterWaterworksModel", name := "thrown", desc := "()I" } : Jvm.MethodName)) ∈ lw_all := lw_g (lw_at lw_m10 109 rfl) rfl
theorem q2337 : (Jvm.Cond.selects "FilterWaterworksModel" ({ cls := "FilterWaterworksModel", name := "thrown", desc := "()I" } : Jvm.MethodName) ({ cls := "FilterWaterworksModel", name := "thrown", desc := "()I" } : Jvm.MethodName)) ∈ lw_all := lw_g (lw_at lw_m10 110 rfl) rfl
theorem q2338 : (Jvm.Cond.code ({ cls := "FilterWaterworksModel", name := "thrown", desc := "()I" } : Jvm.MethodName) prog_18_method_2_code (1 : Nat) (Option.some Jvm.ClassFile.FieldType.int)) ∈ lw_all := lw_g (lw_at lw_m10 111 rfl) rfl
theorem q2340 : (Jvm.Cond.instanceMethod ({ cls := "FilterWaterworksModel", name := "addTank", desc := "(I)I" } : Jvm.MethodName)) ∈ lw_all := lw_g (lw_at lw_m10 113 rfl) rfl
theorem q2341 : (Jvm.Cond.selects "FilterWaterworksModel" ({ cls := "FilterWaterworksModel", name := "addTank", desc := "(I)I" } : Jvm.MethodName) ({ cls := "FilterWaterworksModel", name := "addTank", desc := "(I)I" } : Jvm.MethodName)) ∈ lw_all := lw_g (lw_at lw_m10 114 rfl) rfl
theorem q2342 : (Jvm.Cond.code ({ cls := "FilterWaterworksModel", name := "addTank", desc := "(I)I" } : Jvm.MethodName) prog_18_method_15_code (2 : Nat) (Option.some Jvm.ClassFile.FieldType.int)) ∈ lw_all := lw_g (lw_at lw_m10 115 rfl) rfl
theorem q2343 : (Jvm.Cond.methodLink "FilterWaterworksModel" (73 : Nat) ({ cls := "FilterWaterworksModel", name := "tries", desc := "()V" } : Jvm.MethodName)) ∈ lw_all := lw_g (lw_at lw_m10 116 rfl) rfl
theorem q2344 : (Jvm.Cond.privateMethod ({ cls := "FilterWaterworksModel", name := "tries", desc := "()V" } : Jvm.MethodName)) ∈ lw_tbl := lw_at lw_m10 117 rfl
theorem q2345 : (Jvm.Cond.instanceMethod ({ cls := "FilterWaterworksModel", name := "tries", desc := "()V" } : Jvm.MethodName)) ∈ lw_all := lw_g (lw_at lw_m10 118 rfl) rfl
theorem q2346 : (Jvm.Cond.code ({ cls := "FilterWaterworksModel", name := "tries", desc := "()V" } : Jvm.MethodName) prog_18_method_5_code (2 : Nat) (Option.none : Option Jvm.ClassFile.FieldType)) ∈ lw_all := lw_g (lw_at lw_m10 119 rfl) rfl
theorem q2347 : (Jvm.Cond.methodLink "FilterWaterworksModel" (76 : Nat) ({ cls := "FilterWaterworksModel", name := "tanks", desc := "(I)I" } : Jvm.MethodName)) ∈ lw_all := lw_g (lw_at lw_m10 120 rfl) rfl
theorem q2348 : (Jvm.Cond.privateMethod ({ cls := "FilterWaterworksModel", name := "tanks", desc := "(I)I" } : Jvm.MethodName)) ∈ lw_tbl := lw_at lw_m10 121 rfl
theorem q2349 : (Jvm.Cond.instanceMethod ({ cls := "FilterWaterworksModel", name := "tanks", desc := "(I)I" } : Jvm.MethodName)) ∈ lw_all := lw_g (lw_at lw_m10 122 rfl) rfl
theorem q2350 : (Jvm.Cond.code ({ cls := "FilterWaterworksModel", name := "tanks", desc := "(I)I" } : Jvm.MethodName) prog_18_method_14_code (3 : Nat) (Option.some Jvm.ClassFile.FieldType.int)) ∈ lw_all := lw_g (lw_at lw_m10 123 rfl) rfl
theorem q2351 : (Jvm.Cond.methodLink "FilterWaterworksModel" (62 : Nat) ({ cls := "FilterWaterworksModel", name := "in", desc := "(III)Z" } : Jvm.MethodName)) ∈ lw_all := lw_g (lw_at lw_m10 124 rfl) rfl
theorem q2352 : (Jvm.Cond.static ({ cls := "FilterWaterworksModel", name := "in", desc := "(III)Z" } : Jvm.MethodName)) ∈ lw_all := lw_g (lw_at lw_m10 125 rfl) rfl
theorem q2353 : (Jvm.Cond.code ({ cls := "FilterWaterworksModel", name := "in", desc := "(III)Z" } : Jvm.MethodName) prog_18_method_4_code (3 : Nat) (Option.some Jvm.ClassFile.FieldType.boolean)) ∈ lw_all := lw_g (lw_at lw_m10 126 rfl) rfl
theorem q2354 : (Jvm.Cond.methodLink "FilterWaterworksModel" (70 : Nat) ({ cls := "FilterWaterworksModel", name := "does", desc := "(I)I" } : Jvm.MethodName)) ∈ lw_all := lw_g (lw_at lw_m10 127 rfl) rfl
theorem q2355 : (Jvm.Cond.privateMethod ({ cls := "FilterWaterworksModel", name := "does", desc := "(I)I" } : Jvm.MethodName)) ∈ lw_tbl := lw_at lw_m10 128 rfl
theorem q2356 : (Jvm.Cond.instanceMethod ({ cls := "FilterWaterworksModel", name := "does", desc := "(I)I" } : Jvm.MethodName)) ∈ lw_all := lw_g (lw_at lw_m10 129 rfl) rfl
theorem q2357 : (Jvm.Cond.code ({ cls := "FilterWaterworksModel", name := "does", desc := "(I)I" } : Jvm.MethodName) prog_18_method_7_code (2 : Nat) (Option.some Jvm.ClassFile.FieldType.int)) ∈ lw_all := lw_g (lw_at lw_m10 130 rfl) rfl
theorem q2358 : (Jvm.Cond.methodLink "FilterWaterworksModel" (79 : Nat) ({ cls := "FilterWaterworksModel", name := "ends", desc := "(I)I" } : Jvm.MethodName)) ∈ lw_all := lw_g (lw_at lw_m10 131 rfl) rfl
theorem q2359 : (Jvm.Cond.privateMethod ({ cls := "FilterWaterworksModel", name := "ends", desc := "(I)I" } : Jvm.MethodName)) ∈ lw_tbl := lw_at lw_m10 132 rfl
theorem q2360 : (Jvm.Cond.instanceMethod ({ cls := "FilterWaterworksModel", name := "ends", desc := "(I)I" } : Jvm.MethodName)) ∈ lw_all := lw_g (lw_at lw_m10 133 rfl) rfl
theorem q2361 : (Jvm.Cond.code ({ cls := "FilterWaterworksModel", name := "ends", desc := "(I)I" } : Jvm.MethodName) prog_18_method_8_code (3 : Nat) (Option.some Jvm.ClassFile.FieldType.int)) ∈ lw_all := lw_g (lw_at lw_m10 134 rfl) rfl
theorem q2362 : (Jvm.Cond.methodLink "FilterWaterworksModel" (55 : Nat) ({ cls := "FilterWaterworksModel", name := "raises", desc := "(I)I" } : Jvm.MethodName)) ∈ lw_all := lw_g (lw_at lw_m10 135 rfl) rfl
theorem q2363 : (Jvm.Cond.privateMethod ({ cls := "FilterWaterworksModel", name := "raises", desc := "(I)I" } : Jvm.MethodName)) ∈ lw_tbl := lw_at lw_m10 136 rfl
theorem q2364 : (Jvm.Cond.instanceMethod ({ cls := "FilterWaterworksModel", name := "raises", desc := "(I)I" } : Jvm.MethodName)) ∈ lw_all := lw_g (lw_at lw_m10 137 rfl) rfl
theorem q2365 : (Jvm.Cond.code ({ cls := "FilterWaterworksModel", name := "raises", desc := "(I)I" } : Jvm.MethodName) prog_18_method_3_code (2 : Nat) (Option.some Jvm.ClassFile.FieldType.int)) ∈ lw_all := lw_g (lw_at lw_m10 138 rfl) rfl
theorem q2367 : (Jvm.Cond.instanceMethod ({ cls := "FilterWaterworksModel", name := "addPipe", desc := "(III)I" } : Jvm.MethodName)) ∈ lw_all := lw_g (lw_at lw_m10 140 rfl) rfl
theorem q2368 : (Jvm.Cond.selects "FilterWaterworksModel" ({ cls := "FilterWaterworksModel", name := "addPipe", desc := "(III)I" } : Jvm.MethodName) ({ cls := "FilterWaterworksModel", name := "addPipe", desc := "(III)I" } : Jvm.MethodName)) ∈ lw_all := lw_g (lw_at lw_m10 141 rfl) rfl
theorem q2369 : (Jvm.Cond.code ({ cls := "FilterWaterworksModel", name := "addPipe", desc := "(III)I" } : Jvm.MethodName) prog_18_method_17_code (4 : Nat) (Option.some Jvm.ClassFile.FieldType.int)) ∈ lw_all := lw_g (lw_at lw_m10 142 rfl) rfl
theorem q2370 : (Jvm.Cond.methodLink "FilterWaterworksModel" (86 : Nat) ({ cls := "FilterWaterworksModel", name := "pipes", desc := "(III)I" } : Jvm.MethodName)) ∈ lw_all := lw_g (lw_at lw_m10 143 rfl) rfl
theorem q2371 : (Jvm.Cond.privateMethod ({ cls := "FilterWaterworksModel", name := "pipes", desc := "(III)I" } : Jvm.MethodName)) ∈ lw_tbl := lw_at lw_m10 144 rfl
theorem q2372 : (Jvm.Cond.instanceMethod ({ cls := "FilterWaterworksModel", name := "pipes", desc := "(III)I" } : Jvm.MethodName)) ∈ lw_all := lw_g (lw_at lw_m10 145 rfl) rfl
theorem q2373 : (Jvm.Cond.code ({ cls := "FilterWaterworksModel", name := "pipes", desc := "(III)I" } : Jvm.MethodName) prog_18_method_16_code (7 : Nat) (Option.some Jvm.ClassFile.FieldType.int)) ∈ lw_all := lw_g (lw_at lw_m10 146 rfl) rfl
theorem q2374 : (Jvm.Cond.methodLink "FilterWaterworksModel" (82 : Nat) ({ cls := "FilterWaterworksModel", name := "isTank", desc := "(I)Z" } : Jvm.MethodName)) ∈ lw_all := lw_g (lw_at lw_m10 147 rfl) rfl
theorem q2375 : (Jvm.Cond.privateMethod ({ cls := "FilterWaterworksModel", name := "isTank", desc := "(I)Z" } : Jvm.MethodName)) ∈ lw_tbl := lw_at lw_m10 148 rfl
theorem q2376 : (Jvm.Cond.instanceMethod ({ cls := "FilterWaterworksModel", name := "isTank", desc := "(I)Z" } : Jvm.MethodName)) ∈ lw_all := lw_g (lw_at lw_m10 149 rfl) rfl
theorem q2377 : (Jvm.Cond.code ({ cls := "FilterWaterworksModel", name := "isTank", desc := "(I)Z" } : Jvm.MethodName) prog_18_method_9_code (2 : Nat) (Option.some Jvm.ClassFile.FieldType.boolean)) ∈ lw_all := lw_g (lw_at lw_m10 150 rfl) rfl
theorem q2379 : (Jvm.Cond.instanceMethod ({ cls := "FilterWaterworksModel", name := "pour", desc := "(III)I" } : Jvm.MethodName)) ∈ lw_all := lw_g (lw_at lw_m10 152 rfl) rfl
theorem q2380 : (Jvm.Cond.selects "FilterWaterworksModel" ({ cls := "FilterWaterworksModel", name := "pour", desc := "(III)I" } : Jvm.MethodName) ({ cls := "FilterWaterworksModel", name := "pour", desc := "(III)I" } : Jvm.MethodName)) ∈ lw_all := lw_g (lw_at lw_m10 153 rfl) rfl
theorem q2381 : (Jvm.Cond.code ({ cls := "FilterWaterworksModel", name := "pour", desc := "(III)I" } : Jvm.MethodName) prog_18_method_19_code (4 : Nat) (Option.some Jvm.ClassFile.FieldType.int)) ∈ lw_all := lw_g (lw_at lw_m10 154 rfl) rfl
theorem q2382 : (Jvm.Cond.methodLink "FilterWaterworksModel" (90 : Nat) ({ cls := "FilterWaterworksModel", name := "pours", desc := "(III)I" } : Jvm.MethodName)) ∈ lw_all := lw_g (lw_at lw_m10 155 rfl) rfl
theorem q2383 : (Jvm.Cond.privateMethod ({ cls := "FilterWaterworksModel", name := "pours", desc := "(III)I" } : Jvm.MethodName)) ∈ lw_tbl := lw_at lw_m10 156 rfl
theorem q2384 : (Jvm.Cond.instanceMethod ({ cls := "FilterWaterworksModel", name := "pours", desc := "(III)I" } : Jvm.MethodName)) ∈ lw_all := lw_g (lw_at lw_m10 157 rfl) rfl
theorem q2385 : (Jvm.Cond.code ({ cls := "FilterWaterworksModel", name := "pours", desc := "(III)I" } : Jvm.MethodName) prog_18_method_18_code (5 : Nat) (Option.some Jvm.ClassFile.FieldType.int)) ∈ lw_all := lw_g (lw_at lw_m10 158 rfl) rfl
theorem q2387 : (Jvm.Cond.instanceMethod ({ cls := "FilterWaterworksModel", name := "draw", desc := "(II)I" } : Jvm.MethodName)) ∈ lw_all := lw_g (lw_at lw_m10 160 rfl) rfl
theorem q2388 : (Jvm.Cond.selects "FilterWaterworksModel" ({ cls := "FilterWaterworksModel", name := "draw", desc := "(II)I" } : Jvm.MethodName) ({ cls := "FilterWaterworksModel", name := "draw", desc := "(II)I" } : Jvm.MethodName)) ∈ lw_all := lw_g (lw_at lw_m10 161 rfl) rfl
theorem q2389 : (Jvm.Cond.code ({ cls := "FilterWaterworksModel", name := "draw", desc := "(II)I" } : Jvm.MethodName) prog_18_method_21_code (3 : Nat) (Option.some Jvm.ClassFile.FieldType.int)) ∈ lw_all := lw_g (lw_at lw_m10 162 rfl) rfl
theorem q2390 : (Jvm.Cond.methodLink "FilterWaterworksModel" (93 : Nat) ({ cls := "FilterWaterworksModel", name := "draws", desc := "(II)I" } : Jvm.MethodName)) ∈ lw_all := lw_g (lw_at lw_m10 163 rfl) rfl
theorem q2391 : (Jvm.Cond.privateMethod ({ cls := "FilterWaterworksModel", name := "draws", desc := "(II)I" } : Jvm.MethodName)) ∈ lw_tbl := lw_at lw_m10 164 rfl
theorem q2392 : (Jvm.Cond.instanceMethod ({ cls := "FilterWaterworksModel", name := "draws", desc := "(II)I" } : Jvm.MethodName)) ∈ lw_all := lw_g (lw_at lw_m10 165 rfl) rfl
theorem q2393 : (Jvm.Cond.code ({ cls := "FilterWaterworksModel", name := "draws", desc := "(II)I" } : Jvm.MethodName) prog_18_method_20_code (4 : Nat) (Option.some Jvm.ClassFile.FieldType.int)) ∈ lw_all := lw_g (lw_at lw_m10 166 rfl) rfl
theorem q2395 : (Jvm.Cond.instanceMethod ({ cls := "FilterWaterworksModel", name := "setValve", desc := "(II)I" } : Jvm.MethodName)) ∈ lw_all := lw_g (lw_at lw_m10 168 rfl) rfl
theorem q2396 : (Jvm.Cond.selects "FilterWaterworksModel" ({ cls := "FilterWaterworksModel", name := "setValve", desc := "(II)I" } : Jvm.MethodName) ({ cls := "FilterWaterworksModel", name := "setValve", desc := "(II)I" } : Jvm.MethodName)) ∈ lw_all := lw_g (lw_at lw_m10 169 rfl) rfl
theorem q2397 : (Jvm.Cond.code ({ cls := "FilterWaterworksModel", name := "setValve", desc := "(II)I" } : Jvm.MethodName) prog_18_method_23_code (3 : Nat) (Option.some Jvm.ClassFile.FieldType.int)) ∈ lw_all := lw_g (lw_at lw_m10 170 rfl) rfl
theorem q2398 : (Jvm.Cond.methodLink "FilterWaterworksModel" (99 : Nat) ({ cls := "FilterWaterworksModel", name := "sets", desc := "(IIII)I" } : Jvm.MethodName)) ∈ lw_all := lw_g (lw_at lw_m10 171 rfl) rfl
theorem q2399 : (Jvm.Cond.privateMethod ({ cls := "FilterWaterworksModel", name := "sets", desc := "(IIII)I" } : Jvm.MethodName)) ∈ lw_tbl := lw_at lw_m10 172 rfl
theorem q2400 : (Jvm.Cond.instanceMethod ({ cls := "FilterWaterworksModel", name := "sets", desc := "(IIII)I" } : Jvm.MethodName)) ∈ lw_all := lw_g (lw_at lw_m10 173 rfl) rfl
theorem q2401 : (Jvm.Cond.code ({ cls := "FilterWaterworksModel", name := "sets", desc := "(IIII)I" } : Jvm.MethodName) prog_18_method_22_code (6 : Nat) (Option.some Jvm.ClassFile.FieldType.int)) ∈ lw_all := lw_g (lw_at lw_m10 174 rfl) rfl
theorem q2402 : (Jvm.Cond.methodLink "FilterWaterworksModel" (96 : Nat) ({ cls := "FilterWaterworksModel", name := "isPipe", desc := "(I)Z" } : Jvm.MethodName)) ∈ lw_all := lw_g (lw_at lw_m10 175 rfl) rfl
theorem q2403 : (Jvm.Cond.privateMethod ({ cls := "FilterWaterworksModel", name := "isPipe", desc := "(I)Z" } : Jvm.MethodName)) ∈ lw_tbl := lw_at lw_m10 176 rfl
theorem q2404 : (Jvm.Cond.instanceMethod ({ cls := "FilterWaterworksModel", name := "isPipe", desc := "(I)Z" } : Jvm.MethodName)) ∈ lw_all := lw_g (lw_at lw_m10 177 rfl) rfl
theorem q2405 : (Jvm.Cond.code ({ cls := "FilterWaterworksModel", name := "isPipe", desc := "(I)Z" } : Jvm.MethodName) prog_18_method_10_code (2 : Nat) (Option.some Jvm.ClassFile.FieldType.boolean)) ∈ lw_all := lw_g (lw_at lw_m10 178 rfl) rfl
theorem q2406 : (Jvm.Cond.methodLink "FilterWaterworksModel" (66 : Nat) ({ cls := "FilterWaterworksModel", name := "pipe", desc := "(II)I" } : Jvm.MethodName)) ∈ lw_all := lw_g (lw_at lw_m10 179 rfl) rfl
theorem q2407 : (Jvm.Cond.privateMethod ({ cls := "FilterWaterworksModel", name := "pipe", desc := "(II)I" } : Jvm.MethodName)) ∈ lw_tbl := lw_at lw_m10 180 rfl
theorem q2408 : (Jvm.Cond.instanceMethod ({ cls := "FilterWaterworksModel", name := "pipe", desc := "(II)I" } : Jvm.MethodName)) ∈ lw_all := lw_g (lw_at lw_m10 181 rfl) rfl
theorem q2409 : (Jvm.Cond.code ({ cls := "FilterWaterworksModel", name := "pipe", desc := "(II)I" } : Jvm.MethodName) prog_18_method_12_code (3 : Nat) (Option.some Jvm.ClassFile.FieldType.int)) ∈ lw_all := lw_g (lw_at lw_m10 182 rfl) rfl
theorem q2411 : (Jvm.Cond.instanceMethod ({ cls := "FilterWaterworksModel", name := "setLeak", desc := "(II)I" } : Jvm.MethodName)) ∈ lw_all := lw_g (lw_at lw_m10 184 rfl) rfl
theorem q2412 : (Jvm.Cond.selects "FilterWaterworksModel" ({ cls := "FilterWaterworksModel", name := "setLeak", desc := "(II)I" } : Jvm.MethodName) ({ cls := "FilterWaterworksModel", name := "setLeak", desc := "(II)I" } : Jvm.MethodName)) ∈ lw_all := lw_g (lw_at lw_m10 185 rfl) rfl
theorem q2413 : (Jvm.Cond.code ({ cls := "FilterWaterworksModel", name := "setLeak", desc := "(II)I" } : Jvm.MethodName) prog_18_method_24_code (3 : Nat) (Option.some Jvm.ClassFile.FieldType.int)) ∈ lw_all := lw_g (lw_at lw_m10 186 rfl) rfl
theorem q2415 : (Jvm.Cond.instanceMethod ({ cls := "FilterWaterworksModel", name := "cleanFilter", desc := "(I)I" } : Jvm.MethodName)) ∈ lw_all := lw_g (lw_at lw_m10 188 rfl) rfl
theorem q2416 : (Jvm.Cond.selects "FilterWaterworksModel" ({ cls := "FilterWaterworksModel", name := "cleanFilter", desc := "(I)I" } : Jvm.MethodName) ({ cls := "FilterWaterworksModel", name := "cleanFilter", desc := "(I)I" } : Jvm.MethodName)) ∈ lw_all := lw_g (lw_at lw_m10 189 rfl) rfl
theorem q2417 : (Jvm.Cond.code ({ cls := "FilterWaterworksModel", name := "cleanFilter", desc := "(I)I" } : Jvm.MethodName) prog_18_method_25_code (2 : Nat) (Option.some Jvm.ClassFile.FieldType.int)) ∈ lw_all := lw_g (lw_at lw_m10 190 rfl) rfl
theorem q2419 : (Jvm.Cond.instanceMethod ({ cls := "FilterWaterworksModel", name := "advance", desc := "(I)I" } : Jvm.MethodName)) ∈ lw_all := lw_g (lw_at lw_m10 192 rfl) rfl
theorem q2420 : (Jvm.Cond.selects "FilterWaterworksModel" ({ cls := "FilterWaterworksModel", name := "advance", desc := "(I)I" } : Jvm.MethodName) ({ cls := "FilterWaterworksModel", name := "advance", desc := "(I)I" } : Jvm.MethodName)) ∈ lw_all := lw_g (lw_at lw_m10 193 rfl) rfl
theorem q2421 : (Jvm.Cond.code ({ cls := "FilterWaterworksModel", name := "advance", desc := "(I)I" } : Jvm.MethodName) prog_18_method_29_code (2 : Nat) (Option.some Jvm.ClassFile.FieldType.int)) ∈ lw_all := lw_g (lw_at lw_m10 194 rfl) rfl
theorem q2422 : (Jvm.Cond.methodLink "FilterWaterworksModel" (129 : Nat) ({ cls := "FilterWaterworksModel", name := "passes", desc := "(I)I" } : Jvm.MethodName)) ∈ lw_all := lw_g (lw_at lw_m10 195 rfl) rfl
theorem q2423 : (Jvm.Cond.privateMethod ({ cls := "FilterWaterworksModel", name := "passes", desc := "(I)I" } : Jvm.MethodName)) ∈ lw_tbl := lw_at lw_m10 196 rfl
theorem q2424 : (Jvm.Cond.instanceMethod ({ cls := "FilterWaterworksModel", name := "passes", desc := "(I)I" } : Jvm.MethodName)) ∈ lw_all := lw_g (lw_at lw_m10 197 rfl) rfl
theorem q2425 : (Jvm.Cond.code ({ cls := "FilterWaterworksModel", name := "passes", desc := "(I)I" } : Jvm.MethodName) prog_18_method_28_code (5 : Nat) (Option.some Jvm.ClassFile.FieldType.int)) ∈ lw_all := lw_g (lw_at lw_m10 198 rfl) rfl
theorem q2426 : (Jvm.Cond.methodLink "FilterWaterworksModel" (125 : Nat) ({ cls := "FilterWaterworksModel", name := "minute", desc := "()I" } : Jvm.MethodName)) ∈ lw_all := lw_g (lw_at lw_m10 199 rfl) rfl
theorem q2427 : (Jvm.Cond.privateMethod ({ cls := "FilterWaterworksModel", name := "minute", desc := "()I" } : Jvm.MethodName)) ∈ lw_tbl := lw_at lw_m10 200 rfl
theorem q2428 : (Jvm.Cond.instanceMethod ({ cls := "FilterWaterworksModel", name := "minute", desc := "()I" } : Jvm.MethodName)) ∈ lw_all := lw_g (lw_at lw_m10 201 rfl) rfl
theorem q2429 : (Jvm.Cond.code ({ cls := "FilterWaterworksModel", name := "minute", desc := "()I" } : Jvm.MethodName) prog_18_method_27_code (9 : Nat) (Option.some Jvm.ClassFile.FieldType.int)) ∈ lw_all := lw_g (lw_at lw_m10 202 rfl) rfl
theorem q2430 : (Jvm.Cond.methodLink "FilterWaterworksModel" (117 : Nat) ({ cls := "FilterWaterworksModel", name := "flows", desc := "(I)I" } : Jvm.MethodName)) ∈ lw_all := lw_g (lw_at lw_m10 203 rfl) rfl
theorem q2431 : (Jvm.Cond.privateMethod ({ cls := "FilterWaterworksModel", name := "flows", desc := "(I)I" } : Jvm.MethodName)) ∈ lw_tbl := lw_at lw_m10 204 rfl
theorem q2432 : (Jvm.Cond.instanceMethod ({ cls := "FilterWaterworksModel", name := "flows", desc := "(I)I" } : Jvm.MethodName)) ∈ lw_all := lw_g (lw_at lw_m10 205 rfl) rfl
theorem q2433 : (Jvm.Cond.code ({ cls := "FilterWaterworksModel", name := "flows", desc := "(I)I" } : Jvm.MethodName) prog_18_method_26_code (7 : Nat) (Option.some Jvm.ClassFile.FieldType.int)) ∈ lw_all := lw_g (lw_at lw_m10 206 rfl) rfl
theorem q2434 : (Jvm.Cond.methodLink "FilterWaterworksModel" (103 : Nat) ({ cls := "FilterWaterworksModel", name := "goes", desc := "(I)Z" } : Jvm.MethodName)) ∈ lw_all := lw_g (lw_at lw_m10 207 rfl) rfl
theorem q2435 : (Jvm.Cond.privateMethod ({ cls := "FilterWaterworksModel", name := "goes", desc := "(I)Z" } : Jvm.MethodName)) ∈ lw_tbl := lw_at lw_m10 208 rfl
theorem q2436 : (Jvm.Cond.instanceMethod ({ cls := "FilterWaterworksModel", name := "goes", desc := "(I)Z" } : Jvm.MethodName)) ∈ lw_all := lw_g (lw_at lw_m10 209 rfl) rfl
theorem q2437 : (Jvm.Cond.code ({ cls := "FilterWaterworksModel", name := "goes", desc := "(I)Z" } : Jvm.MethodName) prog_18_method_13_code (2 : Nat) (Option.some Jvm.ClassFile.FieldType.boolean)) ∈ lw_all := lw_g (lw_at lw_m10 210 rfl) rfl
theorem q2438 : (Jvm.Cond.methodLink "FilterWaterworksModel" (106 : Nat) ({ cls := "FilterWaterworksModel", name := "tank", desc := "(II)I" } : Jvm.MethodName)) ∈ lw_all := lw_g (lw_at lw_m10 211 rfl) rfl
theorem q2439 : (Jvm.Cond.privateMethod ({ cls := "FilterWaterworksModel", name := "tank", desc := "(II)I" } : Jvm.MethodName)) ∈ lw_tbl := lw_at lw_m10 212 rfl
theorem q2440 : (Jvm.Cond.instanceMethod ({ cls := "FilterWaterworksModel", name := "tank", desc := "(II)I" } : Jvm.MethodName)) ∈ lw_all := lw_g (lw_at lw_m10 213 rfl) rfl
theorem q2441 : (Jvm.Cond.code ({ cls := "FilterWaterworksModel", name := "tank", desc := "(II)I" } : Jvm.MethodName) prog_18_method_11_code (3 : Nat) (Option.some Jvm.ClassFile.FieldType.int)) ∈ lw_all := lw_g (lw_at lw_m10 214 rfl) rfl
theorem q2442 : (Jvm.Cond.methodLink "FilterWaterworksModel" (109 : Nat) ({ cls := "java/lang/Math", name := "abs", desc := "(I)I" } : Jvm.MethodName)) ∈ lw_all := lw_g (lw_at lw_m10 215 rfl) rfl
theorem q2445 : (Jvm.Cond.methodLink "FilterWaterworksModel" (114 : Nat) ({ cls := "java/lang/Math", name := "min", desc := "(II)I" } : Jvm.MethodName)) ∈ lw_all := lw_g (lw_at lw_m10 218 rfl) rfl
theorem q2446 : (Jvm.Cond.methodLink "FilterWaterworksModel" (120 : Nat) ({ cls := "java/lang/Integer", name := "bitCount", desc := "(I)I" } : Jvm.MethodName)) ∈ lw_all := lw_g (lw_at lw_m10 219 rfl) rfl
theorem q2453 : (Jvm.Cond.instanceMethod ({ cls := "FilterWaterworksModel", name := "tankCount", desc := "()I" } : Jvm.MethodName)) ∈ lw_all := lw_g (lw_at lw_m10 226 rfl) rfl
theorem q2454 : (Jvm.Cond.selects "FilterWaterworksModel" ({ cls := "FilterWaterworksModel", name := "tankCount", desc := "()I" } : Jvm.MethodName) ({ cls := "FilterWaterworksModel", name := "tankCount", desc := "()I" } : Jvm.MethodName)) ∈ lw_all := lw_g (lw_at lw_m10 227 rfl) rfl
theorem q2455 : (Jvm.Cond.code ({ cls := "FilterWaterworksModel", name := "tankCount", desc := "()I" } : Jvm.MethodName) prog_18_method_30_code (1 : Nat) (Option.some Jvm.ClassFile.FieldType.int)) ∈ lw_all := lw_g (lw_at lw_m10 228 rfl) rfl
theorem q2457 : (Jvm.Cond.instanceMethod ({ cls := "FilterWaterworksModel", name := "capacity", desc := "(I)I" } : Jvm.MethodName)) ∈ lw_all := lw_g (lw_at lw_m10 230 rfl) rfl
theorem q2458 : (Jvm.Cond.selects "FilterWaterworksModel" ({ cls := "FilterWaterworksModel", name := "capacity", desc := "(I)I" } : Jvm.MethodName) ({ cls := "FilterWaterworksModel", name := "capacity", desc := "(I)I" } : Jvm.MethodName)) ∈ lw_all := lw_g (lw_at lw_m10 231 rfl) rfl
theorem q2459 : (Jvm.Cond.code ({ cls := "FilterWaterworksModel", name := "capacity", desc := "(I)I" } : Jvm.MethodName) prog_18_method_32_code (2 : Nat) (Option.some Jvm.ClassFile.FieldType.int)) ∈ lw_all := lw_g (lw_at lw_m10 232 rfl) rfl
theorem q2460 : (Jvm.Cond.methodLink "FilterWaterworksModel" (132 : Nat) ({ cls := "FilterWaterworksModel", name := "ofTank", desc := "(II)I" } : Jvm.MethodName)) ∈ lw_all := lw_g (lw_at lw_m10 233 rfl) rfl
theorem q2461 : (Jvm.Cond.privateMethod ({ cls := "FilterWaterworksModel", name := "ofTank", desc := "(II)I" } : Jvm.MethodName)) ∈ lw_tbl := lw_at lw_m10 234 rfl
theorem q2462 : (Jvm.Cond.instanceMethod ({ cls := "FilterWaterworksModel", name := "ofTank", desc := "(II)I" } : Jvm.MethodName)) ∈ lw_all := lw_g (lw_at lw_m10 235 rfl) rfl
theorem q2463 : (Jvm.Cond.code ({ cls := "FilterWaterworksModel", name := "ofTank", desc := "(II)I" } : Jvm.MethodName) prog_18_method_31_code (3 : Nat) (Option.some Jvm.ClassFile.FieldType.int)) ∈ lw_all := lw_g (lw_at lw_m10 236 rfl) rfl
theorem q2465 : (Jvm.Cond.instanceMethod ({ cls := "FilterWaterworksModel", name := "content", desc := "(I)I" } : Jvm.MethodName)) ∈ lw_all := lw_g (lw_at lw_m10 238 rfl) rfl
theorem q2466 : (Jvm.Cond.selects "FilterWaterworksModel" ({ cls := "FilterWaterworksModel", name := "content", desc := "(I)I" } : Jvm.MethodName) ({ cls := "FilterWaterworksModel", name := "content", desc := "(I)I" } : Jvm.MethodName)) ∈ lw_all := lw_g (lw_at lw_m10 239 rfl) rfl
theorem q2467 : (Jvm.Cond.code ({ cls := "FilterWaterworksModel", name := "content", desc := "(I)I" } : Jvm.MethodName) prog_18_method_33_code (2 : Nat) (Option.some Jvm.ClassFile.FieldType.int)) ∈ lw_all := lw_g (lw_at lw_m11 0 rfl) rfl
theorem q2469 : (Jvm.Cond.instanceMethod ({ cls := "FilterWaterworksModel", name := "impurities", desc := "(I)I" } : Jvm.MethodName)) ∈ lw_all := lw_g (lw_at lw_m11 2 rfl) rfl
theorem q2470 : (Jvm.Cond.selects "FilterWaterworksModel" ({ cls := "FilterWaterworksModel", name := "impurities", desc := "(I)I" } : Jvm.MethodName) ({ cls := "FilterWaterworksModel", name := "impurities", desc := "(I)I" } : Jvm.MethodName)) ∈ lw_all := lw_g (lw_at lw_m11 3 rfl) rfl
theorem q2471 : (Jvm.Cond.code ({ cls := "FilterWaterworksModel", name := "impurities", desc := "(I)I" } : Jvm.MethodName) prog_18_method_34_code (2 : Nat) (Option.some Jvm.ClassFile.FieldType.int)) ∈ lw_all := lw_g (lw_at lw_m11 4 rfl) rfl
theorem q2473 : (Jvm.Cond.instanceMethod ({ cls := "FilterWaterworksModel", name := "hasImpurity", desc := "(IC)Z" } : Jvm.MethodName)) ∈ lw_all := lw_g (lw_at lw_m11 6 rfl) rfl
theorem q2474 : (Jvm.Cond.selects "FilterWaterworksModel" ({ cls := "FilterWaterworksModel", name := "hasImpurity", desc := "(IC)Z" } : Jvm.MethodName) ({ cls := "FilterWaterworksModel", name := "hasImpurity", desc := "(IC)Z" } : Jvm.MethodName)) ∈ lw_all := lw_g (lw_at lw_m11 7 rfl) rfl
theorem q2475 : (Jvm.Cond.code ({ cls := "FilterWaterworksModel", name := "hasImpurity", desc := "(IC)Z" } : Jvm.MethodName) prog_18_method_35_code (4 : Nat) (Option.some Jvm.ClassFile.FieldType.boolean)) ∈ lw_all := lw_g (lw_at lw_m11 8 rfl) rfl
theorem q2477 : (Jvm.Cond.instanceMethod ({ cls := "FilterWaterworksModel", name := "tankByContent", desc := "(I)I" } : Jvm.MethodName)) ∈ lw_all := lw_g (lw_at lw_m11 10 rfl) rfl
theorem q2478 : (Jvm.Cond.selects "FilterWaterworksModel" ({ cls := "FilterWaterworksModel", name := "tankByContent", desc := "(I)I" } : Jvm.MethodName) ({ cls := "FilterWaterworksModel", name := "tankByContent", desc := "(I)I" } : Jvm.MethodName)) ∈ lw_all := lw_g (lw_at lw_m11 11 rfl) rfl
theorem q2479 : (Jvm.Cond.code ({ cls := "FilterWaterworksModel", name := "tankByContent", desc := "(I)I" } : Jvm.MethodName) prog_18_method_36_code (6 : Nat) (Option.some Jvm.ClassFile.FieldType.int)) ∈ lw_all := lw_g (lw_at lw_m11 12 rfl) rfl
theorem q2481 : (Jvm.Cond.instanceMethod ({ cls := "FilterWaterworksModel", name := "fillShare", desc := "(I)F" } : Jvm.MethodName)) ∈ lw_all := lw_g (lw_at lw_m11 14 rfl) rfl
theorem q2482 : (Jvm.Cond.selects "FilterWaterworksModel" ({ cls := "FilterWaterworksModel", name := "fillShare", desc := "(I)F" } : Jvm.MethodName) ({ cls := "FilterWaterworksModel", name := "fillShare", desc := "(I)F" } : Jvm.MethodName)) ∈ lw_all := lw_g (lw_at lw_m11 15 rfl) rfl
theorem q2483 : (Jvm.Cond.code ({ cls := "FilterWaterworksModel", name := "fillShare", desc := "(I)F" } : Jvm.MethodName) prog_18_method_37_code (3 : Nat) (Option.some Jvm.ClassFile.FieldType.float)) ∈ lw_all := lw_g (lw_at lw_m11 16 rfl) rfl
theorem q2485 : (Jvm.Cond.instanceMethod ({ cls := "FilterWaterworksModel", name := "fillShareBits", desc := "(I)I" } : Jvm.MethodName)) ∈ lw_all := lw_g (lw_at lw_m11 18 rfl) rfl
theorem q2486 : (Jvm.Cond.selects "FilterWaterworksModel" ({ cls := "FilterWaterworksModel", name := "fillShareBits", desc := "(I)I" } : Jvm.MethodName) ({ cls := "FilterWaterworksModel", name := "fillShareBits", desc := "(I)I" } : Jvm.MethodName)) ∈ lw_all := lw_g (lw_at lw_m11 19 rfl) rfl
theorem q2487 : (Jvm.Cond.code ({ cls := "FilterWaterworksModel", name := "fillShareBits", desc := "(I)I" } : Jvm.MethodName) prog_18_method_38_code (3 : Nat) (Option.some Jvm.ClassFile.FieldType.int)) ∈ lw_all := lw_g (lw_at lw_m11 20 rfl) rfl
theorem q2488 : (Jvm.Cond.methodLink "FilterWaterworksModel" (135 : Nat) ({ cls := "FilterWaterworksModel", name := "fillShare", desc := "(I)F" } : Jvm.MethodName)) ∈ lw_all := lw_g (lw_at lw_m11 21 rfl) rfl
theorem q2489 : (Jvm.Cond.methodLink "FilterWaterworksModel" (139 : Nat) ({ cls := "java/lang/Float", name := "floatToIntBits", desc := "(F)I" } : Jvm.MethodName)) ∈ lw_all := lw_g (lw_at lw_m11 22 rfl) rfl
theorem q2491 : (Jvm.Cond.instanceMethod ({ cls := "FilterWaterworksModel", name := "pipeCount", desc := "()I" } : Jvm.MethodName)) ∈ lw_all := lw_g (lw_at lw_m11 24 rfl) rfl
theorem q2492 : (Jvm.Cond.selects "FilterWaterworksModel" ({ cls := "FilterWaterworksModel", name := "pipeCount", desc := "()I" } : Jvm.MethodName) ({ cls := "FilterWaterworksModel", name := "pipeCount", desc := "()I" } : Jvm.MethodName)) ∈ lw_all := lw_g (lw_at lw_m11 25 rfl) rfl
theorem q2493 : (Jvm.Cond.code ({ cls := "FilterWaterworksModel", name := "pipeCount", desc := "()I" } : Jvm.MethodName) prog_18_method_39_code (1 : Nat) (Option.some Jvm.ClassFile.FieldType.int)) ∈ lw_all := lw_g (lw_at lw_m11 26 rfl) rfl
theorem q2495 : (Jvm.Cond.instanceMethod ({ cls := "FilterWaterworksModel", name := "firstOf", desc := "(I)I" } : Jvm.MethodName)) ∈ lw_all := lw_g (lw_at lw_m11 28 rfl) rfl
theorem q2496 : (Jvm.Cond.selects "FilterWaterworksModel" ({ cls := "FilterWaterworksModel", name := "firstOf", desc := "(I)I" } : Jvm.MethodName) ({ cls := "FilterWaterworksModel", name := "firstOf", desc := "(I)I" } : Jvm.MethodName)) ∈ lw_all := lw_g (lw_at lw_m11 29 rfl) rfl
theorem q2497 : (Jvm.Cond.code ({ cls := "FilterWaterworksModel", name := "firstOf", desc := "(I)I" } : Jvm.MethodName) prog_18_method_41_code (2 : Nat) (Option.some Jvm.ClassFile.FieldType.int)) ∈ lw_all := lw_g (lw_at lw_m11 30 rfl) rfl
theorem q2498 : (Jvm.Cond.methodLink "FilterWaterworksModel" (145 : Nat) ({ cls := "FilterWaterworksModel", name := "ofPipe", desc := "(II)I" } : Jvm.MethodName)) ∈ lw_all := lw_g (lw_at lw_m11 31 rfl) rfl
theorem q2499 : (Jvm.Cond.privateMethod ({ cls := "FilterWaterworksModel", name := "ofPipe", desc := "(II)I" } : Jvm.MethodName)) ∈ lw_tbl := lw_at lw_m11 32 rfl
theorem q2500 : (Jvm.Cond.instanceMethod ({ cls := "FilterWaterworksModel", name := "ofPipe", desc := "(II)I" } : Jvm.MethodName)) ∈ lw_all := lw_g (lw_at lw_m11 33 rfl) rfl
theorem q2501 : (Jvm.Cond.code ({ cls := "FilterWaterworksModel", name := "ofPipe", desc := "(II)I" } : Jvm.MethodName) prog_18_method_40_code (3 : Nat) (Option.some Jvm.ClassFile.FieldType.int)) ∈ lw_all := lw_g (lw_at lw_m11 34 rfl) rfl
theorem q2503 : (Jvm.Cond.instanceMethod ({ cls := "FilterWaterworksModel", name := "secondOf", desc := "(I)I" } : Jvm.MethodName)) ∈ lw_all := lw_g (lw_at lw_m11 36 rfl) rfl
theorem q2504 : (Jvm.Cond.selects "FilterWaterworksModel" ({ cls := "FilterWaterworksModel", name := "secondOf", desc := "(I)I" } : Jvm.MethodName) ({ cls := "FilterWaterworksModel", name := "secondOf", desc := "(I)I" } : Jvm.MethodName)) ∈ lw_all := lw_g (lw_at lw_m11 37 rfl) rfl
theorem q2505 : (Jvm.Cond.code ({ cls := "FilterWaterworksModel", name := "secondOf", desc := "(I)I" } : Jvm.MethodName) prog_18_method_42_code (2 : Nat) (Option.some Jvm.ClassFile.FieldType.int)) ∈ lw_all := lw_g (lw_at lw_m11 38 rfl) rfl
theorem q2507 : (Jvm.Cond.instanceMethod ({ cls := "FilterWaterworksModel", name := "valve", desc := "(I)I" } : Jvm.MethodName)) ∈ lw_all := lw_g (lw_at lw_m11 40 rfl) rfl
theorem q2508 : (Jvm.Cond.selects "FilterWaterworksModel" ({ cls := "FilterWaterworksModel", name := "valve", desc := "(I)I" } : Jvm.MethodName) ({ cls := "FilterWaterworksModel", name := "valve", desc := "(I)I" } : Jvm.MethodName)) ∈ lw_all := lw_g (lw_at lw_m11 41 rfl) rfl
theorem q2509 : (Jvm.Cond.code ({ cls := "FilterWaterworksModel", name := "valve", desc := "(I)I" } : Jvm.MethodName) prog_18_method_43_code (2 : Nat) (Option.some Jvm.ClassFile.FieldType.int)) ∈ lw_all := lw_g (lw_at lw_m11 42 rfl) rfl
theorem q2511 : (Jvm.Cond.instanceMethod ({ cls := "FilterWaterworksModel", name := "leak", desc := "(I)I" } : Jvm.MethodName)) ∈ lw_all := lw_g (lw_at lw_m11 44 rfl) rfl
theorem q2512 : (Jvm.Cond.selects "FilterWaterworksModel" ({ cls := "FilterWaterworksModel", name := "leak", desc := "(I)I" } : Jvm.MethodName) ({ cls := "FilterWaterworksModel", name := "leak", desc := "(I)I" } : Jvm.MethodName)) ∈ lw_all := lw_g (lw_at lw_m11 45 rfl) rfl
theorem q2513 : (Jvm.Cond.code ({ cls := "FilterWaterworksModel", name := "leak", desc := "(I)I" } : Jvm.MethodName) prog_18_method_44_code (2 : Nat) (Option.some Jvm.ClassFile.FieldType.int)) ∈ lw_all := lw_g (lw_at lw_m11 46 rfl) rfl
theorem q2515 : (Jvm.Cond.instanceMethod ({ cls := "FilterWaterworksModel", name := "mesh", desc := "(I)I" } : Jvm.MethodName)) ∈ lw_all := lw_g (lw_at lw_m11 48 rfl) rfl
theorem q2516 : (Jvm.Cond.selects "FilterWaterworksModel" ({ cls := "FilterWaterworksModel", name := "mesh", desc := "(I)I" } : Jvm.MethodName) ({ cls := "FilterWaterworksModel", name := "mesh", desc := "(I)I" } : Jvm.MethodName)) ∈ lw_all := lw_g (lw_at lw_m11 49 rfl) rfl
theorem q2517 : (Jvm.Cond.code ({ cls := "FilterWaterworksModel", name := "mesh", desc := "(I)I" } : Jvm.MethodName) prog_18_method_45_code (2 : Nat) (Option.some Jvm.ClassFile.FieldType.int)) ∈ lw_all := lw_g (lw_at lw_m11 50 rfl) rfl
theorem q2519 : (Jvm.Cond.instanceMethod ({ cls := "FilterWaterworksModel", name := "dirt", desc := "(I)I" } : Jvm.MethodName)) ∈ lw_all := lw_g (lw_at lw_m11 52 rfl) rfl
theorem q2520 : (Jvm.Cond.selects "FilterWaterworksModel" ({ cls := "FilterWaterworksModel", name := "dirt", desc := "(I)I" } : Jvm.MethodName) ({ cls := "FilterWaterworksModel", name := "dirt", desc := "(I)I" } : Jvm.MethodName)) ∈ lw_all := lw_g (lw_at lw_m11 53 rfl) rfl
theorem q2521 : (Jvm.Cond.code ({ cls := "FilterWaterworksModel", name := "dirt", desc := "(I)I" } : Jvm.MethodName) prog_18_method_46_code (2 : Nat) (Option.some Jvm.ClassFile.FieldType.int)) ∈ lw_all := lw_g (lw_at lw_m11 54 rfl) rfl
theorem q2523 : (Jvm.Cond.instanceMethod ({ cls := "FilterWaterworksModel", name := "isOpen", desc := "(I)Z" } : Jvm.MethodName)) ∈ lw_all := lw_g (lw_at lw_m11 56 rfl) rfl
theorem q2524 : (Jvm.Cond.selects "FilterWaterworksModel" ({ cls := "FilterWaterworksModel", name := "isOpen", desc := "(I)Z" } : Jvm.MethodName) ({ cls := "FilterWaterworksModel", name := "isOpen", desc := "(I)Z" } : Jvm.MethodName)) ∈ lw_all := lw_g (lw_at lw_m11 57 rfl) rfl
theorem q2525 : (Jvm.Cond.code ({ cls := "FilterWaterworksModel", name := "isOpen", desc := "(I)Z" } : Jvm.MethodName) prog_18_method_47_code (3 : Nat) (Option.some Jvm.ClassFile.FieldType.boolean)) ∈ lw_all := lw_g (lw_at lw_m11 58 rfl) rfl
theorem q2527 : (Jvm.Cond.instanceMethod ({ cls := "FilterWaterworksModel", name := "flow", desc := "(I)I" } : Jvm.MethodName)) ∈ lw_all := lw_g (lw_at lw_m11 60 rfl) rfl
theorem q2528 : (Jvm.Cond.selects "FilterWaterworksModel" ({ cls := "FilterWaterworksModel", name := "flow", desc := "(I)I" } : Jvm.MethodName) ({ cls := "FilterWaterworksModel", name := "flow", desc := "(I)I" } : Jvm.MethodName)) ∈ lw_all := lw_g (lw_at lw_m11 61 rfl) rfl
theorem q2529 : (Jvm.Cond.code ({ cls := "FilterWaterworksModel", name := "flow", desc := "(I)I" } : Jvm.MethodName) prog_18_method_48_code (3 : Nat) (Option.some Jvm.ClassFile.FieldType.int)) ∈ lw_all := lw_g (lw_at lw_m11 62 rfl) rfl
theorem q2531 : (Jvm.Cond.instanceMethod ({ cls := "FilterWaterworksModel", name := "litresThrough", desc := "(I)I" } : Jvm.MethodName)) ∈ lw_all := lw_g (lw_at lw_m11 64 rfl) rfl
theorem q2532 : (Jvm.Cond.selects "FilterWaterworksModel" ({ cls := "FilterWaterworksModel", name := "litresThrough", desc := "(I)I" } : Jvm.MethodName) ({ cls := "FilterWaterworksModel", name := "litresThrough", desc := "(I)I" } : Jvm.MethodName)) ∈ lw_all := lw_g (lw_at lw_m11 65 rfl) rfl
theorem q2533 : (Jvm.Cond.code ({ cls := "FilterWaterworksModel", name := "litresThrough", desc := "(I)I" } : Jvm.MethodName) prog_18_method_49_code (2 : Nat) (Option.some Jvm.ClassFile.FieldType.int)) ∈ lw_all := lw_g (lw_at lw_m11 66 rfl) rfl
theorem q2535 : (Jvm.Cond.instanceMethod ({ cls := "FilterWaterworksModel", name := "pipeByDirt", desc := "(I)I" } : Jvm.MethodName)) ∈ lw_all := lw_g (lw_at lw_m11 68 rfl) rfl
theorem q2536 : (Jvm.Cond.selects "FilterWaterworksModel" ({ cls := "FilterWaterworksModel", name := "pipeByDirt", desc := "(I)I" } : Jvm.MethodName) ({ cls := "FilterWaterworksModel", name := "pipeByDirt", desc := "(I)I" } : Jvm.MethodName)) ∈ lw_all := lw_g (lw_at lw_m11 69 rfl) rfl
theorem q2537 : (Jvm.Cond.code ({ cls := "FilterWaterworksModel", name := "pipeByDirt", desc := "(I)I" } : Jvm.MethodName) prog_18_method_50_code (6 : Nat) (Option.some Jvm.ClassFile.FieldType.int)) ∈ lw_all := lw_g (lw_at lw_m11 70 rfl) rfl
theorem q2539 : (Jvm.Cond.instanceMethod ({ cls := "FilterWaterworksModel", name := "areConnected", desc := "(II)Z" } : Jvm.MethodName)) ∈ lw_all := lw_g (lw_at lw_m11 72 rfl) rfl
theorem q2540 : (Jvm.Cond.selects "FilterWaterworksModel" ({ cls := "FilterWaterworksModel", name := "areConnected", desc := "(II)Z" } : Jvm.MethodName) ({ cls := "FilterWaterworksModel", name := "areConnected", desc := "(II)Z" } : Jvm.MethodName)) ∈ lw_all := lw_g (lw_at lw_m11 73 rfl) rfl
theorem q2541 : (Jvm.Cond.code ({ cls := "FilterWaterworksModel", name := "areConnected", desc := "(II)Z" } : Jvm.MethodName) prog_18_method_54_code (3 : Nat) (Option.some Jvm.ClassFile.FieldType.boolean)) ∈ lw_all := lw_g (lw_at lw_m11 74 rfl) rfl
theorem q2542 : (Jvm.Cond.methodLink "FilterWaterworksModel" (151 : Nat) ({ cls := "FilterWaterworksModel", name := "areTanks", desc := "(II)Z" } : Jvm.MethodName)) ∈ lw_all := lw_g (lw_at lw_m11 75 rfl) rfl
theorem q2543 : (Jvm.Cond.privateMethod ({ cls := "FilterWaterworksModel", name := "areTanks", desc := "(II)Z" } : Jvm.MethodName)) ∈ lw_tbl := lw_at lw_m11 76 rfl
theorem q2544 : (Jvm.Cond.instanceMethod ({ cls := "FilterWaterworksModel", name := "areTanks", desc := "(II)Z" } : Jvm.MethodName)) ∈ lw_all := lw_g (lw_at lw_m11 77 rfl) rfl
theorem q2545 : (Jvm.Cond.code ({ cls := "FilterWaterworksModel", name := "areTanks", desc := "(II)Z" } : Jvm.MethodName) prog_18_method_52_code (3 : Nat) (Option.some Jvm.ClassFile.FieldType.boolean)) ∈ lw_all := lw_g (lw_at lw_m11 78 rfl) rfl
theorem q2546 : (Jvm.Cond.methodLink "FilterWaterworksModel" (155 : Nat) ({ cls := "FilterWaterworksModel", name := "joins", desc := "(III)Z" } : Jvm.MethodName)) ∈ lw_all := lw_g (lw_at lw_m11 79 rfl) rfl
theorem q2547 : (Jvm.Cond.privateMethod ({ cls := "FilterWaterworksModel", name := "joins", desc := "(III)Z" } : Jvm.MethodName)) ∈ lw_tbl := lw_at lw_m11 80 rfl
theorem q2548 : (Jvm.Cond.instanceMethod ({ cls := "FilterWaterworksModel", name := "joins", desc := "(III)Z" } : Jvm.MethodName)) ∈ lw_all := lw_g (lw_at lw_m11 81 rfl) rfl
theorem q2549 : (Jvm.Cond.code ({ cls := "FilterWaterworksModel", name := "joins", desc := "(III)Z" } : Jvm.MethodName) prog_18_method_53_code (4 : Nat) (Option.some Jvm.ClassFile.FieldType.boolean)) ∈ lw_all := lw_g (lw_at lw_m11 82 rfl) rfl
theorem q2550 : (Jvm.Cond.methodLink "FilterWaterworksModel" (148 : Nat) ({ cls := "FilterWaterworksModel", name := "joined", desc := "(III)I" } : Jvm.MethodName)) ∈ lw_all := lw_g (lw_at lw_m11 83 rfl) rfl
theorem q2551 : (Jvm.Cond.privateMethod ({ cls := "FilterWaterworksModel", name := "joined", desc := "(III)I" } : Jvm.MethodName)) ∈ lw_tbl := lw_at lw_m11 84 rfl
theorem q2552 : (Jvm.Cond.instanceMethod ({ cls := "FilterWaterworksModel", name := "joined", desc := "(III)I" } : Jvm.MethodName)) ∈ lw_all := lw_g (lw_at lw_m11 85 rfl) rfl
theorem q2553 : (Jvm.Cond.code ({ cls := "FilterWaterworksModel", name := "joined", desc := "(III)I" } : Jvm.MethodName) prog_18_method_51_code (8 : Nat) (Option.some Jvm.ClassFile.FieldType.int)) ∈ lw_all := lw_g (lw_at lw_m11 86 rfl) rfl
theorem q2555 : (Jvm.Cond.instanceMethod ({ cls := "FilterWaterworksModel", name := "groupCount", desc := "()I" } : Jvm.MethodName)) ∈ lw_all := lw_g (lw_at lw_m11 88 rfl) rfl
theorem q2556 : (Jvm.Cond.selects "FilterWaterworksModel" ({ cls := "FilterWaterworksModel", name := "groupCount", desc := "()I" } : Jvm.MethodName) ({ cls := "FilterWaterworksModel", name := "groupCount", desc := "()I" } : Jvm.MethodName)) ∈ lw_all := lw_g (lw_at lw_m11 89 rfl) rfl
theorem q2557 : (Jvm.Cond.code ({ cls := "FilterWaterworksModel", name := "groupCount", desc := "()I" } : Jvm.MethodName) prog_18_method_55_code (4 : Nat) (Option.some Jvm.ClassFile.FieldType.int)) ∈ lw_all := lw_g (lw_at lw_m11 90 rfl) rfl
theorem q2559 : (Jvm.Cond.instanceMethod ({ cls := "FilterWaterworksModel", name := "groupCountByUnions", desc := "()I" } : Jvm.MethodName)) ∈ lw_all := lw_g (lw_at lw_m11 92 rfl) rfl
theorem q2560 : (Jvm.Cond.selects "FilterWaterworksModel" ({ cls := "FilterWaterworksModel", name := "groupCountByUnions", desc := "()I" } : Jvm.MethodName) ({ cls := "FilterWaterworksModel", name := "groupCountByUnions", desc := "()I" } : Jvm.MethodName)) ∈ lw_all := lw_g (lw_at lw_m11 93 rfl) rfl
theorem q2561 : (Jvm.Cond.code ({ cls := "FilterWaterworksModel", name := "groupCountByUnions", desc := "()I" } : Jvm.MethodName) prog_18_method_56_code (1 : Nat) (Option.some Jvm.ClassFile.FieldType.int)) ∈ lw_all := lw_g (lw_at lw_m11 94 rfl) rfl
theorem q2562 : (Jvm.Cond.methodLink "FilterWaterworksModel" (158 : Nat) ({ cls := "FilterWaterworksModel", name := "groupCount", desc := "()I" } : Jvm.MethodName)) ∈ lw_all := lw_g (lw_at lw_m11 95 rfl) rfl
theorem q2564 : (Jvm.Cond.instanceMethod ({ cls := "FilterWaterworksModel", name := "isBridge", desc := "(I)Z" } : Jvm.MethodName)) ∈ lw_all := lw_g (lw_at lw_m11 97 rfl) rfl
theorem q2565 : (Jvm.Cond.selects "FilterWaterworksModel" ({ cls := "FilterWaterworksModel", name := "isBridge", desc := "(I)Z" } : Jvm.MethodName) ({ cls := "FilterWaterworksModel", name := "isBridge", desc := "(I)Z" } : Jvm.MethodName)) ∈ lw_all := lw_g (lw_at lw_m11 98 rfl) rfl
theorem q2566 : (Jvm.Cond.code ({ cls := "FilterWaterworksModel", name := "isBridge", desc := "(I)Z" } : Jvm.MethodName) prog_18_method_58_code (3 : Nat) (Option.some Jvm.ClassFile.FieldType.boolean)) ∈ lw_all := lw_g (lw_at lw_m11 99 rfl) rfl
theorem q2567 : (Jvm.Cond.methodLink "FilterWaterworksModel" (161 : Nat) ({ cls := "FilterWaterworksModel", name := "bridges", desc := "(I)Z" } : Jvm.MethodName)) ∈ lw_all := lw_g (lw_at lw_m11 100 rfl) rfl
theorem q2568 : (Jvm.Cond.privateMethod ({ cls := "FilterWaterworksModel", name := "bridges", desc := "(I)Z" } : Jvm.MethodName)) ∈ lw_tbl := lw_at lw_m11 101 rfl
theorem q2569 : (Jvm.Cond.instanceMethod ({ cls := "FilterWaterworksModel", name := "bridges", desc := "(I)Z" } : Jvm.MethodName)) ∈ lw_all := lw_g (lw_at lw_m11 102 rfl) rfl
theorem q2570 : (Jvm.Cond.code ({ cls := "FilterWaterworksModel", name := "bridges", desc := "(I)Z" } : Jvm.MethodName) prog_18_method_57_code (2 : Nat) (Option.some Jvm.ClassFile.FieldType.boolean)) ∈ lw_all := lw_g (lw_at lw_m11 103 rfl) rfl
theorem q2572 : (Jvm.Cond.instanceMethod ({ cls := "FilterWaterworksModel", name := "bridgeCount", desc := "()I" } : Jvm.MethodName)) ∈ lw_all := lw_g (lw_at lw_m11 105 rfl) rfl
theorem q2573 : (Jvm.Cond.selects "FilterWaterworksModel" ({ cls := "FilterWaterworksModel", name := "bridgeCount", desc := "()I" } : Jvm.MethodName) ({ cls := "FilterWaterworksModel", name := "bridgeCount", desc := "()I" } : Jvm.MethodName)) ∈ lw_all := lw_g (lw_at lw_m11 106 rfl) rfl
theorem q2574 : (Jvm.Cond.code ({ cls := "FilterWaterworksModel", name := "bridgeCount", desc := "()I" } : Jvm.MethodName) prog_18_method_59_code (3 : Nat) (Option.some Jvm.ClassFile.FieldType.int)) ∈ lw_all := lw_g (lw_at lw_m11 107 rfl) rfl
theorem q2576 : (Jvm.Cond.instanceMethod ({ cls := "FilterWaterworksModel", name := "bridgeCountByLeavingOut", desc := "()I" } : Jvm.MethodName)) ∈ lw_all := lw_g (lw_at lw_m11 109 rfl) rfl
theorem q2577 : (Jvm.Cond.selects "FilterWaterworksModel" ({ cls := "FilterWaterworksModel", name := "bridgeCountByLeavingOut", desc := "()I" } : Jvm.MethodName) ({ cls := "FilterWaterworksModel", name := "bridgeCountByLeavingOut", desc := "()I" } : Jvm.MethodName)) ∈ lw_all := lw_g (lw_at lw_m11 110 rfl) rfl
theorem q2578 : (Jvm.Cond.code ({ cls := "FilterWaterworksModel", name := "bridgeCountByLeavingOut", desc := "()I" } : Jvm.MethodName) prog_18_method_60_code (1 : Nat) (Option.some Jvm.ClassFile.FieldType.int)) ∈ lw_all := lw_g (lw_at lw_m11 111 rfl) rfl
theorem q2579 : (Jvm.Cond.methodLink "FilterWaterworksModel" (164 : Nat) ({ cls := "FilterWaterworksModel", name := "bridgeCount", desc := "()I" } : Jvm.MethodName)) ∈ lw_all := lw_g (lw_at lw_m11 112 rfl) rfl
theorem q2581 : (Jvm.Cond.instanceMethod ({ cls := "FilterWaterworksModel", name := "width", desc := "(II)I" } : Jvm.MethodName)) ∈ lw_all := lw_g (lw_at lw_m11 114 rfl) rfl
theorem q2582 : (Jvm.Cond.selects "FilterWaterworksModel" ({ cls := "FilterWaterworksModel", name := "width", desc := "(II)I" } : Jvm.MethodName) ({ cls := "FilterWaterworksModel", name := "width", desc := "(II)I" } : Jvm.MethodName)) ∈ lw_all := lw_g (lw_at lw_m11 115 rfl) rfl
theorem q2583 : (Jvm.Cond.code ({ cls := "FilterWaterworksModel", name := "width", desc := "(II)I" } : Jvm.MethodName) prog_18_method_61_code (4 : Nat) (Option.some Jvm.ClassFile.FieldType.int)) ∈ lw_all := lw_g (lw_at lw_m11 116 rfl) rfl
theorem q2585 : (Jvm.Cond.instanceMethod ({ cls := "FilterWaterworksModel", name := "widthBySettings", desc := "(II)I" } : Jvm.MethodName)) ∈ lw_all := lw_g (lw_at lw_m11 118 rfl) rfl
theorem q2586 : (Jvm.Cond.selects "FilterWaterworksModel" ({ cls := "FilterWaterworksModel", name := "widthBySettings", desc := "(II)I" } : Jvm.MethodName) ({ cls := "FilterWaterworksModel", name := "widthBySettings", desc := "(II)I" } : Jvm.MethodName)) ∈ lw_all := lw_g (lw_at lw_m11 119 rfl) rfl
theorem q2587 : (Jvm.Cond.code ({ cls := "FilterWaterworksModel", name := "widthBySettings", desc := "(II)I" } : Jvm.MethodName) prog_18_method_62_code (3 : Nat) (Option.some Jvm.ClassFile.FieldType.int)) ∈ lw_all := lw_g (lw_at lw_m11 120 rfl) rfl
theorem q2588 : (Jvm.Cond.methodLink "FilterWaterworksModel" (167 : Nat) ({ cls := "FilterWaterworksModel", name := "width", desc := "(II)I" } : Jvm.MethodName)) ∈ lw_all := lw_g (lw_at lw_m11 121 rfl) rfl
theorem q2590 : (Jvm.Cond.instanceMethod ({ cls := "FilterWaterworksModel", name := "cleanest", desc := "(II)I" } : Jvm.MethodName)) ∈ lw_all := lw_g (lw_at lw_m11 123 rfl) rfl
theorem q2591 : (Jvm.Cond.selects "FilterWaterworksModel" ({ cls := "FilterWaterworksModel", name := "cleanest", desc := "(II)I" } : Jvm.MethodName) ({ cls := "FilterWaterworksModel", name := "cleanest", desc := "(II)I" } : Jvm.MethodName)) ∈ lw_all := lw_g (lw_at lw_m11 124 rfl) rfl
theorem q2592 : (Jvm.Cond.code ({ cls := "FilterWaterworksModel", name := "cleanest", desc := "(II)I" } : Jvm.MethodName) prog_18_method_64_code (5 : Nat) (Option.some Jvm.ClassFile.FieldType.int)) ∈ lw_all := lw_g (lw_at lw_m11 125 rfl) rfl
theorem q2593 : (Jvm.Cond.methodLink "FilterWaterworksModel" (170 : Nat) ({ cls := "FilterWaterworksModel", name := "reaches", desc := "(I)V" } : Jvm.MethodName)) ∈ lw_all := lw_g (lw_at lw_m11 126 rfl) rfl
theorem q2594 : (Jvm.Cond.privateMethod ({ cls := "FilterWaterworksModel", name := "reaches", desc := "(I)V" } : Jvm.MethodName)) ∈ lw_tbl := lw_at lw_m11 127 rfl
theorem q2595 : (Jvm.Cond.instanceMethod ({ cls := "FilterWaterworksModel", name := "reaches", desc := "(I)V" } : Jvm.MethodName)) ∈ lw_all := lw_g (lw_at lw_m11 128 rfl) rfl
theorem q2596 : (Jvm.Cond.code ({ cls := "FilterWaterworksModel", name := "reaches", desc := "(I)V" } : Jvm.MethodName) prog_18_method_63_code (7 : Nat) (Option.none : Option Jvm.ClassFile.FieldType)) ∈ lw_all := lw_g (lw_at lw_m11 129 rfl) rfl
theorem q2598 : (Jvm.Cond.instanceMethod ({ cls := "FilterWaterworksModel", name := "cleanestByPasses", desc := "(II)I" } : Jvm.MethodName)) ∈ lw_all := lw_g (lw_at lw_m11 131 rfl) rfl
theorem q2599 : (Jvm.Cond.selects "FilterWaterworksModel" ({ cls := "FilterWaterworksModel", name := "cleanestByPasses", desc := "(II)I" } : Jvm.MethodName) ({ cls := "FilterWaterworksModel", name := "cleanestByPasses", desc := "(II)I" } : Jvm.MethodName)) ∈ lw_all := lw_g (lw_at lw_m11 132 rfl) rfl
theorem q2600 : (Jvm.Cond.code ({ cls := "FilterWaterworksModel", name := "cleanestByPasses", desc := "(II)I" } : Jvm.MethodName) prog_18_method_65_code (3 : Nat) (Option.some Jvm.ClassFile.FieldType.int)) ∈ lw_all := lw_g (lw_at lw_m11 133 rfl) rfl
theorem q2601 : (Jvm.Cond.methodLink "FilterWaterworksModel" (174 : Nat) ({ cls := "FilterWaterworksModel", name := "cleanest", desc := "(II)I" } : Jvm.MethodName)) ∈ lw_all := lw_g (lw_at lw_m11 134 rfl) rfl
theorem q2603 : (Jvm.Cond.instanceMethod ({ cls := "FilterWaterworksModel", name := "minutesUntilStill", desc := "()I" } : Jvm.MethodName)) ∈ lw_all := lw_g (lw_at lw_m11 136 rfl) rfl
theorem q2604 : (Jvm.Cond.selects "FilterWaterworksModel" ({ cls := "FilterWaterworksModel", name := "minutesUntilStill", desc := "()I" } : Jvm.MethodName) ({ cls := "FilterWaterworksModel", name := "minutesUntilStill", desc := "()I" } : Jvm.MethodName)) ∈ lw_all := lw_g (lw_at lw_m11 137 rfl) rfl
theorem q2605 : (Jvm.Cond.code ({ cls := "FilterWaterworksModel", name := "minutesUntilStill", desc := "()I" } : Jvm.MethodName) prog_18_method_66_code (3 : Nat) (Option.some Jvm.ClassFile.FieldType.int)) ∈ lw_all := lw_g (lw_at lw_m11 138 rfl) rfl
theorem q2606 : (Jvm.Cond.methodLink "FilterWaterworksModel" (177 : Nat) ({ cls := "FilterWaterworksModel", name := "forgets", desc := "()V" } : Jvm.MethodName)) ∈ lw_all := lw_g (lw_at lw_m11 139 rfl) rfl
theorem q2607 : (Jvm.Cond.privateMethod ({ cls := "FilterWaterworksModel", name := "forgets", desc := "()V" } : Jvm.MethodName)) ∈ lw_tbl := lw_at lw_m11 140 rfl
theorem q2608 : (Jvm.Cond.instanceMethod ({ cls := "FilterWaterworksModel", name := "forgets", desc := "()V" } : Jvm.MethodName)) ∈ lw_all := lw_g (lw_at lw_m11 141 rfl) rfl
theorem q2609 : (Jvm.Cond.code ({ cls := "FilterWaterworksModel", name := "forgets", desc := "()V" } : Jvm.MethodName) prog_18_method_6_code (2 : Nat) (Option.none : Option Jvm.ClassFile.FieldType)) ∈ lw_all := lw_g (lw_at lw_m11 142 rfl) rfl
theorem q2611 : (Jvm.Cond.instanceMethod ({ cls := "FilterWaterworksModel", name := "time", desc := "()I" } : Jvm.MethodName)) ∈ lw_all := lw_g (lw_at lw_m11 144 rfl) rfl
theorem q2612 : (Jvm.Cond.selects "FilterWaterworksModel" ({ cls := "FilterWaterworksModel", name := "time", desc := "()I" } : Jvm.MethodName) ({ cls := "FilterWaterworksModel", name := "time", desc := "()I" } : Jvm.MethodName)) ∈ lw_all := lw_g (lw_at lw_m11 145 rfl) rfl
theorem q2613 : (Jvm.Cond.code ({ cls := "FilterWaterworksModel", name := "time", desc := "()I" } : Jvm.MethodName) prog_18_method_67_code (1 : Nat) (Option.some Jvm.ClassFile.FieldType.int)) ∈ lw_all := lw_g (lw_at lw_m11 146 rfl) rfl
theorem q2615 : (Jvm.Cond.instanceMethod ({ cls := "FilterWaterworksModel", name := "pouredTotal", desc := "()I" } : Jvm.MethodName)) ∈ lw_all := lw_g (lw_at lw_m11 148 rfl) rfl
theorem q2616 : (Jvm.Cond.selects "FilterWaterworksModel" ({ cls := "FilterWaterworksModel", name := "pouredTotal", desc := "()I" } : Jvm.MethodName) ({ cls := "FilterWaterworksModel", name := "pouredTotal", desc := "()I" } : Jvm.MethodName)) ∈ lw_all := lw_g (lw_at lw_m11 149 rfl) rfl
theorem q2617 : (Jvm.Cond.code ({ cls := "FilterWaterworksModel", name := "pouredTotal", desc := "()I" } : Jvm.MethodName) prog_18_method_68_code (1 : Nat) (Option.some Jvm.ClassFile.FieldType.int)) ∈ lw_all := lw_g (lw_at lw_m11 150 rfl) rfl
theorem q2619 : (Jvm.Cond.instanceMethod ({ cls := "FilterWaterworksModel", name := "drawnTotal", desc := "()I" } : Jvm.MethodName)) ∈ lw_all := lw_g (lw_at lw_m11 152 rfl) rfl
theorem q2620 : (Jvm.Cond.selects "FilterWaterworksModel" ({ cls := "FilterWaterworksModel", name := "drawnTotal", desc := "()I" } : Jvm.MethodName) ({ cls := "FilterWaterworksModel", name := "drawnTotal", desc := "()I" } : Jvm.MethodName)) ∈ lw_all := lw_g (lw_at lw_m11 153 rfl) rfl
theorem q2621 : (Jvm.Cond.code ({ cls := "FilterWaterworksModel", name := "drawnTotal", desc := "()I" } : Jvm.MethodName) prog_18_method_69_code (1 : Nat) (Option.some Jvm.ClassFile.FieldType.int)) ∈ lw_all := lw_g (lw_at lw_m11 154 rfl) rfl
theorem q2623 : (Jvm.Cond.instanceMethod ({ cls := "FilterWaterworksModel", name := "spilledTotal", desc := "()I" } : Jvm.MethodName)) ∈ lw_all := lw_g (lw_at lw_m11 156 rfl) rfl
theorem q2624 : (Jvm.Cond.selects "FilterWaterworksModel" ({ cls := "FilterWaterworksModel", name := "spilledTotal", desc := "()I" } : Jvm.MethodName) ({ cls := "FilterWaterworksModel", name := "spilledTotal", desc := "()I" } : Jvm.MethodName)) ∈ lw_all := lw_g (lw_at lw_m11 157 rfl) rfl
theorem q2625 : (Jvm.Cond.code ({ cls := "FilterWaterworksModel", name := "spilledTotal", desc := "()I" } : Jvm.MethodName) prog_18_method_70_code (1 : Nat) (Option.some Jvm.ClassFile.FieldType.int)) ∈ lw_all := lw_g (lw_at lw_m11 158 rfl) rfl
theorem q2627 : (Jvm.Cond.instanceMethod ({ cls := "FilterWaterworksModel", name := "totalContent", desc := "()I" } : Jvm.MethodName)) ∈ lw_all := lw_g (lw_at lw_m11 160 rfl) rfl
theorem q2628 : (Jvm.Cond.selects "FilterWaterworksModel" ({ cls := "FilterWaterworksModel", name := "totalContent", desc := "()I" } : Jvm.MethodName) ({ cls := "FilterWaterworksModel", name := "totalContent", desc := "()I" } : Jvm.MethodName)) ∈ lw_all := lw_g (lw_at lw_m11 161 rfl) rfl
theorem q2629 : (Jvm.Cond.code ({ cls := "FilterWaterworksModel", name := "totalContent", desc := "()I" } : Jvm.MethodName) prog_18_method_71_code (1 : Nat) (Option.some Jvm.ClassFile.FieldType.int)) ∈ lw_all := lw_g (lw_at lw_m11 162 rfl) rfl
theorem q2631 : (Jvm.Cond.instanceMethod ({ cls := "FilterWaterworksModel", name := "totalContentByAccounts", desc := "()I" } : Jvm.MethodName)) ∈ lw_all := lw_g (lw_at lw_m11 164 rfl) rfl
theorem q2632 : (Jvm.Cond.selects "FilterWaterworksModel" ({ cls := "FilterWaterworksModel", name := "totalContentByAccounts", desc := "()I" } : Jvm.MethodName) ({ cls := "FilterWaterworksModel", name := "totalContentByAccounts", desc := "()I" } : Jvm.MethodName)) ∈ lw_all := lw_g (lw_at lw_m11 165 rfl) rfl
theorem q2633 : (Jvm.Cond.code ({ cls := "FilterWaterworksModel", name := "totalContentByAccounts", desc := "()I" } : Jvm.MethodName) prog_18_method_72_code (1 : Nat) (Option.some Jvm.ClassFile.FieldType.int)) ∈ lw_all := lw_g (lw_at lw_m11 166 rfl) rfl
theorem q2634 : (Jvm.Cond.methodLink "FilterWaterworksModel" (180 : Nat) ({ cls := "FilterWaterworksModel", name := "totalContent", desc := "()I" } : Jvm.MethodName)) ∈ lw_all := lw_g (lw_at lw_m11 167 rfl) rfl
theorem q2636 : (Jvm.Cond.instanceMethod ({ cls := "FilterWaterworksModel", name := "meanContent", desc := "()D" } : Jvm.MethodName)) ∈ lw_all := lw_g (lw_at lw_m11 169 rfl) rfl
theorem q2637 : (Jvm.Cond.selects "FilterWaterworksModel" ({ cls := "FilterWaterworksModel", name := "meanContent", desc := "()D" } : Jvm.MethodName) ({ cls := "FilterWaterworksModel", name := "meanContent", desc := "()D" } : Jvm.MethodName)) ∈ lw_all := lw_g (lw_at lw_m11 170 rfl) rfl
theorem q2638 : (Jvm.Cond.code ({ cls := "FilterWaterworksModel", name := "meanContent", desc := "()D" } : Jvm.MethodName) prog_18_method_73_code (1 : Nat) (Option.some Jvm.ClassFile.FieldType.double)) ∈ lw_all := lw_g (lw_at lw_m11 171 rfl) rfl
theorem q2640 : (Jvm.Cond.instanceMethod ({ cls := "FilterWaterworksModel", name := "meanContentBits", desc := "()J" } : Jvm.MethodName)) ∈ lw_all := lw_g (lw_at lw_m11 173 rfl) rfl
theorem q2641 : (Jvm.Cond.selects "FilterWaterworksModel" ({ cls := "FilterWaterworksModel", name := "meanContentBits", desc := "()J" } : Jvm.MethodName) ({ cls := "FilterWaterworksModel", name := "meanContentBits", desc := "()J" } : Jvm.MethodName)) ∈ lw_all := lw_g (lw_at lw_m11 174 rfl) rfl
theorem q2642 : (Jvm.Cond.code ({ cls := "FilterWaterworksModel", name := "meanContentBits", desc := "()J" } : Jvm.MethodName) prog_18_method_74_code (3 : Nat) (Option.some Jvm.ClassFile.FieldType.long)) ∈ lw_all := lw_g (lw_at lw_m11 175 rfl) rfl
theorem q2643 : (Jvm.Cond.methodLink "FilterWaterworksModel" (183 : Nat) ({ cls := "FilterWaterworksModel", name := "meanContent", desc := "()D" } : Jvm.MethodName)) ∈ lw_all := lw_g (lw_at lw_m11 176 rfl) rfl
theorem q2644 : (Jvm.Cond.methodLink "FilterWaterworksModel" (187 : Nat) ({ cls := "java/lang/Double", name := "doubleToLongBits", desc := "(D)J" } : Jvm.MethodName)) ∈ lw_all := lw_g (lw_at lw_m11 177 rfl) rfl
theorem q2646 : (Jvm.Cond.instanceMethod ({ cls := "FilterWaterworksModel", name := "fingerprint", desc := "()J" } : Jvm.MethodName)) ∈ lw_all := lw_g (lw_at lw_m11 179 rfl) rfl
theorem q2647 : (Jvm.Cond.selects "FilterWaterworksModel" ({ cls := "FilterWaterworksModel", name := "fingerprint", desc := "()J" } : Jvm.MethodName) ({ cls := "FilterWaterworksModel", name := "fingerprint", desc := "()J" } : Jvm.MethodName)) ∈ lw_all := lw_g (lw_at lw_m11 180 rfl) rfl
theorem q2648 : (Jvm.Cond.code ({ cls := "FilterWaterworksModel", name := "fingerprint", desc := "()J" } : Jvm.MethodName) prog_18_method_75_code (4 : Nat) (Option.some Jvm.ClassFile.FieldType.long)) ∈ lw_all := lw_g (lw_at lw_m11 181 rfl) rfl
theorem q2649 : (Jvm.Cond.constantLong "FilterWaterworksModel" (193 : Nat) (17 : Int64)) ∈ lw_all := lw_g (lw_at lw_m11 182 rfl) rfl
theorem q2650 : (Jvm.Cond.constantLong "FilterWaterworksModel" (195 : Nat) (1000 : Int64)) ∈ lw_all := lw_g (lw_at lw_m11 183 rfl) rfl
theorem q2651 : (Jvm.Cond.constantLong "FilterWaterworksModel" (197 : Nat) (1000000 : Int64)) ∈ lw_all := lw_g (lw_at lw_m11 184 rfl) rfl
theorem q2652 : (Jvm.Cond.constantLong "FilterWaterworksModel" (199 : Nat) (5 : Int64)) ∈ lw_all := lw_g (lw_at lw_m11 185 rfl) rfl
theorem q2653 : (Jvm.Cond.constantLong "FilterWaterworksModel" (201 : Nat) (10000 : Int64)) ∈ lw_all := lw_g (lw_at lw_m11 186 rfl) rfl
theorem q2655 : (Jvm.Cond.instanceMethod ({ cls := "FilterWaterworksModel", name := "isConsistent", desc := "()Z" } : Jvm.MethodName)) ∈ lw_all := lw_g (lw_at lw_m11 188 rfl) rfl
theorem q2656 : (Jvm.Cond.selects "FilterWaterworksModel" ({ cls := "FilterWaterworksModel", name := "isConsistent", desc := "()Z" } : Jvm.MethodName) ({ cls := "FilterWaterworksModel", name := "isConsistent", desc := "()Z" } : Jvm.MethodName)) ∈ lw_all := lw_g (lw_at lw_m11 189 rfl) rfl
theorem q2657 : (Jvm.Cond.code ({ cls := "FilterWaterworksModel", name := "isConsistent", desc := "()Z" } : Jvm.MethodName) prog_18_method_76_code (1 : Nat) (Option.some Jvm.ClassFile.FieldType.boolean)) ∈ lw_all := lw_g (lw_at lw_m11 190 rfl) rfl
theorem q2659 : (Jvm.Cond.instanceMethod ({ cls := "FilterWaterworksModel", name := "renderTank", desc := "(I)I" } : Jvm.MethodName)) ∈ lw_all := lw_g (lw_at lw_m11 192 rfl) rfl
theorem q2660 : (Jvm.Cond.selects "FilterWaterworksModel" ({ cls := "FilterWaterworksModel", name := "renderTank", desc := "(I)I" } : Jvm.MethodName) ({ cls := "FilterWaterworksModel", name := "renderTank", desc := "(I)I" } : Jvm.MethodName)) ∈ lw_all := lw_g (lw_at lw_m11 193 rfl) rfl
theorem q2661 : (Jvm.Cond.code ({ cls := "FilterWaterworksModel", name := "renderTank", desc := "(I)I" } : Jvm.MethodName) prog_18_method_80_code (4 : Nat) (Option.some Jvm.ClassFile.FieldType.int)) ∈ lw_all := lw_g (lw_at lw_m11 194 rfl) rfl
theorem q2662 : (Jvm.Cond.methodLink "FilterWaterworksModel" (206 : Nat) ({ cls := "FilterWaterworksModel", name := "writes", desc := "(I)V" } : Jvm.MethodName)) ∈ lw_all := lw_g (lw_at lw_m11 195 rfl) rfl
theorem q2663 : (Jvm.Cond.privateMethod ({ cls := "FilterWaterworksModel", name := "writes", desc := "(I)V" } : Jvm.MethodName)) ∈ lw_tbl := lw_at lw_m11 196 rfl
theorem q2664 : (Jvm.Cond.instanceMethod ({ cls := "FilterWaterworksModel", name := "writes", desc := "(I)V" } : Jvm.MethodName)) ∈ lw_all := lw_g (lw_at lw_m11 197 rfl) rfl
theorem q2665 : (Jvm.Cond.code ({ cls := "FilterWaterworksModel", name := "writes", desc := "(I)V" } : Jvm.MethodName) prog_18_method_78_code (2 : Nat) (Option.none : Option Jvm.ClassFile.FieldType)) ∈ lw_all := lw_g (lw_at lw_m11 198 rfl) rfl
theorem q2666 : (Jvm.Cond.methodLink "FilterWaterworksModel" (209 : Nat) ({ cls := "FilterWaterworksModel", name := "signs", desc := "(C)V" } : Jvm.MethodName)) ∈ lw_all := lw_g (lw_at lw_m11 199 rfl) rfl
theorem q2667 : (Jvm.Cond.privateMethod ({ cls := "FilterWaterworksModel", name := "signs", desc := "(C)V" } : Jvm.MethodName)) ∈ lw_tbl := lw_at lw_m11 200 rfl
theorem q2668 : (Jvm.Cond.instanceMethod ({ cls := "FilterWaterworksModel", name := "signs", desc := "(C)V" } : Jvm.MethodName)) ∈ lw_all := lw_g (lw_at lw_m11 201 rfl) rfl
theorem q2669 : (Jvm.Cond.code ({ cls := "FilterWaterworksModel", name := "signs", desc := "(C)V" } : Jvm.MethodName) prog_18_method_77_code (2 : Nat) (Option.none : Option Jvm.ClassFile.FieldType)) ∈ lw_all := lw_g (lw_at lw_m11 202 rfl) rfl
theorem q2670 : (Jvm.Cond.methodLink "FilterWaterworksModel" (213 : Nat) ({ cls := "FilterWaterworksModel", name := "writes", desc := "(CI)V" } : Jvm.MethodName)) ∈ lw_all := lw_g (lw_at lw_m11 203 rfl) rfl
theorem q2671 : (Jvm.Cond.privateMethod ({ cls := "FilterWaterworksModel", name := "writes", desc := "(CI)V" } : Jvm.MethodName)) ∈ lw_tbl := lw_at lw_m11 204 rfl
theorem q2672 : (Jvm.Cond.instanceMethod ({ cls := "FilterWaterworksModel", name := "writes", desc := "(CI)V" } : Jvm.MethodName)) ∈ lw_all := lw_g (lw_at lw_m11 205 rfl) rfl
theorem q2673 : (Jvm.Cond.code ({ cls := "FilterWaterworksModel", name := "writes", desc := "(CI)V" } : Jvm.MethodName) prog_18_method_79_code (3 : Nat) (Option.none : Option Jvm.ClassFile.FieldType)) ∈ lw_all := lw_g (lw_at lw_m11 206 rfl) rfl
theorem q2675 : (Jvm.Cond.instanceMethod ({ cls := "FilterWaterworksModel", name := "renderPipe", desc := "(I)I" } : Jvm.MethodName)) ∈ lw_all := lw_g (lw_at lw_m11 208 rfl) rfl
theorem q2676 : (Jvm.Cond.selects "FilterWaterworksModel" ({ cls := "FilterWaterworksModel", name := "renderPipe", desc := "(I)I" } : Jvm.MethodName) ({ cls := "FilterWaterworksModel", name := "renderPipe", desc := "(I)I" } : Jvm.MethodName)) ∈ lw_all := lw_g (lw_at lw_m11 209 rfl) rfl
theorem q2677 : (Jvm.Cond.code ({ cls := "FilterWaterworksModel", name := "renderPipe", desc := "(I)I" } : Jvm.MethodName) prog_18_method_81_code (3 : Nat) (Option.some Jvm.ClassFile.FieldType.int)) ∈ lw_all := lw_g (lw_at lw_m11 210 rfl) rfl
theorem q2679 : (Jvm.Cond.instanceMethod ({ cls := "FilterWaterworksModel", name := "outputAt", desc := "(I)C" } : Jvm.MethodName)) ∈ lw_all := lw_g (lw_at lw_m11 212 rfl) rfl
theorem q2680 : (Jvm.Cond.selects "FilterWaterworksModel" ({ cls := "FilterWaterworksModel", name := "outputAt", desc := "(I)C" } : Jvm.MethodName) ({ cls := "FilterWaterworksModel", name := "outputAt", desc := "(I)C" } : Jvm.MethodName)) ∈ lw_all := lw_g (lw_at lw_m11 213 rfl) rfl
theorem q2681 : (Jvm.Cond.code ({ cls := "FilterWaterworksModel", name := "outputAt", desc := "(I)C" } : Jvm.MethodName) prog_18_method_82_code (2 : Nat) (Option.some Jvm.ClassFile.FieldType.char)) ∈ lw_all := lw_g (lw_at lw_m11 214 rfl) rfl
theorem q2683 : (Jvm.Cond.instanceMethod ({ cls := "FilterWaterworksModel", name := "type", desc := "(C)I" } : Jvm.MethodName)) ∈ lw_all := lw_g (lw_at lw_m11 216 rfl) rfl
theorem q2684 : (Jvm.Cond.selects "FilterWaterworksModel" ({ cls := "FilterWaterworksModel", name := "type", desc := "(C)I" } : Jvm.MethodName) ({ cls := "FilterWaterworksModel", name := "type", desc := "(C)I" } : Jvm.MethodName)) ∈ lw_all := lw_g (lw_at lw_m11 217 rfl) rfl
theorem q2685 : (Jvm.Cond.code ({ cls := "FilterWaterworksModel", name := "type", desc := "(C)I" } : Jvm.MethodName) prog_18_method_83_code (2 : Nat) (Option.some Jvm.ClassFile.FieldType.int)) ∈ lw_all := lw_g (lw_at lw_m11 218 rfl) rfl
theorem q2687 : (Jvm.Cond.instanceMethod ({ cls := "FilterWaterworksModel", name := "runScript", desc := "()I" } : Jvm.MethodName)) ∈ lw_all := lw_g (lw_at lw_m11 220 rfl) rfl
theorem q2688 : (Jvm.Cond.selects "FilterWaterworksModel" ({ cls := "FilterWaterworksModel", name := "runScript", desc := "()I" } : Jvm.MethodName) ({ cls := "FilterWaterworksModel", name := "runScript", desc := "()I" } : Jvm.MethodName)) ∈ lw_all := lw_g (lw_at lw_m11 221 rfl) rfl
theorem q2689 : (Jvm.Cond.code ({ cls := "FilterWaterworksModel", name := "runScript", desc := "()I" } : Jvm.MethodName) prog_18_method_90_code (5 : Nat) (Option.some Jvm.ClassFile.FieldType.int)) ∈ lw_all := lw_g (lw_at lw_m11 222 rfl) rfl
theorem q2690 : (Jvm.Cond.methodLink "FilterWaterworksModel" (280 : Nat) ({ cls := "FilterWaterworksModel", name := "isCommand", desc := "()Z" } : Jvm.MethodName)) ∈ lw_all := lw_g (lw_at lw_m11 223 rfl) rfl
theorem q2691 : (Jvm.Cond.privateMethod ({ cls := "FilterWaterworksModel", name := "isCommand", desc := "()Z" } : Jvm.MethodName)) ∈ lw_tbl := lw_at lw_m11 224 rfl
theorem q2692 : (Jvm.Cond.instanceMethod ({ cls := "FilterWaterworksModel", name := "isCommand", desc := "()Z" } : Jvm.MethodName)) ∈ lw_all := lw_g (lw_at lw_m11 225 rfl) rfl
theorem q2693 : (Jvm.Cond.code ({ cls := "FilterWaterworksModel", name := "isCommand", desc := "()Z" } : Jvm.MethodName) prog_18_method_88_code (3 : Nat) (Option.some Jvm.ClassFile.FieldType.boolean)) ∈ lw_all := lw_g (lw_at lw_m11 226 rfl) rfl
theorem q2694 : (Jvm.Cond.stringRef "FilterWaterworksModel" (244 : Nat) "tank _pipe _pour _draw _valve _leak _clean _wait_") ∈ lw_tbl := lw_at lw_m11 227 rfl
theorem q2695 : (Jvm.Cond.methodLink "FilterWaterworksModel" (246 : Nat) ({ cls := "FilterWaterworksModel", name := "isOneOf", desc := "(Ljava/lang/String;)Z" } : Jvm.MethodName)) ∈ lw_all := lw_g (lw_at lw_m11 228 rfl) rfl
theorem q2696 : (Jvm.Cond.privateMethod ({ cls := "FilterWaterworksModel", name := "isOneOf", desc := "(Ljava/lang/String;)Z" } : Jvm.MethodName)) ∈ lw_tbl := lw_at lw_m11 229 rfl
theorem q2697 : (Jvm.Cond.instanceMethod ({ cls := "FilterWaterworksModel", name := "isOneOf", desc := "(Ljava/lang/String;)Z" } : Jvm.MethodName)) ∈ lw_all := lw_g (lw_at lw_m11 230 rfl) rfl
theorem q2698 : (Jvm.Cond.code ({ cls := "FilterWaterworksModel", name := "isOneOf", desc := "(Ljava/lang/String;)Z" } : Jvm.MethodName) prog_18_method_85_code (6 : Nat) (Option.some Jvm.ClassFile.FieldType.boolean)) ∈ lw_all := lw_g (lw_at lw_m11 231 rfl) rfl
theorem q2699 : (Jvm.Cond.methodLink "FilterWaterworksModel" (222 : Nat) ({ cls := "java/lang/String", name := "length", desc := "()I" } : Jvm.MethodName)) ∈ lw_all := lw_g (lw_at lw_m11 232 rfl) rfl
theorem q2700 : (Jvm.Cond.methodLink "FilterWaterworksModel" (226 : Nat) ({ cls := "java/lang/String", name := "indexOf", desc := "(II)I" } : Jvm.MethodName)) ∈ lw_all := lw_g (lw_at lw_m11 233 rfl) rfl
theorem q2742 : (Jvm.Cond.methodLink "FilterWaterworksModel" (229 : Nat) ({ cls := "java/lang/String", name := "charAt", desc := "(I)C" } : Jvm.MethodName)) ∈ lw_all := lw_g (lw_at lw_m12 35 rfl) rfl
theorem q2743 : (Jvm.Cond.methodLink "FilterWaterworksModel" (233 : Nat) ({ cls := "java/lang/String", name := "substring", desc := "(II)Ljava/lang/String;" } : Jvm.MethodName)) ∈ lw_all := lw_g (lw_at lw_m12 36 rfl) rfl
theorem q2766 : (Jvm.Cond.methodLink "FilterWaterworksModel" (237 : Nat) ({ cls := "java/lang/Math", name := "max", desc := "(II)I" } : Jvm.MethodName)) ∈ lw_all := lw_g (lw_at lw_m12 59 rfl) rfl
theorem q2767 : (Jvm.Cond.methodLink "FilterWaterworksModel" (250 : Nat) ({ cls := "java/lang/String", name := "hashCode", desc := "()I" } : Jvm.MethodName)) ∈ lw_all := lw_g (lw_at lw_m12 60 rfl) rfl
theorem q2768 : (Jvm.Cond.stringRef "FilterWaterworksModel" (253 : Nat) "tank ") ∈ lw_tbl := lw_at lw_m12 61 rfl
theorem q2769 : (Jvm.Cond.methodLink "FilterWaterworksModel" (255 : Nat) ({ cls := "java/lang/String", name := "equals", desc := "(Ljava/lang/Object;)Z" } : Jvm.MethodName)) ∈ lw_all := lw_g (lw_at lw_m12 62 rfl) rfl
theorem q2770 : (Jvm.Cond.stringRef "FilterWaterworksModel" (259 : Nat) "clean ") ∈ lw_tbl := lw_at lw_m12 63 rfl
theorem q2771 : (Jvm.Cond.stringRef "FilterWaterworksModel" (261 : Nat) "pipe ") ∈ lw_tbl := lw_at lw_m12 64 rfl
theorem q2772 : (Jvm.Cond.stringRef "FilterWaterworksModel" (263 : Nat) "pour ") ∈ lw_tbl := lw_at lw_m12 65 rfl
theorem q2773 : (Jvm.Cond.stringRef "FilterWaterworksModel" (265 : Nat) "draw ") ∈ lw_tbl := lw_at lw_m12 66 rfl
theorem q2774 : (Jvm.Cond.stringRef "FilterWaterworksModel" (267 : Nat) "wait") ∈ lw_tbl := lw_at lw_m12 67 rfl
theorem q2775 : (Jvm.Cond.methodLink "FilterWaterworksModel" (269 : Nat) ({ cls := "FilterWaterworksModel", name := "digits", desc := "(II)Z" } : Jvm.MethodName)) ∈ lw_all := lw_g (lw_at lw_m12 68 rfl) rfl
theorem q2776 : (Jvm.Cond.privateMethod ({ cls := "FilterWaterworksModel", name := "digits", desc := "(II)Z" } : Jvm.MethodName)) ∈ lw_tbl := lw_at lw_m12 69 rfl
theorem q2777 : (Jvm.Cond.instanceMethod ({ cls := "FilterWaterworksModel", name := "digits", desc := "(II)Z" } : Jvm.MethodName)) ∈ lw_all := lw_g (lw_at lw_m12 70 rfl) rfl
theorem q2778 : (Jvm.Cond.code ({ cls := "FilterWaterworksModel", name := "digits", desc := "(II)Z" } : Jvm.MethodName) prog_18_method_86_code (4 : Nat) (Option.some Jvm.ClassFile.FieldType.boolean)) ∈ lw_all := lw_g (lw_at lw_m12 71 rfl) rfl
theorem q2779 : (Jvm.Cond.methodLink "FilterWaterworksModel" (272 : Nat) ({ cls := "FilterWaterworksModel", name := "isSet", desc := "()Z" } : Jvm.MethodName)) ∈ lw_all := lw_g (lw_at lw_m12 72 rfl) rfl
theorem q2780 : (Jvm.Cond.privateMethod ({ cls := "FilterWaterworksModel", name := "isSet", desc := "()Z" } : Jvm.MethodName)) ∈ lw_tbl := lw_at lw_m12 73 rfl
theorem q2781 : (Jvm.Cond.instanceMethod ({ cls := "FilterWaterworksModel", name := "isSet", desc := "()Z" } : Jvm.MethodName)) ∈ lw_all := lw_g (lw_at lw_m12 74 rfl) rfl
theorem q2782 : (Jvm.Cond.code ({ cls := "FilterWaterworksModel", name := "isSet", desc := "()Z" } : Jvm.MethodName) prog_18_method_87_code (2 : Nat) (Option.some Jvm.ClassFile.FieldType.boolean)) ∈ lw_all := lw_g (lw_at lw_m12 75 rfl) rfl
theorem q2783 : (Jvm.Cond.methodLink "FilterWaterworksModel" (240 : Nat) ({ cls := "FilterWaterworksModel", name := "takes", desc := "(C)Z" } : Jvm.MethodName)) ∈ lw_all := lw_g (lw_at lw_m12 76 rfl) rfl
theorem q2784 : (Jvm.Cond.privateMethod ({ cls := "FilterWaterworksModel", name := "takes", desc := "(C)Z" } : Jvm.MethodName)) ∈ lw_tbl := lw_at lw_m12 77 rfl
theorem q2785 : (Jvm.Cond.instanceMethod ({ cls := "FilterWaterworksModel", name := "takes", desc := "(C)Z" } : Jvm.MethodName)) ∈ lw_all := lw_g (lw_at lw_m12 78 rfl) rfl
theorem q2786 : (Jvm.Cond.code ({ cls := "FilterWaterworksModel", name := "takes", desc := "(C)Z" } : Jvm.MethodName) prog_18_method_84_code (2 : Nat) (Option.some Jvm.ClassFile.FieldType.boolean)) ∈ lw_all := lw_g (lw_at lw_m12 79 rfl) rfl
theorem q2787 : (Jvm.Cond.methodLink "FilterWaterworksModel" (283 : Nat) ({ cls := "FilterWaterworksModel", name := "carries", desc := "()I" } : Jvm.MethodName)) ∈ lw_all := lw_g (lw_at lw_m12 80 rfl) rfl
theorem q2788 : (Jvm.Cond.privateMethod ({ cls := "FilterWaterworksModel", name := "carries", desc := "()I" } : Jvm.MethodName)) ∈ lw_tbl := lw_at lw_m12 81 rfl
theorem q2789 : (Jvm.Cond.instanceMethod ({ cls := "FilterWaterworksModel", name := "carries", desc := "()I" } : Jvm.MethodName)) ∈ lw_all := lw_g (lw_at lw_m12 82 rfl) rfl
theorem q2790 : (Jvm.Cond.code ({ cls := "FilterWaterworksModel", name := "carries", desc := "()I" } : Jvm.MethodName) prog_18_method_89_code (3 : Nat) (Option.some Jvm.ClassFile.FieldType.int)) ∈ lw_all := lw_g (lw_at lw_m12 83 rfl) rfl
theorem q2791 : (Jvm.Cond.stringRef "FilterWaterworksModel" (276 : Nat) "valve ") ∈ lw_tbl := lw_at lw_m12 84 rfl
theorem q2792 : (Jvm.Cond.stringRef "FilterWaterworksModel" (278 : Nat) "leak ") ∈ lw_tbl := lw_at lw_m12 85 rfl
theorem q2794 : (Jvm.Cond.instanceMethod ({ cls := "FilterWaterworksModel", name := "errorPosition", desc := "()I" } : Jvm.MethodName)) ∈ lw_all := lw_g (lw_at lw_m12 87 rfl) rfl
theorem q2795 : (Jvm.Cond.selects "FilterWaterworksModel" ({ cls := "FilterWaterworksModel", name := "errorPosition", desc := "()I" } : Jvm.MethodName) ({ cls := "FilterWaterworksModel", name := "errorPosition", desc := "()I" } : Jvm.MethodName)) ∈ lw_all := lw_g (lw_at lw_m12 88 rfl) rfl
theorem q2796 : (Jvm.Cond.code ({ cls := "FilterWaterworksModel", name := "errorPosition", desc := "()I" } : Jvm.MethodName) prog_18_method_91_code (1 : Nat) (Option.some Jvm.ClassFile.FieldType.int)) ∈ lw_all := lw_g (lw_at lw_m12 89 rfl) rfl
theorem q2798 : (Jvm.Cond.instanceMethod ({ cls := "FilterWaterworksModel", name := "failedCommand", desc := "()I" } : Jvm.MethodName)) ∈ lw_all := lw_g (lw_at lw_m12 91 rfl) rfl
theorem q2799 : (Jvm.Cond.selects "FilterWaterworksModel" ({ cls := "FilterWaterworksModel", name := "failedCommand", desc := "()I" } : Jvm.MethodName) ({ cls := "FilterWaterworksModel", name := "failedCommand", desc := "()I" } : Jvm.MethodName)) ∈ lw_all := lw_g (lw_at lw_m12 92 rfl) rfl
theorem q2800 : (Jvm.Cond.code ({ cls := "FilterWaterworksModel", name := "failedCommand", desc := "()I" } : Jvm.MethodName) prog_18_method_92_code (1 : Nat) (Option.some Jvm.ClassFile.FieldType.int)) ∈ lw_all := lw_g (lw_at lw_m12 93 rfl) rfl
theorem q2802 : (Jvm.Cond.instanceMethod ({ cls := "FilterWaterworksModel", name := "undo", desc := "()I" } : Jvm.MethodName)) ∈ lw_all := lw_g (lw_at lw_m12 95 rfl) rfl
theorem q2803 : (Jvm.Cond.selects "FilterWaterworksModel" ({ cls := "FilterWaterworksModel", name := "undo", desc := "()I" } : Jvm.MethodName) ({ cls := "FilterWaterworksModel", name := "undo", desc := "()I" } : Jvm.MethodName)) ∈ lw_all := lw_g (lw_at lw_m12 96 rfl) rfl
theorem q2804 : (Jvm.Cond.code ({ cls := "FilterWaterworksModel", name := "undo", desc := "()I" } : Jvm.MethodName) prog_18_method_93_code (2 : Nat) (Option.some Jvm.ClassFile.FieldType.int)) ∈ lw_all := lw_g (lw_at lw_m12 97 rfl) rfl
theorem q2806 : (Jvm.Cond.instanceMethod ({ cls := "FilterWaterworksModel", name := "save", desc := "()I" } : Jvm.MethodName)) ∈ lw_all := lw_g (lw_at lw_m12 99 rfl) rfl
theorem q2807 : (Jvm.Cond.selects "FilterWaterworksModel" ({ cls := "FilterWaterworksModel", name := "save", desc := "()I" } : Jvm.MethodName) ({ cls := "FilterWaterworksModel", name := "save", desc := "()I" } : Jvm.MethodName)) ∈ lw_all := lw_g (lw_at lw_m12 100 rfl) rfl
theorem q2808 : (Jvm.Cond.code ({ cls := "FilterWaterworksModel", name := "save", desc := "()I" } : Jvm.MethodName) prog_18_method_94_code (2 : Nat) (Option.some Jvm.ClassFile.FieldType.int)) ∈ lw_all := lw_g (lw_at lw_m12 101 rfl) rfl
theorem q2810 : (Jvm.Cond.instanceMethod ({ cls := "FilterWaterworksModel", name := "restore", desc := "()I" } : Jvm.MethodName)) ∈ lw_all := lw_g (lw_at lw_m12 103 rfl) rfl
theorem q2811 : (Jvm.Cond.selects "FilterWaterworksModel" ({ cls := "FilterWaterworksModel", name := "restore", desc := "()I" } : Jvm.MethodName) ({ cls := "FilterWaterworksModel", name := "restore", desc := "()I" } : Jvm.MethodName)) ∈ lw_all := lw_g (lw_at lw_m12 104 rfl) rfl
theorem q2812 : (Jvm.Cond.code ({ cls := "FilterWaterworksModel", name := "restore", desc := "()I" } : Jvm.MethodName) prog_18_method_95_code (2 : Nat) (Option.some Jvm.ClassFile.FieldType.int)) ∈ lw_all := lw_g (lw_at lw_m12 105 rfl) rfl
theorem q2840 : (Jvm.Cond.castable "FilterWaterworksModel" "java/lang/Object") ∈ lw_tbl := lw_at lw_m12 133 rfl
theorem in_X3 : ∀ w ∈ wsX30, w ∈ lw_all := lw_in wsX30 [2297, 2299, 2301, 2303, 2305, 2307, 2309, 2311, 2313, 2315, 2317, 2319, 2321, 2323, 2325, 2327, 2329, 2331] (by decide +kernel) (by decide +kernel)

