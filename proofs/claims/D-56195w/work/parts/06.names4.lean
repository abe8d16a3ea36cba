/-! FilterWaterworks -/
set_option maxRecDepth 100000
def RX1 : String := "FilterWaterworks"
def TX1 : u_T := fun k => match k with
  | 0 => ("FilterWaterworks", "works", "LFilterWaterworks$Works;", false)
  | 1 => ("FilterWaterworks", "snapshot", "LFilterWaterworks$Works;", false)
  | 2 => ("FilterWaterworks", "history", "Ljava/util/LinkedList;", true)
  | 3 => ("FilterWaterworks", "script", "Ljava/lang/StringBuilder;", true)
  | 4 => ("FilterWaterworks", "errorPosition", "I", false)
  | 5 => ("FilterWaterworks", "failedCommand", "I", false)
  | _ => ("FilterWaterworks", "output", "Ljava/lang/String;", false)
def tyX1 : Nat → FieldType := fun k => match k with
  | 0 => .object "FilterWaterworks$Works"
  | 1 => .object "FilterWaterworks$Works"
  | 2 => .object "java/util/LinkedList"
  | 3 => .object "java/lang/StringBuilder"
  | 4 => .int
  | 5 => .int
  | _ => .object "java/lang/String"
abbrev wsX10 : List Cond := u_ws RX1 TX1 7
theorem nmX1 : ∀ a, a < 7 → ∀ b, b < 7 → a ≠ b → (TX1 a).2.1 ≠ (TX1 b).2.1 := by decide +kernel
theorem tyX1_ok : ∀ k, k < 7 → parseFieldDescriptor (TX1 k).2.2.1 = some (tyX1 k) := by decide +kernel
abbrev cX1_init : ByteArray := prog_1_method_4_code
def yX1_init : MethodName := ⟨RX1, "<init>", "()V"⟩
def dkwX1_init_2 : List UInt8 := [42, 18, 46, 181, 0, 48, 177]
abbrev dktX1_init_2 : List UInt8 := dkwX1_init_2 ++ []
def dkwX1_init_1 : List UInt8 := [181, 0, 28, 42, 187, 0, 32, 89, 183, 0, 34, 181, 0, 35, 42, 2, 181, 0, 39, 42, 2, 181, 0, 43]
abbrev dktX1_init_1 : List UInt8 := dkwX1_init_1 ++ dktX1_init_2
def dkwX1_init_0 : List UInt8 := [42, 183, 0, 13, 42, 187, 0, 18, 89, 183, 0, 20, 181, 0, 21, 42, 187, 0, 25, 89, 183, 0, 27]
abbrev dktX1_init_0 : List UInt8 := dkwX1_init_0 ++ dktX1_init_1
theorem dksX1_init_0 : cX1_init.data.toList.drop 0 = dktX1_init_0 := by decide +kernel
theorem dksX1_init_1 : cX1_init.data.toList.drop 23 = dktX1_init_1 := dk_seg dksX1_init_0 23 rfl rfl
theorem dksX1_init_2 : cX1_init.data.toList.drop 47 = dktX1_init_2 := dk_seg dksX1_init_1 24 rfl rfl
theorem dX1_init_0 : decode cX1_init 0 = .ok (.aload_n 0, 1) := dk_42 (dk_at dksX1_init_0 0 rfl rfl)
theorem dX1_init_1 : decode cX1_init 1 = .ok (.invokespecial 13, 3) := dk_183 0 13 (dk_at dksX1_init_0 1 rfl rfl)
theorem dX1_init_4 : decode cX1_init 4 = .ok (.aload_n 0, 1) := dk_42 (dk_at dksX1_init_0 4 rfl rfl)
theorem dX1_init_5 : decode cX1_init 5 = .ok (.new 18, 3) := dk_187 0 18 (dk_at dksX1_init_0 5 rfl rfl)
theorem dX1_init_8 : decode cX1_init 8 = .ok (.dup, 1) := dk_89 (dk_at dksX1_init_0 8 rfl rfl)
theorem dX1_init_9 : decode cX1_init 9 = .ok (.invokespecial 20, 3) := dk_183 0 20 (dk_at dksX1_init_0 9 rfl rfl)
theorem dX1_init_12 : decode cX1_init 12 = .ok (.putfield 21, 3) := dk_181 0 21 (dk_at dksX1_init_0 12 rfl rfl)
theorem dX1_init_15 : decode cX1_init 15 = .ok (.aload_n 0, 1) := dk_42 (dk_at dksX1_init_0 15 rfl rfl)
theorem dX1_init_16 : decode cX1_init 16 = .ok (.new 25, 3) := dk_187 0 25 (dk_at dksX1_init_0 16 rfl rfl)
theorem dX1_init_19 : decode cX1_init 19 = .ok (.dup, 1) := dk_89 (dk_at dksX1_init_0 19 rfl rfl)
theorem dX1_init_20 : decode cX1_init 20 = .ok (.invokespecial 27, 3) := dk_183 0 27 (dk_at dksX1_init_0 20 rfl rfl)
theorem dX1_init_23 : decode cX1_init 23 = .ok (.putfield 28, 3) := dk_181 0 28 (dk_at dksX1_init_1 0 rfl rfl)
theorem dX1_init_26 : decode cX1_init 26 = .ok (.aload_n 0, 1) := dk_42 (dk_at dksX1_init_1 3 rfl rfl)
theorem dX1_init_27 : decode cX1_init 27 = .ok (.new 32, 3) := dk_187 0 32 (dk_at dksX1_init_1 4 rfl rfl)
theorem dX1_init_30 : decode cX1_init 30 = .ok (.dup, 1) := dk_89 (dk_at dksX1_init_1 7 rfl rfl)
theorem dX1_init_31 : decode cX1_init 31 = .ok (.invokespecial 34, 3) := dk_183 0 34 (dk_at dksX1_init_1 8 rfl rfl)
theorem dX1_init_34 : decode cX1_init 34 = .ok (.putfield 35, 3) := dk_181 0 35 (dk_at dksX1_init_1 11 rfl rfl)
theorem dX1_init_37 : decode cX1_init 37 = .ok (.aload_n 0, 1) := dk_42 (dk_at dksX1_init_1 14 rfl rfl)
theorem dX1_init_38 : decode cX1_init 38 = .ok (.iconst (-1), 1) := dk_2 (dk_at dksX1_init_1 15 rfl rfl)
theorem dX1_init_39 : decode cX1_init 39 = .ok (.putfield 39, 3) := dk_181 0 39 (dk_at dksX1_init_1 16 rfl rfl)
theorem dX1_init_42 : decode cX1_init 42 = .ok (.aload_n 0, 1) := dk_42 (dk_at dksX1_init_1 19 rfl rfl)
theorem dX1_init_43 : decode cX1_init 43 = .ok (.iconst (-1), 1) := dk_2 (dk_at dksX1_init_1 20 rfl rfl)
theorem dX1_init_44 : decode cX1_init 44 = .ok (.putfield 43, 3) := dk_181 0 43 (dk_at dksX1_init_1 21 rfl rfl)
theorem dX1_init_47 : decode cX1_init 47 = .ok (.aload_n 0, 1) := dk_42 (dk_at dksX1_init_2 0 rfl rfl)
theorem dX1_init_48 : decode cX1_init 48 = .ok (.ldc 46, 2) := dk_18 46 (dk_at dksX1_init_2 1 rfl rfl)
theorem dX1_init_50 : decode cX1_init 50 = .ok (.putfield 48, 3) := dk_181 0 48 (dk_at dksX1_init_2 3 rfl rfl)
theorem dX1_init_53 : decode cX1_init 53 = .ok (.return_, 1) := dk_177 (dk_at dksX1_init_2 6 rfl rfl)
abbrev cX1_tankCount : ByteArray := prog_1_method_21_code
def yX1_tankCount : MethodName := ⟨RX1, "tankCount", "()I"⟩
def dkwX1_tankCount_0 : List UInt8 := [42, 180, 0, 21, 180, 0, 130, 185, 0, 142, 1, 0, 172]
abbrev dktX1_tankCount_0 : List UInt8 := dkwX1_tankCount_0 ++ []
theorem dksX1_tankCount_0 : cX1_tankCount.data.toList.drop 0 = dktX1_tankCount_0 := by decide +kernel
theorem dX1_tankCount_0 : decode cX1_tankCount 0 = .ok (.aload_n 0, 1) := dk_42 (dk_at dksX1_tankCount_0 0 rfl rfl)
theorem dX1_tankCount_1 : decode cX1_tankCount 1 = .ok (.getfield 21, 3) := dk_180 0 21 (dk_at dksX1_tankCount_0 1 rfl rfl)
theorem dX1_tankCount_4 : decode cX1_tankCount 4 = .ok (.getfield 130, 3) := dk_180 0 130 (dk_at dksX1_tankCount_0 4 rfl rfl)
theorem dX1_tankCount_7 : decode cX1_tankCount 7 = .ok (.invokeinterface 142 1, 5) := by decide +kernel
theorem dX1_tankCount_12 : decode cX1_tankCount 12 = .ok (.ireturn, 1) := dk_172 (dk_at dksX1_tankCount_0 12 rfl rfl)
abbrev cX1_pipeCount : ByteArray := prog_1_method_30_code
def yX1_pipeCount : MethodName := ⟨RX1, "pipeCount", "()I"⟩
def dkwX1_pipeCount_0 : List UInt8 := [42, 180, 0, 21, 180, 0, 178, 185, 0, 142, 1, 0, 172]
abbrev dktX1_pipeCount_0 : List UInt8 := dkwX1_pipeCount_0 ++ []
theorem dksX1_pipeCount_0 : cX1_pipeCount.data.toList.drop 0 = dktX1_pipeCount_0 := by decide +kernel
theorem dX1_pipeCount_0 : decode cX1_pipeCount 0 = .ok (.aload_n 0, 1) := dk_42 (dk_at dksX1_pipeCount_0 0 rfl rfl)
theorem dX1_pipeCount_1 : decode cX1_pipeCount 1 = .ok (.getfield 21, 3) := dk_180 0 21 (dk_at dksX1_pipeCount_0 1 rfl rfl)
theorem dX1_pipeCount_4 : decode cX1_pipeCount 4 = .ok (.getfield 178, 3) := dk_180 0 178 (dk_at dksX1_pipeCount_0 4 rfl rfl)
theorem dX1_pipeCount_7 : decode cX1_pipeCount 7 = .ok (.invokeinterface 142 1, 5) := by decide +kernel
theorem dX1_pipeCount_12 : decode cX1_pipeCount 12 = .ok (.ireturn, 1) := dk_172 (dk_at dksX1_pipeCount_0 12 rfl rfl)
abbrev cX1_groupCount : ByteArray := prog_1_method_43_code
def yX1_groupCount : MethodName := ⟨RX1, "groupCount", "()I"⟩
def dkwX1_groupCount_0 : List UInt8 := [42, 180, 0, 21, 182, 0, 226, 172]
abbrev dktX1_groupCount_0 : List UInt8 := dkwX1_groupCount_0 ++ []
theorem dksX1_groupCount_0 : cX1_groupCount.data.toList.drop 0 = dktX1_groupCount_0 := by decide +kernel
theorem dX1_groupCount_0 : decode cX1_groupCount 0 = .ok (.aload_n 0, 1) := dk_42 (dk_at dksX1_groupCount_0 0 rfl rfl)
theorem dX1_groupCount_1 : decode cX1_groupCount 1 = .ok (.getfield 21, 3) := dk_180 0 21 (dk_at dksX1_groupCount_0 1 rfl rfl)
theorem dX1_groupCount_4 : decode cX1_groupCount 4 = .ok (.invokevirtual 226, 3) := dk_182 0 226 (dk_at dksX1_groupCount_0 4 rfl rfl)
theorem dX1_groupCount_7 : decode cX1_groupCount 7 = .ok (.ireturn, 1) := dk_172 (dk_at dksX1_groupCount_0 7 rfl rfl)
abbrev cX1_groupCountByUnions : ByteArray := prog_1_method_44_code
def yX1_groupCountByUnions : MethodName := ⟨RX1, "groupCountByUnions", "()I"⟩
def dkwX1_groupCountByUnions_0 : List UInt8 := [42, 180, 0, 21, 182, 0, 229, 172]
abbrev dktX1_groupCountByUnions_0 : List UInt8 := dkwX1_groupCountByUnions_0 ++ []
theorem dksX1_groupCountByUnions_0 : cX1_groupCountByUnions.data.toList.drop 0 = dktX1_groupCountByUnions_0 := by decide +kernel
theorem dX1_groupCountByUnions_0 : decode cX1_groupCountByUnions 0 = .ok (.aload_n 0, 1) := dk_42 (dk_at dksX1_groupCountByUnions_0 0 rfl rfl)
theorem dX1_groupCountByUnions_1 : decode cX1_groupCountByUnions 1 = .ok (.getfield 21, 3) := dk_180 0 21 (dk_at dksX1_groupCountByUnions_0 1 rfl rfl)
theorem dX1_groupCountByUnions_4 : decode cX1_groupCountByUnions 4 = .ok (.invokevirtual 229, 3) := dk_182 0 229 (dk_at dksX1_groupCountByUnions_0 4 rfl rfl)
theorem dX1_groupCountByUnions_7 : decode cX1_groupCountByUnions 7 = .ok (.ireturn, 1) := dk_172 (dk_at dksX1_groupCountByUnions_0 7 rfl rfl)
abbrev cX1_bridgeCount : ByteArray := prog_1_method_46_code
def yX1_bridgeCount : MethodName := ⟨RX1, "bridgeCount", "()I"⟩
def dkwX1_bridgeCount_0 : List UInt8 := [42, 180, 0, 21, 182, 0, 235, 172]
abbrev dktX1_bridgeCount_0 : List UInt8 := dkwX1_bridgeCount_0 ++ []
theorem dksX1_bridgeCount_0 : cX1_bridgeCount.data.toList.drop 0 = dktX1_bridgeCount_0 := by decide +kernel
theorem dX1_bridgeCount_0 : decode cX1_bridgeCount 0 = .ok (.aload_n 0, 1) := dk_42 (dk_at dksX1_bridgeCount_0 0 rfl rfl)
theorem dX1_bridgeCount_1 : decode cX1_bridgeCount 1 = .ok (.getfield 21, 3) := dk_180 0 21 (dk_at dksX1_bridgeCount_0 1 rfl rfl)
theorem dX1_bridgeCount_4 : decode cX1_bridgeCount 4 = .ok (.invokevirtual 235, 3) := dk_182 0 235 (dk_at dksX1_bridgeCount_0 4 rfl rfl)
theorem dX1_bridgeCount_7 : decode cX1_bridgeCount 7 = .ok (.ireturn, 1) := dk_172 (dk_at dksX1_bridgeCount_0 7 rfl rfl)
abbrev cX1_bridgeCountByLeavingOut : ByteArray := prog_1_method_47_code
def yX1_bridgeCountByLeavingOut : MethodName := ⟨RX1, "bridgeCountByLeavingOut", "()I"⟩
def dkwX1_bridgeCountByLeavingOut_0 : List UInt8 := [42, 180, 0, 21, 182, 0, 238, 172]
abbrev dktX1_bridgeCountByLeavingOut_0 : List UInt8 := dkwX1_bridgeCountByLeavingOut_0 ++ []
theorem dksX1_bridgeCountByLeavingOut_0 : cX1_bridgeCountByLeavingOut.data.toList.drop 0 = dktX1_bridgeCountByLeavingOut_0 := by decide +kernel
theorem dX1_bridgeCountByLeavingOut_0 : decode cX1_bridgeCountByLeavingOut 0 = .ok (.aload_n 0, 1) := dk_42 (dk_at dksX1_bridgeCountByLeavingOut_0 0 rfl rfl)
theorem dX1_bridgeCountByLeavingOut_1 : decode cX1_bridgeCountByLeavingOut 1 = .ok (.getfield 21, 3) := dk_180 0 21 (dk_at dksX1_bridgeCountByLeavingOut_0 1 rfl rfl)
theorem dX1_bridgeCountByLeavingOut_4 : decode cX1_bridgeCountByLeavingOut 4 = .ok (.invokevirtual 238, 3) := dk_182 0 238 (dk_at dksX1_bridgeCountByLeavingOut_0 4 rfl rfl)
theorem dX1_bridgeCountByLeavingOut_7 : decode cX1_bridgeCountByLeavingOut 7 = .ok (.ireturn, 1) := dk_172 (dk_at dksX1_bridgeCountByLeavingOut_0 7 rfl rfl)
abbrev cX1_time : ByteArray := prog_1_method_53_code
def yX1_time : MethodName := ⟨RX1, "time", "()I"⟩
def dkwX1_time_0 : List UInt8 := [42, 180, 0, 21, 180, 1, 11, 172]
abbrev dktX1_time_0 : List UInt8 := dkwX1_time_0 ++ []
theorem dksX1_time_0 : cX1_time.data.toList.drop 0 = dktX1_time_0 := by decide +kernel
theorem dX1_time_0 : decode cX1_time 0 = .ok (.aload_n 0, 1) := dk_42 (dk_at dksX1_time_0 0 rfl rfl)
theorem dX1_time_1 : decode cX1_time 1 = .ok (.getfield 21, 3) := dk_180 0 21 (dk_at dksX1_time_0 1 rfl rfl)
theorem dX1_time_4 : decode cX1_time 4 = .ok (.getfield 267, 3) := dk_180 1 11 (dk_at dksX1_time_0 4 rfl rfl)
theorem dX1_time_7 : decode cX1_time 7 = .ok (.ireturn, 1) := dk_172 (dk_at dksX1_time_0 7 rfl rfl)
abbrev cX1_pouredTotal : ByteArray := prog_1_method_54_code
def yX1_pouredTotal : MethodName := ⟨RX1, "pouredTotal", "()I"⟩
def dkwX1_pouredTotal_0 : List UInt8 := [42, 180, 0, 21, 180, 1, 14, 172]
abbrev dktX1_pouredTotal_0 : List UInt8 := dkwX1_pouredTotal_0 ++ []
theorem dksX1_pouredTotal_0 : cX1_pouredTotal.data.toList.drop 0 = dktX1_pouredTotal_0 := by decide +kernel
theorem dX1_pouredTotal_0 : decode cX1_pouredTotal 0 = .ok (.aload_n 0, 1) := dk_42 (dk_at dksX1_pouredTotal_0 0 rfl rfl)
theorem dX1_pouredTotal_1 : decode cX1_pouredTotal 1 = .ok (.getfield 21, 3) := dk_180 0 21 (dk_at dksX1_pouredTotal_0 1 rfl rfl)
theorem dX1_pouredTotal_4 : decode cX1_pouredTotal 4 = .ok (.getfield 270, 3) := dk_180 1 14 (dk_at dksX1_pouredTotal_0 4 rfl rfl)
theorem dX1_pouredTotal_7 : decode cX1_pouredTotal 7 = .ok (.ireturn, 1) := dk_172 (dk_at dksX1_pouredTotal_0 7 rfl rfl)
abbrev cX1_drawnTotal : ByteArray := prog_1_method_55_code
def yX1_drawnTotal : MethodName := ⟨RX1, "drawnTotal", "()I"⟩
def dkwX1_drawnTotal_0 : List UInt8 := [42, 180, 0, 21, 180, 1, 17, 172]
abbrev dktX1_drawnTotal_0 : List UInt8 := dkwX1_drawnTotal_0 ++ []
theorem dksX1_drawnTotal_0 : cX1_drawnTotal.data.toList.drop 0 = dktX1_drawnTotal_0 := by decide +kernel
theorem dX1_drawnTotal_0 : decode cX1_drawnTotal 0 = .ok (.aload_n 0, 1) := dk_42 (dk_at dksX1_drawnTotal_0 0 rfl rfl)
theorem dX1_drawnTotal_1 : decode cX1_drawnTotal 1 = .ok (.getfield 21, 3) := dk_180 0 21 (dk_at dksX1_drawnTotal_0 1 rfl rfl)
theorem dX1_drawnTotal_4 : decode cX1_drawnTotal 4 = .ok (.getfield 273, 3) := dk_180 1 17 (dk_at dksX1_drawnTotal_0 4 rfl rfl)
theorem dX1_drawnTotal_7 : decode cX1_drawnTotal 7 = .ok (.ireturn, 1) := dk_172 (dk_at dksX1_drawnTotal_0 7 rfl rfl)
abbrev cX1_spilledTotal : ByteArray := prog_1_method_56_code
def yX1_spilledTotal : MethodName := ⟨RX1, "spilledTotal", "()I"⟩
def dkwX1_spilledTotal_0 : List UInt8 := [42, 180, 0, 21, 180, 1, 20, 172]
abbrev dktX1_spilledTotal_0 : List UInt8 := dkwX1_spilledTotal_0 ++ []
theorem dksX1_spilledTotal_0 : cX1_spilledTotal.data.toList.drop 0 = dktX1_spilledTotal_0 := by decide +kernel
theorem dX1_spilledTotal_0 : decode cX1_spilledTotal 0 = .ok (.aload_n 0, 1) := dk_42 (dk_at dksX1_spilledTotal_0 0 rfl rfl)
theorem dX1_spilledTotal_1 : decode cX1_spilledTotal 1 = .ok (.getfield 21, 3) := dk_180 0 21 (dk_at dksX1_spilledTotal_0 1 rfl rfl)
theorem dX1_spilledTotal_4 : decode cX1_spilledTotal 4 = .ok (.getfield 276, 3) := dk_180 1 20 (dk_at dksX1_spilledTotal_0 4 rfl rfl)
theorem dX1_spilledTotal_7 : decode cX1_spilledTotal 7 = .ok (.ireturn, 1) := dk_172 (dk_at dksX1_spilledTotal_0 7 rfl rfl)
abbrev cX1_totalContent : ByteArray := prog_1_method_57_code
def yX1_totalContent : MethodName := ⟨RX1, "totalContent", "()I"⟩
def dkwX1_totalContent_0 : List UInt8 := [42, 180, 0, 21, 182, 1, 23, 172]
abbrev dktX1_totalContent_0 : List UInt8 := dkwX1_totalContent_0 ++ []
theorem dksX1_totalContent_0 : cX1_totalContent.data.toList.drop 0 = dktX1_totalContent_0 := by decide +kernel
theorem dX1_totalContent_0 : decode cX1_totalContent 0 = .ok (.aload_n 0, 1) := dk_42 (dk_at dksX1_totalContent_0 0 rfl rfl)
theorem dX1_totalContent_1 : decode cX1_totalContent 1 = .ok (.getfield 21, 3) := dk_180 0 21 (dk_at dksX1_totalContent_0 1 rfl rfl)
theorem dX1_totalContent_4 : decode cX1_totalContent 4 = .ok (.invokevirtual 279, 3) := dk_182 1 23 (dk_at dksX1_totalContent_0 4 rfl rfl)
theorem dX1_totalContent_7 : decode cX1_totalContent 7 = .ok (.ireturn, 1) := dk_172 (dk_at dksX1_totalContent_0 7 rfl rfl)
abbrev cX1_totalContentByAccounts : ByteArray := prog_1_method_58_code
def yX1_totalContentByAccounts : MethodName := ⟨RX1, "totalContentByAccounts", "()I"⟩
def dkwX1_totalContentByAccounts_0 : List UInt8 := [42, 180, 0, 21, 182, 1, 26, 172]
abbrev dktX1_totalContentByAccounts_0 : List UInt8 := dkwX1_totalContentByAccounts_0 ++ []
theorem dksX1_totalContentByAccounts_0 : cX1_totalContentByAccounts.data.toList.drop 0 = dktX1_totalContentByAccounts_0 := by decide +kernel
theorem dX1_totalContentByAccounts_0 : decode cX1_totalContentByAccounts 0 = .ok (.aload_n 0, 1) := dk_42 (dk_at dksX1_totalContentByAccounts_0 0 rfl rfl)
theorem dX1_totalContentByAccounts_1 : decode cX1_totalContentByAccounts 1 = .ok (.getfield 21, 3) := dk_180 0 21 (dk_at dksX1_totalContentByAccounts_0 1 rfl rfl)
theorem dX1_totalContentByAccounts_4 : decode cX1_totalContentByAccounts 4 = .ok (.invokevirtual 282, 3) := dk_182 1 26 (dk_at dksX1_totalContentByAccounts_0 4 rfl rfl)
theorem dX1_totalContentByAccounts_7 : decode cX1_totalContentByAccounts 7 = .ok (.ireturn, 1) := dk_172 (dk_at dksX1_totalContentByAccounts_0 7 rfl rfl)
abbrev cX1_fingerprint : ByteArray := prog_1_method_61_code
def yX1_fingerprint : MethodName := ⟨RX1, "fingerprint", "()J"⟩
def dkwX1_fingerprint_0 : List UInt8 := [42, 180, 0, 21, 182, 1, 45, 173]
abbrev dktX1_fingerprint_0 : List UInt8 := dkwX1_fingerprint_0 ++ []
theorem dksX1_fingerprint_0 : cX1_fingerprint.data.toList.drop 0 = dktX1_fingerprint_0 := by decide +kernel
theorem dX1_fingerprint_0 : decode cX1_fingerprint 0 = .ok (.aload_n 0, 1) := dk_42 (dk_at dksX1_fingerprint_0 0 rfl rfl)
theorem dX1_fingerprint_1 : decode cX1_fingerprint 1 = .ok (.getfield 21, 3) := dk_180 0 21 (dk_at dksX1_fingerprint_0 1 rfl rfl)
theorem dX1_fingerprint_4 : decode cX1_fingerprint 4 = .ok (.invokevirtual 301, 3) := dk_182 1 45 (dk_at dksX1_fingerprint_0 4 rfl rfl)
theorem dX1_fingerprint_7 : decode cX1_fingerprint 7 = .ok (.lreturn, 1) := dk_173 (dk_at dksX1_fingerprint_0 7 rfl rfl)
abbrev cX1_isConsistent : ByteArray := prog_1_method_62_code
def yX1_isConsistent : MethodName := ⟨RX1, "isConsistent", "()Z"⟩
def dkwX1_isConsistent_0 : List UInt8 := [42, 180, 0, 21, 182, 1, 49, 172]
abbrev dktX1_isConsistent_0 : List UInt8 := dkwX1_isConsistent_0 ++ []
theorem dksX1_isConsistent_0 : cX1_isConsistent.data.toList.drop 0 = dktX1_isConsistent_0 := by decide +kernel
theorem dX1_isConsistent_0 : decode cX1_isConsistent 0 = .ok (.aload_n 0, 1) := dk_42 (dk_at dksX1_isConsistent_0 0 rfl rfl)
theorem dX1_isConsistent_1 : decode cX1_isConsistent 1 = .ok (.getfield 21, 3) := dk_180 0 21 (dk_at dksX1_isConsistent_0 1 rfl rfl)
theorem dX1_isConsistent_4 : decode cX1_isConsistent 4 = .ok (.invokevirtual 305, 3) := dk_182 1 49 (dk_at dksX1_isConsistent_0 4 rfl rfl)
theorem dX1_isConsistent_7 : decode cX1_isConsistent 7 = .ok (.ireturn, 1) := dk_172 (dk_at dksX1_isConsistent_0 7 rfl rfl)
abbrev cX1_save : ByteArray := prog_1_method_73_code
def yX1_save : MethodName := ⟨RX1, "save", "()I"⟩
def dkwX1_save_0 : List UInt8 := [42, 42, 180, 0, 21, 181, 1, 124, 42, 182, 1, 29, 172]
abbrev dktX1_save_0 : List UInt8 := dkwX1_save_0 ++ []
theorem dksX1_save_0 : cX1_save.data.toList.drop 0 = dktX1_save_0 := by decide +kernel
theorem dX1_save_0 : decode cX1_save 0 = .ok (.aload_n 0, 1) := dk_42 (dk_at dksX1_save_0 0 rfl rfl)
theorem dX1_save_1 : decode cX1_save 1 = .ok (.aload_n 0, 1) := dk_42 (dk_at dksX1_save_0 1 rfl rfl)
theorem dX1_save_2 : decode cX1_save 2 = .ok (.getfield 21, 3) := dk_180 0 21 (dk_at dksX1_save_0 2 rfl rfl)
theorem dX1_save_5 : decode cX1_save 5 = .ok (.putfield 380, 3) := dk_181 1 124 (dk_at dksX1_save_0 5 rfl rfl)
theorem dX1_save_8 : decode cX1_save 8 = .ok (.aload_n 0, 1) := dk_42 (dk_at dksX1_save_0 8 rfl rfl)
theorem dX1_save_9 : decode cX1_save 9 = .ok (.invokevirtual 285, 3) := dk_182 1 29 (dk_at dksX1_save_0 9 rfl rfl)
theorem dX1_save_12 : decode cX1_save 12 = .ok (.ireturn, 1) := dk_172 (dk_at dksX1_save_0 12 rfl rfl)
abbrev cX1_addTank : ByteArray := prog_1_method_7_code
def yX1_addTank : MethodName := ⟨RX1, "addTank", "(I)I"⟩
def dkwX1_addTank_0 : List UInt8 := [42, 18, 87, 4, 188, 10, 89, 3, 27, 79, 182, 0, 89, 172]
abbrev dktX1_addTank_0 : List UInt8 := dkwX1_addTank_0 ++ []
theorem dksX1_addTank_0 : cX1_addTank.data.toList.drop 0 = dktX1_addTank_0 := by decide +kernel
theorem dX1_addTank_0 : decode cX1_addTank 0 = .ok (.aload_n 0, 1) := dk_42 (dk_at dksX1_addTank_0 0 rfl rfl)
theorem dX1_addTank_1 : decode cX1_addTank 1 = .ok (.ldc 87, 2) := dk_18 87 (dk_at dksX1_addTank_0 1 rfl rfl)
theorem dX1_addTank_3 : decode cX1_addTank 3 = .ok (.iconst 1, 1) := dk_4 (dk_at dksX1_addTank_0 3 rfl rfl)
theorem dX1_addTank_4 : decode cX1_addTank 4 = .ok (.newarray .int, 2) := dk_188_10 (dk_at dksX1_addTank_0 4 rfl rfl)
theorem dX1_addTank_6 : decode cX1_addTank 6 = .ok (.dup, 1) := dk_89 (dk_at dksX1_addTank_0 6 rfl rfl)
theorem dX1_addTank_7 : decode cX1_addTank 7 = .ok (.iconst 0, 1) := dk_3 (dk_at dksX1_addTank_0 7 rfl rfl)
theorem dX1_addTank_8 : decode cX1_addTank 8 = .ok (.iload_n 1, 1) := dk_27 (dk_at dksX1_addTank_0 8 rfl rfl)
theorem dX1_addTank_9 : decode cX1_addTank 9 = .ok (.iastore, 1) := dk_79 (dk_at dksX1_addTank_0 9 rfl rfl)
theorem dX1_addTank_10 : decode cX1_addTank 10 = .ok (.invokevirtual 89, 3) := dk_182 0 89 (dk_at dksX1_addTank_0 10 rfl rfl)
theorem dX1_addTank_13 : decode cX1_addTank 13 = .ok (.ireturn, 1) := dk_172 (dk_at dksX1_addTank_0 13 rfl rfl)
abbrev cX1_change : ByteArray := prog_1_method_6_code
def yX1_change : MethodName := ⟨RX1, "change", "(Ljava/lang/String;[I)I"⟩
def dkwX1_change_1 : List UInt8 := [182, 0, 77, 172, 58, 4, 25, 4, 182, 0, 83, 191]
abbrev dktX1_change_1 : List UInt8 := dkwX1_change_1 ++ []
def dkwX1_change_0 : List UInt8 := [42, 180, 0, 21, 182, 0, 64, 78, 42, 45, 187, 0, 68, 89, 43, 44, 183, 0, 70, 45, 182, 0, 73]
abbrev dktX1_change_0 : List UInt8 := dkwX1_change_0 ++ dktX1_change_1
theorem dksX1_change_0 : cX1_change.data.toList.drop 0 = dktX1_change_0 := by decide +kernel
theorem dksX1_change_1 : cX1_change.data.toList.drop 23 = dktX1_change_1 := dk_seg dksX1_change_0 23 rfl rfl
theorem dX1_change_0 : decode cX1_change 0 = .ok (.aload_n 0, 1) := dk_42 (dk_at dksX1_change_0 0 rfl rfl)
theorem dX1_change_1 : decode cX1_change 1 = .ok (.getfield 21, 3) := dk_180 0 21 (dk_at dksX1_change_0 1 rfl rfl)
theorem dX1_change_4 : decode cX1_change 4 = .ok (.invokevirtual 64, 3) := dk_182 0 64 (dk_at dksX1_change_0 4 rfl rfl)
theorem dX1_change_7 : decode cX1_change 7 = .ok (.astore_n 3, 1) := dk_78 (dk_at dksX1_change_0 7 rfl rfl)
theorem dX1_change_8 : decode cX1_change 8 = .ok (.aload_n 0, 1) := dk_42 (dk_at dksX1_change_0 8 rfl rfl)
theorem dX1_change_9 : decode cX1_change 9 = .ok (.aload_n 3, 1) := dk_45 (dk_at dksX1_change_0 9 rfl rfl)
theorem dX1_change_10 : decode cX1_change 10 = .ok (.new 68, 3) := dk_187 0 68 (dk_at dksX1_change_0 10 rfl rfl)
theorem dX1_change_13 : decode cX1_change 13 = .ok (.dup, 1) := dk_89 (dk_at dksX1_change_0 13 rfl rfl)
theorem dX1_change_14 : decode cX1_change 14 = .ok (.aload_n 1, 1) := dk_43 (dk_at dksX1_change_0 14 rfl rfl)
theorem dX1_change_15 : decode cX1_change 15 = .ok (.aload_n 2, 1) := dk_44 (dk_at dksX1_change_0 15 rfl rfl)
theorem dX1_change_16 : decode cX1_change 16 = .ok (.invokespecial 70, 3) := dk_183 0 70 (dk_at dksX1_change_0 16 rfl rfl)
theorem dX1_change_19 : decode cX1_change 19 = .ok (.aload_n 3, 1) := dk_45 (dk_at dksX1_change_0 19 rfl rfl)
theorem dX1_change_20 : decode cX1_change 20 = .ok (.invokevirtual 73, 3) := dk_182 0 73 (dk_at dksX1_change_0 20 rfl rfl)
theorem dX1_change_23 : decode cX1_change 23 = .ok (.invokevirtual 77, 3) := dk_182 0 77 (dk_at dksX1_change_1 0 rfl rfl)
theorem dX1_change_26 : decode cX1_change 26 = .ok (.ireturn, 1) := dk_172 (dk_at dksX1_change_1 3 rfl rfl)
theorem dX1_change_27 : decode cX1_change 27 = .ok (.astore 4, 2) := dk_58 4 (dk_at dksX1_change_1 4 rfl rfl)
theorem dX1_change_29 : decode cX1_change 29 = .ok (.aload 4, 2) := dk_25 4 (dk_at dksX1_change_1 6 rfl rfl)
theorem dX1_change_31 : decode cX1_change 31 = .ok (.invokevirtual 83, 3) := dk_182 0 83 (dk_at dksX1_change_1 8 rfl rfl)
theorem dX1_change_34 : decode cX1_change 34 = .ok (.athrow, 1) := dk_191 (dk_at dksX1_change_1 11 rfl rfl)
abbrev cX1_isBetween : ByteArray := prog_1_method_2_code
def yX1_isBetween : MethodName := ⟨RX1, "isBetween", "(III)Z"⟩
def dkwX1_isBetween_0 : List UInt8 := [26, 27, 161, 0, 12, 26, 28, 163, 0, 7, 4, 167, 0, 4, 3, 172]
abbrev dktX1_isBetween_0 : List UInt8 := dkwX1_isBetween_0 ++ []
theorem dksX1_isBetween_0 : cX1_isBetween.data.toList.drop 0 = dktX1_isBetween_0 := by decide +kernel
theorem dX1_isBetween_0 : decode cX1_isBetween 0 = .ok (.iload_n 0, 1) := dk_26 (dk_at dksX1_isBetween_0 0 rfl rfl)
theorem dX1_isBetween_1 : decode cX1_isBetween 1 = .ok (.iload_n 1, 1) := dk_27 (dk_at dksX1_isBetween_0 1 rfl rfl)
theorem dX1_isBetween_2 : decode cX1_isBetween 2 = .ok (.if_icmp .lt 12, 3) := dk_161 0 12 (dk_at dksX1_isBetween_0 2 rfl rfl)
theorem dX1_isBetween_5 : decode cX1_isBetween 5 = .ok (.iload_n 0, 1) := dk_26 (dk_at dksX1_isBetween_0 5 rfl rfl)
theorem dX1_isBetween_6 : decode cX1_isBetween 6 = .ok (.iload_n 2, 1) := dk_28 (dk_at dksX1_isBetween_0 6 rfl rfl)
theorem dX1_isBetween_7 : decode cX1_isBetween 7 = .ok (.if_icmp .gt 7, 3) := dk_163 0 7 (dk_at dksX1_isBetween_0 7 rfl rfl)
theorem dX1_isBetween_10 : decode cX1_isBetween 10 = .ok (.iconst 1, 1) := dk_4 (dk_at dksX1_isBetween_0 10 rfl rfl)
theorem dX1_isBetween_11 : decode cX1_isBetween 11 = .ok (.goto 4, 3) := dk_167 0 4 (dk_at dksX1_isBetween_0 11 rfl rfl)
theorem dX1_isBetween_14 : decode cX1_isBetween 14 = .ok (.iconst 0, 1) := dk_3 (dk_at dksX1_isBetween_0 14 rfl rfl)
theorem dX1_isBetween_15 : decode cX1_isBetween 15 = .ok (.ireturn, 1) := dk_172 (dk_at dksX1_isBetween_0 15 rfl rfl)
abbrev cX1_demand : ByteArray := prog_1_method_1_code
def yX1_demand : MethodName := ⟨RX1, "demand", "(ZLjava/lang/String;)V"⟩
def dkwX1_demand_0 : List UInt8 := [26, 154, 0, 12, 187, 0, 1, 89, 43, 183, 0, 3, 191, 177]
abbrev dktX1_demand_0 : List UInt8 := dkwX1_demand_0 ++ []
theorem dksX1_demand_0 : cX1_demand.data.toList.drop 0 = dktX1_demand_0 := by decide +kernel
theorem dX1_demand_0 : decode cX1_demand 0 = .ok (.iload_n 0, 1) := dk_26 (dk_at dksX1_demand_0 0 rfl rfl)
theorem dX1_demand_1 : decode cX1_demand 1 = .ok (.ifCond .ne 12, 3) := dk_154 0 12 (dk_at dksX1_demand_0 1 rfl rfl)
theorem dX1_demand_4 : decode cX1_demand 4 = .ok (.new 1, 3) := dk_187 0 1 (dk_at dksX1_demand_0 4 rfl rfl)
theorem dX1_demand_7 : decode cX1_demand 7 = .ok (.dup, 1) := dk_89 (dk_at dksX1_demand_0 7 rfl rfl)
theorem dX1_demand_8 : decode cX1_demand 8 = .ok (.aload_n 1, 1) := dk_43 (dk_at dksX1_demand_0 8 rfl rfl)
theorem dX1_demand_9 : decode cX1_demand 9 = .ok (.invokespecial 3, 3) := dk_183 0 3 (dk_at dksX1_demand_0 9 rfl rfl)
theorem dX1_demand_12 : decode cX1_demand 12 = .ok (.athrow, 1) := dk_191 (dk_at dksX1_demand_0 12 rfl rfl)
theorem dX1_demand_13 : decode cX1_demand 13 = .ok (.return_, 1) := dk_177 (dk_at dksX1_demand_0 13 rfl rfl)
abbrev cX1_isSet : ByteArray := prog_1_method_3_code
def yX1_isSet : MethodName := ⟨RX1, "isSet", "(I)Z"⟩
def dkwX1_isSet_0 : List UInt8 := [26, 3, 17, 0, 255, 184, 0, 9, 172]
abbrev dktX1_isSet_0 : List UInt8 := dkwX1_isSet_0 ++ []
theorem dksX1_isSet_0 : cX1_isSet.data.toList.drop 0 = dktX1_isSet_0 := by decide +kernel
theorem dX1_isSet_0 : decode cX1_isSet 0 = .ok (.iload_n 0, 1) := dk_26 (dk_at dksX1_isSet_0 0 rfl rfl)
theorem dX1_isSet_1 : decode cX1_isSet 1 = .ok (.iconst 0, 1) := dk_3 (dk_at dksX1_isSet_0 1 rfl rfl)
theorem dX1_isSet_2 : decode cX1_isSet 2 = .ok (.sipush 255, 3) := dk_17 0 255 (dk_at dksX1_isSet_0 2 rfl rfl)
theorem dX1_isSet_5 : decode cX1_isSet 5 = .ok (.invokestatic 9, 3) := dk_184 0 9 (dk_at dksX1_isSet_0 5 rfl rfl)
theorem dX1_isSet_8 : decode cX1_isSet 8 = .ok (.ireturn, 1) := dk_172 (dk_at dksX1_isSet_0 8 rfl rfl)
abbrev cX1_commit : ByteArray := prog_1_method_5_code
def yX1_commit : MethodName := ⟨RX1, "commit", "(LFilterWaterworks$Works;I)I"⟩
def dkwX1_commit_1 : List UInt8 := [42, 180, 0, 21, 182, 0, 60, 42, 43, 181, 0, 21, 28, 172]
abbrev dktX1_commit_1 : List UInt8 := dkwX1_commit_1 ++ []
def dkwX1_commit_0 : List UInt8 := [42, 180, 0, 28, 182, 0, 52, 16, 8, 160, 0, 11, 42, 180, 0, 28, 182, 0, 56, 87, 42, 180, 0, 28]
abbrev dktX1_commit_0 : List UInt8 := dkwX1_commit_0 ++ dktX1_commit_1
theorem dksX1_commit_0 : cX1_commit.data.toList.drop 0 = dktX1_commit_0 := by decide +kernel
theorem dksX1_commit_1 : cX1_commit.data.toList.drop 24 = dktX1_commit_1 := dk_seg dksX1_commit_0 24 rfl rfl
theorem dX1_commit_0 : decode cX1_commit 0 = .ok (.aload_n 0, 1) := dk_42 (dk_at dksX1_commit_0 0 rfl rfl)
theorem dX1_commit_1 : decode cX1_commit 1 = .ok (.getfield 28, 3) := dk_180 0 28 (dk_at dksX1_commit_0 1 rfl rfl)
theorem dX1_commit_4 : decode cX1_commit 4 = .ok (.invokevirtual 52, 3) := dk_182 0 52 (dk_at dksX1_commit_0 4 rfl rfl)
theorem dX1_commit_7 : decode cX1_commit 7 = .ok (.bipush 8, 2) := dk_16 8 (dk_at dksX1_commit_0 7 rfl rfl)
theorem dX1_commit_9 : decode cX1_commit 9 = .ok (.if_icmp .ne 11, 3) := dk_160 0 11 (dk_at dksX1_commit_0 9 rfl rfl)
theorem dX1_commit_12 : decode cX1_commit 12 = .ok (.aload_n 0, 1) := dk_42 (dk_at dksX1_commit_0 12 rfl rfl)
theorem dX1_commit_13 : decode cX1_commit 13 = .ok (.getfield 28, 3) := dk_180 0 28 (dk_at dksX1_commit_0 13 rfl rfl)
theorem dX1_commit_16 : decode cX1_commit 16 = .ok (.invokevirtual 56, 3) := dk_182 0 56 (dk_at dksX1_commit_0 16 rfl rfl)
theorem dX1_commit_19 : decode cX1_commit 19 = .ok (.pop, 1) := dk_87 (dk_at dksX1_commit_0 19 rfl rfl)
theorem dX1_commit_20 : decode cX1_commit 20 = .ok (.aload_n 0, 1) := dk_42 (dk_at dksX1_commit_0 20 rfl rfl)
theorem dX1_commit_21 : decode cX1_commit 21 = .ok (.getfield 28, 3) := dk_180 0 28 (dk_at dksX1_commit_0 21 rfl rfl)
theorem dX1_commit_24 : decode cX1_commit 24 = .ok (.aload_n 0, 1) := dk_42 (dk_at dksX1_commit_1 0 rfl rfl)
theorem dX1_commit_25 : decode cX1_commit 25 = .ok (.getfield 21, 3) := dk_180 0 21 (dk_at dksX1_commit_1 1 rfl rfl)
theorem dX1_commit_28 : decode cX1_commit 28 = .ok (.invokevirtual 60, 3) := dk_182 0 60 (dk_at dksX1_commit_1 4 rfl rfl)
theorem dX1_commit_31 : decode cX1_commit 31 = .ok (.aload_n 0, 1) := dk_42 (dk_at dksX1_commit_1 7 rfl rfl)
theorem dX1_commit_32 : decode cX1_commit 32 = .ok (.aload_n 1, 1) := dk_43 (dk_at dksX1_commit_1 8 rfl rfl)
theorem dX1_commit_33 : decode cX1_commit 33 = .ok (.putfield 21, 3) := dk_181 0 21 (dk_at dksX1_commit_1 9 rfl rfl)
theorem dX1_commit_36 : decode cX1_commit 36 = .ok (.iload_n 2, 1) := dk_28 (dk_at dksX1_commit_1 12 rfl rfl)
theorem dX1_commit_37 : decode cX1_commit 37 = .ok (.ireturn, 1) := dk_172 (dk_at dksX1_commit_1 13 rfl rfl)
abbrev cX1_addPipe : ByteArray := prog_1_method_8_code
def yX1_addPipe : MethodName := ⟨RX1, "addPipe", "(III)I"⟩
def dkwX1_addPipe_0 : List UInt8 := [42, 18, 93, 6, 188, 10, 89, 3, 27, 79, 89, 4, 28, 79, 89, 5, 29, 79, 182, 0, 89, 172]
abbrev dktX1_addPipe_0 : List UInt8 := dkwX1_addPipe_0 ++ []
theorem dksX1_addPipe_0 : cX1_addPipe.data.toList.drop 0 = dktX1_addPipe_0 := by decide +kernel
theorem dX1_addPipe_0 : decode cX1_addPipe 0 = .ok (.aload_n 0, 1) := dk_42 (dk_at dksX1_addPipe_0 0 rfl rfl)
theorem dX1_addPipe_1 : decode cX1_addPipe 1 = .ok (.ldc 93, 2) := dk_18 93 (dk_at dksX1_addPipe_0 1 rfl rfl)
theorem dX1_addPipe_3 : decode cX1_addPipe 3 = .ok (.iconst 3, 1) := dk_6 (dk_at dksX1_addPipe_0 3 rfl rfl)
theorem dX1_addPipe_4 : decode cX1_addPipe 4 = .ok (.newarray .int, 2) := dk_188_10 (dk_at dksX1_addPipe_0 4 rfl rfl)
theorem dX1_addPipe_6 : decode cX1_addPipe 6 = .ok (.dup, 1) := dk_89 (dk_at dksX1_addPipe_0 6 rfl rfl)
theorem dX1_addPipe_7 : decode cX1_addPipe 7 = .ok (.iconst 0, 1) := dk_3 (dk_at dksX1_addPipe_0 7 rfl rfl)
theorem dX1_addPipe_8 : decode cX1_addPipe 8 = .ok (.iload_n 1, 1) := dk_27 (dk_at dksX1_addPipe_0 8 rfl rfl)
theorem dX1_addPipe_9 : decode cX1_addPipe 9 = .ok (.iastore, 1) := dk_79 (dk_at dksX1_addPipe_0 9 rfl rfl)
theorem dX1_addPipe_10 : decode cX1_addPipe 10 = .ok (.dup, 1) := dk_89 (dk_at dksX1_addPipe_0 10 rfl rfl)
theorem dX1_addPipe_11 : decode cX1_addPipe 11 = .ok (.iconst 1, 1) := dk_4 (dk_at dksX1_addPipe_0 11 rfl rfl)
theorem dX1_addPipe_12 : decode cX1_addPipe 12 = .ok (.iload_n 2, 1) := dk_28 (dk_at dksX1_addPipe_0 12 rfl rfl)
theorem dX1_addPipe_13 : decode cX1_addPipe 13 = .ok (.iastore, 1) := dk_79 (dk_at dksX1_addPipe_0 13 rfl rfl)
theorem dX1_addPipe_14 : decode cX1_addPipe 14 = .ok (.dup, 1) := dk_89 (dk_at dksX1_addPipe_0 14 rfl rfl)
theorem dX1_addPipe_15 : decode cX1_addPipe 15 = .ok (.iconst 2, 1) := dk_5 (dk_at dksX1_addPipe_0 15 rfl rfl)
theorem dX1_addPipe_16 : decode cX1_addPipe 16 = .ok (.iload_n 3, 1) := dk_29 (dk_at dksX1_addPipe_0 16 rfl rfl)
theorem dX1_addPipe_17 : decode cX1_addPipe 17 = .ok (.iastore, 1) := dk_79 (dk_at dksX1_addPipe_0 17 rfl rfl)
theorem dX1_addPipe_18 : decode cX1_addPipe 18 = .ok (.invokevirtual 89, 3) := dk_182 0 89 (dk_at dksX1_addPipe_0 18 rfl rfl)
theorem dX1_addPipe_21 : decode cX1_addPipe 21 = .ok (.ireturn, 1) := dk_172 (dk_at dksX1_addPipe_0 21 rfl rfl)
abbrev cX1_pour : ByteArray := prog_1_method_9_code
def yX1_pour : MethodName := ⟨RX1, "pour", "(III)I"⟩
def dkwX1_pour_0 : List UInt8 := [42, 18, 95, 6, 188, 10, 89, 3, 27, 79, 89, 4, 28, 79, 89, 5, 29, 79, 182, 0, 89, 172]
abbrev dktX1_pour_0 : List UInt8 := dkwX1_pour_0 ++ []
theorem dksX1_pour_0 : cX1_pour.data.toList.drop 0 = dktX1_pour_0 := by decide +kernel
theorem dX1_pour_0 : decode cX1_pour 0 = .ok (.aload_n 0, 1) := dk_42 (dk_at dksX1_pour_0 0 rfl rfl)
theorem dX1_pour_1 : decode cX1_pour 1 = .ok (.ldc 95, 2) := dk_18 95 (dk_at dksX1_pour_0 1 rfl rfl)
theorem dX1_pour_3 : decode cX1_pour 3 = .ok (.iconst 3, 1) := dk_6 (dk_at dksX1_pour_0 3 rfl rfl)
theorem dX1_pour_4 : decode cX1_pour 4 = .ok (.newarray .int, 2) := dk_188_10 (dk_at dksX1_pour_0 4 rfl rfl)
theorem dX1_pour_6 : decode cX1_pour 6 = .ok (.dup, 1) := dk_89 (dk_at dksX1_pour_0 6 rfl rfl)
theorem dX1_pour_7 : decode cX1_pour 7 = .ok (.iconst 0, 1) := dk_3 (dk_at dksX1_pour_0 7 rfl rfl)
theorem dX1_pour_8 : decode cX1_pour 8 = .ok (.iload_n 1, 1) := dk_27 (dk_at dksX1_pour_0 8 rfl rfl)
theorem dX1_pour_9 : decode cX1_pour 9 = .ok (.iastore, 1) := dk_79 (dk_at dksX1_pour_0 9 rfl rfl)
theorem dX1_pour_10 : decode cX1_pour 10 = .ok (.dup, 1) := dk_89 (dk_at dksX1_pour_0 10 rfl rfl)
theorem dX1_pour_11 : decode cX1_pour 11 = .ok (.iconst 1, 1) := dk_4 (dk_at dksX1_pour_0 11 rfl rfl)
theorem dX1_pour_12 : decode cX1_pour 12 = .ok (.iload_n 2, 1) := dk_28 (dk_at dksX1_pour_0 12 rfl rfl)
theorem dX1_pour_13 : decode cX1_pour 13 = .ok (.iastore, 1) := dk_79 (dk_at dksX1_pour_0 13 rfl rfl)
theorem dX1_pour_14 : decode cX1_pour 14 = .ok (.dup, 1) := dk_89 (dk_at dksX1_pour_0 14 rfl rfl)
theorem dX1_pour_15 : decode cX1_pour 15 = .ok (.iconst 2, 1) := dk_5 (dk_at dksX1_pour_0 15 rfl rfl)
theorem dX1_pour_16 : decode cX1_pour 16 = .ok (.iload_n 3, 1) := dk_29 (dk_at dksX1_pour_0 16 rfl rfl)
theorem dX1_pour_17 : decode cX1_pour 17 = .ok (.iastore, 1) := dk_79 (dk_at dksX1_pour_0 17 rfl rfl)
theorem dX1_pour_18 : decode cX1_pour 18 = .ok (.invokevirtual 89, 3) := dk_182 0 89 (dk_at dksX1_pour_0 18 rfl rfl)
theorem dX1_pour_21 : decode cX1_pour 21 = .ok (.ireturn, 1) := dk_172 (dk_at dksX1_pour_0 21 rfl rfl)
abbrev cX1_draw : ByteArray := prog_1_method_10_code
def yX1_draw : MethodName := ⟨RX1, "draw", "(II)I"⟩
def dkwX1_draw_0 : List UInt8 := [42, 18, 97, 5, 188, 10, 89, 3, 27, 79, 89, 4, 28, 79, 182, 0, 89, 172]
abbrev dktX1_draw_0 : List UInt8 := dkwX1_draw_0 ++ []
theorem dksX1_draw_0 : cX1_draw.data.toList.drop 0 = dktX1_draw_0 := by decide +kernel
theorem dX1_draw_0 : decode cX1_draw 0 = .ok (.aload_n 0, 1) := dk_42 (dk_at dksX1_draw_0 0 rfl rfl)
theorem dX1_draw_1 : decode cX1_draw 1 = .ok (.ldc 97, 2) := dk_18 97 (dk_at dksX1_draw_0 1 rfl rfl)
theorem dX1_draw_3 : decode cX1_draw 3 = .ok (.iconst 2, 1) := dk_5 (dk_at dksX1_draw_0 3 rfl rfl)
theorem dX1_draw_4 : decode cX1_draw 4 = .ok (.newarray .int, 2) := dk_188_10 (dk_at dksX1_draw_0 4 rfl rfl)
theorem dX1_draw_6 : decode cX1_draw 6 = .ok (.dup, 1) := dk_89 (dk_at dksX1_draw_0 6 rfl rfl)
theorem dX1_draw_7 : decode cX1_draw 7 = .ok (.iconst 0, 1) := dk_3 (dk_at dksX1_draw_0 7 rfl rfl)
theorem dX1_draw_8 : decode cX1_draw 8 = .ok (.iload_n 1, 1) := dk_27 (dk_at dksX1_draw_0 8 rfl rfl)
theorem dX1_draw_9 : decode cX1_draw 9 = .ok (.iastore, 1) := dk_79 (dk_at dksX1_draw_0 9 rfl rfl)
theorem dX1_draw_10 : decode cX1_draw 10 = .ok (.dup, 1) := dk_89 (dk_at dksX1_draw_0 10 rfl rfl)
theorem dX1_draw_11 : decode cX1_draw 11 = .ok (.iconst 1, 1) := dk_4 (dk_at dksX1_draw_0 11 rfl rfl)
theorem dX1_draw_12 : decode cX1_draw 12 = .ok (.iload_n 2, 1) := dk_28 (dk_at dksX1_draw_0 12 rfl rfl)
theorem dX1_draw_13 : decode cX1_draw 13 = .ok (.iastore, 1) := dk_79 (dk_at dksX1_draw_0 13 rfl rfl)
theorem dX1_draw_14 : decode cX1_draw 14 = .ok (.invokevirtual 89, 3) := dk_182 0 89 (dk_at dksX1_draw_0 14 rfl rfl)
theorem dX1_draw_17 : decode cX1_draw 17 = .ok (.ireturn, 1) := dk_172 (dk_at dksX1_draw_0 17 rfl rfl)
abbrev cX1_setValve : ByteArray := prog_1_method_11_code
def yX1_setValve : MethodName := ⟨RX1, "setValve", "(II)I"⟩
def dkwX1_setValve_0 : List UInt8 := [42, 18, 99, 5, 188, 10, 89, 3, 27, 79, 89, 4, 28, 79, 182, 0, 89, 172]
abbrev dktX1_setValve_0 : List UInt8 := dkwX1_setValve_0 ++ []
theorem dksX1_setValve_0 : cX1_setValve.data.toList.drop 0 = dktX1_setValve_0 := by decide +kernel
theorem dX1_setValve_0 : decode cX1_setValve 0 = .ok (.aload_n 0, 1) := dk_42 (dk_at dksX1_setValve_0 0 rfl rfl)
theorem dX1_setValve_1 : decode cX1_setValve 1 = .ok (.ldc 99, 2) := dk_18 99 (dk_at dksX1_setValve_0 1 rfl rfl)
theorem dX1_setValve_3 : decode cX1_setValve 3 = .ok (.iconst 2, 1) := dk_5 (dk_at dksX1_setValve_0 3 rfl rfl)
theorem dX1_setValve_4 : decode cX1_setValve 4 = .ok (.newarray .int, 2) := dk_188_10 (dk_at dksX1_setValve_0 4 rfl rfl)
theorem dX1_setValve_6 : decode cX1_setValve 6 = .ok (.dup, 1) := dk_89 (dk_at dksX1_setValve_0 6 rfl rfl)
theorem dX1_setValve_7 : decode cX1_setValve 7 = .ok (.iconst 0, 1) := dk_3 (dk_at dksX1_setValve_0 7 rfl rfl)
theorem dX1_setValve_8 : decode cX1_setValve 8 = .ok (.iload_n 1, 1) := dk_27 (dk_at dksX1_setValve_0 8 rfl rfl)
theorem dX1_setValve_9 : decode cX1_setValve 9 = .ok (.iastore, 1) := dk_79 (dk_at dksX1_setValve_0 9 rfl rfl)
theorem dX1_setValve_10 : decode cX1_setValve 10 = .ok (.dup, 1) := dk_89 (dk_at dksX1_setValve_0 10 rfl rfl)
theorem dX1_setValve_11 : decode cX1_setValve 11 = .ok (.iconst 1, 1) := dk_4 (dk_at dksX1_setValve_0 11 rfl rfl)
theorem dX1_setValve_12 : decode cX1_setValve 12 = .ok (.iload_n 2, 1) := dk_28 (dk_at dksX1_setValve_0 12 rfl rfl)
theorem dX1_setValve_13 : decode cX1_setValve 13 = .ok (.iastore, 1) := dk_79 (dk_at dksX1_setValve_0 13 rfl rfl)
theorem dX1_setValve_14 : decode cX1_setValve 14 = .ok (.invokevirtual 89, 3) := dk_182 0 89 (dk_at dksX1_setValve_0 14 rfl rfl)
theorem dX1_setValve_17 : decode cX1_setValve 17 = .ok (.ireturn, 1) := dk_172 (dk_at dksX1_setValve_0 17 rfl rfl)
abbrev cX1_setLeak : ByteArray := prog_1_method_12_code
def yX1_setLeak : MethodName := ⟨RX1, "setLeak", "(II)I"⟩
def dkwX1_setLeak_0 : List UInt8 := [42, 18, 101, 5, 188, 10, 89, 3, 27, 79, 89, 4, 28, 79, 182, 0, 89, 172]
abbrev dktX1_setLeak_0 : List UInt8 := dkwX1_setLeak_0 ++ []
theorem dksX1_setLeak_0 : cX1_setLeak.data.toList.drop 0 = dktX1_setLeak_0 := by decide +kernel
theorem dX1_setLeak_0 : decode cX1_setLeak 0 = .ok (.aload_n 0, 1) := dk_42 (dk_at dksX1_setLeak_0 0 rfl rfl)
theorem dX1_setLeak_1 : decode cX1_setLeak 1 = .ok (.ldc 101, 2) := dk_18 101 (dk_at dksX1_setLeak_0 1 rfl rfl)
theorem dX1_setLeak_3 : decode cX1_setLeak 3 = .ok (.iconst 2, 1) := dk_5 (dk_at dksX1_setLeak_0 3 rfl rfl)
theorem dX1_setLeak_4 : decode cX1_setLeak 4 = .ok (.newarray .int, 2) := dk_188_10 (dk_at dksX1_setLeak_0 4 rfl rfl)
theorem dX1_setLeak_6 : decode cX1_setLeak 6 = .ok (.dup, 1) := dk_89 (dk_at dksX1_setLeak_0 6 rfl rfl)
theorem dX1_setLeak_7 : decode cX1_setLeak 7 = .ok (.iconst 0, 1) := dk_3 (dk_at dksX1_setLeak_0 7 rfl rfl)
theorem dX1_setLeak_8 : decode cX1_setLeak 8 = .ok (.iload_n 1, 1) := dk_27 (dk_at dksX1_setLeak_0 8 rfl rfl)
theorem dX1_setLeak_9 : decode cX1_setLeak 9 = .ok (.iastore, 1) := dk_79 (dk_at dksX1_setLeak_0 9 rfl rfl)
theorem dX1_setLeak_10 : decode cX1_setLeak 10 = .ok (.dup, 1) := dk_89 (dk_at dksX1_setLeak_0 10 rfl rfl)
theorem dX1_setLeak_11 : decode cX1_setLeak 11 = .ok (.iconst 1, 1) := dk_4 (dk_at dksX1_setLeak_0 11 rfl rfl)
theorem dX1_setLeak_12 : decode cX1_setLeak 12 = .ok (.iload_n 2, 1) := dk_28 (dk_at dksX1_setLeak_0 12 rfl rfl)
theorem dX1_setLeak_13 : decode cX1_setLeak 13 = .ok (.iastore, 1) := dk_79 (dk_at dksX1_setLeak_0 13 rfl rfl)
theorem dX1_setLeak_14 : decode cX1_setLeak 14 = .ok (.invokevirtual 89, 3) := dk_182 0 89 (dk_at dksX1_setLeak_0 14 rfl rfl)
theorem dX1_setLeak_17 : decode cX1_setLeak 17 = .ok (.ireturn, 1) := dk_172 (dk_at dksX1_setLeak_0 17 rfl rfl)
abbrev cX1_cleanFilter : ByteArray := prog_1_method_13_code
def yX1_cleanFilter : MethodName := ⟨RX1, "cleanFilter", "(I)I"⟩
def dkwX1_cleanFilter_0 : List UInt8 := [42, 18, 103, 4, 188, 10, 89, 3, 27, 79, 182, 0, 89, 172]
abbrev dktX1_cleanFilter_0 : List UInt8 := dkwX1_cleanFilter_0 ++ []
theorem dksX1_cleanFilter_0 : cX1_cleanFilter.data.toList.drop 0 = dktX1_cleanFilter_0 := by decide +kernel
theorem dX1_cleanFilter_0 : decode cX1_cleanFilter 0 = .ok (.aload_n 0, 1) := dk_42 (dk_at dksX1_cleanFilter_0 0 rfl rfl)
theorem dX1_cleanFilter_1 : decode cX1_cleanFilter 1 = .ok (.ldc 103, 2) := dk_18 103 (dk_at dksX1_cleanFilter_0 1 rfl rfl)
theorem dX1_cleanFilter_3 : decode cX1_cleanFilter 3 = .ok (.iconst 1, 1) := dk_4 (dk_at dksX1_cleanFilter_0 3 rfl rfl)
theorem dX1_cleanFilter_4 : decode cX1_cleanFilter 4 = .ok (.newarray .int, 2) := dk_188_10 (dk_at dksX1_cleanFilter_0 4 rfl rfl)
theorem dX1_cleanFilter_6 : decode cX1_cleanFilter 6 = .ok (.dup, 1) := dk_89 (dk_at dksX1_cleanFilter_0 6 rfl rfl)
theorem dX1_cleanFilter_7 : decode cX1_cleanFilter 7 = .ok (.iconst 0, 1) := dk_3 (dk_at dksX1_cleanFilter_0 7 rfl rfl)
theorem dX1_cleanFilter_8 : decode cX1_cleanFilter 8 = .ok (.iload_n 1, 1) := dk_27 (dk_at dksX1_cleanFilter_0 8 rfl rfl)
theorem dX1_cleanFilter_9 : decode cX1_cleanFilter 9 = .ok (.iastore, 1) := dk_79 (dk_at dksX1_cleanFilter_0 9 rfl rfl)
theorem dX1_cleanFilter_10 : decode cX1_cleanFilter 10 = .ok (.invokevirtual 89, 3) := dk_182 0 89 (dk_at dksX1_cleanFilter_0 10 rfl rfl)
theorem dX1_cleanFilter_13 : decode cX1_cleanFilter 13 = .ok (.ireturn, 1) := dk_172 (dk_at dksX1_cleanFilter_0 13 rfl rfl)
abbrev cX1_advance : ByteArray := prog_1_method_14_code
def yX1_advance : MethodName := ⟨RX1, "advance", "(I)I"⟩
def dkwX1_advance_0 : List UInt8 := [42, 18, 105, 4, 188, 10, 89, 3, 27, 79, 182, 0, 89, 172]
abbrev dktX1_advance_0 : List UInt8 := dkwX1_advance_0 ++ []
theorem dksX1_advance_0 : cX1_advance.data.toList.drop 0 = dktX1_advance_0 := by decide +kernel
theorem dX1_advance_0 : decode cX1_advance 0 = .ok (.aload_n 0, 1) := dk_42 (dk_at dksX1_advance_0 0 rfl rfl)
theorem dX1_advance_1 : decode cX1_advance 1 = .ok (.ldc 105, 2) := dk_18 105 (dk_at dksX1_advance_0 1 rfl rfl)
theorem dX1_advance_3 : decode cX1_advance 3 = .ok (.iconst 1, 1) := dk_4 (dk_at dksX1_advance_0 3 rfl rfl)
theorem dX1_advance_4 : decode cX1_advance 4 = .ok (.newarray .int, 2) := dk_188_10 (dk_at dksX1_advance_0 4 rfl rfl)
theorem dX1_advance_6 : decode cX1_advance 6 = .ok (.dup, 1) := dk_89 (dk_at dksX1_advance_0 6 rfl rfl)
theorem dX1_advance_7 : decode cX1_advance 7 = .ok (.iconst 0, 1) := dk_3 (dk_at dksX1_advance_0 7 rfl rfl)
theorem dX1_advance_8 : decode cX1_advance 8 = .ok (.iload_n 1, 1) := dk_27 (dk_at dksX1_advance_0 8 rfl rfl)
theorem dX1_advance_9 : decode cX1_advance 9 = .ok (.iastore, 1) := dk_79 (dk_at dksX1_advance_0 9 rfl rfl)
theorem dX1_advance_10 : decode cX1_advance 10 = .ok (.invokevirtual 89, 3) := dk_182 0 89 (dk_at dksX1_advance_0 10 rfl rfl)
theorem dX1_advance_13 : decode cX1_advance 13 = .ok (.ireturn, 1) := dk_172 (dk_at dksX1_advance_0 13 rfl rfl)
abbrev cX1_capacity : ByteArray := prog_1_method_22_code
def yX1_capacity : MethodName := ⟨RX1, "capacity", "(I)I"⟩
def dkwX1_capacity_0 : List UInt8 := [42, 27, 182, 0, 143, 180, 0, 147, 172]
abbrev dktX1_capacity_0 : List UInt8 := dkwX1_capacity_0 ++ []
theorem dksX1_capacity_0 : cX1_capacity.data.toList.drop 0 = dktX1_capacity_0 := by decide +kernel
theorem dX1_capacity_0 : decode cX1_capacity 0 = .ok (.aload_n 0, 1) := dk_42 (dk_at dksX1_capacity_0 0 rfl rfl)
theorem dX1_capacity_1 : decode cX1_capacity 1 = .ok (.iload_n 1, 1) := dk_27 (dk_at dksX1_capacity_0 1 rfl rfl)
theorem dX1_capacity_2 : decode cX1_capacity 2 = .ok (.invokevirtual 143, 3) := dk_182 0 143 (dk_at dksX1_capacity_0 2 rfl rfl)
theorem dX1_capacity_5 : decode cX1_capacity 5 = .ok (.getfield 147, 3) := dk_180 0 147 (dk_at dksX1_capacity_0 5 rfl rfl)
theorem dX1_capacity_8 : decode cX1_capacity 8 = .ok (.ireturn, 1) := dk_172 (dk_at dksX1_capacity_0 8 rfl rfl)
abbrev cX1_tankAt : ByteArray := prog_1_method_20_code
def yX1_tankAt : MethodName := ⟨RX1, "tankAt", "(I)LFilterWaterworks$Tank;"⟩
def dkwX1_tankAt_1 : List UInt8 := [192, 0, 140, 176]
abbrev dktX1_tankAt_1 : List UInt8 := dkwX1_tankAt_1 ++ []
def dkwX1_tankAt_0 : List UInt8 := [42, 180, 0, 21, 27, 182, 0, 123, 184, 0, 127, 42, 180, 0, 21, 180, 0, 130, 27, 185, 0, 134, 2, 0]
abbrev dktX1_tankAt_0 : List UInt8 := dkwX1_tankAt_0 ++ dktX1_tankAt_1
theorem dksX1_tankAt_0 : cX1_tankAt.data.toList.drop 0 = dktX1_tankAt_0 := by decide +kernel
theorem dksX1_tankAt_1 : cX1_tankAt.data.toList.drop 24 = dktX1_tankAt_1 := dk_seg dksX1_tankAt_0 24 rfl rfl
theorem dX1_tankAt_0 : decode cX1_tankAt 0 = .ok (.aload_n 0, 1) := dk_42 (dk_at dksX1_tankAt_0 0 rfl rfl)
theorem dX1_tankAt_1 : decode cX1_tankAt 1 = .ok (.getfield 21, 3) := dk_180 0 21 (dk_at dksX1_tankAt_0 1 rfl rfl)
theorem dX1_tankAt_4 : decode cX1_tankAt 4 = .ok (.iload_n 1, 1) := dk_27 (dk_at dksX1_tankAt_0 4 rfl rfl)
theorem dX1_tankAt_5 : decode cX1_tankAt 5 = .ok (.invokevirtual 123, 3) := dk_182 0 123 (dk_at dksX1_tankAt_0 5 rfl rfl)
theorem dX1_tankAt_8 : decode cX1_tankAt 8 = .ok (.invokestatic 127, 3) := dk_184 0 127 (dk_at dksX1_tankAt_0 8 rfl rfl)
theorem dX1_tankAt_11 : decode cX1_tankAt 11 = .ok (.aload_n 0, 1) := dk_42 (dk_at dksX1_tankAt_0 11 rfl rfl)
theorem dX1_tankAt_12 : decode cX1_tankAt 12 = .ok (.getfield 21, 3) := dk_180 0 21 (dk_at dksX1_tankAt_0 12 rfl rfl)
theorem dX1_tankAt_15 : decode cX1_tankAt 15 = .ok (.getfield 130, 3) := dk_180 0 130 (dk_at dksX1_tankAt_0 15 rfl rfl)
theorem dX1_tankAt_18 : decode cX1_tankAt 18 = .ok (.iload_n 1, 1) := dk_27 (dk_at dksX1_tankAt_0 18 rfl rfl)
theorem dX1_tankAt_19 : decode cX1_tankAt 19 = .ok (.invokeinterface 134 2, 5) := by decide +kernel
theorem dX1_tankAt_24 : decode cX1_tankAt 24 = .ok (.checkcast 140, 3) := dk_192 0 140 (dk_at dksX1_tankAt_1 0 rfl rfl)
theorem dX1_tankAt_27 : decode cX1_tankAt 27 = .ok (.areturn, 1) := dk_176 (dk_at dksX1_tankAt_1 3 rfl rfl)
abbrev cX1_checkIndex : ByteArray := prog_1_method_15_code
def yX1_checkIndex : MethodName := ⟨RX1, "checkIndex", "(Z)V"⟩
def dkwX1_checkIndex_0 : List UInt8 := [26, 154, 0, 11, 187, 0, 107, 89, 183, 0, 109, 191, 177]
abbrev dktX1_checkIndex_0 : List UInt8 := dkwX1_checkIndex_0 ++ []
theorem dksX1_checkIndex_0 : cX1_checkIndex.data.toList.drop 0 = dktX1_checkIndex_0 := by decide +kernel
theorem dX1_checkIndex_0 : decode cX1_checkIndex 0 = .ok (.iload_n 0, 1) := dk_26 (dk_at dksX1_checkIndex_0 0 rfl rfl)
theorem dX1_checkIndex_1 : decode cX1_checkIndex 1 = .ok (.ifCond .ne 11, 3) := dk_154 0 11 (dk_at dksX1_checkIndex_0 1 rfl rfl)
theorem dX1_checkIndex_4 : decode cX1_checkIndex 4 = .ok (.new 107, 3) := dk_187 0 107 (dk_at dksX1_checkIndex_0 4 rfl rfl)
theorem dX1_checkIndex_7 : decode cX1_checkIndex 7 = .ok (.dup, 1) := dk_89 (dk_at dksX1_checkIndex_0 7 rfl rfl)
theorem dX1_checkIndex_8 : decode cX1_checkIndex 8 = .ok (.invokespecial 109, 3) := dk_183 0 109 (dk_at dksX1_checkIndex_0 8 rfl rfl)
theorem dX1_checkIndex_11 : decode cX1_checkIndex 11 = .ok (.athrow, 1) := dk_191 (dk_at dksX1_checkIndex_0 11 rfl rfl)
theorem dX1_checkIndex_12 : decode cX1_checkIndex 12 = .ok (.return_, 1) := dk_177 (dk_at dksX1_checkIndex_0 12 rfl rfl)
abbrev cX1_content : ByteArray := prog_1_method_23_code
def yX1_content : MethodName := ⟨RX1, "content", "(I)I"⟩
def dkwX1_content_0 : List UInt8 := [42, 27, 182, 0, 143, 180, 0, 150, 172]
abbrev dktX1_content_0 : List UInt8 := dkwX1_content_0 ++ []
theorem dksX1_content_0 : cX1_content.data.toList.drop 0 = dktX1_content_0 := by decide +kernel
theorem dX1_content_0 : decode cX1_content 0 = .ok (.aload_n 0, 1) := dk_42 (dk_at dksX1_content_0 0 rfl rfl)
theorem dX1_content_1 : decode cX1_content 1 = .ok (.iload_n 1, 1) := dk_27 (dk_at dksX1_content_0 1 rfl rfl)
theorem dX1_content_2 : decode cX1_content 2 = .ok (.invokevirtual 143, 3) := dk_182 0 143 (dk_at dksX1_content_0 2 rfl rfl)
theorem dX1_content_5 : decode cX1_content 5 = .ok (.getfield 150, 3) := dk_180 0 150 (dk_at dksX1_content_0 5 rfl rfl)
theorem dX1_content_8 : decode cX1_content 8 = .ok (.ireturn, 1) := dk_172 (dk_at dksX1_content_0 8 rfl rfl)
abbrev cX1_impurities : ByteArray := prog_1_method_24_code
def yX1_impurities : MethodName := ⟨RX1, "impurities", "(I)I"⟩
def dkwX1_impurities_0 : List UInt8 := [42, 27, 182, 0, 143, 180, 0, 153, 172]
abbrev dktX1_impurities_0 : List UInt8 := dkwX1_impurities_0 ++ []
theorem dksX1_impurities_0 : cX1_impurities.data.toList.drop 0 = dktX1_impurities_0 := by decide +kernel
theorem dX1_impurities_0 : decode cX1_impurities 0 = .ok (.aload_n 0, 1) := dk_42 (dk_at dksX1_impurities_0 0 rfl rfl)
theorem dX1_impurities_1 : decode cX1_impurities 1 = .ok (.iload_n 1, 1) := dk_27 (dk_at dksX1_impurities_0 1 rfl rfl)
theorem dX1_impurities_2 : decode cX1_impurities 2 = .ok (.invokevirtual 143, 3) := dk_182 0 143 (dk_at dksX1_impurities_0 2 rfl rfl)
theorem dX1_impurities_5 : decode cX1_impurities 5 = .ok (.getfield 153, 3) := dk_180 0 153 (dk_at dksX1_impurities_0 5 rfl rfl)
theorem dX1_impurities_8 : decode cX1_impurities 8 = .ok (.ireturn, 1) := dk_172 (dk_at dksX1_impurities_0 8 rfl rfl)
abbrev cX1_hasImpurity : ByteArray := prog_1_method_25_code
def yX1_hasImpurity : MethodName := ⟨RX1, "hasImpurity", "(IC)Z"⟩
def dkwX1_hasImpurity_1 : List UInt8 := [100, 122, 4, 126, 4, 160, 0, 7, 4, 167, 0, 4, 3, 172]
abbrev dktX1_hasImpurity_1 : List UInt8 := dkwX1_hasImpurity_1 ++ []
def dkwX1_hasImpurity_0 : List UInt8 := [42, 27, 182, 0, 143, 78, 28, 16, 97, 16, 104, 184, 0, 9, 184, 0, 156, 45, 180, 0, 153, 28, 16, 97]
abbrev dktX1_hasImpurity_0 : List UInt8 := dkwX1_hasImpurity_0 ++ dktX1_hasImpurity_1
theorem dksX1_hasImpurity_0 : cX1_hasImpurity.data.toList.drop 0 = dktX1_hasImpurity_0 := by decide +kernel
theorem dksX1_hasImpurity_1 : cX1_hasImpurity.data.toList.drop 24 = dktX1_hasImpurity_1 := dk_seg dksX1_hasImpurity_0 24 rfl rfl
theorem dX1_hasImpurity_0 : decode cX1_hasImpurity 0 = .ok (.aload_n 0, 1) := dk_42 (dk_at dksX1_hasImpurity_0 0 rfl rfl)
theorem dX1_hasImpurity_1 : decode cX1_hasImpurity 1 = .ok (.iload_n 1, 1) := dk_27 (dk_at dksX1_hasImpurity_0 1 rfl rfl)
theorem dX1_hasImpurity_2 : decode cX1_hasImpurity 2 = .ok (.invokevirtual 143, 3) := dk_182 0 143 (dk_at dksX1_hasImpurity_0 2 rfl rfl)
theorem dX1_hasImpurity_5 : decode cX1_hasImpurity 5 = .ok (.astore_n 3, 1) := dk_78 (dk_at dksX1_hasImpurity_0 5 rfl rfl)
theorem dX1_hasImpurity_6 : decode cX1_hasImpurity 6 = .ok (.iload_n 2, 1) := dk_28 (dk_at dksX1_hasImpurity_0 6 rfl rfl)
theorem dX1_hasImpurity_7 : decode cX1_hasImpurity 7 = .ok (.bipush 97, 2) := dk_16 97 (dk_at dksX1_hasImpurity_0 7 rfl rfl)
theorem dX1_hasImpurity_9 : decode cX1_hasImpurity 9 = .ok (.bipush 104, 2) := dk_16 104 (dk_at dksX1_hasImpurity_0 9 rfl rfl)
theorem dX1_hasImpurity_11 : decode cX1_hasImpurity 11 = .ok (.invokestatic 9, 3) := dk_184 0 9 (dk_at dksX1_hasImpurity_0 11 rfl rfl)
theorem dX1_hasImpurity_14 : decode cX1_hasImpurity 14 = .ok (.invokestatic 156, 3) := dk_184 0 156 (dk_at dksX1_hasImpurity_0 14 rfl rfl)
theorem dX1_hasImpurity_17 : decode cX1_hasImpurity 17 = .ok (.aload_n 3, 1) := dk_45 (dk_at dksX1_hasImpurity_0 17 rfl rfl)
theorem dX1_hasImpurity_18 : decode cX1_hasImpurity 18 = .ok (.getfield 153, 3) := dk_180 0 153 (dk_at dksX1_hasImpurity_0 18 rfl rfl)
theorem dX1_hasImpurity_21 : decode cX1_hasImpurity 21 = .ok (.iload_n 2, 1) := dk_28 (dk_at dksX1_hasImpurity_0 21 rfl rfl)
theorem dX1_hasImpurity_22 : decode cX1_hasImpurity 22 = .ok (.bipush 97, 2) := dk_16 97 (dk_at dksX1_hasImpurity_0 22 rfl rfl)
theorem dX1_hasImpurity_24 : decode cX1_hasImpurity 24 = .ok (.isub, 1) := dk_100 (dk_at dksX1_hasImpurity_1 0 rfl rfl)
theorem dX1_hasImpurity_25 : decode cX1_hasImpurity 25 = .ok (.ishr, 1) := dk_122 (dk_at dksX1_hasImpurity_1 1 rfl rfl)
theorem dX1_hasImpurity_26 : decode cX1_hasImpurity 26 = .ok (.iconst 1, 1) := dk_4 (dk_at dksX1_hasImpurity_1 2 rfl rfl)
theorem dX1_hasImpurity_27 : decode cX1_hasImpurity 27 = .ok (.iand, 1) := dk_126 (dk_at dksX1_hasImpurity_1 3 rfl rfl)
theorem dX1_hasImpurity_28 : decode cX1_hasImpurity 28 = .ok (.iconst 1, 1) := dk_4 (dk_at dksX1_hasImpurity_1 4 rfl rfl)
theorem dX1_hasImpurity_29 : decode cX1_hasImpurity 29 = .ok (.if_icmp .ne 7, 3) := dk_160 0 7 (dk_at dksX1_hasImpurity_1 5 rfl rfl)
theorem dX1_hasImpurity_32 : decode cX1_hasImpurity 32 = .ok (.iconst 1, 1) := dk_4 (dk_at dksX1_hasImpurity_1 8 rfl rfl)
theorem dX1_hasImpurity_33 : decode cX1_hasImpurity 33 = .ok (.goto 4, 3) := dk_167 0 4 (dk_at dksX1_hasImpurity_1 9 rfl rfl)
theorem dX1_hasImpurity_36 : decode cX1_hasImpurity 36 = .ok (.iconst 0, 1) := dk_3 (dk_at dksX1_hasImpurity_1 12 rfl rfl)
theorem dX1_hasImpurity_37 : decode cX1_hasImpurity 37 = .ok (.ireturn, 1) := dk_172 (dk_at dksX1_hasImpurity_1 13 rfl rfl)
abbrev cX1_checkArgument : ByteArray := prog_1_method_16_code
def yX1_checkArgument : MethodName := ⟨RX1, "checkArgument", "(Z)V"⟩
def dkwX1_checkArgument_0 : List UInt8 := [26, 154, 0, 11, 187, 0, 110, 89, 183, 0, 112, 191, 177]
abbrev dktX1_checkArgument_0 : List UInt8 := dkwX1_checkArgument_0 ++ []
theorem dksX1_checkArgument_0 : cX1_checkArgument.data.toList.drop 0 = dktX1_checkArgument_0 := by decide +kernel
theorem dX1_checkArgument_0 : decode cX1_checkArgument 0 = .ok (.iload_n 0, 1) := dk_26 (dk_at dksX1_checkArgument_0 0 rfl rfl)
theorem dX1_checkArgument_1 : decode cX1_checkArgument 1 = .ok (.ifCond .ne 11, 3) := dk_154 0 11 (dk_at dksX1_checkArgument_0 1 rfl rfl)
theorem dX1_checkArgument_4 : decode cX1_checkArgument 4 = .ok (.new 110, 3) := dk_187 0 110 (dk_at dksX1_checkArgument_0 4 rfl rfl)
theorem dX1_checkArgument_7 : decode cX1_checkArgument 7 = .ok (.dup, 1) := dk_89 (dk_at dksX1_checkArgument_0 7 rfl rfl)
theorem dX1_checkArgument_8 : decode cX1_checkArgument 8 = .ok (.invokespecial 112, 3) := dk_183 0 112 (dk_at dksX1_checkArgument_0 8 rfl rfl)
theorem dX1_checkArgument_11 : decode cX1_checkArgument 11 = .ok (.athrow, 1) := dk_191 (dk_at dksX1_checkArgument_0 11 rfl rfl)
theorem dX1_checkArgument_12 : decode cX1_checkArgument 12 = .ok (.return_, 1) := dk_177 (dk_at dksX1_checkArgument_0 12 rfl rfl)
abbrev cX1_tankByContent : ByteArray := prog_1_method_26_code
def yX1_tankByContent : MethodName := ⟨RX1, "tankByContent", "(I)I"⟩
def dkwX1_tankByContent_0 : List UInt8 := [42, 180, 0, 21, 27, 182, 0, 159, 184, 0, 162, 172]
abbrev dktX1_tankByContent_0 : List UInt8 := dkwX1_tankByContent_0 ++ []
theorem dksX1_tankByContent_0 : cX1_tankByContent.data.toList.drop 0 = dktX1_tankByContent_0 := by decide +kernel
theorem dX1_tankByContent_0 : decode cX1_tankByContent 0 = .ok (.aload_n 0, 1) := dk_42 (dk_at dksX1_tankByContent_0 0 rfl rfl)
theorem dX1_tankByContent_1 : decode cX1_tankByContent 1 = .ok (.getfield 21, 3) := dk_180 0 21 (dk_at dksX1_tankByContent_0 1 rfl rfl)
theorem dX1_tankByContent_4 : decode cX1_tankByContent 4 = .ok (.iload_n 1, 1) := dk_27 (dk_at dksX1_tankByContent_0 4 rfl rfl)
theorem dX1_tankByContent_5 : decode cX1_tankByContent 5 = .ok (.invokevirtual 159, 3) := dk_182 0 159 (dk_at dksX1_tankByContent_0 5 rfl rfl)
theorem dX1_tankByContent_8 : decode cX1_tankByContent 8 = .ok (.invokestatic 162, 3) := dk_184 0 162 (dk_at dksX1_tankByContent_0 8 rfl rfl)
theorem dX1_tankByContent_11 : decode cX1_tankByContent 11 = .ok (.ireturn, 1) := dk_172 (dk_at dksX1_tankByContent_0 11 rfl rfl)
abbrev cX1_found : ByteArray := prog_1_method_19_code
def yX1_found : MethodName := ⟨RX1, "found", "(I)I"⟩
def dkwX1_found_0 : List UInt8 := [26, 2, 159, 0, 7, 4, 167, 0, 4, 3, 184, 0, 119, 26, 172]
abbrev dktX1_found_0 : List UInt8 := dkwX1_found_0 ++ []
theorem dksX1_found_0 : cX1_found.data.toList.drop 0 = dktX1_found_0 := by decide +kernel
theorem dX1_found_0 : decode cX1_found 0 = .ok (.iload_n 0, 1) := dk_26 (dk_at dksX1_found_0 0 rfl rfl)
theorem dX1_found_1 : decode cX1_found 1 = .ok (.iconst (-1), 1) := dk_2 (dk_at dksX1_found_0 1 rfl rfl)
theorem dX1_found_2 : decode cX1_found 2 = .ok (.if_icmp .eq 7, 3) := dk_159 0 7 (dk_at dksX1_found_0 2 rfl rfl)
theorem dX1_found_5 : decode cX1_found 5 = .ok (.iconst 1, 1) := dk_4 (dk_at dksX1_found_0 5 rfl rfl)
theorem dX1_found_6 : decode cX1_found 6 = .ok (.goto 4, 3) := dk_167 0 4 (dk_at dksX1_found_0 6 rfl rfl)
theorem dX1_found_9 : decode cX1_found 9 = .ok (.iconst 0, 1) := dk_3 (dk_at dksX1_found_0 9 rfl rfl)
theorem dX1_found_10 : decode cX1_found 10 = .ok (.invokestatic 119, 3) := dk_184 0 119 (dk_at dksX1_found_0 10 rfl rfl)
theorem dX1_found_13 : decode cX1_found 13 = .ok (.iload_n 0, 1) := dk_26 (dk_at dksX1_found_0 13 rfl rfl)
theorem dX1_found_14 : decode cX1_found 14 = .ok (.ireturn, 1) := dk_172 (dk_at dksX1_found_0 14 rfl rfl)
abbrev cX1_checkElement : ByteArray := prog_1_method_17_code
def yX1_checkElement : MethodName := ⟨RX1, "checkElement", "(Z)V"⟩
def dkwX1_checkElement_0 : List UInt8 := [26, 154, 0, 11, 187, 0, 113, 89, 183, 0, 115, 191, 177]
abbrev dktX1_checkElement_0 : List UInt8 := dkwX1_checkElement_0 ++ []
theorem dksX1_checkElement_0 : cX1_checkElement.data.toList.drop 0 = dktX1_checkElement_0 := by decide +kernel
theorem dX1_checkElement_0 : decode cX1_checkElement 0 = .ok (.iload_n 0, 1) := dk_26 (dk_at dksX1_checkElement_0 0 rfl rfl)
theorem dX1_checkElement_1 : decode cX1_checkElement 1 = .ok (.ifCond .ne 11, 3) := dk_154 0 11 (dk_at dksX1_checkElement_0 1 rfl rfl)
theorem dX1_checkElement_4 : decode cX1_checkElement 4 = .ok (.new 113, 3) := dk_187 0 113 (dk_at dksX1_checkElement_0 4 rfl rfl)
theorem dX1_checkElement_7 : decode cX1_checkElement 7 = .ok (.dup, 1) := dk_89 (dk_at dksX1_checkElement_0 7 rfl rfl)
theorem dX1_checkElement_8 : decode cX1_checkElement 8 = .ok (.invokespecial 115, 3) := dk_183 0 115 (dk_at dksX1_checkElement_0 8 rfl rfl)
theorem dX1_checkElement_11 : decode cX1_checkElement 11 = .ok (.athrow, 1) := dk_191 (dk_at dksX1_checkElement_0 11 rfl rfl)
theorem dX1_checkElement_12 : decode cX1_checkElement 12 = .ok (.return_, 1) := dk_177 (dk_at dksX1_checkElement_0 12 rfl rfl)
abbrev cX1_fillShare : ByteArray := prog_1_method_27_code
def yX1_fillShare : MethodName := ⟨RX1, "fillShare", "(I)F"⟩
def dkwX1_fillShare_0 : List UInt8 := [42, 27, 182, 0, 143, 77, 44, 180, 0, 150, 134, 44, 180, 0, 147, 134, 110, 174]
abbrev dktX1_fillShare_0 : List UInt8 := dkwX1_fillShare_0 ++ []
theorem dksX1_fillShare_0 : cX1_fillShare.data.toList.drop 0 = dktX1_fillShare_0 := by decide +kernel
theorem dX1_fillShare_0 : decode cX1_fillShare 0 = .ok (.aload_n 0, 1) := dk_42 (dk_at dksX1_fillShare_0 0 rfl rfl)
theorem dX1_fillShare_1 : decode cX1_fillShare 1 = .ok (.iload_n 1, 1) := dk_27 (dk_at dksX1_fillShare_0 1 rfl rfl)
theorem dX1_fillShare_2 : decode cX1_fillShare 2 = .ok (.invokevirtual 143, 3) := dk_182 0 143 (dk_at dksX1_fillShare_0 2 rfl rfl)
theorem dX1_fillShare_5 : decode cX1_fillShare 5 = .ok (.astore_n 2, 1) := dk_77 (dk_at dksX1_fillShare_0 5 rfl rfl)
theorem dX1_fillShare_6 : decode cX1_fillShare 6 = .ok (.aload_n 2, 1) := dk_44 (dk_at dksX1_fillShare_0 6 rfl rfl)
theorem dX1_fillShare_7 : decode cX1_fillShare 7 = .ok (.getfield 150, 3) := dk_180 0 150 (dk_at dksX1_fillShare_0 7 rfl rfl)
theorem dX1_fillShare_10 : decode cX1_fillShare 10 = .ok (.i2f, 1) := dk_134 (dk_at dksX1_fillShare_0 10 rfl rfl)
theorem dX1_fillShare_11 : decode cX1_fillShare 11 = .ok (.aload_n 2, 1) := dk_44 (dk_at dksX1_fillShare_0 11 rfl rfl)
theorem dX1_fillShare_12 : decode cX1_fillShare 12 = .ok (.getfield 147, 3) := dk_180 0 147 (dk_at dksX1_fillShare_0 12 rfl rfl)
theorem dX1_fillShare_15 : decode cX1_fillShare 15 = .ok (.i2f, 1) := dk_134 (dk_at dksX1_fillShare_0 15 rfl rfl)
theorem dX1_fillShare_16 : decode cX1_fillShare 16 = .ok (.fdiv, 1) := dk_110 (dk_at dksX1_fillShare_0 16 rfl rfl)
theorem dX1_fillShare_17 : decode cX1_fillShare 17 = .ok (.freturn, 1) := dk_174 (dk_at dksX1_fillShare_0 17 rfl rfl)
abbrev cX1_fillShareBits : ByteArray := prog_1_method_28_code
def yX1_fillShareBits : MethodName := ⟨RX1, "fillShareBits", "(I)I"⟩
def dkwX1_fillShareBits_0 : List UInt8 := [42, 27, 182, 0, 165, 184, 0, 169, 172]
abbrev dktX1_fillShareBits_0 : List UInt8 := dkwX1_fillShareBits_0 ++ []
theorem dksX1_fillShareBits_0 : cX1_fillShareBits.data.toList.drop 0 = dktX1_fillShareBits_0 := by decide +kernel
theorem dX1_fillShareBits_0 : decode cX1_fillShareBits 0 = .ok (.aload_n 0, 1) := dk_42 (dk_at dksX1_fillShareBits_0 0 rfl rfl)
theorem dX1_fillShareBits_1 : decode cX1_fillShareBits 1 = .ok (.iload_n 1, 1) := dk_27 (dk_at dksX1_fillShareBits_0 1 rfl rfl)
theorem dX1_fillShareBits_2 : decode cX1_fillShareBits 2 = .ok (.invokevirtual 165, 3) := dk_182 0 165 (dk_at dksX1_fillShareBits_0 2 rfl rfl)
theorem dX1_fillShareBits_5 : decode cX1_fillShareBits 5 = .ok (.invokestatic 169, 3) := dk_184 0 169 (dk_at dksX1_fillShareBits_0 5 rfl rfl)
theorem dX1_fillShareBits_8 : decode cX1_fillShareBits 8 = .ok (.ireturn, 1) := dk_172 (dk_at dksX1_fillShareBits_0 8 rfl rfl)
abbrev cX1_firstOf : ByteArray := prog_1_method_31_code
def yX1_firstOf : MethodName := ⟨RX1, "firstOf", "(I)I"⟩
def dkwX1_firstOf_0 : List UInt8 := [42, 27, 182, 0, 183, 180, 0, 187, 172]
abbrev dktX1_firstOf_0 : List UInt8 := dkwX1_firstOf_0 ++ []
theorem dksX1_firstOf_0 : cX1_firstOf.data.toList.drop 0 = dktX1_firstOf_0 := by decide +kernel
theorem dX1_firstOf_0 : decode cX1_firstOf 0 = .ok (.aload_n 0, 1) := dk_42 (dk_at dksX1_firstOf_0 0 rfl rfl)
theorem dX1_firstOf_1 : decode cX1_firstOf 1 = .ok (.iload_n 1, 1) := dk_27 (dk_at dksX1_firstOf_0 1 rfl rfl)
theorem dX1_firstOf_2 : decode cX1_firstOf 2 = .ok (.invokevirtual 183, 3) := dk_182 0 183 (dk_at dksX1_firstOf_0 2 rfl rfl)
theorem dX1_firstOf_5 : decode cX1_firstOf 5 = .ok (.getfield 187, 3) := dk_180 0 187 (dk_at dksX1_firstOf_0 5 rfl rfl)
theorem dX1_firstOf_8 : decode cX1_firstOf 8 = .ok (.ireturn, 1) := dk_172 (dk_at dksX1_firstOf_0 8 rfl rfl)
abbrev cX1_pipeAt : ByteArray := prog_1_method_29_code
def yX1_pipeAt : MethodName := ⟨RX1, "pipeAt", "(I)LFilterWaterworks$Pipe;"⟩
def dkwX1_pipeAt_1 : List UInt8 := [192, 0, 181, 176]
abbrev dktX1_pipeAt_1 : List UInt8 := dkwX1_pipeAt_1 ++ []
def dkwX1_pipeAt_0 : List UInt8 := [42, 180, 0, 21, 27, 182, 0, 175, 184, 0, 127, 42, 180, 0, 21, 180, 0, 178, 27, 185, 0, 134, 2, 0]
abbrev dktX1_pipeAt_0 : List UInt8 := dkwX1_pipeAt_0 ++ dktX1_pipeAt_1
theorem dksX1_pipeAt_0 : cX1_pipeAt.data.toList.drop 0 = dktX1_pipeAt_0 := by decide +kernel
theorem dksX1_pipeAt_1 : cX1_pipeAt.data.toList.drop 24 = dktX1_pipeAt_1 := dk_seg dksX1_pipeAt_0 24 rfl rfl
theorem dX1_pipeAt_0 : decode cX1_pipeAt 0 = .ok (.aload_n 0, 1) := dk_42 (dk_at dksX1_pipeAt_0 0 rfl rfl)
theorem dX1_pipeAt_1 : decode cX1_pipeAt 1 = .ok (.getfield 21, 3) := dk_180 0 21 (dk_at dksX1_pipeAt_0 1 rfl rfl)
theorem dX1_pipeAt_4 : decode cX1_pipeAt 4 = .ok (.iload_n 1, 1) := dk_27 (dk_at dksX1_pipeAt_0 4 rfl rfl)
theorem dX1_pipeAt_5 : decode cX1_pipeAt 5 = .ok (.invokevirtual 175, 3) := dk_182 0 175 (dk_at dksX1_pipeAt_0 5 rfl rfl)
theorem dX1_pipeAt_8 : decode cX1_pipeAt 8 = .ok (.invokestatic 127, 3) := dk_184 0 127 (dk_at dksX1_pipeAt_0 8 rfl rfl)
theorem dX1_pipeAt_11 : decode cX1_pipeAt 11 = .ok (.aload_n 0, 1) := dk_42 (dk_at dksX1_pipeAt_0 11 rfl rfl)
theorem dX1_pipeAt_12 : decode cX1_pipeAt 12 = .ok (.getfield 21, 3) := dk_180 0 21 (dk_at dksX1_pipeAt_0 12 rfl rfl)
theorem dX1_pipeAt_15 : decode cX1_pipeAt 15 = .ok (.getfield 178, 3) := dk_180 0 178 (dk_at dksX1_pipeAt_0 15 rfl rfl)
theorem dX1_pipeAt_18 : decode cX1_pipeAt 18 = .ok (.iload_n 1, 1) := dk_27 (dk_at dksX1_pipeAt_0 18 rfl rfl)
theorem dX1_pipeAt_19 : decode cX1_pipeAt 19 = .ok (.invokeinterface 134 2, 5) := by decide +kernel
theorem dX1_pipeAt_24 : decode cX1_pipeAt 24 = .ok (.checkcast 181, 3) := dk_192 0 181 (dk_at dksX1_pipeAt_1 0 rfl rfl)
theorem dX1_pipeAt_27 : decode cX1_pipeAt 27 = .ok (.areturn, 1) := dk_176 (dk_at dksX1_pipeAt_1 3 rfl rfl)
abbrev cX1_secondOf : ByteArray := prog_1_method_32_code
def yX1_secondOf : MethodName := ⟨RX1, "secondOf", "(I)I"⟩
def dkwX1_secondOf_0 : List UInt8 := [42, 27, 182, 0, 183, 180, 0, 190, 172]
abbrev dktX1_secondOf_0 : List UInt8 := dkwX1_secondOf_0 ++ []
theorem dksX1_secondOf_0 : cX1_secondOf.data.toList.drop 0 = dktX1_secondOf_0 := by decide +kernel
theorem dX1_secondOf_0 : decode cX1_secondOf 0 = .ok (.aload_n 0, 1) := dk_42 (dk_at dksX1_secondOf_0 0 rfl rfl)
theorem dX1_secondOf_1 : decode cX1_secondOf 1 = .ok (.iload_n 1, 1) := dk_27 (dk_at dksX1_secondOf_0 1 rfl rfl)
theorem dX1_secondOf_2 : decode cX1_secondOf 2 = .ok (.invokevirtual 183, 3) := dk_182 0 183 (dk_at dksX1_secondOf_0 2 rfl rfl)
theorem dX1_secondOf_5 : decode cX1_secondOf 5 = .ok (.getfield 190, 3) := dk_180 0 190 (dk_at dksX1_secondOf_0 5 rfl rfl)
theorem dX1_secondOf_8 : decode cX1_secondOf 8 = .ok (.ireturn, 1) := dk_172 (dk_at dksX1_secondOf_0 8 rfl rfl)
abbrev cX1_valve : ByteArray := prog_1_method_33_code
def yX1_valve : MethodName := ⟨RX1, "valve", "(I)I"⟩
def dkwX1_valve_0 : List UInt8 := [42, 27, 182, 0, 183, 180, 0, 193, 172]
abbrev dktX1_valve_0 : List UInt8 := dkwX1_valve_0 ++ []
theorem dksX1_valve_0 : cX1_valve.data.toList.drop 0 = dktX1_valve_0 := by decide +kernel
theorem dX1_valve_0 : decode cX1_valve 0 = .ok (.aload_n 0, 1) := dk_42 (dk_at dksX1_valve_0 0 rfl rfl)
theorem dX1_valve_1 : decode cX1_valve 1 = .ok (.iload_n 1, 1) := dk_27 (dk_at dksX1_valve_0 1 rfl rfl)
theorem dX1_valve_2 : decode cX1_valve 2 = .ok (.invokevirtual 183, 3) := dk_182 0 183 (dk_at dksX1_valve_0 2 rfl rfl)
theorem dX1_valve_5 : decode cX1_valve 5 = .ok (.getfield 193, 3) := dk_180 0 193 (dk_at dksX1_valve_0 5 rfl rfl)
theorem dX1_valve_8 : decode cX1_valve 8 = .ok (.ireturn, 1) := dk_172 (dk_at dksX1_valve_0 8 rfl rfl)
abbrev cX1_leak : ByteArray := prog_1_method_34_code
def yX1_leak : MethodName := ⟨RX1, "leak", "(I)I"⟩
def dkwX1_leak_0 : List UInt8 := [42, 27, 182, 0, 183, 180, 0, 196, 172]
abbrev dktX1_leak_0 : List UInt8 := dkwX1_leak_0 ++ []
theorem dksX1_leak_0 : cX1_leak.data.toList.drop 0 = dktX1_leak_0 := by decide +kernel
theorem dX1_leak_0 : decode cX1_leak 0 = .ok (.aload_n 0, 1) := dk_42 (dk_at dksX1_leak_0 0 rfl rfl)
theorem dX1_leak_1 : decode cX1_leak 1 = .ok (.iload_n 1, 1) := dk_27 (dk_at dksX1_leak_0 1 rfl rfl)
theorem dX1_leak_2 : decode cX1_leak 2 = .ok (.invokevirtual 183, 3) := dk_182 0 183 (dk_at dksX1_leak_0 2 rfl rfl)
theorem dX1_leak_5 : decode cX1_leak 5 = .ok (.getfield 196, 3) := dk_180 0 196 (dk_at dksX1_leak_0 5 rfl rfl)
theorem dX1_leak_8 : decode cX1_leak 8 = .ok (.ireturn, 1) := dk_172 (dk_at dksX1_leak_0 8 rfl rfl)
abbrev cX1_mesh : ByteArray := prog_1_method_35_code
def yX1_mesh : MethodName := ⟨RX1, "mesh", "(I)I"⟩
def dkwX1_mesh_0 : List UInt8 := [42, 27, 182, 0, 183, 180, 0, 199, 172]
abbrev dktX1_mesh_0 : List UInt8 := dkwX1_mesh_0 ++ []
theorem dksX1_mesh_0 : cX1_mesh.data.toList.drop 0 = dktX1_mesh_0 := by decide +kernel
theorem dX1_mesh_0 : decode cX1_mesh 0 = .ok (.aload_n 0, 1) := dk_42 (dk_at dksX1_mesh_0 0 rfl rfl)
theorem dX1_mesh_1 : decode cX1_mesh 1 = .ok (.iload_n 1, 1) := dk_27 (dk_at dksX1_mesh_0 1 rfl rfl)
theorem dX1_mesh_2 : decode cX1_mesh 2 = .ok (.invokevirtual 183, 3) := dk_182 0 183 (dk_at dksX1_mesh_0 2 rfl rfl)
theorem dX1_mesh_5 : decode cX1_mesh 5 = .ok (.getfield 199, 3) := dk_180 0 199 (dk_at dksX1_mesh_0 5 rfl rfl)
theorem dX1_mesh_8 : decode cX1_mesh 8 = .ok (.ireturn, 1) := dk_172 (dk_at dksX1_mesh_0 8 rfl rfl)
abbrev cX1_dirt : ByteArray := prog_1_method_36_code
def yX1_dirt : MethodName := ⟨RX1, "dirt", "(I)I"⟩
def dkwX1_dirt_0 : List UInt8 := [42, 27, 182, 0, 183, 180, 0, 202, 172]
abbrev dktX1_dirt_0 : List UInt8 := dkwX1_dirt_0 ++ []
theorem dksX1_dirt_0 : cX1_dirt.data.toList.drop 0 = dktX1_dirt_0 := by decide +kernel
theorem dX1_dirt_0 : decode cX1_dirt 0 = .ok (.aload_n 0, 1) := dk_42 (dk_at dksX1_dirt_0 0 rfl rfl)
theorem dX1_dirt_1 : decode cX1_dirt 1 = .ok (.iload_n 1, 1) := dk_27 (dk_at dksX1_dirt_0 1 rfl rfl)
theorem dX1_dirt_2 : decode cX1_dirt 2 = .ok (.invokevirtual 183, 3) := dk_182 0 183 (dk_at dksX1_dirt_0 2 rfl rfl)
theorem dX1_dirt_5 : decode cX1_dirt 5 = .ok (.getfield 202, 3) := dk_180 0 202 (dk_at dksX1_dirt_0 5 rfl rfl)
theorem dX1_dirt_8 : decode cX1_dirt 8 = .ok (.ireturn, 1) := dk_172 (dk_at dksX1_dirt_0 8 rfl rfl)
abbrev cX1_isOpen : ByteArray := prog_1_method_37_code
def yX1_isOpen : MethodName := ⟨RX1, "isOpen", "(I)Z"⟩
def dkwX1_isOpen_0 : List UInt8 := [42, 27, 182, 0, 183, 182, 0, 205, 172]
abbrev dktX1_isOpen_0 : List UInt8 := dkwX1_isOpen_0 ++ []
theorem dksX1_isOpen_0 : cX1_isOpen.data.toList.drop 0 = dktX1_isOpen_0 := by decide +kernel
theorem dX1_isOpen_0 : decode cX1_isOpen 0 = .ok (.aload_n 0, 1) := dk_42 (dk_at dksX1_isOpen_0 0 rfl rfl)
theorem dX1_isOpen_1 : decode cX1_isOpen 1 = .ok (.iload_n 1, 1) := dk_27 (dk_at dksX1_isOpen_0 1 rfl rfl)
theorem dX1_isOpen_2 : decode cX1_isOpen 2 = .ok (.invokevirtual 183, 3) := dk_182 0 183 (dk_at dksX1_isOpen_0 2 rfl rfl)
theorem dX1_isOpen_5 : decode cX1_isOpen 5 = .ok (.invokevirtual 205, 3) := dk_182 0 205 (dk_at dksX1_isOpen_0 5 rfl rfl)
theorem dX1_isOpen_8 : decode cX1_isOpen 8 = .ok (.ireturn, 1) := dk_172 (dk_at dksX1_isOpen_0 8 rfl rfl)
abbrev cX1_flow : ByteArray := prog_1_method_38_code
def yX1_flow : MethodName := ⟨RX1, "flow", "(I)I"⟩
def dkwX1_flow_0 : List UInt8 := [42, 180, 0, 21, 42, 27, 182, 0, 183, 182, 0, 209, 172]
abbrev dktX1_flow_0 : List UInt8 := dkwX1_flow_0 ++ []
theorem dksX1_flow_0 : cX1_flow.data.toList.drop 0 = dktX1_flow_0 := by decide +kernel
theorem dX1_flow_0 : decode cX1_flow 0 = .ok (.aload_n 0, 1) := dk_42 (dk_at dksX1_flow_0 0 rfl rfl)
theorem dX1_flow_1 : decode cX1_flow 1 = .ok (.getfield 21, 3) := dk_180 0 21 (dk_at dksX1_flow_0 1 rfl rfl)
theorem dX1_flow_4 : decode cX1_flow 4 = .ok (.aload_n 0, 1) := dk_42 (dk_at dksX1_flow_0 4 rfl rfl)
theorem dX1_flow_5 : decode cX1_flow 5 = .ok (.iload_n 1, 1) := dk_27 (dk_at dksX1_flow_0 5 rfl rfl)
theorem dX1_flow_6 : decode cX1_flow 6 = .ok (.invokevirtual 183, 3) := dk_182 0 183 (dk_at dksX1_flow_0 6 rfl rfl)
theorem dX1_flow_9 : decode cX1_flow 9 = .ok (.invokevirtual 209, 3) := dk_182 0 209 (dk_at dksX1_flow_0 9 rfl rfl)
theorem dX1_flow_12 : decode cX1_flow 12 = .ok (.ireturn, 1) := dk_172 (dk_at dksX1_flow_0 12 rfl rfl)
abbrev cX1_litresThrough : ByteArray := prog_1_method_39_code
def yX1_litresThrough : MethodName := ⟨RX1, "litresThrough", "(I)I"⟩
def dkwX1_litresThrough_0 : List UInt8 := [42, 27, 182, 0, 183, 180, 0, 213, 172]
abbrev dktX1_litresThrough_0 : List UInt8 := dkwX1_litresThrough_0 ++ []
theorem dksX1_litresThrough_0 : cX1_litresThrough.data.toList.drop 0 = dktX1_litresThrough_0 := by decide +kernel
theorem dX1_litresThrough_0 : decode cX1_litresThrough 0 = .ok (.aload_n 0, 1) := dk_42 (dk_at dksX1_litresThrough_0 0 rfl rfl)
theorem dX1_litresThrough_1 : decode cX1_litresThrough 1 = .ok (.iload_n 1, 1) := dk_27 (dk_at dksX1_litresThrough_0 1 rfl rfl)
theorem dX1_litresThrough_2 : decode cX1_litresThrough 2 = .ok (.invokevirtual 183, 3) := dk_182 0 183 (dk_at dksX1_litresThrough_0 2 rfl rfl)
theorem dX1_litresThrough_5 : decode cX1_litresThrough 5 = .ok (.getfield 213, 3) := dk_180 0 213 (dk_at dksX1_litresThrough_0 5 rfl rfl)
theorem dX1_litresThrough_8 : decode cX1_litresThrough 8 = .ok (.ireturn, 1) := dk_172 (dk_at dksX1_litresThrough_0 8 rfl rfl)
abbrev cX1_pipeByDirt : ByteArray := prog_1_method_40_code
def yX1_pipeByDirt : MethodName := ⟨RX1, "pipeByDirt", "(I)I"⟩
def dkwX1_pipeByDirt_0 : List UInt8 := [42, 180, 0, 21, 27, 182, 0, 216, 184, 0, 162, 172]
abbrev dktX1_pipeByDirt_0 : List UInt8 := dkwX1_pipeByDirt_0 ++ []
theorem dksX1_pipeByDirt_0 : cX1_pipeByDirt.data.toList.drop 0 = dktX1_pipeByDirt_0 := by decide +kernel
theorem dX1_pipeByDirt_0 : decode cX1_pipeByDirt 0 = .ok (.aload_n 0, 1) := dk_42 (dk_at dksX1_pipeByDirt_0 0 rfl rfl)
theorem dX1_pipeByDirt_1 : decode cX1_pipeByDirt 1 = .ok (.getfield 21, 3) := dk_180 0 21 (dk_at dksX1_pipeByDirt_0 1 rfl rfl)
theorem dX1_pipeByDirt_4 : decode cX1_pipeByDirt 4 = .ok (.iload_n 1, 1) := dk_27 (dk_at dksX1_pipeByDirt_0 4 rfl rfl)
theorem dX1_pipeByDirt_5 : decode cX1_pipeByDirt 5 = .ok (.invokevirtual 216, 3) := dk_182 0 216 (dk_at dksX1_pipeByDirt_0 5 rfl rfl)
theorem dX1_pipeByDirt_8 : decode cX1_pipeByDirt 8 = .ok (.invokestatic 162, 3) := dk_184 0 162 (dk_at dksX1_pipeByDirt_0 8 rfl rfl)
theorem dX1_pipeByDirt_11 : decode cX1_pipeByDirt 11 = .ok (.ireturn, 1) := dk_172 (dk_at dksX1_pipeByDirt_0 11 rfl rfl)
abbrev cX1_areConnected : ByteArray := prog_1_method_42_code
def yX1_areConnected : MethodName := ⟨RX1, "areConnected", "(II)Z"⟩
def dkwX1_areConnected_0 : List UInt8 := [42, 27, 28, 182, 0, 218, 42, 180, 0, 21, 27, 28, 182, 0, 222, 172]
abbrev dktX1_areConnected_0 : List UInt8 := dkwX1_areConnected_0 ++ []
theorem dksX1_areConnected_0 : cX1_areConnected.data.toList.drop 0 = dktX1_areConnected_0 := by decide +kernel
theorem dX1_areConnected_0 : decode cX1_areConnected 0 = .ok (.aload_n 0, 1) := dk_42 (dk_at dksX1_areConnected_0 0 rfl rfl)
theorem dX1_areConnected_1 : decode cX1_areConnected 1 = .ok (.iload_n 1, 1) := dk_27 (dk_at dksX1_areConnected_0 1 rfl rfl)
theorem dX1_areConnected_2 : decode cX1_areConnected 2 = .ok (.iload_n 2, 1) := dk_28 (dk_at dksX1_areConnected_0 2 rfl rfl)
theorem dX1_areConnected_3 : decode cX1_areConnected 3 = .ok (.invokevirtual 218, 3) := dk_182 0 218 (dk_at dksX1_areConnected_0 3 rfl rfl)
theorem dX1_areConnected_6 : decode cX1_areConnected 6 = .ok (.aload_n 0, 1) := dk_42 (dk_at dksX1_areConnected_0 6 rfl rfl)
theorem dX1_areConnected_7 : decode cX1_areConnected 7 = .ok (.getfield 21, 3) := dk_180 0 21 (dk_at dksX1_areConnected_0 7 rfl rfl)
theorem dX1_areConnected_10 : decode cX1_areConnected 10 = .ok (.iload_n 1, 1) := dk_27 (dk_at dksX1_areConnected_0 10 rfl rfl)
theorem dX1_areConnected_11 : decode cX1_areConnected 11 = .ok (.iload_n 2, 1) := dk_28 (dk_at dksX1_areConnected_0 11 rfl rfl)
theorem dX1_areConnected_12 : decode cX1_areConnected 12 = .ok (.invokevirtual 222, 3) := dk_182 0 222 (dk_at dksX1_areConnected_0 12 rfl rfl)
theorem dX1_areConnected_15 : decode cX1_areConnected 15 = .ok (.ireturn, 1) := dk_172 (dk_at dksX1_areConnected_0 15 rfl rfl)
abbrev cX1_checkTanks : ByteArray := prog_1_method_41_code
def yX1_checkTanks : MethodName := ⟨RX1, "checkTanks", "(II)V"⟩
def dkwX1_checkTanks_1 : List UInt8 := [167, 0, 4, 3, 184, 0, 127, 177]
abbrev dktX1_checkTanks_1 : List UInt8 := dkwX1_checkTanks_1 ++ []
def dkwX1_checkTanks_0 : List UInt8 := [42, 180, 0, 21, 27, 182, 0, 123, 153, 0, 18, 42, 180, 0, 21, 28, 182, 0, 123, 153, 0, 7, 4]
abbrev dktX1_checkTanks_0 : List UInt8 := dkwX1_checkTanks_0 ++ dktX1_checkTanks_1
theorem dksX1_checkTanks_0 : cX1_checkTanks.data.toList.drop 0 = dktX1_checkTanks_0 := by decide +kernel
theorem dksX1_checkTanks_1 : cX1_checkTanks.data.toList.drop 23 = dktX1_checkTanks_1 := dk_seg dksX1_checkTanks_0 23 rfl rfl
theorem dX1_checkTanks_0 : decode cX1_checkTanks 0 = .ok (.aload_n 0, 1) := dk_42 (dk_at dksX1_checkTanks_0 0 rfl rfl)
theorem dX1_checkTanks_1 : decode cX1_checkTanks 1 = .ok (.getfield 21, 3) := dk_180 0 21 (dk_at dksX1_checkTanks_0 1 rfl rfl)
theorem dX1_checkTanks_4 : decode cX1_checkTanks 4 = .ok (.iload_n 1, 1) := dk_27 (dk_at dksX1_checkTanks_0 4 rfl rfl)
theorem dX1_checkTanks_5 : decode cX1_checkTanks 5 = .ok (.invokevirtual 123, 3) := dk_182 0 123 (dk_at dksX1_checkTanks_0 5 rfl rfl)
theorem dX1_checkTanks_8 : decode cX1_checkTanks 8 = .ok (.ifCond .eq 18, 3) := dk_153 0 18 (dk_at dksX1_checkTanks_0 8 rfl rfl)
theorem dX1_checkTanks_11 : decode cX1_checkTanks 11 = .ok (.aload_n 0, 1) := dk_42 (dk_at dksX1_checkTanks_0 11 rfl rfl)
theorem dX1_checkTanks_12 : decode cX1_checkTanks 12 = .ok (.getfield 21, 3) := dk_180 0 21 (dk_at dksX1_checkTanks_0 12 rfl rfl)
theorem dX1_checkTanks_15 : decode cX1_checkTanks 15 = .ok (.iload_n 2, 1) := dk_28 (dk_at dksX1_checkTanks_0 15 rfl rfl)
theorem dX1_checkTanks_16 : decode cX1_checkTanks 16 = .ok (.invokevirtual 123, 3) := dk_182 0 123 (dk_at dksX1_checkTanks_0 16 rfl rfl)
theorem dX1_checkTanks_19 : decode cX1_checkTanks 19 = .ok (.ifCond .eq 7, 3) := dk_153 0 7 (dk_at dksX1_checkTanks_0 19 rfl rfl)
theorem dX1_checkTanks_22 : decode cX1_checkTanks 22 = .ok (.iconst 1, 1) := dk_4 (dk_at dksX1_checkTanks_0 22 rfl rfl)
theorem dX1_checkTanks_23 : decode cX1_checkTanks 23 = .ok (.goto 4, 3) := dk_167 0 4 (dk_at dksX1_checkTanks_1 0 rfl rfl)
theorem dX1_checkTanks_26 : decode cX1_checkTanks 26 = .ok (.iconst 0, 1) := dk_3 (dk_at dksX1_checkTanks_1 3 rfl rfl)
theorem dX1_checkTanks_27 : decode cX1_checkTanks 27 = .ok (.invokestatic 127, 3) := dk_184 0 127 (dk_at dksX1_checkTanks_1 4 rfl rfl)
theorem dX1_checkTanks_30 : decode cX1_checkTanks 30 = .ok (.return_, 1) := dk_177 (dk_at dksX1_checkTanks_1 7 rfl rfl)
abbrev cX1_isBridge : ByteArray := prog_1_method_45_code
def yX1_isBridge : MethodName := ⟨RX1, "isBridge", "(I)Z"⟩
def dkwX1_isBridge_0 : List UInt8 := [42, 180, 0, 21, 27, 182, 0, 175, 184, 0, 127, 42, 180, 0, 21, 27, 182, 0, 232, 172]
abbrev dktX1_isBridge_0 : List UInt8 := dkwX1_isBridge_0 ++ []
theorem dksX1_isBridge_0 : cX1_isBridge.data.toList.drop 0 = dktX1_isBridge_0 := by decide +kernel
theorem dX1_isBridge_0 : decode cX1_isBridge 0 = .ok (.aload_n 0, 1) := dk_42 (dk_at dksX1_isBridge_0 0 rfl rfl)
theorem dX1_isBridge_1 : decode cX1_isBridge 1 = .ok (.getfield 21, 3) := dk_180 0 21 (dk_at dksX1_isBridge_0 1 rfl rfl)
theorem dX1_isBridge_4 : decode cX1_isBridge 4 = .ok (.iload_n 1, 1) := dk_27 (dk_at dksX1_isBridge_0 4 rfl rfl)
theorem dX1_isBridge_5 : decode cX1_isBridge 5 = .ok (.invokevirtual 175, 3) := dk_182 0 175 (dk_at dksX1_isBridge_0 5 rfl rfl)
theorem dX1_isBridge_8 : decode cX1_isBridge 8 = .ok (.invokestatic 127, 3) := dk_184 0 127 (dk_at dksX1_isBridge_0 8 rfl rfl)
theorem dX1_isBridge_11 : decode cX1_isBridge 11 = .ok (.aload_n 0, 1) := dk_42 (dk_at dksX1_isBridge_0 11 rfl rfl)
theorem dX1_isBridge_12 : decode cX1_isBridge 12 = .ok (.getfield 21, 3) := dk_180 0 21 (dk_at dksX1_isBridge_0 12 rfl rfl)
theorem dX1_isBridge_15 : decode cX1_isBridge 15 = .ok (.iload_n 1, 1) := dk_27 (dk_at dksX1_isBridge_0 15 rfl rfl)
theorem dX1_isBridge_16 : decode cX1_isBridge 16 = .ok (.invokevirtual 232, 3) := dk_182 0 232 (dk_at dksX1_isBridge_0 16 rfl rfl)
theorem dX1_isBridge_19 : decode cX1_isBridge 19 = .ok (.ireturn, 1) := dk_172 (dk_at dksX1_isBridge_0 19 rfl rfl)
abbrev cX1_width : ByteArray := prog_1_method_48_code
def yX1_width : MethodName := ⟨RX1, "width", "(II)I"⟩
def dkwX1_width_0 : List UInt8 := [42, 27, 28, 182, 0, 218, 42, 180, 0, 21, 27, 182, 0, 241, 28, 46, 172]
abbrev dktX1_width_0 : List UInt8 := dkwX1_width_0 ++ []
theorem dksX1_width_0 : cX1_width.data.toList.drop 0 = dktX1_width_0 := by decide +kernel
theorem dX1_width_0 : decode cX1_width 0 = .ok (.aload_n 0, 1) := dk_42 (dk_at dksX1_width_0 0 rfl rfl)
theorem dX1_width_1 : decode cX1_width 1 = .ok (.iload_n 1, 1) := dk_27 (dk_at dksX1_width_0 1 rfl rfl)
theorem dX1_width_2 : decode cX1_width 2 = .ok (.iload_n 2, 1) := dk_28 (dk_at dksX1_width_0 2 rfl rfl)
theorem dX1_width_3 : decode cX1_width 3 = .ok (.invokevirtual 218, 3) := dk_182 0 218 (dk_at dksX1_width_0 3 rfl rfl)
theorem dX1_width_6 : decode cX1_width 6 = .ok (.aload_n 0, 1) := dk_42 (dk_at dksX1_width_0 6 rfl rfl)
theorem dX1_width_7 : decode cX1_width 7 = .ok (.getfield 21, 3) := dk_180 0 21 (dk_at dksX1_width_0 7 rfl rfl)
theorem dX1_width_10 : decode cX1_width 10 = .ok (.iload_n 1, 1) := dk_27 (dk_at dksX1_width_0 10 rfl rfl)
theorem dX1_width_11 : decode cX1_width 11 = .ok (.invokevirtual 241, 3) := dk_182 0 241 (dk_at dksX1_width_0 11 rfl rfl)
theorem dX1_width_14 : decode cX1_width 14 = .ok (.iload_n 2, 1) := dk_28 (dk_at dksX1_width_0 14 rfl rfl)
theorem dX1_width_15 : decode cX1_width 15 = .ok (.iaload, 1) := dk_46 (dk_at dksX1_width_0 15 rfl rfl)
theorem dX1_width_16 : decode cX1_width 16 = .ok (.ireturn, 1) := dk_172 (dk_at dksX1_width_0 16 rfl rfl)
abbrev cX1_widthBySettings : ByteArray := prog_1_method_49_code
def yX1_widthBySettings : MethodName := ⟨RX1, "widthBySettings", "(II)I"⟩
def dkwX1_widthBySettings_0 : List UInt8 := [42, 27, 28, 182, 0, 218, 42, 180, 0, 21, 27, 28, 182, 0, 245, 172]
abbrev dktX1_widthBySettings_0 : List UInt8 := dkwX1_widthBySettings_0 ++ []
theorem dksX1_widthBySettings_0 : cX1_widthBySettings.data.toList.drop 0 = dktX1_widthBySettings_0 := by decide +kernel
theorem dX1_widthBySettings_0 : decode cX1_widthBySettings 0 = .ok (.aload_n 0, 1) := dk_42 (dk_at dksX1_widthBySettings_0 0 rfl rfl)
theorem dX1_widthBySettings_1 : decode cX1_widthBySettings 1 = .ok (.iload_n 1, 1) := dk_27 (dk_at dksX1_widthBySettings_0 1 rfl rfl)
theorem dX1_widthBySettings_2 : decode cX1_widthBySettings 2 = .ok (.iload_n 2, 1) := dk_28 (dk_at dksX1_widthBySettings_0 2 rfl rfl)
theorem dX1_widthBySettings_3 : decode cX1_widthBySettings 3 = .ok (.invokevirtual 218, 3) := dk_182 0 218 (dk_at dksX1_widthBySettings_0 3 rfl rfl)
theorem dX1_widthBySettings_6 : decode cX1_widthBySettings 6 = .ok (.aload_n 0, 1) := dk_42 (dk_at dksX1_widthBySettings_0 6 rfl rfl)
theorem dX1_widthBySettings_7 : decode cX1_widthBySettings 7 = .ok (.getfield 21, 3) := dk_180 0 21 (dk_at dksX1_widthBySettings_0 7 rfl rfl)
theorem dX1_widthBySettings_10 : decode cX1_widthBySettings 10 = .ok (.iload_n 1, 1) := dk_27 (dk_at dksX1_widthBySettings_0 10 rfl rfl)
theorem dX1_widthBySettings_11 : decode cX1_widthBySettings 11 = .ok (.iload_n 2, 1) := dk_28 (dk_at dksX1_widthBySettings_0 11 rfl rfl)
theorem dX1_widthBySettings_12 : decode cX1_widthBySettings 12 = .ok (.invokevirtual 245, 3) := dk_182 0 245 (dk_at dksX1_widthBySettings_0 12 rfl rfl)
theorem dX1_widthBySettings_15 : decode cX1_widthBySettings 15 = .ok (.ireturn, 1) := dk_172 (dk_at dksX1_widthBySettings_0 15 rfl rfl)
abbrev cX1_cleanest : ByteArray := prog_1_method_50_code
def yX1_cleanest : MethodName := ⟨RX1, "cleanest", "(II)I"⟩
def dkwX1_cleanest_0 : List UInt8 := [42, 27, 28, 182, 0, 218, 42, 180, 0, 21, 27, 182, 0, 249, 28, 182, 0, 253, 184, 0, 162, 172]
abbrev dktX1_cleanest_0 : List UInt8 := dkwX1_cleanest_0 ++ []
theorem dksX1_cleanest_0 : cX1_cleanest.data.toList.drop 0 = dktX1_cleanest_0 := by decide +kernel
theorem dX1_cleanest_0 : decode cX1_cleanest 0 = .ok (.aload_n 0, 1) := dk_42 (dk_at dksX1_cleanest_0 0 rfl rfl)
theorem dX1_cleanest_1 : decode cX1_cleanest 1 = .ok (.iload_n 1, 1) := dk_27 (dk_at dksX1_cleanest_0 1 rfl rfl)
theorem dX1_cleanest_2 : decode cX1_cleanest 2 = .ok (.iload_n 2, 1) := dk_28 (dk_at dksX1_cleanest_0 2 rfl rfl)
theorem dX1_cleanest_3 : decode cX1_cleanest 3 = .ok (.invokevirtual 218, 3) := dk_182 0 218 (dk_at dksX1_cleanest_0 3 rfl rfl)
theorem dX1_cleanest_6 : decode cX1_cleanest 6 = .ok (.aload_n 0, 1) := dk_42 (dk_at dksX1_cleanest_0 6 rfl rfl)
theorem dX1_cleanest_7 : decode cX1_cleanest 7 = .ok (.getfield 21, 3) := dk_180 0 21 (dk_at dksX1_cleanest_0 7 rfl rfl)
theorem dX1_cleanest_10 : decode cX1_cleanest 10 = .ok (.iload_n 1, 1) := dk_27 (dk_at dksX1_cleanest_0 10 rfl rfl)
theorem dX1_cleanest_11 : decode cX1_cleanest 11 = .ok (.invokevirtual 249, 3) := dk_182 0 249 (dk_at dksX1_cleanest_0 11 rfl rfl)
theorem dX1_cleanest_14 : decode cX1_cleanest 14 = .ok (.iload_n 2, 1) := dk_28 (dk_at dksX1_cleanest_0 14 rfl rfl)
theorem dX1_cleanest_15 : decode cX1_cleanest 15 = .ok (.invokevirtual 253, 3) := dk_182 0 253 (dk_at dksX1_cleanest_0 15 rfl rfl)
theorem dX1_cleanest_18 : decode cX1_cleanest 18 = .ok (.invokestatic 162, 3) := dk_184 0 162 (dk_at dksX1_cleanest_0 18 rfl rfl)
theorem dX1_cleanest_21 : decode cX1_cleanest 21 = .ok (.ireturn, 1) := dk_172 (dk_at dksX1_cleanest_0 21 rfl rfl)
abbrev cX1_cleanestByPasses : ByteArray := prog_1_method_51_code
def yX1_cleanestByPasses : MethodName := ⟨RX1, "cleanestByPasses", "(II)I"⟩
def dkwX1_cleanestByPasses_0 : List UInt8 := [42, 27, 28, 182, 0, 218, 42, 180, 0, 21, 27, 182, 1, 2, 28, 182, 0, 253, 184, 0, 162, 172]
abbrev dktX1_cleanestByPasses_0 : List UInt8 := dkwX1_cleanestByPasses_0 ++ []
theorem dksX1_cleanestByPasses_0 : cX1_cleanestByPasses.data.toList.drop 0 = dktX1_cleanestByPasses_0 := by decide +kernel
theorem dX1_cleanestByPasses_0 : decode cX1_cleanestByPasses 0 = .ok (.aload_n 0, 1) := dk_42 (dk_at dksX1_cleanestByPasses_0 0 rfl rfl)
theorem dX1_cleanestByPasses_1 : decode cX1_cleanestByPasses 1 = .ok (.iload_n 1, 1) := dk_27 (dk_at dksX1_cleanestByPasses_0 1 rfl rfl)
theorem dX1_cleanestByPasses_2 : decode cX1_cleanestByPasses 2 = .ok (.iload_n 2, 1) := dk_28 (dk_at dksX1_cleanestByPasses_0 2 rfl rfl)
theorem dX1_cleanestByPasses_3 : decode cX1_cleanestByPasses 3 = .ok (.invokevirtual 218, 3) := dk_182 0 218 (dk_at dksX1_cleanestByPasses_0 3 rfl rfl)
theorem dX1_cleanestByPasses_6 : decode cX1_cleanestByPasses 6 = .ok (.aload_n 0, 1) := dk_42 (dk_at dksX1_cleanestByPasses_0 6 rfl rfl)
theorem dX1_cleanestByPasses_7 : decode cX1_cleanestByPasses 7 = .ok (.getfield 21, 3) := dk_180 0 21 (dk_at dksX1_cleanestByPasses_0 7 rfl rfl)
theorem dX1_cleanestByPasses_10 : decode cX1_cleanestByPasses 10 = .ok (.iload_n 1, 1) := dk_27 (dk_at dksX1_cleanestByPasses_0 10 rfl rfl)
theorem dX1_cleanestByPasses_11 : decode cX1_cleanestByPasses 11 = .ok (.invokevirtual 258, 3) := dk_182 1 2 (dk_at dksX1_cleanestByPasses_0 11 rfl rfl)
theorem dX1_cleanestByPasses_14 : decode cX1_cleanestByPasses 14 = .ok (.iload_n 2, 1) := dk_28 (dk_at dksX1_cleanestByPasses_0 14 rfl rfl)
theorem dX1_cleanestByPasses_15 : decode cX1_cleanestByPasses 15 = .ok (.invokevirtual 253, 3) := dk_182 0 253 (dk_at dksX1_cleanestByPasses_0 15 rfl rfl)
theorem dX1_cleanestByPasses_18 : decode cX1_cleanestByPasses 18 = .ok (.invokestatic 162, 3) := dk_184 0 162 (dk_at dksX1_cleanestByPasses_0 18 rfl rfl)
theorem dX1_cleanestByPasses_21 : decode cX1_cleanestByPasses 21 = .ok (.ireturn, 1) := dk_172 (dk_at dksX1_cleanestByPasses_0 21 rfl rfl)
abbrev cX1_minutesUntilStill : ByteArray := prog_1_method_52_code
def yX1_minutesUntilStill : MethodName := ⟨RX1, "minutesUntilStill", "()I"⟩
def dkwX1_minutesUntilStill_1 : List UInt8 := [27, 172]
abbrev dktX1_minutesUntilStill_1 : List UInt8 := dkwX1_minutesUntilStill_1 ++ []
def dkwX1_minutesUntilStill_0 : List UInt8 := [42, 180, 0, 21, 182, 0, 64, 182, 1, 5, 60, 27, 2, 159, 0, 7, 4, 167, 0, 4, 3, 184, 1, 8]
abbrev dktX1_minutesUntilStill_0 : List UInt8 := dkwX1_minutesUntilStill_0 ++ dktX1_minutesUntilStill_1
theorem dksX1_minutesUntilStill_0 : cX1_minutesUntilStill.data.toList.drop 0 = dktX1_minutesUntilStill_0 := by decide +kernel
theorem dksX1_minutesUntilStill_1 : cX1_minutesUntilStill.data.toList.drop 24 = dktX1_minutesUntilStill_1 := dk_seg dksX1_minutesUntilStill_0 24 rfl rfl
theorem dX1_minutesUntilStill_0 : decode cX1_minutesUntilStill 0 = .ok (.aload_n 0, 1) := dk_42 (dk_at dksX1_minutesUntilStill_0 0 rfl rfl)
theorem dX1_minutesUntilStill_1 : decode cX1_minutesUntilStill 1 = .ok (.getfield 21, 3) := dk_180 0 21 (dk_at dksX1_minutesUntilStill_0 1 rfl rfl)
theorem dX1_minutesUntilStill_4 : decode cX1_minutesUntilStill 4 = .ok (.invokevirtual 64, 3) := dk_182 0 64 (dk_at dksX1_minutesUntilStill_0 4 rfl rfl)
theorem dX1_minutesUntilStill_7 : decode cX1_minutesUntilStill 7 = .ok (.invokevirtual 261, 3) := dk_182 1 5 (dk_at dksX1_minutesUntilStill_0 7 rfl rfl)
theorem dX1_minutesUntilStill_10 : decode cX1_minutesUntilStill 10 = .ok (.istore_n 1, 1) := dk_60 (dk_at dksX1_minutesUntilStill_0 10 rfl rfl)
theorem dX1_minutesUntilStill_11 : decode cX1_minutesUntilStill 11 = .ok (.iload_n 1, 1) := dk_27 (dk_at dksX1_minutesUntilStill_0 11 rfl rfl)
theorem dX1_minutesUntilStill_12 : decode cX1_minutesUntilStill 12 = .ok (.iconst (-1), 1) := dk_2 (dk_at dksX1_minutesUntilStill_0 12 rfl rfl)
theorem dX1_minutesUntilStill_13 : decode cX1_minutesUntilStill 13 = .ok (.if_icmp .eq 7, 3) := dk_159 0 7 (dk_at dksX1_minutesUntilStill_0 13 rfl rfl)
theorem dX1_minutesUntilStill_16 : decode cX1_minutesUntilStill 16 = .ok (.iconst 1, 1) := dk_4 (dk_at dksX1_minutesUntilStill_0 16 rfl rfl)
theorem dX1_minutesUntilStill_17 : decode cX1_minutesUntilStill 17 = .ok (.goto 4, 3) := dk_167 0 4 (dk_at dksX1_minutesUntilStill_0 17 rfl rfl)
theorem dX1_minutesUntilStill_20 : decode cX1_minutesUntilStill 20 = .ok (.iconst 0, 1) := dk_3 (dk_at dksX1_minutesUntilStill_0 20 rfl rfl)
theorem dX1_minutesUntilStill_21 : decode cX1_minutesUntilStill 21 = .ok (.invokestatic 264, 3) := dk_184 1 8 (dk_at dksX1_minutesUntilStill_0 21 rfl rfl)
theorem dX1_minutesUntilStill_24 : decode cX1_minutesUntilStill 24 = .ok (.iload_n 1, 1) := dk_27 (dk_at dksX1_minutesUntilStill_1 0 rfl rfl)
theorem dX1_minutesUntilStill_25 : decode cX1_minutesUntilStill 25 = .ok (.ireturn, 1) := dk_172 (dk_at dksX1_minutesUntilStill_1 1 rfl rfl)
abbrev cX1_checkState : ByteArray := prog_1_method_18_code
def yX1_checkState : MethodName := ⟨RX1, "checkState", "(Z)V"⟩
def dkwX1_checkState_0 : List UInt8 := [26, 154, 0, 11, 187, 0, 116, 89, 183, 0, 118, 191, 177]
abbrev dktX1_checkState_0 : List UInt8 := dkwX1_checkState_0 ++ []
theorem dksX1_checkState_0 : cX1_checkState.data.toList.drop 0 = dktX1_checkState_0 := by decide +kernel
theorem dX1_checkState_0 : decode cX1_checkState 0 = .ok (.iload_n 0, 1) := dk_26 (dk_at dksX1_checkState_0 0 rfl rfl)
theorem dX1_checkState_1 : decode cX1_checkState 1 = .ok (.ifCond .ne 11, 3) := dk_154 0 11 (dk_at dksX1_checkState_0 1 rfl rfl)
theorem dX1_checkState_4 : decode cX1_checkState 4 = .ok (.new 116, 3) := dk_187 0 116 (dk_at dksX1_checkState_0 4 rfl rfl)
theorem dX1_checkState_7 : decode cX1_checkState 7 = .ok (.dup, 1) := dk_89 (dk_at dksX1_checkState_0 7 rfl rfl)
theorem dX1_checkState_8 : decode cX1_checkState 8 = .ok (.invokespecial 118, 3) := dk_183 0 118 (dk_at dksX1_checkState_0 8 rfl rfl)
theorem dX1_checkState_11 : decode cX1_checkState 11 = .ok (.athrow, 1) := dk_191 (dk_at dksX1_checkState_0 11 rfl rfl)
theorem dX1_checkState_12 : decode cX1_checkState 12 = .ok (.return_, 1) := dk_177 (dk_at dksX1_checkState_0 12 rfl rfl)
abbrev cX1_meanContent : ByteArray := prog_1_method_59_code
def yX1_meanContent : MethodName := ⟨RX1, "meanContent", "()D"⟩
def dkwX1_meanContent_1 : List UInt8 := [182, 1, 29, 135, 111, 175]
abbrev dktX1_meanContent_1 : List UInt8 := dkwX1_meanContent_1 ++ []
def dkwX1_meanContent_0 : List UInt8 := [42, 182, 1, 29, 154, 0, 11, 187, 1, 32, 89, 183, 1, 34, 191, 42, 180, 0, 21, 182, 1, 23, 135, 42]
abbrev dktX1_meanContent_0 : List UInt8 := dkwX1_meanContent_0 ++ dktX1_meanContent_1
theorem dksX1_meanContent_0 : cX1_meanContent.data.toList.drop 0 = dktX1_meanContent_0 := by decide +kernel
theorem dksX1_meanContent_1 : cX1_meanContent.data.toList.drop 24 = dktX1_meanContent_1 := dk_seg dksX1_meanContent_0 24 rfl rfl
theorem dX1_meanContent_0 : decode cX1_meanContent 0 = .ok (.aload_n 0, 1) := dk_42 (dk_at dksX1_meanContent_0 0 rfl rfl)
theorem dX1_meanContent_1 : decode cX1_meanContent 1 = .ok (.invokevirtual 285, 3) := dk_182 1 29 (dk_at dksX1_meanContent_0 1 rfl rfl)
theorem dX1_meanContent_4 : decode cX1_meanContent 4 = .ok (.ifCond .ne 11, 3) := dk_154 0 11 (dk_at dksX1_meanContent_0 4 rfl rfl)
theorem dX1_meanContent_7 : decode cX1_meanContent 7 = .ok (.new 288, 3) := dk_187 1 32 (dk_at dksX1_meanContent_0 7 rfl rfl)
theorem dX1_meanContent_10 : decode cX1_meanContent 10 = .ok (.dup, 1) := dk_89 (dk_at dksX1_meanContent_0 10 rfl rfl)
theorem dX1_meanContent_11 : decode cX1_meanContent 11 = .ok (.invokespecial 290, 3) := dk_183 1 34 (dk_at dksX1_meanContent_0 11 rfl rfl)
theorem dX1_meanContent_14 : decode cX1_meanContent 14 = .ok (.athrow, 1) := dk_191 (dk_at dksX1_meanContent_0 14 rfl rfl)
theorem dX1_meanContent_15 : decode cX1_meanContent 15 = .ok (.aload_n 0, 1) := dk_42 (dk_at dksX1_meanContent_0 15 rfl rfl)
theorem dX1_meanContent_16 : decode cX1_meanContent 16 = .ok (.getfield 21, 3) := dk_180 0 21 (dk_at dksX1_meanContent_0 16 rfl rfl)
theorem dX1_meanContent_19 : decode cX1_meanContent 19 = .ok (.invokevirtual 279, 3) := dk_182 1 23 (dk_at dksX1_meanContent_0 19 rfl rfl)
theorem dX1_meanContent_22 : decode cX1_meanContent 22 = .ok (.i2d, 1) := dk_135 (dk_at dksX1_meanContent_0 22 rfl rfl)
theorem dX1_meanContent_23 : decode cX1_meanContent 23 = .ok (.aload_n 0, 1) := dk_42 (dk_at dksX1_meanContent_0 23 rfl rfl)
theorem dX1_meanContent_24 : decode cX1_meanContent 24 = .ok (.invokevirtual 285, 3) := dk_182 1 29 (dk_at dksX1_meanContent_1 0 rfl rfl)
theorem dX1_meanContent_27 : decode cX1_meanContent 27 = .ok (.i2d, 1) := dk_135 (dk_at dksX1_meanContent_1 3 rfl rfl)
theorem dX1_meanContent_28 : decode cX1_meanContent 28 = .ok (.ddiv, 1) := dk_111 (dk_at dksX1_meanContent_1 4 rfl rfl)
theorem dX1_meanContent_29 : decode cX1_meanContent 29 = .ok (.dreturn, 1) := dk_175 (dk_at dksX1_meanContent_1 5 rfl rfl)
abbrev cX1_meanContentBits : ByteArray := prog_1_method_60_code
def yX1_meanContentBits : MethodName := ⟨RX1, "meanContentBits", "()J"⟩
def dkwX1_meanContentBits_0 : List UInt8 := [42, 182, 1, 35, 184, 1, 39, 173]
abbrev dktX1_meanContentBits_0 : List UInt8 := dkwX1_meanContentBits_0 ++ []
theorem dksX1_meanContentBits_0 : cX1_meanContentBits.data.toList.drop 0 = dktX1_meanContentBits_0 := by decide +kernel
theorem dX1_meanContentBits_0 : decode cX1_meanContentBits 0 = .ok (.aload_n 0, 1) := dk_42 (dk_at dksX1_meanContentBits_0 0 rfl rfl)
theorem dX1_meanContentBits_1 : decode cX1_meanContentBits 1 = .ok (.invokevirtual 291, 3) := dk_182 1 35 (dk_at dksX1_meanContentBits_0 1 rfl rfl)
theorem dX1_meanContentBits_4 : decode cX1_meanContentBits 4 = .ok (.invokestatic 295, 3) := dk_184 1 39 (dk_at dksX1_meanContentBits_0 4 rfl rfl)
theorem dX1_meanContentBits_7 : decode cX1_meanContentBits 7 = .ok (.lreturn, 1) := dk_173 (dk_at dksX1_meanContentBits_0 7 rfl rfl)
abbrev cX1_renderTank : ByteArray := prog_1_method_64_code
def yX1_renderTank : MethodName := ⟨RX1, "renderTank", "(I)I"⟩
def dkwX1_renderTank_1 : List UInt8 := [182, 1, 66, 182, 1, 63, 182, 1, 70, 182, 1, 71, 172]
abbrev dktX1_renderTank_1 : List UInt8 := dkwX1_renderTank_1 ++ []
def dkwX1_renderTank_0 : List UInt8 := [42, 187, 0, 32, 89, 183, 0, 34, 27, 182, 1, 57, 19, 1, 61, 182, 1, 63, 42, 27, 182, 0, 143]
abbrev dktX1_renderTank_0 : List UInt8 := dkwX1_renderTank_0 ++ dktX1_renderTank_1
theorem dksX1_renderTank_0 : cX1_renderTank.data.toList.drop 0 = dktX1_renderTank_0 := by decide +kernel
theorem dksX1_renderTank_1 : cX1_renderTank.data.toList.drop 23 = dktX1_renderTank_1 := dk_seg dksX1_renderTank_0 23 rfl rfl
theorem dX1_renderTank_0 : decode cX1_renderTank 0 = .ok (.aload_n 0, 1) := dk_42 (dk_at dksX1_renderTank_0 0 rfl rfl)
theorem dX1_renderTank_1 : decode cX1_renderTank 1 = .ok (.new 32, 3) := dk_187 0 32 (dk_at dksX1_renderTank_0 1 rfl rfl)
theorem dX1_renderTank_4 : decode cX1_renderTank 4 = .ok (.dup, 1) := dk_89 (dk_at dksX1_renderTank_0 4 rfl rfl)
theorem dX1_renderTank_5 : decode cX1_renderTank 5 = .ok (.invokespecial 34, 3) := dk_183 0 34 (dk_at dksX1_renderTank_0 5 rfl rfl)
theorem dX1_renderTank_8 : decode cX1_renderTank 8 = .ok (.iload_n 1, 1) := dk_27 (dk_at dksX1_renderTank_0 8 rfl rfl)
theorem dX1_renderTank_9 : decode cX1_renderTank 9 = .ok (.invokevirtual 313, 3) := dk_182 1 57 (dk_at dksX1_renderTank_0 9 rfl rfl)
theorem dX1_renderTank_12 : decode cX1_renderTank 12 = .ok (.ldc_w 317, 3) := dk_19 1 61 (dk_at dksX1_renderTank_0 12 rfl rfl)
theorem dX1_renderTank_15 : decode cX1_renderTank 15 = .ok (.invokevirtual 319, 3) := dk_182 1 63 (dk_at dksX1_renderTank_0 15 rfl rfl)
theorem dX1_renderTank_18 : decode cX1_renderTank 18 = .ok (.aload_n 0, 1) := dk_42 (dk_at dksX1_renderTank_0 18 rfl rfl)
theorem dX1_renderTank_19 : decode cX1_renderTank 19 = .ok (.iload_n 1, 1) := dk_27 (dk_at dksX1_renderTank_0 19 rfl rfl)
theorem dX1_renderTank_20 : decode cX1_renderTank 20 = .ok (.invokevirtual 143, 3) := dk_182 0 143 (dk_at dksX1_renderTank_0 20 rfl rfl)
theorem dX1_renderTank_23 : decode cX1_renderTank 23 = .ok (.invokevirtual 322, 3) := dk_182 1 66 (dk_at dksX1_renderTank_1 0 rfl rfl)
theorem dX1_renderTank_26 : decode cX1_renderTank 26 = .ok (.invokevirtual 319, 3) := dk_182 1 63 (dk_at dksX1_renderTank_1 3 rfl rfl)
theorem dX1_renderTank_29 : decode cX1_renderTank 29 = .ok (.invokevirtual 326, 3) := dk_182 1 70 (dk_at dksX1_renderTank_1 6 rfl rfl)
theorem dX1_renderTank_32 : decode cX1_renderTank 32 = .ok (.invokevirtual 327, 3) := dk_182 1 71 (dk_at dksX1_renderTank_1 9 rfl rfl)
theorem dX1_renderTank_35 : decode cX1_renderTank 35 = .ok (.ireturn, 1) := dk_172 (dk_at dksX1_renderTank_1 12 rfl rfl)
abbrev cX1_write : ByteArray := prog_1_method_63_code
def yX1_write : MethodName := ⟨RX1, "write", "(Ljava/lang/String;)I"⟩
def dkwX1_write_0 : List UInt8 := [42, 43, 181, 0, 48, 42, 180, 0, 48, 182, 1, 52, 172]
abbrev dktX1_write_0 : List UInt8 := dkwX1_write_0 ++ []
theorem dksX1_write_0 : cX1_write.data.toList.drop 0 = dktX1_write_0 := by decide +kernel
theorem dX1_write_0 : decode cX1_write 0 = .ok (.aload_n 0, 1) := dk_42 (dk_at dksX1_write_0 0 rfl rfl)
theorem dX1_write_1 : decode cX1_write 1 = .ok (.aload_n 1, 1) := dk_43 (dk_at dksX1_write_0 1 rfl rfl)
theorem dX1_write_2 : decode cX1_write 2 = .ok (.putfield 48, 3) := dk_181 0 48 (dk_at dksX1_write_0 2 rfl rfl)
theorem dX1_write_5 : decode cX1_write 5 = .ok (.aload_n 0, 1) := dk_42 (dk_at dksX1_write_0 5 rfl rfl)
theorem dX1_write_6 : decode cX1_write 6 = .ok (.getfield 48, 3) := dk_180 0 48 (dk_at dksX1_write_0 6 rfl rfl)
theorem dX1_write_9 : decode cX1_write 9 = .ok (.invokevirtual 308, 3) := dk_182 1 52 (dk_at dksX1_write_0 9 rfl rfl)
theorem dX1_write_12 : decode cX1_write 12 = .ok (.ireturn, 1) := dk_172 (dk_at dksX1_write_0 12 rfl rfl)
abbrev cX1_renderPipe : ByteArray := prog_1_method_65_code
def yX1_renderPipe : MethodName := ⟨RX1, "renderPipe", "(I)I"⟩
def dkwX1_renderPipe_2 : List UInt8 := [18, 46, 182, 1, 63, 182, 1, 70, 182, 1, 71, 172]
abbrev dktX1_renderPipe_2 : List UInt8 := dkwX1_renderPipe_2 ++ []
def dkwX1_renderPipe_1 : List UInt8 := [44, 182, 1, 77, 182, 1, 63, 42, 180, 0, 21, 27, 182, 0, 232, 153, 0, 9, 19, 1, 78, 167, 0, 5]
abbrev dktX1_renderPipe_1 : List UInt8 := dkwX1_renderPipe_1 ++ dktX1_renderPipe_2
def dkwX1_renderPipe_0 : List UInt8 := [42, 27, 182, 0, 183, 77, 42, 187, 0, 32, 89, 183, 0, 34, 27, 182, 1, 57, 19, 1, 75, 182, 1, 63]
abbrev dktX1_renderPipe_0 : List UInt8 := dkwX1_renderPipe_0 ++ dktX1_renderPipe_1
theorem dksX1_renderPipe_0 : cX1_renderPipe.data.toList.drop 0 = dktX1_renderPipe_0 := by decide +kernel
theorem dksX1_renderPipe_1 : cX1_renderPipe.data.toList.drop 24 = dktX1_renderPipe_1 := dk_seg dksX1_renderPipe_0 24 rfl rfl
theorem dksX1_renderPipe_2 : cX1_renderPipe.data.toList.drop 48 = dktX1_renderPipe_2 := dk_seg dksX1_renderPipe_1 24 rfl rfl
theorem dX1_renderPipe_0 : decode cX1_renderPipe 0 = .ok (.aload_n 0, 1) := dk_42 (dk_at dksX1_renderPipe_0 0 rfl rfl)
theorem dX1_renderPipe_1 : decode cX1_renderPipe 1 = .ok (.iload_n 1, 1) := dk_27 (dk_at dksX1_renderPipe_0 1 rfl rfl)
theorem dX1_renderPipe_2 : decode cX1_renderPipe 2 = .ok (.invokevirtual 183, 3) := dk_182 0 183 (dk_at dksX1_renderPipe_0 2 rfl rfl)
theorem dX1_renderPipe_5 : decode cX1_renderPipe 5 = .ok (.astore_n 2, 1) := dk_77 (dk_at dksX1_renderPipe_0 5 rfl rfl)
theorem dX1_renderPipe_6 : decode cX1_renderPipe 6 = .ok (.aload_n 0, 1) := dk_42 (dk_at dksX1_renderPipe_0 6 rfl rfl)
theorem dX1_renderPipe_7 : decode cX1_renderPipe 7 = .ok (.new 32, 3) := dk_187 0 32 (dk_at dksX1_renderPipe_0 7 rfl rfl)
theorem dX1_renderPipe_10 : decode cX1_renderPipe 10 = .ok (.dup, 1) := dk_89 (dk_at dksX1_renderPipe_0 10 rfl rfl)
theorem dX1_renderPipe_11 : decode cX1_renderPipe 11 = .ok (.invokespecial 34, 3) := dk_183 0 34 (dk_at dksX1_renderPipe_0 11 rfl rfl)
theorem dX1_renderPipe_14 : decode cX1_renderPipe 14 = .ok (.iload_n 1, 1) := dk_27 (dk_at dksX1_renderPipe_0 14 rfl rfl)
theorem dX1_renderPipe_15 : decode cX1_renderPipe 15 = .ok (.invokevirtual 313, 3) := dk_182 1 57 (dk_at dksX1_renderPipe_0 15 rfl rfl)
theorem dX1_renderPipe_18 : decode cX1_renderPipe 18 = .ok (.ldc_w 331, 3) := dk_19 1 75 (dk_at dksX1_renderPipe_0 18 rfl rfl)
theorem dX1_renderPipe_21 : decode cX1_renderPipe 21 = .ok (.invokevirtual 319, 3) := dk_182 1 63 (dk_at dksX1_renderPipe_0 21 rfl rfl)
theorem dX1_renderPipe_24 : decode cX1_renderPipe 24 = .ok (.aload_n 2, 1) := dk_44 (dk_at dksX1_renderPipe_1 0 rfl rfl)
theorem dX1_renderPipe_25 : decode cX1_renderPipe 25 = .ok (.invokevirtual 333, 3) := dk_182 1 77 (dk_at dksX1_renderPipe_1 1 rfl rfl)
theorem dX1_renderPipe_28 : decode cX1_renderPipe 28 = .ok (.invokevirtual 319, 3) := dk_182 1 63 (dk_at dksX1_renderPipe_1 4 rfl rfl)
theorem dX1_renderPipe_31 : decode cX1_renderPipe 31 = .ok (.aload_n 0, 1) := dk_42 (dk_at dksX1_renderPipe_1 7 rfl rfl)
theorem dX1_renderPipe_32 : decode cX1_renderPipe 32 = .ok (.getfield 21, 3) := dk_180 0 21 (dk_at dksX1_renderPipe_1 8 rfl rfl)
theorem dX1_renderPipe_35 : decode cX1_renderPipe 35 = .ok (.iload_n 1, 1) := dk_27 (dk_at dksX1_renderPipe_1 11 rfl rfl)
theorem dX1_renderPipe_36 : decode cX1_renderPipe 36 = .ok (.invokevirtual 232, 3) := dk_182 0 232 (dk_at dksX1_renderPipe_1 12 rfl rfl)
theorem dX1_renderPipe_39 : decode cX1_renderPipe 39 = .ok (.ifCond .eq 9, 3) := dk_153 0 9 (dk_at dksX1_renderPipe_1 15 rfl rfl)
theorem dX1_renderPipe_42 : decode cX1_renderPipe 42 = .ok (.ldc_w 334, 3) := dk_19 1 78 (dk_at dksX1_renderPipe_1 18 rfl rfl)
theorem dX1_renderPipe_45 : decode cX1_renderPipe 45 = .ok (.goto 5, 3) := dk_167 0 5 (dk_at dksX1_renderPipe_1 21 rfl rfl)
theorem dX1_renderPipe_48 : decode cX1_renderPipe 48 = .ok (.ldc 46, 2) := dk_18 46 (dk_at dksX1_renderPipe_2 0 rfl rfl)
theorem dX1_renderPipe_50 : decode cX1_renderPipe 50 = .ok (.invokevirtual 319, 3) := dk_182 1 63 (dk_at dksX1_renderPipe_2 2 rfl rfl)
theorem dX1_renderPipe_53 : decode cX1_renderPipe 53 = .ok (.invokevirtual 326, 3) := dk_182 1 70 (dk_at dksX1_renderPipe_2 5 rfl rfl)
theorem dX1_renderPipe_56 : decode cX1_renderPipe 56 = .ok (.invokevirtual 327, 3) := dk_182 1 71 (dk_at dksX1_renderPipe_2 8 rfl rfl)
theorem dX1_renderPipe_59 : decode cX1_renderPipe 59 = .ok (.ireturn, 1) := dk_172 (dk_at dksX1_renderPipe_2 11 rfl rfl)
abbrev cX1_outputAt : ByteArray := prog_1_method_66_code
def yX1_outputAt : MethodName := ⟨RX1, "outputAt", "(I)C"⟩
def dkwX1_outputAt_1 : List UInt8 := [182, 1, 80, 172]
abbrev dktX1_outputAt_1 : List UInt8 := dkwX1_outputAt_1 ++ []
def dkwX1_outputAt_0 : List UInt8 := [27, 3, 42, 180, 0, 48, 182, 1, 52, 4, 100, 184, 0, 9, 184, 0, 127, 42, 180, 0, 48, 27]
abbrev dktX1_outputAt_0 : List UInt8 := dkwX1_outputAt_0 ++ dktX1_outputAt_1
theorem dksX1_outputAt_0 : cX1_outputAt.data.toList.drop 0 = dktX1_outputAt_0 := by decide +kernel
theorem dksX1_outputAt_1 : cX1_outputAt.data.toList.drop 22 = dktX1_outputAt_1 := dk_seg dksX1_outputAt_0 22 rfl rfl
theorem dX1_outputAt_0 : decode cX1_outputAt 0 = .ok (.iload_n 1, 1) := dk_27 (dk_at dksX1_outputAt_0 0 rfl rfl)
theorem dX1_outputAt_1 : decode cX1_outputAt 1 = .ok (.iconst 0, 1) := dk_3 (dk_at dksX1_outputAt_0 1 rfl rfl)
theorem dX1_outputAt_2 : decode cX1_outputAt 2 = .ok (.aload_n 0, 1) := dk_42 (dk_at dksX1_outputAt_0 2 rfl rfl)
theorem dX1_outputAt_3 : decode cX1_outputAt 3 = .ok (.getfield 48, 3) := dk_180 0 48 (dk_at dksX1_outputAt_0 3 rfl rfl)
theorem dX1_outputAt_6 : decode cX1_outputAt 6 = .ok (.invokevirtual 308, 3) := dk_182 1 52 (dk_at dksX1_outputAt_0 6 rfl rfl)
theorem dX1_outputAt_9 : decode cX1_outputAt 9 = .ok (.iconst 1, 1) := dk_4 (dk_at dksX1_outputAt_0 9 rfl rfl)
theorem dX1_outputAt_10 : decode cX1_outputAt 10 = .ok (.isub, 1) := dk_100 (dk_at dksX1_outputAt_0 10 rfl rfl)
theorem dX1_outputAt_11 : decode cX1_outputAt 11 = .ok (.invokestatic 9, 3) := dk_184 0 9 (dk_at dksX1_outputAt_0 11 rfl rfl)
theorem dX1_outputAt_14 : decode cX1_outputAt 14 = .ok (.invokestatic 127, 3) := dk_184 0 127 (dk_at dksX1_outputAt_0 14 rfl rfl)
theorem dX1_outputAt_17 : decode cX1_outputAt 17 = .ok (.aload_n 0, 1) := dk_42 (dk_at dksX1_outputAt_0 17 rfl rfl)
theorem dX1_outputAt_18 : decode cX1_outputAt 18 = .ok (.getfield 48, 3) := dk_180 0 48 (dk_at dksX1_outputAt_0 18 rfl rfl)
theorem dX1_outputAt_21 : decode cX1_outputAt 21 = .ok (.iload_n 1, 1) := dk_27 (dk_at dksX1_outputAt_0 21 rfl rfl)
theorem dX1_outputAt_22 : decode cX1_outputAt 22 = .ok (.invokevirtual 336, 3) := dk_182 1 80 (dk_at dksX1_outputAt_1 0 rfl rfl)
theorem dX1_outputAt_25 : decode cX1_outputAt 25 = .ok (.ireturn, 1) := dk_172 (dk_at dksX1_outputAt_1 3 rfl rfl)
abbrev cX1_type : ByteArray := prog_1_method_67_code
def yX1_type : MethodName := ⟨RX1, "type", "(C)I"⟩
def dkwX1_type_1 : List UInt8 := [167, 0, 4, 3, 184, 1, 8, 42, 180, 0, 35, 27, 182, 1, 85, 87, 42, 180, 0, 35, 182, 1, 84, 172]
abbrev dktX1_type_1 : List UInt8 := dkwX1_type_1 ++ []
def dkwX1_type_0 : List UInt8 := [27, 16, 32, 16, 126, 184, 0, 9, 184, 0, 156, 42, 180, 0, 35, 182, 1, 84, 16, 60, 162, 0, 7, 4]
abbrev dktX1_type_0 : List UInt8 := dkwX1_type_0 ++ dktX1_type_1
theorem dksX1_type_0 : cX1_type.data.toList.drop 0 = dktX1_type_0 := by decide +kernel
theorem dksX1_type_1 : cX1_type.data.toList.drop 24 = dktX1_type_1 := dk_seg dksX1_type_0 24 rfl rfl
theorem dX1_type_0 : decode cX1_type 0 = .ok (.iload_n 1, 1) := dk_27 (dk_at dksX1_type_0 0 rfl rfl)
theorem dX1_type_1 : decode cX1_type 1 = .ok (.bipush 32, 2) := dk_16 32 (dk_at dksX1_type_0 1 rfl rfl)
theorem dX1_type_3 : decode cX1_type 3 = .ok (.bipush 126, 2) := dk_16 126 (dk_at dksX1_type_0 3 rfl rfl)
theorem dX1_type_5 : decode cX1_type 5 = .ok (.invokestatic 9, 3) := dk_184 0 9 (dk_at dksX1_type_0 5 rfl rfl)
theorem dX1_type_8 : decode cX1_type 8 = .ok (.invokestatic 156, 3) := dk_184 0 156 (dk_at dksX1_type_0 8 rfl rfl)
theorem dX1_type_11 : decode cX1_type 11 = .ok (.aload_n 0, 1) := dk_42 (dk_at dksX1_type_0 11 rfl rfl)
theorem dX1_type_12 : decode cX1_type 12 = .ok (.getfield 35, 3) := dk_180 0 35 (dk_at dksX1_type_0 12 rfl rfl)
theorem dX1_type_15 : decode cX1_type 15 = .ok (.invokevirtual 340, 3) := dk_182 1 84 (dk_at dksX1_type_0 15 rfl rfl)
theorem dX1_type_18 : decode cX1_type 18 = .ok (.bipush 60, 2) := dk_16 60 (dk_at dksX1_type_0 18 rfl rfl)
theorem dX1_type_20 : decode cX1_type 20 = .ok (.if_icmp .ge 7, 3) := dk_162 0 7 (dk_at dksX1_type_0 20 rfl rfl)
theorem dX1_type_23 : decode cX1_type 23 = .ok (.iconst 1, 1) := dk_4 (dk_at dksX1_type_0 23 rfl rfl)
theorem dX1_type_24 : decode cX1_type 24 = .ok (.goto 4, 3) := dk_167 0 4 (dk_at dksX1_type_1 0 rfl rfl)
theorem dX1_type_27 : decode cX1_type 27 = .ok (.iconst 0, 1) := dk_3 (dk_at dksX1_type_1 3 rfl rfl)
theorem dX1_type_28 : decode cX1_type 28 = .ok (.invokestatic 264, 3) := dk_184 1 8 (dk_at dksX1_type_1 4 rfl rfl)
theorem dX1_type_31 : decode cX1_type 31 = .ok (.aload_n 0, 1) := dk_42 (dk_at dksX1_type_1 7 rfl rfl)
theorem dX1_type_32 : decode cX1_type 32 = .ok (.getfield 35, 3) := dk_180 0 35 (dk_at dksX1_type_1 8 rfl rfl)
theorem dX1_type_35 : decode cX1_type 35 = .ok (.iload_n 1, 1) := dk_27 (dk_at dksX1_type_1 11 rfl rfl)
theorem dX1_type_36 : decode cX1_type 36 = .ok (.invokevirtual 341, 3) := dk_182 1 85 (dk_at dksX1_type_1 12 rfl rfl)
theorem dX1_type_39 : decode cX1_type 39 = .ok (.pop, 1) := dk_87 (dk_at dksX1_type_1 15 rfl rfl)
theorem dX1_type_40 : decode cX1_type 40 = .ok (.aload_n 0, 1) := dk_42 (dk_at dksX1_type_1 16 rfl rfl)
theorem dX1_type_41 : decode cX1_type 41 = .ok (.getfield 35, 3) := dk_180 0 35 (dk_at dksX1_type_1 17 rfl rfl)
theorem dX1_type_44 : decode cX1_type 44 = .ok (.invokevirtual 340, 3) := dk_182 1 84 (dk_at dksX1_type_1 20 rfl rfl)
theorem dX1_type_47 : decode cX1_type 47 = .ok (.ireturn, 1) := dk_172 (dk_at dksX1_type_1 23 rfl rfl)
abbrev cX1_runScript : ByteArray := prog_1_method_69_code
def yX1_runScript : MethodName := ⟨RX1, "runScript", "()I"⟩
def dkwX1_runScript_2 : List UInt8 := [77, 42, 44, 182, 1, 114, 181, 0, 43, 44, 182, 1, 117, 191]
abbrev dktX1_runScript_2 : List UInt8 := dkwX1_runScript_2 ++ []
def dkwX1_runScript_1 : List UInt8 := [183, 1, 99, 182, 1, 100, 182, 1, 104, 172, 77, 42, 44, 182, 1, 110, 181, 0, 39, 44, 182, 1, 113, 191]
abbrev dktX1_runScript_1 : List UInt8 := dkwX1_runScript_1 ++ dktX1_runScript_2
def dkwX1_runScript_0 : List UInt8 := [42, 180, 0, 35, 182, 1, 70, 76, 42, 180, 0, 35, 3, 182, 1, 93, 42, 187, 1, 97, 89, 43]
abbrev dktX1_runScript_0 : List UInt8 := dkwX1_runScript_0 ++ dktX1_runScript_1
theorem dksX1_runScript_0 : cX1_runScript.data.toList.drop 0 = dktX1_runScript_0 := by decide +kernel
theorem dksX1_runScript_1 : cX1_runScript.data.toList.drop 22 = dktX1_runScript_1 := dk_seg dksX1_runScript_0 22 rfl rfl
theorem dksX1_runScript_2 : cX1_runScript.data.toList.drop 46 = dktX1_runScript_2 := dk_seg dksX1_runScript_1 24 rfl rfl
theorem dX1_runScript_0 : decode cX1_runScript 0 = .ok (.aload_n 0, 1) := dk_42 (dk_at dksX1_runScript_0 0 rfl rfl)
theorem dX1_runScript_1 : decode cX1_runScript 1 = .ok (.getfield 35, 3) := dk_180 0 35 (dk_at dksX1_runScript_0 1 rfl rfl)
theorem dX1_runScript_4 : decode cX1_runScript 4 = .ok (.invokevirtual 326, 3) := dk_182 1 70 (dk_at dksX1_runScript_0 4 rfl rfl)
theorem dX1_runScript_7 : decode cX1_runScript 7 = .ok (.astore_n 1, 1) := dk_76 (dk_at dksX1_runScript_0 7 rfl rfl)
theorem dX1_runScript_8 : decode cX1_runScript 8 = .ok (.aload_n 0, 1) := dk_42 (dk_at dksX1_runScript_0 8 rfl rfl)
theorem dX1_runScript_9 : decode cX1_runScript 9 = .ok (.getfield 35, 3) := dk_180 0 35 (dk_at dksX1_runScript_0 9 rfl rfl)
theorem dX1_runScript_12 : decode cX1_runScript 12 = .ok (.iconst 0, 1) := dk_3 (dk_at dksX1_runScript_0 12 rfl rfl)
theorem dX1_runScript_13 : decode cX1_runScript 13 = .ok (.invokevirtual 349, 3) := dk_182 1 93 (dk_at dksX1_runScript_0 13 rfl rfl)
theorem dX1_runScript_16 : decode cX1_runScript 16 = .ok (.aload_n 0, 1) := dk_42 (dk_at dksX1_runScript_0 16 rfl rfl)
theorem dX1_runScript_17 : decode cX1_runScript 17 = .ok (.new 353, 3) := dk_187 1 97 (dk_at dksX1_runScript_0 17 rfl rfl)
theorem dX1_runScript_20 : decode cX1_runScript 20 = .ok (.dup, 1) := dk_89 (dk_at dksX1_runScript_0 20 rfl rfl)
theorem dX1_runScript_21 : decode cX1_runScript 21 = .ok (.aload_n 1, 1) := dk_43 (dk_at dksX1_runScript_0 21 rfl rfl)
theorem dX1_runScript_22 : decode cX1_runScript 22 = .ok (.invokespecial 355, 3) := dk_183 1 99 (dk_at dksX1_runScript_1 0 rfl rfl)
theorem dX1_runScript_25 : decode cX1_runScript 25 = .ok (.invokevirtual 356, 3) := dk_182 1 100 (dk_at dksX1_runScript_1 3 rfl rfl)
theorem dX1_runScript_28 : decode cX1_runScript 28 = .ok (.invokevirtual 360, 3) := dk_182 1 104 (dk_at dksX1_runScript_1 6 rfl rfl)
theorem dX1_runScript_31 : decode cX1_runScript 31 = .ok (.ireturn, 1) := dk_172 (dk_at dksX1_runScript_1 9 rfl rfl)
theorem dX1_runScript_32 : decode cX1_runScript 32 = .ok (.astore_n 2, 1) := dk_77 (dk_at dksX1_runScript_1 10 rfl rfl)
theorem dX1_runScript_33 : decode cX1_runScript 33 = .ok (.aload_n 0, 1) := dk_42 (dk_at dksX1_runScript_1 11 rfl rfl)
theorem dX1_runScript_34 : decode cX1_runScript 34 = .ok (.aload_n 2, 1) := dk_44 (dk_at dksX1_runScript_1 12 rfl rfl)
theorem dX1_runScript_35 : decode cX1_runScript 35 = .ok (.invokevirtual 366, 3) := dk_182 1 110 (dk_at dksX1_runScript_1 13 rfl rfl)
theorem dX1_runScript_38 : decode cX1_runScript 38 = .ok (.putfield 39, 3) := dk_181 0 39 (dk_at dksX1_runScript_1 16 rfl rfl)
theorem dX1_runScript_41 : decode cX1_runScript 41 = .ok (.aload_n 2, 1) := dk_44 (dk_at dksX1_runScript_1 19 rfl rfl)
theorem dX1_runScript_42 : decode cX1_runScript 42 = .ok (.invokevirtual 369, 3) := dk_182 1 113 (dk_at dksX1_runScript_1 20 rfl rfl)
theorem dX1_runScript_45 : decode cX1_runScript 45 = .ok (.athrow, 1) := dk_191 (dk_at dksX1_runScript_1 23 rfl rfl)
theorem dX1_runScript_46 : decode cX1_runScript 46 = .ok (.astore_n 2, 1) := dk_77 (dk_at dksX1_runScript_2 0 rfl rfl)
theorem dX1_runScript_47 : decode cX1_runScript 47 = .ok (.aload_n 0, 1) := dk_42 (dk_at dksX1_runScript_2 1 rfl rfl)
theorem dX1_runScript_48 : decode cX1_runScript 48 = .ok (.aload_n 2, 1) := dk_44 (dk_at dksX1_runScript_2 2 rfl rfl)
theorem dX1_runScript_49 : decode cX1_runScript 49 = .ok (.invokevirtual 370, 3) := dk_182 1 114 (dk_at dksX1_runScript_2 3 rfl rfl)
theorem dX1_runScript_52 : decode cX1_runScript 52 = .ok (.putfield 43, 3) := dk_181 0 43 (dk_at dksX1_runScript_2 6 rfl rfl)
theorem dX1_runScript_55 : decode cX1_runScript 55 = .ok (.aload_n 2, 1) := dk_44 (dk_at dksX1_runScript_2 9 rfl rfl)
theorem dX1_runScript_56 : decode cX1_runScript 56 = .ok (.invokevirtual 373, 3) := dk_182 1 117 (dk_at dksX1_runScript_2 10 rfl rfl)
theorem dX1_runScript_59 : decode cX1_runScript 59 = .ok (.athrow, 1) := dk_191 (dk_at dksX1_runScript_2 13 rfl rfl)
abbrev cX1_execute : ByteArray := prog_1_method_68_code
def yX1_execute : MethodName := ⟨RX1, "execute", "(Ljava/util/List;)I"⟩
def dkwX1_execute_2 : List UInt8 := [25, 4, 183, 1, 90, 191, 132, 3, 1, 167, 255, 212, 42, 44, 43, 185, 0, 142, 1, 0, 182, 0, 77, 172]
abbrev dktX1_execute_2 : List UInt8 := dkwX1_execute_2 ++ []
def dkwX1_execute_1 : List UInt8 := [185, 0, 134, 2, 0, 192, 0, 68, 44, 182, 0, 73, 87, 167, 0, 16, 58, 4, 187, 1, 88, 89, 29]
abbrev dktX1_execute_1 : List UInt8 := dkwX1_execute_1 ++ dktX1_execute_2
def dkwX1_execute_0 : List UInt8 := [42, 180, 0, 21, 182, 0, 64, 77, 3, 62, 29, 43, 185, 0, 142, 1, 0, 162, 0, 40, 43, 29]
abbrev dktX1_execute_0 : List UInt8 := dkwX1_execute_0 ++ dktX1_execute_1
theorem dksX1_execute_0 : cX1_execute.data.toList.drop 0 = dktX1_execute_0 := by decide +kernel
theorem dksX1_execute_1 : cX1_execute.data.toList.drop 22 = dktX1_execute_1 := dk_seg dksX1_execute_0 22 rfl rfl
theorem dksX1_execute_2 : cX1_execute.data.toList.drop 45 = dktX1_execute_2 := dk_seg dksX1_execute_1 23 rfl rfl
theorem dX1_execute_0 : decode cX1_execute 0 = .ok (.aload_n 0, 1) := dk_42 (dk_at dksX1_execute_0 0 rfl rfl)
theorem dX1_execute_1 : decode cX1_execute 1 = .ok (.getfield 21, 3) := dk_180 0 21 (dk_at dksX1_execute_0 1 rfl rfl)
theorem dX1_execute_4 : decode cX1_execute 4 = .ok (.invokevirtual 64, 3) := dk_182 0 64 (dk_at dksX1_execute_0 4 rfl rfl)
theorem dX1_execute_7 : decode cX1_execute 7 = .ok (.astore_n 2, 1) := dk_77 (dk_at dksX1_execute_0 7 rfl rfl)
theorem dX1_execute_8 : decode cX1_execute 8 = .ok (.iconst 0, 1) := dk_3 (dk_at dksX1_execute_0 8 rfl rfl)
theorem dX1_execute_9 : decode cX1_execute 9 = .ok (.istore_n 3, 1) := dk_62 (dk_at dksX1_execute_0 9 rfl rfl)
theorem dX1_execute_10 : decode cX1_execute 10 = .ok (.iload_n 3, 1) := dk_29 (dk_at dksX1_execute_0 10 rfl rfl)
theorem dX1_execute_11 : decode cX1_execute 11 = .ok (.aload_n 1, 1) := dk_43 (dk_at dksX1_execute_0 11 rfl rfl)
theorem dX1_execute_12 : decode cX1_execute 12 = .ok (.invokeinterface 142 1, 5) := by decide +kernel
theorem dX1_execute_17 : decode cX1_execute 17 = .ok (.if_icmp .ge 40, 3) := dk_162 0 40 (dk_at dksX1_execute_0 17 rfl rfl)
theorem dX1_execute_20 : decode cX1_execute 20 = .ok (.aload_n 1, 1) := dk_43 (dk_at dksX1_execute_0 20 rfl rfl)
theorem dX1_execute_21 : decode cX1_execute 21 = .ok (.iload_n 3, 1) := dk_29 (dk_at dksX1_execute_0 21 rfl rfl)
theorem dX1_execute_22 : decode cX1_execute 22 = .ok (.invokeinterface 134 2, 5) := by decide +kernel
theorem dX1_execute_27 : decode cX1_execute 27 = .ok (.checkcast 68, 3) := dk_192 0 68 (dk_at dksX1_execute_1 5 rfl rfl)
theorem dX1_execute_30 : decode cX1_execute 30 = .ok (.aload_n 2, 1) := dk_44 (dk_at dksX1_execute_1 8 rfl rfl)
theorem dX1_execute_31 : decode cX1_execute 31 = .ok (.invokevirtual 73, 3) := dk_182 0 73 (dk_at dksX1_execute_1 9 rfl rfl)
theorem dX1_execute_34 : decode cX1_execute 34 = .ok (.pop, 1) := dk_87 (dk_at dksX1_execute_1 12 rfl rfl)
theorem dX1_execute_35 : decode cX1_execute 35 = .ok (.goto 16, 3) := dk_167 0 16 (dk_at dksX1_execute_1 13 rfl rfl)
theorem dX1_execute_38 : decode cX1_execute 38 = .ok (.astore 4, 2) := dk_58 4 (dk_at dksX1_execute_1 16 rfl rfl)
theorem dX1_execute_40 : decode cX1_execute 40 = .ok (.new 344, 3) := dk_187 1 88 (dk_at dksX1_execute_1 18 rfl rfl)
theorem dX1_execute_43 : decode cX1_execute 43 = .ok (.dup, 1) := dk_89 (dk_at dksX1_execute_1 21 rfl rfl)
theorem dX1_execute_44 : decode cX1_execute 44 = .ok (.iload_n 3, 1) := dk_29 (dk_at dksX1_execute_1 22 rfl rfl)
theorem dX1_execute_45 : decode cX1_execute 45 = .ok (.aload 4, 2) := dk_25 4 (dk_at dksX1_execute_2 0 rfl rfl)
theorem dX1_execute_47 : decode cX1_execute 47 = .ok (.invokespecial 346, 3) := dk_183 1 90 (dk_at dksX1_execute_2 2 rfl rfl)
theorem dX1_execute_50 : decode cX1_execute 50 = .ok (.athrow, 1) := dk_191 (dk_at dksX1_execute_2 5 rfl rfl)
theorem dX1_execute_51 : decode cX1_execute 51 = .ok (.iinc 3 1, 3) := dk_132 3 1 (dk_at dksX1_execute_2 6 rfl rfl)
theorem dX1_execute_54 : decode cX1_execute 54 = .ok (.goto (-44), 3) := dk_167 255 212 (dk_at dksX1_execute_2 9 rfl rfl)
theorem dX1_execute_57 : decode cX1_execute 57 = .ok (.aload_n 0, 1) := dk_42 (dk_at dksX1_execute_2 12 rfl rfl)
theorem dX1_execute_58 : decode cX1_execute 58 = .ok (.aload_n 2, 1) := dk_44 (dk_at dksX1_execute_2 13 rfl rfl)
theorem dX1_execute_59 : decode cX1_execute 59 = .ok (.aload_n 1, 1) := dk_43 (dk_at dksX1_execute_2 14 rfl rfl)
theorem dX1_execute_60 : decode cX1_execute 60 = .ok (.invokeinterface 142 1, 5) := by decide +kernel
theorem dX1_execute_65 : decode cX1_execute 65 = .ok (.invokevirtual 77, 3) := dk_182 0 77 (dk_at dksX1_execute_2 20 rfl rfl)
theorem dX1_execute_68 : decode cX1_execute 68 = .ok (.ireturn, 1) := dk_172 (dk_at dksX1_execute_2 23 rfl rfl)
abbrev cX1_errorPosition : ByteArray := prog_1_method_70_code
def yX1_errorPosition : MethodName := ⟨RX1, "errorPosition", "()I"⟩
def dkwX1_errorPosition_0 : List UInt8 := [42, 180, 0, 39, 184, 0, 162, 172]
abbrev dktX1_errorPosition_0 : List UInt8 := dkwX1_errorPosition_0 ++ []
theorem dksX1_errorPosition_0 : cX1_errorPosition.data.toList.drop 0 = dktX1_errorPosition_0 := by decide +kernel
theorem dX1_errorPosition_0 : decode cX1_errorPosition 0 = .ok (.aload_n 0, 1) := dk_42 (dk_at dksX1_errorPosition_0 0 rfl rfl)
theorem dX1_errorPosition_1 : decode cX1_errorPosition 1 = .ok (.getfield 39, 3) := dk_180 0 39 (dk_at dksX1_errorPosition_0 1 rfl rfl)
theorem dX1_errorPosition_4 : decode cX1_errorPosition 4 = .ok (.invokestatic 162, 3) := dk_184 0 162 (dk_at dksX1_errorPosition_0 4 rfl rfl)
theorem dX1_errorPosition_7 : decode cX1_errorPosition 7 = .ok (.ireturn, 1) := dk_172 (dk_at dksX1_errorPosition_0 7 rfl rfl)
abbrev cX1_failedCommand : ByteArray := prog_1_method_71_code
def yX1_failedCommand : MethodName := ⟨RX1, "failedCommand", "()I"⟩
def dkwX1_failedCommand_0 : List UInt8 := [42, 180, 0, 43, 184, 0, 162, 172]
abbrev dktX1_failedCommand_0 : List UInt8 := dkwX1_failedCommand_0 ++ []
theorem dksX1_failedCommand_0 : cX1_failedCommand.data.toList.drop 0 = dktX1_failedCommand_0 := by decide +kernel
theorem dX1_failedCommand_0 : decode cX1_failedCommand 0 = .ok (.aload_n 0, 1) := dk_42 (dk_at dksX1_failedCommand_0 0 rfl rfl)
theorem dX1_failedCommand_1 : decode cX1_failedCommand 1 = .ok (.getfield 43, 3) := dk_180 0 43 (dk_at dksX1_failedCommand_0 1 rfl rfl)
theorem dX1_failedCommand_4 : decode cX1_failedCommand 4 = .ok (.invokestatic 162, 3) := dk_184 0 162 (dk_at dksX1_failedCommand_0 4 rfl rfl)
theorem dX1_failedCommand_7 : decode cX1_failedCommand 7 = .ok (.ireturn, 1) := dk_172 (dk_at dksX1_failedCommand_0 7 rfl rfl)
abbrev cX1_undo : ByteArray := prog_1_method_72_code
def yX1_undo : MethodName := ⟨RX1, "undo", "()I"⟩
def dkwX1_undo_1 : List UInt8 := [182, 1, 121, 192, 0, 18, 181, 0, 21, 42, 180, 0, 28, 182, 0, 52, 172]
abbrev dktX1_undo_1 : List UInt8 := dkwX1_undo_1 ++ []
def dkwX1_undo_0 : List UInt8 := [42, 180, 0, 28, 182, 1, 118, 154, 0, 7, 4, 167, 0, 4, 3, 184, 0, 119, 42, 42, 180, 0, 28]
abbrev dktX1_undo_0 : List UInt8 := dkwX1_undo_0 ++ dktX1_undo_1
theorem dksX1_undo_0 : cX1_undo.data.toList.drop 0 = dktX1_undo_0 := by decide +kernel
theorem dksX1_undo_1 : cX1_undo.data.toList.drop 23 = dktX1_undo_1 := dk_seg dksX1_undo_0 23 rfl rfl
theorem dX1_undo_0 : decode cX1_undo 0 = .ok (.aload_n 0, 1) := dk_42 (dk_at dksX1_undo_0 0 rfl rfl)
theorem dX1_undo_1 : decode cX1_undo 1 = .ok (.getfield 28, 3) := dk_180 0 28 (dk_at dksX1_undo_0 1 rfl rfl)
theorem dX1_undo_4 : decode cX1_undo 4 = .ok (.invokevirtual 374, 3) := dk_182 1 118 (dk_at dksX1_undo_0 4 rfl rfl)
theorem dX1_undo_7 : decode cX1_undo 7 = .ok (.ifCond .ne 7, 3) := dk_154 0 7 (dk_at dksX1_undo_0 7 rfl rfl)
theorem dX1_undo_10 : decode cX1_undo 10 = .ok (.iconst 1, 1) := dk_4 (dk_at dksX1_undo_0 10 rfl rfl)
theorem dX1_undo_11 : decode cX1_undo 11 = .ok (.goto 4, 3) := dk_167 0 4 (dk_at dksX1_undo_0 11 rfl rfl)
theorem dX1_undo_14 : decode cX1_undo 14 = .ok (.iconst 0, 1) := dk_3 (dk_at dksX1_undo_0 14 rfl rfl)
theorem dX1_undo_15 : decode cX1_undo 15 = .ok (.invokestatic 119, 3) := dk_184 0 119 (dk_at dksX1_undo_0 15 rfl rfl)
theorem dX1_undo_18 : decode cX1_undo 18 = .ok (.aload_n 0, 1) := dk_42 (dk_at dksX1_undo_0 18 rfl rfl)
theorem dX1_undo_19 : decode cX1_undo 19 = .ok (.aload_n 0, 1) := dk_42 (dk_at dksX1_undo_0 19 rfl rfl)
theorem dX1_undo_20 : decode cX1_undo 20 = .ok (.getfield 28, 3) := dk_180 0 28 (dk_at dksX1_undo_0 20 rfl rfl)
theorem dX1_undo_23 : decode cX1_undo 23 = .ok (.invokevirtual 377, 3) := dk_182 1 121 (dk_at dksX1_undo_1 0 rfl rfl)
theorem dX1_undo_26 : decode cX1_undo 26 = .ok (.checkcast 18, 3) := dk_192 0 18 (dk_at dksX1_undo_1 3 rfl rfl)
theorem dX1_undo_29 : decode cX1_undo 29 = .ok (.putfield 21, 3) := dk_181 0 21 (dk_at dksX1_undo_1 6 rfl rfl)
theorem dX1_undo_32 : decode cX1_undo 32 = .ok (.aload_n 0, 1) := dk_42 (dk_at dksX1_undo_1 9 rfl rfl)
theorem dX1_undo_33 : decode cX1_undo 33 = .ok (.getfield 28, 3) := dk_180 0 28 (dk_at dksX1_undo_1 10 rfl rfl)
theorem dX1_undo_36 : decode cX1_undo 36 = .ok (.invokevirtual 52, 3) := dk_182 0 52 (dk_at dksX1_undo_1 13 rfl rfl)
theorem dX1_undo_39 : decode cX1_undo 39 = .ok (.ireturn, 1) := dk_172 (dk_at dksX1_undo_1 16 rfl rfl)
abbrev cX1_restore : ByteArray := prog_1_method_74_code
def yX1_restore : MethodName := ⟨RX1, "restore", "()I"⟩
def dkwX1_restore_1 : List UInt8 := [180, 0, 28, 182, 1, 127, 42, 182, 1, 29, 172]
abbrev dktX1_restore_1 : List UInt8 := dkwX1_restore_1 ++ []
def dkwX1_restore_0 : List UInt8 := [42, 180, 1, 124, 198, 0, 7, 4, 167, 0, 4, 3, 184, 1, 8, 42, 42, 180, 1, 124, 181, 0, 21, 42]
abbrev dktX1_restore_0 : List UInt8 := dkwX1_restore_0 ++ dktX1_restore_1
theorem dksX1_restore_0 : cX1_restore.data.toList.drop 0 = dktX1_restore_0 := by decide +kernel
theorem dksX1_restore_1 : cX1_restore.data.toList.drop 24 = dktX1_restore_1 := dk_seg dksX1_restore_0 24 rfl rfl
theorem dX1_restore_0 : decode cX1_restore 0 = .ok (.aload_n 0, 1) := dk_42 (dk_at dksX1_restore_0 0 rfl rfl)
theorem dX1_restore_1 : decode cX1_restore 1 = .ok (.getfield 380, 3) := dk_180 1 124 (dk_at dksX1_restore_0 1 rfl rfl)
theorem dX1_restore_4 : decode cX1_restore 4 = .ok (.ifnull 7, 3) := dk_198 0 7 (dk_at dksX1_restore_0 4 rfl rfl)
theorem dX1_restore_7 : decode cX1_restore 7 = .ok (.iconst 1, 1) := dk_4 (dk_at dksX1_restore_0 7 rfl rfl)
theorem dX1_restore_8 : decode cX1_restore 8 = .ok (.goto 4, 3) := dk_167 0 4 (dk_at dksX1_restore_0 8 rfl rfl)
theorem dX1_restore_11 : decode cX1_restore 11 = .ok (.iconst 0, 1) := dk_3 (dk_at dksX1_restore_0 11 rfl rfl)
theorem dX1_restore_12 : decode cX1_restore 12 = .ok (.invokestatic 264, 3) := dk_184 1 8 (dk_at dksX1_restore_0 12 rfl rfl)
theorem dX1_restore_15 : decode cX1_restore 15 = .ok (.aload_n 0, 1) := dk_42 (dk_at dksX1_restore_0 15 rfl rfl)
theorem dX1_restore_16 : decode cX1_restore 16 = .ok (.aload_n 0, 1) := dk_42 (dk_at dksX1_restore_0 16 rfl rfl)
theorem dX1_restore_17 : decode cX1_restore 17 = .ok (.getfield 380, 3) := dk_180 1 124 (dk_at dksX1_restore_0 17 rfl rfl)
theorem dX1_restore_20 : decode cX1_restore 20 = .ok (.putfield 21, 3) := dk_181 0 21 (dk_at dksX1_restore_0 20 rfl rfl)
theorem dX1_restore_23 : decode cX1_restore 23 = .ok (.aload_n 0, 1) := dk_42 (dk_at dksX1_restore_0 23 rfl rfl)
theorem dX1_restore_24 : decode cX1_restore 24 = .ok (.getfield 28, 3) := dk_180 0 28 (dk_at dksX1_restore_1 0 rfl rfl)
theorem dX1_restore_27 : decode cX1_restore 27 = .ok (.invokevirtual 383, 3) := dk_182 1 127 (dk_at dksX1_restore_1 3 rfl rfl)
theorem dX1_restore_30 : decode cX1_restore 30 = .ok (.aload_n 0, 1) := dk_42 (dk_at dksX1_restore_1 6 rfl rfl)
theorem dX1_restore_31 : decode cX1_restore 31 = .ok (.invokevirtual 285, 3) := dk_182 1 29 (dk_at dksX1_restore_1 7 rfl rfl)
theorem dX1_restore_34 : decode cX1_restore 34 = .ok (.ireturn, 1) := dk_172 (dk_at dksX1_restore_1 10 rfl rfl)
theorem q68 : (Jvm.Cond.initialized "FilterWaterworks") ∈ lw_all := lw_g (lw_at lw_m1 1 rfl) rfl
theorem q118 : (Jvm.Cond.instantiable "FilterWaterworks" (7 : Nat)) ∈ lw_all := lw_g (lw_at lw_m1 51 rfl) rfl
theorem q120 : (Jvm.Cond.instanceMethod ({ cls := "FilterWaterworks", name := "<init>", desc := "()V" } : Jvm.MethodName)) ∈ lw_all := lw_g (lw_at lw_m1 53 rfl) rfl
theorem q121 : (Jvm.Cond.code ({ cls := "FilterWaterworks", name := "<init>", desc := "()V" } : Jvm.MethodName) prog_1_method_4_code (1 : Nat) (Option.none : Option Jvm.ClassFile.FieldType)) ∈ lw_all := lw_g (lw_at lw_m1 54 rfl) rfl
theorem q122 : (Jvm.Cond.methodLink "FilterWaterworks" (13 : Nat) ({ cls := "java/lang/Object", name := "<init>", desc := "()V" } : Jvm.MethodName)) ∈ lw_all := lw_g (lw_at lw_m1 55 rfl) rfl
theorem q125 : (Jvm.Cond.classLink "FilterWaterworks" (18 : Nat) "FilterWaterworks$Works") ∈ lw_all := lw_g (lw_at lw_m1 58 rfl) rfl
theorem q127 : (Jvm.Cond.methodLinkNest "FilterWaterworks" (20 : Nat) ({ cls := "FilterWaterworks$Works", name := "<init>", desc := "()V" } : Jvm.MethodName) "FilterWaterworks") ∈ lw_tbl := lw_at lw_m1 60 rfl
theorem q161 : (Jvm.Cond.fieldLinkNest "FilterWaterworks" (130 : Nat) "FilterWaterworks$Works" "tanks" "Ljava/util/List;" "FilterWaterworks") ∈ lw_tbl := lw_at lw_m1 94 rfl
theorem q165 : (Jvm.Cond.fieldLinkNest "FilterWaterworks" (178 : Nat) "FilterWaterworks$Works" "pipes" "Ljava/util/List;" "FilterWaterworks") ∈ lw_tbl := lw_at lw_m1 98 rfl
theorem q167 : (Jvm.Cond.fieldLinkNest "FilterWaterworks" (267 : Nat) "FilterWaterworks$Works" "time" "I" "FilterWaterworks") ∈ lw_tbl := lw_at lw_m1 100 rfl
theorem q169 : (Jvm.Cond.fieldLinkNest "FilterWaterworks" (270 : Nat) "FilterWaterworks$Works" "poured" "I" "FilterWaterworks") ∈ lw_tbl := lw_at lw_m1 102 rfl
theorem q171 : (Jvm.Cond.fieldLinkNest "FilterWaterworks" (273 : Nat) "FilterWaterworks$Works" "drawn" "I" "FilterWaterworks") ∈ lw_tbl := lw_at lw_m1 104 rfl
theorem q173 : (Jvm.Cond.fieldLinkNest "FilterWaterworks" (276 : Nat) "FilterWaterworks$Works" "spilled" "I" "FilterWaterworks") ∈ lw_tbl := lw_at lw_m1 106 rfl
theorem q187 : (Jvm.Cond.classLink "FilterWaterworks" (25 : Nat) "java/util/LinkedList") ∈ lw_all := lw_g (lw_at lw_m1 120 rfl) rfl
theorem q189 : (Jvm.Cond.methodLink "FilterWaterworks" (27 : Nat) ({ cls := "java/util/LinkedList", name := "<init>", desc := "()V" } : Jvm.MethodName)) ∈ lw_all := lw_g (lw_at lw_m1 122 rfl) rfl
theorem q207 : (Jvm.Cond.classLink "FilterWaterworks" (32 : Nat) "java/lang/StringBuilder") ∈ lw_all := lw_g (lw_at lw_m1 140 rfl) rfl
theorem q209 : (Jvm.Cond.methodLink "FilterWaterworks" (34 : Nat) ({ cls := "java/lang/StringBuilder", name := "<init>", desc := "()V" } : Jvm.MethodName)) ∈ lw_all := lw_g (lw_at lw_m1 142 rfl) rfl
theorem q240 : (Jvm.Cond.stringRef "FilterWaterworks" (46 : Nat) "") ∈ lw_tbl := lw_at lw_m1 173 rfl
theorem q241 : (Jvm.Cond.fieldLink "FilterWaterworks" (21 : Nat) "FilterWaterworks" "works" "LFilterWaterworks$Works;") ∈ lw_all := lw_g (lw_at lw_m1 174 rfl) rfl
theorem q242 : (Jvm.Cond.fieldLink "FilterWaterworks" (380 : Nat) "FilterWaterworks" "snapshot" "LFilterWaterworks$Works;") ∈ lw_all := lw_g (lw_at lw_m1 175 rfl) rfl
theorem q243 : (Jvm.Cond.fieldLink "FilterWaterworks" (28 : Nat) "FilterWaterworks" "history" "Ljava/util/LinkedList;") ∈ lw_all := lw_g (lw_at lw_m1 176 rfl) rfl
theorem q244 : (Jvm.Cond.fieldLink "FilterWaterworks" (35 : Nat) "FilterWaterworks" "script" "Ljava/lang/StringBuilder;") ∈ lw_all := lw_g (lw_at lw_m1 177 rfl) rfl
theorem q245 : (Jvm.Cond.fieldLink "FilterWaterworks" (39 : Nat) "FilterWaterworks" "errorPosition" "I") ∈ lw_all := lw_g (lw_at lw_m1 178 rfl) rfl
theorem q246 : (Jvm.Cond.fieldLink "FilterWaterworks" (43 : Nat) "FilterWaterworks" "failedCommand" "I") ∈ lw_all := lw_g (lw_at lw_m1 179 rfl) rfl
theorem q247 : (Jvm.Cond.fieldLink "FilterWaterworks" (48 : Nat) "FilterWaterworks" "output" "Ljava/lang/String;") ∈ lw_all := lw_g (lw_at lw_m1 180 rfl) rfl
theorem q248 : (Jvm.Cond.lays "FilterWaterworks" "FilterWaterworks" "works" "LFilterWaterworks$Works;") ∈ lw_all := lw_g (lw_at lw_m1 181 rfl) rfl
theorem q249 : (Jvm.Cond.soleField "FilterWaterworks" "works") ∈ lw_all := lw_g (lw_at lw_m1 182 rfl) rfl
theorem q250 : (Jvm.Cond.lays "FilterWaterworks" "FilterWaterworks" "snapshot" "LFilterWaterworks$Works;") ∈ lw_all := lw_g (lw_at lw_m1 183 rfl) rfl
theorem q251 : (Jvm.Cond.soleField "FilterWaterworks" "snapshot") ∈ lw_all := lw_g (lw_at lw_m1 184 rfl) rfl
theorem q252 : (Jvm.Cond.laysFinal "FilterWaterworks" "FilterWaterworks" "history" "Ljava/util/LinkedList;") ∈ lw_all := lw_g (lw_at lw_m1 185 rfl) rfl
theorem q253 : (Jvm.Cond.soleField "FilterWaterworks" "history") ∈ lw_all := lw_g (lw_at lw_m1 186 rfl) rfl
theorem q254 : (Jvm.Cond.laysFinal "FilterWaterworks" "FilterWaterworks" "script" "Ljava/lang/StringBuilder;") ∈ lw_all := lw_g (lw_at lw_m1 187 rfl) rfl
theorem q255 : (Jvm.Cond.soleField "FilterWaterworks" "script") ∈ lw_all := lw_g (lw_at lw_m1 188 rfl) rfl
theorem q256 : (Jvm.Cond.lays "FilterWaterworks" "FilterWaterworks" "errorPosition" "I") ∈ lw_all := lw_g (lw_at lw_m1 189 rfl) rfl
theorem q257 : (Jvm.Cond.soleField "FilterWaterworks" "errorPosition") ∈ lw_all := lw_g (lw_at lw_m1 190 rfl) rfl
theorem q258 : (Jvm.Cond.lays "FilterWaterworks" "FilterWaterworks" "failedCommand" "I") ∈ lw_all := lw_g (lw_at lw_m1 191 rfl) rfl
theorem q259 : (Jvm.Cond.soleField "FilterWaterworks" "failedCommand") ∈ lw_all := lw_g (lw_at lw_m1 192 rfl) rfl
theorem q260 : (Jvm.Cond.lays "FilterWaterworks" "FilterWaterworks" "output" "Ljava/lang/String;") ∈ lw_all := lw_g (lw_at lw_m1 193 rfl) rfl
theorem q261 : (Jvm.Cond.soleField "FilterWaterworks" "output") ∈ lw_all := lw_g (lw_at lw_m1 194 rfl) rfl
theorem q262 : (Jvm.Cond.superclass "FilterWaterworks" "java/lang/Object") ∈ lw_all := lw_g (lw_at lw_m1 195 rfl) rfl
theorem q264 : (Jvm.Cond.instanceMethod ({ cls := "FilterWaterworks", name := "tankCount", desc := "()I" } : Jvm.MethodName)) ∈ lw_all := lw_g (lw_at lw_m1 197 rfl) rfl
theorem q265 : (Jvm.Cond.selects "FilterWaterworks" ({ cls := "FilterWaterworks", name := "tankCount", desc := "()I" } : Jvm.MethodName) ({ cls := "FilterWaterworks", name := "tankCount", desc := "()I" } : Jvm.MethodName)) ∈ lw_all := lw_g (lw_at lw_m1 198 rfl) rfl
theorem q266 : (Jvm.Cond.code ({ cls := "FilterWaterworks", name := "tankCount", desc := "()I" } : Jvm.MethodName) prog_1_method_21_code (1 : Nat) (Option.some Jvm.ClassFile.FieldType.int)) ∈ lw_all := lw_g (lw_at lw_m1 199 rfl) rfl
theorem q267 : (Jvm.Cond.interfaceEntry "FilterWaterworks" (142 : Nat)) ∈ lw_tbl := lw_at lw_m1 200 rfl
theorem q268 : (Jvm.Cond.methodLink "FilterWaterworks" (142 : Nat) ({ cls := "java/util/List", name := "size", desc := "()I" } : Jvm.MethodName)) ∈ lw_all := lw_g (lw_at lw_m1 201 rfl) rfl
theorem q284 : (Jvm.Cond.instanceMethod ({ cls := "FilterWaterworks", name := "pipeCount", desc := "()I" } : Jvm.MethodName)) ∈ lw_all := lw_g (lw_at lw_m1 217 rfl) rfl
theorem q285 : (Jvm.Cond.selects "FilterWaterworks" ({ cls := "FilterWaterworks", name := "pipeCount", desc := "()I" } : Jvm.MethodName) ({ cls := "FilterWaterworks", name := "pipeCount", desc := "()I" } : Jvm.MethodName)) ∈ lw_all := lw_g (lw_at lw_m1 218 rfl) rfl
theorem q286 : (Jvm.Cond.code ({ cls := "FilterWaterworks", name := "pipeCount", desc := "()I" } : Jvm.MethodName) prog_1_method_30_code (1 : Nat) (Option.some Jvm.ClassFile.FieldType.int)) ∈ lw_all := lw_g (lw_at lw_m1 219 rfl) rfl
theorem q288 : (Jvm.Cond.instanceMethod ({ cls := "FilterWaterworks", name := "groupCount", desc := "()I" } : Jvm.MethodName)) ∈ lw_all := lw_g (lw_at lw_m1 221 rfl) rfl
theorem q289 : (Jvm.Cond.selects "FilterWaterworks" ({ cls := "FilterWaterworks", name := "groupCount", desc := "()I" } : Jvm.MethodName) ({ cls := "FilterWaterworks", name := "groupCount", desc := "()I" } : Jvm.MethodName)) ∈ lw_all := lw_g (lw_at lw_m1 222 rfl) rfl
theorem q290 : (Jvm.Cond.code ({ cls := "FilterWaterworks", name := "groupCount", desc := "()I" } : Jvm.MethodName) prog_1_method_43_code (1 : Nat) (Option.some Jvm.ClassFile.FieldType.int)) ∈ lw_all := lw_g (lw_at lw_m1 223 rfl) rfl
theorem q291 : (Jvm.Cond.methodLink "FilterWaterworks" (226 : Nat) ({ cls := "FilterWaterworks$Works", name := "groups", desc := "()I" } : Jvm.MethodName)) ∈ lw_all := lw_g (lw_at lw_m1 224 rfl) rfl
theorem q685 : (Jvm.Cond.instanceMethod ({ cls := "FilterWaterworks", name := "groupCountByUnions", desc := "()I" } : Jvm.MethodName)) ∈ lw_all := lw_g (lw_at lw_m3 138 rfl) rfl
theorem q686 : (Jvm.Cond.selects "FilterWaterworks" ({ cls := "FilterWaterworks", name := "groupCountByUnions", desc := "()I" } : Jvm.MethodName) ({ cls := "FilterWaterworks", name := "groupCountByUnions", desc := "()I" } : Jvm.MethodName)) ∈ lw_all := lw_g (lw_at lw_m3 139 rfl) rfl
theorem q687 : (Jvm.Cond.code ({ cls := "FilterWaterworks", name := "groupCountByUnions", desc := "()I" } : Jvm.MethodName) prog_1_method_44_code (1 : Nat) (Option.some Jvm.ClassFile.FieldType.int)) ∈ lw_all := lw_g (lw_at lw_m3 140 rfl) rfl
theorem q688 : (Jvm.Cond.methodLink "FilterWaterworks" (229 : Nat) ({ cls := "FilterWaterworks$Works", name := "groupsByUnions", desc := "()I" } : Jvm.MethodName)) ∈ lw_all := lw_g (lw_at lw_m3 141 rfl) rfl
theorem q701 : (Jvm.Cond.instanceMethod ({ cls := "FilterWaterworks", name := "bridgeCount", desc := "()I" } : Jvm.MethodName)) ∈ lw_all := lw_g (lw_at lw_m3 154 rfl) rfl
theorem q702 : (Jvm.Cond.selects "FilterWaterworks" ({ cls := "FilterWaterworks", name := "bridgeCount", desc := "()I" } : Jvm.MethodName) ({ cls := "FilterWaterworks", name := "bridgeCount", desc := "()I" } : Jvm.MethodName)) ∈ lw_all := lw_g (lw_at lw_m3 155 rfl) rfl
theorem q703 : (Jvm.Cond.code ({ cls := "FilterWaterworks", name := "bridgeCount", desc := "()I" } : Jvm.MethodName) prog_1_method_46_code (1 : Nat) (Option.some Jvm.ClassFile.FieldType.int)) ∈ lw_all := lw_g (lw_at lw_m3 156 rfl) rfl
theorem q704 : (Jvm.Cond.methodLink "FilterWaterworks" (235 : Nat) ({ cls := "FilterWaterworks$Works", name := "bridges", desc := "()I" } : Jvm.MethodName)) ∈ lw_all := lw_g (lw_at lw_m3 157 rfl) rfl
theorem q751 : (Jvm.Cond.instanceMethod ({ cls := "FilterWaterworks", name := "bridgeCountByLeavingOut", desc := "()I" } : Jvm.MethodName)) ∈ lw_all := lw_g (lw_at lw_m3 204 rfl) rfl
theorem q752 : (Jvm.Cond.selects "FilterWaterworks" ({ cls := "FilterWaterworks", name := "bridgeCountByLeavingOut", desc := "()I" } : Jvm.MethodName) ({ cls := "FilterWaterworks", name := "bridgeCountByLeavingOut", desc := "()I" } : Jvm.MethodName)) ∈ lw_all := lw_g (lw_at lw_m3 205 rfl) rfl
theorem q753 : (Jvm.Cond.code ({ cls := "FilterWaterworks", name := "bridgeCountByLeavingOut", desc := "()I" } : Jvm.MethodName) prog_1_method_47_code (1 : Nat) (Option.some Jvm.ClassFile.FieldType.int)) ∈ lw_all := lw_g (lw_at lw_m3 206 rfl) rfl
theorem q754 : (Jvm.Cond.methodLink "FilterWaterworks" (238 : Nat) ({ cls := "FilterWaterworks$Works", name := "bridgesByLeavingOut", desc := "()I" } : Jvm.MethodName)) ∈ lw_all := lw_g (lw_at lw_m3 207 rfl) rfl
theorem q767 : (Jvm.Cond.instanceMethod ({ cls := "FilterWaterworks", name := "time", desc := "()I" } : Jvm.MethodName)) ∈ lw_all := lw_g (lw_at lw_m3 220 rfl) rfl
theorem q768 : (Jvm.Cond.selects "FilterWaterworks" ({ cls := "FilterWaterworks", name := "time", desc := "()I" } : Jvm.MethodName) ({ cls := "FilterWaterworks", name := "time", desc := "()I" } : Jvm.MethodName)) ∈ lw_all := lw_g (lw_at lw_m3 221 rfl) rfl
theorem q769 : (Jvm.Cond.code ({ cls := "FilterWaterworks", name := "time", desc := "()I" } : Jvm.MethodName) prog_1_method_53_code (1 : Nat) (Option.some Jvm.ClassFile.FieldType.int)) ∈ lw_all := lw_g (lw_at lw_m3 222 rfl) rfl
theorem q771 : (Jvm.Cond.instanceMethod ({ cls := "FilterWaterworks", name := "pouredTotal", desc := "()I" } : Jvm.MethodName)) ∈ lw_all := lw_g (lw_at lw_m3 224 rfl) rfl
theorem q772 : (Jvm.Cond.selects "FilterWaterworks" ({ cls := "FilterWaterworks", name := "pouredTotal", desc := "()I" } : Jvm.MethodName) ({ cls := "FilterWaterworks", name := "pouredTotal", desc := "()I" } : Jvm.MethodName)) ∈ lw_all := lw_g (lw_at lw_m3 225 rfl) rfl
theorem q773 : (Jvm.Cond.code ({ cls := "FilterWaterworks", name := "pouredTotal", desc := "()I" } : Jvm.MethodName) prog_1_method_54_code (1 : Nat) (Option.some Jvm.ClassFile.FieldType.int)) ∈ lw_all := lw_g (lw_at lw_m3 226 rfl) rfl
theorem q775 : (Jvm.Cond.instanceMethod ({ cls := "FilterWaterworks", name := "drawnTotal", desc := "()I" } : Jvm.MethodName)) ∈ lw_all := lw_g (lw_at lw_m3 228 rfl) rfl
theorem q776 : (Jvm.Cond.selects "FilterWaterworks" ({ cls := "FilterWaterworks", name := "drawnTotal", desc := "()I" } : Jvm.MethodName) ({ cls := "FilterWaterworks", name := "drawnTotal", desc := "()I" } : Jvm.MethodName)) ∈ lw_all := lw_g (lw_at lw_m3 229 rfl) rfl
theorem q777 : (Jvm.Cond.code ({ cls := "FilterWaterworks", name := "drawnTotal", desc := "()I" } : Jvm.MethodName) prog_1_method_55_code (1 : Nat) (Option.some Jvm.ClassFile.FieldType.int)) ∈ lw_all := lw_g (lw_at lw_m3 230 rfl) rfl
theorem q779 : (Jvm.Cond.instanceMethod ({ cls := "FilterWaterworks", name := "spilledTotal", desc := "()I" } : Jvm.MethodName)) ∈ lw_all := lw_g (lw_at lw_m3 232 rfl) rfl
theorem q780 : (Jvm.Cond.selects "FilterWaterworks" ({ cls := "FilterWaterworks", name := "spilledTotal", desc := "()I" } : Jvm.MethodName) ({ cls := "FilterWaterworks", name := "spilledTotal", desc := "()I" } : Jvm.MethodName)) ∈ lw_all := lw_g (lw_at lw_m3 233 rfl) rfl
theorem q781 : (Jvm.Cond.code ({ cls := "FilterWaterworks", name := "spilledTotal", desc := "()I" } : Jvm.MethodName) prog_1_method_56_code (1 : Nat) (Option.some Jvm.ClassFile.FieldType.int)) ∈ lw_all := lw_g (lw_at lw_m3 234 rfl) rfl
theorem q783 : (Jvm.Cond.instanceMethod ({ cls := "FilterWaterworks", name := "totalContent", desc := "()I" } : Jvm.MethodName)) ∈ lw_all := lw_g (lw_at lw_m3 236 rfl) rfl
theorem q784 : (Jvm.Cond.selects "FilterWaterworks" ({ cls := "FilterWaterworks", name := "totalContent", desc := "()I" } : Jvm.MethodName) ({ cls := "FilterWaterworks", name := "totalContent", desc := "()I" } : Jvm.MethodName)) ∈ lw_all := lw_g (lw_at lw_m3 237 rfl) rfl
theorem q785 : (Jvm.Cond.code ({ cls := "FilterWaterworks", name := "totalContent", desc := "()I" } : Jvm.MethodName) prog_1_method_57_code (1 : Nat) (Option.some Jvm.ClassFile.FieldType.int)) ∈ lw_all := lw_g (lw_at lw_m3 238 rfl) rfl
theorem q786 : (Jvm.Cond.methodLink "FilterWaterworks" (279 : Nat) ({ cls := "FilterWaterworks$Works", name := "totalContent", desc := "()I" } : Jvm.MethodName)) ∈ lw_all := lw_g (lw_at lw_m3 239 rfl) rfl
theorem q792 : (Jvm.Cond.instanceMethod ({ cls := "FilterWaterworks", name := "totalContentByAccounts", desc := "()I" } : Jvm.MethodName)) ∈ lw_all := lw_g (lw_at lw_m4 5 rfl) rfl
theorem q793 : (Jvm.Cond.selects "FilterWaterworks" ({ cls := "FilterWaterworks", name := "totalContentByAccounts", desc := "()I" } : Jvm.MethodName) ({ cls := "FilterWaterworks", name := "totalContentByAccounts", desc := "()I" } : Jvm.MethodName)) ∈ lw_all := lw_g (lw_at lw_m4 6 rfl) rfl
theorem q794 : (Jvm.Cond.code ({ cls := "FilterWaterworks", name := "totalContentByAccounts", desc := "()I" } : Jvm.MethodName) prog_1_method_58_code (1 : Nat) (Option.some Jvm.ClassFile.FieldType.int)) ∈ lw_all := lw_g (lw_at lw_m4 7 rfl) rfl
theorem q795 : (Jvm.Cond.methodLink "FilterWaterworks" (282 : Nat) ({ cls := "FilterWaterworks$Works", name := "totalContentByAccounts", desc := "()I" } : Jvm.MethodName)) ∈ lw_all := lw_g (lw_at lw_m4 8 rfl) rfl
theorem q800 : (Jvm.Cond.instanceMethod ({ cls := "FilterWaterworks", name := "fingerprint", desc := "()J" } : Jvm.MethodName)) ∈ lw_all := lw_g (lw_at lw_m4 13 rfl) rfl
theorem q801 : (Jvm.Cond.selects "FilterWaterworks" ({ cls := "FilterWaterworks", name := "fingerprint", desc := "()J" } : Jvm.MethodName) ({ cls := "FilterWaterworks", name := "fingerprint", desc := "()J" } : Jvm.MethodName)) ∈ lw_all := lw_g (lw_at lw_m4 14 rfl) rfl
theorem q802 : (Jvm.Cond.code ({ cls := "FilterWaterworks", name := "fingerprint", desc := "()J" } : Jvm.MethodName) prog_1_method_61_code (1 : Nat) (Option.some Jvm.ClassFile.FieldType.long)) ∈ lw_all := lw_g (lw_at lw_m4 15 rfl) rfl
theorem q803 : (Jvm.Cond.methodLink "FilterWaterworks" (301 : Nat) ({ cls := "FilterWaterworks$Works", name := "fingerprint", desc := "()J" } : Jvm.MethodName)) ∈ lw_all := lw_g (lw_at lw_m4 16 rfl) rfl
theorem q822 : (Jvm.Cond.instanceMethod ({ cls := "FilterWaterworks", name := "isConsistent", desc := "()Z" } : Jvm.MethodName)) ∈ lw_all := lw_g (lw_at lw_m4 35 rfl) rfl
theorem q823 : (Jvm.Cond.selects "FilterWaterworks" ({ cls := "FilterWaterworks", name := "isConsistent", desc := "()Z" } : Jvm.MethodName) ({ cls := "FilterWaterworks", name := "isConsistent", desc := "()Z" } : Jvm.MethodName)) ∈ lw_all := lw_g (lw_at lw_m4 36 rfl) rfl
theorem q824 : (Jvm.Cond.code ({ cls := "FilterWaterworks", name := "isConsistent", desc := "()Z" } : Jvm.MethodName) prog_1_method_62_code (1 : Nat) (Option.some Jvm.ClassFile.FieldType.boolean)) ∈ lw_all := lw_g (lw_at lw_m4 37 rfl) rfl
theorem q825 : (Jvm.Cond.methodLink "FilterWaterworks" (305 : Nat) ({ cls := "FilterWaterworks$Works", name := "isConsistent", desc := "()Z" } : Jvm.MethodName)) ∈ lw_all := lw_g (lw_at lw_m4 38 rfl) rfl
theorem q881 : (Jvm.Cond.laysStatic "FilterWaterworks" "COUNTS" "[I") ∈ lw_tbl := lw_at lw_m4 94 rfl
theorem q913 : (Jvm.Cond.instanceMethod ({ cls := "FilterWaterworks", name := "save", desc := "()I" } : Jvm.MethodName)) ∈ lw_all := lw_g (lw_at lw_m4 126 rfl) rfl
theorem q914 : (Jvm.Cond.selects "FilterWaterworks" ({ cls := "FilterWaterworks", name := "save", desc := "()I" } : Jvm.MethodName) ({ cls := "FilterWaterworks", name := "save", desc := "()I" } : Jvm.MethodName)) ∈ lw_all := lw_g (lw_at lw_m4 127 rfl) rfl
theorem q915 : (Jvm.Cond.code ({ cls := "FilterWaterworks", name := "save", desc := "()I" } : Jvm.MethodName) prog_1_method_73_code (1 : Nat) (Option.some Jvm.ClassFile.FieldType.int)) ∈ lw_all := lw_g (lw_at lw_m4 128 rfl) rfl
theorem q916 : (Jvm.Cond.methodLink "FilterWaterworks" (285 : Nat) ({ cls := "FilterWaterworks", name := "tankCount", desc := "()I" } : Jvm.MethodName)) ∈ lw_all := lw_g (lw_at lw_m4 129 rfl) rfl
theorem q923 : (Jvm.Cond.instanceMethod ({ cls := "FilterWaterworks", name := "addTank", desc := "(I)I" } : Jvm.MethodName)) ∈ lw_all := lw_g (lw_at lw_m4 136 rfl) rfl
theorem q924 : (Jvm.Cond.selects "FilterWaterworks" ({ cls := "FilterWaterworks", name := "addTank", desc := "(I)I" } : Jvm.MethodName) ({ cls := "FilterWaterworks", name := "addTank", desc := "(I)I" } : Jvm.MethodName)) ∈ lw_all := lw_g (lw_at lw_m4 137 rfl) rfl
theorem q925 : (Jvm.Cond.code ({ cls := "FilterWaterworks", name := "addTank", desc := "(I)I" } : Jvm.MethodName) prog_1_method_7_code (2 : Nat) (Option.some Jvm.ClassFile.FieldType.int)) ∈ lw_all := lw_g (lw_at lw_m4 138 rfl) rfl
theorem q926 : (Jvm.Cond.stringRef "FilterWaterworks" (87 : Nat) "tank") ∈ lw_tbl := lw_at lw_m4 139 rfl
theorem q927 : (Jvm.Cond.methodLink "FilterWaterworks" (89 : Nat) ({ cls := "FilterWaterworks", name := "change", desc := "(Ljava/lang/String;[I)I" } : Jvm.MethodName)) ∈ lw_all := lw_g (lw_at lw_m4 140 rfl) rfl
theorem q928 : (Jvm.Cond.privateMethod ({ cls := "FilterWaterworks", name := "change", desc := "(Ljava/lang/String;[I)I" } : Jvm.MethodName)) ∈ lw_tbl := lw_at lw_m4 141 rfl
theorem q929 : (Jvm.Cond.instanceMethod ({ cls := "FilterWaterworks", name := "change", desc := "(Ljava/lang/String;[I)I" } : Jvm.MethodName)) ∈ lw_all := lw_g (lw_at lw_m4 142 rfl) rfl
theorem q930 : (Jvm.Cond.codeWith ({ cls := "FilterWaterworks", name := "change", desc := "(Ljava/lang/String;[I)I" } : Jvm.MethodName) prog_1_method_6_code (5 : Nat) (Option.some Jvm.ClassFile.FieldType.int) [((8 : Nat), (26 : Nat), (27 : Nat), (81 : Nat))]) ∈ lw_all := lw_g (lw_at lw_m4 143 rfl) rfl
theorem q931 : (Jvm.Cond.classLink "FilterWaterworks" (81 : Nat) "FilterWaterworks$Failure") ∈ lw_all := lw_g (lw_at lw_m4 144 rfl) rfl
theorem q932 : (Jvm.Cond.methodLink "FilterWaterworks" (64 : Nat) ({ cls := "FilterWaterworks$Works", name := "copy", desc := "()LFilterWaterworks$Works;" } : Jvm.MethodName)) ∈ lw_all := lw_g (lw_at lw_m4 145 rfl) rfl
theorem q949 : (Jvm.Cond.fieldLinkNest "FilterWaterworks" (147 : Nat) "FilterWaterworks$Tank" "capacity" "I" "FilterWaterworks") ∈ lw_tbl := lw_at lw_m4 162 rfl
theorem q952 : (Jvm.Cond.fieldLinkNest "FilterWaterworks" (150 : Nat) "FilterWaterworks$Tank" "content" "I" "FilterWaterworks") ∈ lw_tbl := lw_at lw_m4 165 rfl
theorem q955 : (Jvm.Cond.fieldLinkNest "FilterWaterworks" (153 : Nat) "FilterWaterworks$Tank" "impurities" "I" "FilterWaterworks") ∈ lw_tbl := lw_at lw_m4 168 rfl
theorem q991 : (Jvm.Cond.selects "FilterWaterworks" ({ cls := "java/lang/Object", name := "getClass", desc := "()Ljava/lang/Class;" } : Jvm.MethodName) ({ cls := "java/lang/Object", name := "getClass", desc := "()Ljava/lang/Class;" } : Jvm.MethodName)) ∈ lw_all := lw_g (lw_at lw_m4 204 rfl) rfl
theorem q1070 : (Jvm.Cond.fieldLinkNest "FilterWaterworks" (187 : Nat) "FilterWaterworks$Pipe" "first" "I" "FilterWaterworks") ∈ lw_tbl := lw_at lw_m5 43 rfl
theorem q1074 : (Jvm.Cond.fieldLinkNest "FilterWaterworks" (190 : Nat) "FilterWaterworks$Pipe" "second" "I" "FilterWaterworks") ∈ lw_tbl := lw_at lw_m5 47 rfl
theorem q1076 : (Jvm.Cond.fieldLinkNest "FilterWaterworks" (199 : Nat) "FilterWaterworks$Pipe" "mesh" "I" "FilterWaterworks") ∈ lw_tbl := lw_at lw_m5 49 rfl
theorem q1080 : (Jvm.Cond.fieldLinkNest "FilterWaterworks" (193 : Nat) "FilterWaterworks$Pipe" "setting" "I" "FilterWaterworks") ∈ lw_tbl := lw_at lw_m5 53 rfl
theorem q1083 : (Jvm.Cond.fieldLinkNest "FilterWaterworks" (196 : Nat) "FilterWaterworks$Pipe" "rate" "I" "FilterWaterworks") ∈ lw_tbl := lw_at lw_m5 56 rfl
theorem q1086 : (Jvm.Cond.fieldLinkNest "FilterWaterworks" (202 : Nat) "FilterWaterworks$Pipe" "dirt" "I" "FilterWaterworks") ∈ lw_tbl := lw_at lw_m5 59 rfl
theorem q1089 : (Jvm.Cond.fieldLinkNest "FilterWaterworks" (213 : Nat) "FilterWaterworks$Pipe" "through" "I" "FilterWaterworks") ∈ lw_tbl := lw_at lw_m5 62 rfl
theorem q1105 : (Jvm.Cond.classLink "FilterWaterworks" (68 : Nat) "FilterWaterworks$Command") ∈ lw_all := lw_g (lw_at lw_m5 78 rfl) rfl
theorem q1107 : (Jvm.Cond.methodLink "FilterWaterworks" (70 : Nat) ({ cls := "FilterWaterworks$Command", name := "<init>", desc := "(Ljava/lang/String;[I)V" } : Jvm.MethodName)) ∈ lw_all := lw_g (lw_at lw_m5 80 rfl) rfl
theorem q1118 : (Jvm.Cond.methodLink "FilterWaterworks" (73 : Nat) ({ cls := "FilterWaterworks$Command", name := "applyTo", desc := "(LFilterWaterworks$Works;)I" } : Jvm.MethodName)) ∈ lw_all := lw_g (lw_at lw_m5 91 rfl) rfl
theorem q1207 : (Jvm.Cond.static ({ cls := "FilterWaterworks", name := "isBetween", desc := "(III)Z" } : Jvm.MethodName)) ∈ lw_all := lw_g (lw_at lw_m5 180 rfl) rfl
theorem q1208 : (Jvm.Cond.code ({ cls := "FilterWaterworks", name := "isBetween", desc := "(III)Z" } : Jvm.MethodName) prog_1_method_2_code (3 : Nat) (Option.some Jvm.ClassFile.FieldType.boolean)) ∈ lw_all := lw_g (lw_at lw_m5 181 rfl) rfl
theorem q1211 : (Jvm.Cond.static ({ cls := "FilterWaterworks", name := "demand", desc := "(ZLjava/lang/String;)V" } : Jvm.MethodName)) ∈ lw_all := lw_g (lw_at lw_m5 184 rfl) rfl
theorem q1212 : (Jvm.Cond.code ({ cls := "FilterWaterworks", name := "demand", desc := "(ZLjava/lang/String;)V" } : Jvm.MethodName) prog_1_method_1_code (2 : Nat) (Option.none : Option Jvm.ClassFile.FieldType)) ∈ lw_all := lw_g (lw_at lw_m5 185 rfl) rfl
theorem q1213 : (Jvm.Cond.classLink "FilterWaterworks" (1 : Nat) "FilterWaterworks$ConditionFailure") ∈ lw_all := lw_g (lw_at lw_m5 186 rfl) rfl
theorem q1222 : (Jvm.Cond.methodLink "FilterWaterworks" (3 : Nat) ({ cls := "FilterWaterworks$ConditionFailure", name := "<init>", desc := "(Ljava/lang/String;)V" } : Jvm.MethodName)) ∈ lw_all := lw_g (lw_at lw_m5 195 rfl) rfl
theorem q1253 : (Jvm.Cond.static ({ cls := "FilterWaterworks", name := "isSet", desc := "(I)Z" } : Jvm.MethodName)) ∈ lw_all := lw_g (lw_at lw_m5 226 rfl) rfl
theorem q1254 : (Jvm.Cond.code ({ cls := "FilterWaterworks", name := "isSet", desc := "(I)Z" } : Jvm.MethodName) prog_1_method_3_code (1 : Nat) (Option.some Jvm.ClassFile.FieldType.boolean)) ∈ lw_all := lw_g (lw_at lw_m5 227 rfl) rfl
theorem q1255 : (Jvm.Cond.methodLink "FilterWaterworks" (9 : Nat) ({ cls := "FilterWaterworks", name := "isBetween", desc := "(III)Z" } : Jvm.MethodName)) ∈ lw_all := lw_g (lw_at lw_m5 228 rfl) rfl
theorem q1329 : (Jvm.Cond.methodLink "FilterWaterworks" (77 : Nat) ({ cls := "FilterWaterworks", name := "commit", desc := "(LFilterWaterworks$Works;I)I" } : Jvm.MethodName)) ∈ lw_all := lw_g (lw_at lw_m6 62 rfl) rfl
theorem q1330 : (Jvm.Cond.privateMethod ({ cls := "FilterWaterworks", name := "commit", desc := "(LFilterWaterworks$Works;I)I" } : Jvm.MethodName)) ∈ lw_tbl := lw_at lw_m6 63 rfl
theorem q1331 : (Jvm.Cond.instanceMethod ({ cls := "FilterWaterworks", name := "commit", desc := "(LFilterWaterworks$Works;I)I" } : Jvm.MethodName)) ∈ lw_all := lw_g (lw_at lw_m6 64 rfl) rfl
theorem q1332 : (Jvm.Cond.code ({ cls := "FilterWaterworks", name := "commit", desc := "(LFilterWaterworks$Works;I)I" } : Jvm.MethodName) prog_1_method_5_code (3 : Nat) (Option.some Jvm.ClassFile.FieldType.int)) ∈ lw_all := lw_g (lw_at lw_m6 65 rfl) rfl
theorem q1333 : (Jvm.Cond.methodLink "FilterWaterworks" (52 : Nat) ({ cls := "java/util/LinkedList", name := "size", desc := "()I" } : Jvm.MethodName)) ∈ lw_all := lw_g (lw_at lw_m6 66 rfl) rfl
theorem q1334 : (Jvm.Cond.methodLink "FilterWaterworks" (56 : Nat) ({ cls := "java/util/LinkedList", name := "removeFirst", desc := "()Ljava/lang/Object;" } : Jvm.MethodName)) ∈ lw_all := lw_g (lw_at lw_m6 67 rfl) rfl
theorem q1363 : (Jvm.Cond.methodLink "FilterWaterworks" (60 : Nat) ({ cls := "java/util/LinkedList", name := "addLast", desc := "(Ljava/lang/Object;)V" } : Jvm.MethodName)) ∈ lw_all := lw_g (lw_at lw_m6 96 rfl) rfl
theorem q1367 : (Jvm.Cond.methodLink "FilterWaterworks" (83 : Nat) ({ cls := "FilterWaterworks$Failure", name := "asPublicException", desc := "()Ljava/lang/RuntimeException;" } : Jvm.MethodName)) ∈ lw_all := lw_g (lw_at lw_m6 100 rfl) rfl
theorem q1448 : (Jvm.Cond.instanceMethod ({ cls := "FilterWaterworks", name := "addPipe", desc := "(III)I" } : Jvm.MethodName)) ∈ lw_all := lw_g (lw_at lw_m6 181 rfl) rfl
theorem q1449 : (Jvm.Cond.selects "FilterWaterworks" ({ cls := "FilterWaterworks", name := "addPipe", desc := "(III)I" } : Jvm.MethodName) ({ cls := "FilterWaterworks", name := "addPipe", desc := "(III)I" } : Jvm.MethodName)) ∈ lw_all := lw_g (lw_at lw_m6 182 rfl) rfl
theorem q1450 : (Jvm.Cond.code ({ cls := "FilterWaterworks", name := "addPipe", desc := "(III)I" } : Jvm.MethodName) prog_1_method_8_code (4 : Nat) (Option.some Jvm.ClassFile.FieldType.int)) ∈ lw_all := lw_g (lw_at lw_m6 183 rfl) rfl
theorem q1451 : (Jvm.Cond.stringRef "FilterWaterworks" (93 : Nat) "pipe") ∈ lw_tbl := lw_at lw_m6 184 rfl
theorem q1457 : (Jvm.Cond.instanceMethod ({ cls := "FilterWaterworks", name := "pour", desc := "(III)I" } : Jvm.MethodName)) ∈ lw_all := lw_g (lw_at lw_m6 190 rfl) rfl
theorem q1458 : (Jvm.Cond.selects "FilterWaterworks" ({ cls := "FilterWaterworks", name := "pour", desc := "(III)I" } : Jvm.MethodName) ({ cls := "FilterWaterworks", name := "pour", desc := "(III)I" } : Jvm.MethodName)) ∈ lw_all := lw_g (lw_at lw_m6 191 rfl) rfl
theorem q1459 : (Jvm.Cond.code ({ cls := "FilterWaterworks", name := "pour", desc := "(III)I" } : Jvm.MethodName) prog_1_method_9_code (4 : Nat) (Option.some Jvm.ClassFile.FieldType.int)) ∈ lw_all := lw_g (lw_at lw_m6 192 rfl) rfl
theorem q1460 : (Jvm.Cond.stringRef "FilterWaterworks" (95 : Nat) "pour") ∈ lw_tbl := lw_at lw_m6 193 rfl
theorem q1465 : (Jvm.Cond.instanceMethod ({ cls := "FilterWaterworks", name := "draw", desc := "(II)I" } : Jvm.MethodName)) ∈ lw_all := lw_g (lw_at lw_m6 198 rfl) rfl
theorem q1466 : (Jvm.Cond.selects "FilterWaterworks" ({ cls := "FilterWaterworks", name := "draw", desc := "(II)I" } : Jvm.MethodName) ({ cls := "FilterWaterworks", name := "draw", desc := "(II)I" } : Jvm.MethodName)) ∈ lw_all := lw_g (lw_at lw_m6 199 rfl) rfl
theorem q1467 : (Jvm.Cond.code ({ cls := "FilterWaterworks", name := "draw", desc := "(II)I" } : Jvm.MethodName) prog_1_method_10_code (3 : Nat) (Option.some Jvm.ClassFile.FieldType.int)) ∈ lw_all := lw_g (lw_at lw_m6 200 rfl) rfl
theorem q1468 : (Jvm.Cond.stringRef "FilterWaterworks" (97 : Nat) "draw") ∈ lw_tbl := lw_at lw_m6 201 rfl
theorem q1473 : (Jvm.Cond.instanceMethod ({ cls := "FilterWaterworks", name := "setValve", desc := "(II)I" } : Jvm.MethodName)) ∈ lw_all := lw_g (lw_at lw_m6 206 rfl) rfl
theorem q1474 : (Jvm.Cond.selects "FilterWaterworks" ({ cls := "FilterWaterworks", name := "setValve", desc := "(II)I" } : Jvm.MethodName) ({ cls := "FilterWaterworks", name := "setValve", desc := "(II)I" } : Jvm.MethodName)) ∈ lw_all := lw_g (lw_at lw_m6 207 rfl) rfl
theorem q1475 : (Jvm.Cond.code ({ cls := "FilterWaterworks", name := "setValve", desc := "(II)I" } : Jvm.MethodName) prog_1_method_11_code (3 : Nat) (Option.some Jvm.ClassFile.FieldType.int)) ∈ lw_all := lw_g (lw_at lw_m6 208 rfl) rfl
theorem q1476 : (Jvm.Cond.stringRef "FilterWaterworks" (99 : Nat) "valve") ∈ lw_tbl := lw_at lw_m6 209 rfl
theorem q1481 : (Jvm.Cond.instanceMethod ({ cls := "FilterWaterworks", name := "setLeak", desc := "(II)I" } : Jvm.MethodName)) ∈ lw_all := lw_g (lw_at lw_m6 214 rfl) rfl
theorem q1482 : (Jvm.Cond.selects "FilterWaterworks" ({ cls := "FilterWaterworks", name := "setLeak", desc := "(II)I" } : Jvm.MethodName) ({ cls := "FilterWaterworks", name := "setLeak", desc := "(II)I" } : Jvm.MethodName)) ∈ lw_all := lw_g (lw_at lw_m6 215 rfl) rfl
theorem q1483 : (Jvm.Cond.code ({ cls := "FilterWaterworks", name := "setLeak", desc := "(II)I" } : Jvm.MethodName) prog_1_method_12_code (3 : Nat) (Option.some Jvm.ClassFile.FieldType.int)) ∈ lw_all := lw_g (lw_at lw_m6 216 rfl) rfl
theorem q1484 : (Jvm.Cond.stringRef "FilterWaterworks" (101 : Nat) "leak") ∈ lw_tbl := lw_at lw_m6 217 rfl
theorem q1489 : (Jvm.Cond.instanceMethod ({ cls := "FilterWaterworks", name := "cleanFilter", desc := "(I)I" } : Jvm.MethodName)) ∈ lw_all := lw_g (lw_at lw_m6 222 rfl) rfl
theorem q1490 : (Jvm.Cond.selects "FilterWaterworks" ({ cls := "FilterWaterworks", name := "cleanFilter", desc := "(I)I" } : Jvm.MethodName) ({ cls := "FilterWaterworks", name := "cleanFilter", desc := "(I)I" } : Jvm.MethodName)) ∈ lw_all := lw_g (lw_at lw_m6 223 rfl) rfl
theorem q1491 : (Jvm.Cond.code ({ cls := "FilterWaterworks", name := "cleanFilter", desc := "(I)I" } : Jvm.MethodName) prog_1_method_13_code (2 : Nat) (Option.some Jvm.ClassFile.FieldType.int)) ∈ lw_all := lw_g (lw_at lw_m6 224 rfl) rfl
theorem q1492 : (Jvm.Cond.stringRef "FilterWaterworks" (103 : Nat) "clean") ∈ lw_tbl := lw_at lw_m6 225 rfl
theorem q1497 : (Jvm.Cond.instanceMethod ({ cls := "FilterWaterworks", name := "advance", desc := "(I)I" } : Jvm.MethodName)) ∈ lw_all := lw_g (lw_at lw_m6 230 rfl) rfl
theorem q1498 : (Jvm.Cond.selects "FilterWaterworks" ({ cls := "FilterWaterworks", name := "advance", desc := "(I)I" } : Jvm.MethodName) ({ cls := "FilterWaterworks", name := "advance", desc := "(I)I" } : Jvm.MethodName)) ∈ lw_all := lw_g (lw_at lw_m6 231 rfl) rfl
theorem q1499 : (Jvm.Cond.code ({ cls := "FilterWaterworks", name := "advance", desc := "(I)I" } : Jvm.MethodName) prog_1_method_14_code (2 : Nat) (Option.some Jvm.ClassFile.FieldType.int)) ∈ lw_all := lw_g (lw_at lw_m6 232 rfl) rfl
theorem q1500 : (Jvm.Cond.stringRef "FilterWaterworks" (105 : Nat) "wait") ∈ lw_tbl := lw_at lw_m6 233 rfl
theorem q1505 : (Jvm.Cond.instanceMethod ({ cls := "FilterWaterworks", name := "capacity", desc := "(I)I" } : Jvm.MethodName)) ∈ lw_all := lw_g (lw_at lw_m6 238 rfl) rfl
theorem q1506 : (Jvm.Cond.selects "FilterWaterworks" ({ cls := "FilterWaterworks", name := "capacity", desc := "(I)I" } : Jvm.MethodName) ({ cls := "FilterWaterworks", name := "capacity", desc := "(I)I" } : Jvm.MethodName)) ∈ lw_all := lw_g (lw_at lw_m6 239 rfl) rfl
theorem q1507 : (Jvm.Cond.code ({ cls := "FilterWaterworks", name := "capacity", desc := "(I)I" } : Jvm.MethodName) prog_1_method_22_code (2 : Nat) (Option.some Jvm.ClassFile.FieldType.int)) ∈ lw_all := lw_g (lw_at lw_m7 0 rfl) rfl
theorem q1508 : (Jvm.Cond.methodLink "FilterWaterworks" (143 : Nat) ({ cls := "FilterWaterworks", name := "tankAt", desc := "(I)LFilterWaterworks$Tank;" } : Jvm.MethodName)) ∈ lw_all := lw_g (lw_at lw_m7 1 rfl) rfl
theorem q1509 : (Jvm.Cond.privateMethod ({ cls := "FilterWaterworks", name := "tankAt", desc := "(I)LFilterWaterworks$Tank;" } : Jvm.MethodName)) ∈ lw_tbl := lw_at lw_m7 2 rfl
theorem q1510 : (Jvm.Cond.instanceMethod ({ cls := "FilterWaterworks", name := "tankAt", desc := "(I)LFilterWaterworks$Tank;" } : Jvm.MethodName)) ∈ lw_all := lw_g (lw_at lw_m7 3 rfl) rfl
theorem q1511 : (Jvm.Cond.code ({ cls := "FilterWaterworks", name := "tankAt", desc := "(I)LFilterWaterworks$Tank;" } : Jvm.MethodName) prog_1_method_20_code (2 : Nat) (Option.some (Jvm.ClassFile.FieldType.object "FilterWaterworks$Tank"))) ∈ lw_all := lw_g (lw_at lw_m7 4 rfl) rfl
theorem q1512 : (Jvm.Cond.methodLink "FilterWaterworks" (123 : Nat) ({ cls := "FilterWaterworks$Works", name := "hasTank", desc := "(I)Z" } : Jvm.MethodName)) ∈ lw_all := lw_g (lw_at lw_m7 5 rfl) rfl
theorem q1513 : (Jvm.Cond.methodLink "FilterWaterworks" (127 : Nat) ({ cls := "FilterWaterworks", name := "checkIndex", desc := "(Z)V" } : Jvm.MethodName)) ∈ lw_all := lw_g (lw_at lw_m7 6 rfl) rfl
theorem q1514 : (Jvm.Cond.static ({ cls := "FilterWaterworks", name := "checkIndex", desc := "(Z)V" } : Jvm.MethodName)) ∈ lw_all := lw_g (lw_at lw_m7 7 rfl) rfl
theorem q1515 : (Jvm.Cond.code ({ cls := "FilterWaterworks", name := "checkIndex", desc := "(Z)V" } : Jvm.MethodName) prog_1_method_15_code (1 : Nat) (Option.none : Option Jvm.ClassFile.FieldType)) ∈ lw_all := lw_g (lw_at lw_m7 8 rfl) rfl
theorem q1516 : (Jvm.Cond.classLink "FilterWaterworks" (107 : Nat) "java/lang/IndexOutOfBoundsException") ∈ lw_all := lw_g (lw_at lw_m7 9 rfl) rfl
theorem q1517 : (Jvm.Cond.methodLink "FilterWaterworks" (109 : Nat) ({ cls := "java/lang/IndexOutOfBoundsException", name := "<init>", desc := "()V" } : Jvm.MethodName)) ∈ lw_all := lw_g (lw_at lw_m7 10 rfl) rfl
theorem q1518 : (Jvm.Cond.interfaceEntry "FilterWaterworks" (134 : Nat)) ∈ lw_tbl := lw_at lw_m7 11 rfl
theorem q1519 : (Jvm.Cond.methodLink "FilterWaterworks" (134 : Nat) ({ cls := "java/util/List", name := "get", desc := "(I)Ljava/lang/Object;" } : Jvm.MethodName)) ∈ lw_all := lw_g (lw_at lw_m7 12 rfl) rfl
theorem q1520 : (Jvm.Cond.classLink "FilterWaterworks" (140 : Nat) "FilterWaterworks$Tank") ∈ lw_all := lw_g (lw_at lw_m7 13 rfl) rfl
theorem q1525 : (Jvm.Cond.instanceMethod ({ cls := "FilterWaterworks", name := "content", desc := "(I)I" } : Jvm.MethodName)) ∈ lw_all := lw_g (lw_at lw_m7 18 rfl) rfl
theorem q1526 : (Jvm.Cond.selects "FilterWaterworks" ({ cls := "FilterWaterworks", name := "content", desc := "(I)I" } : Jvm.MethodName) ({ cls := "FilterWaterworks", name := "content", desc := "(I)I" } : Jvm.MethodName)) ∈ lw_all := lw_g (lw_at lw_m7 19 rfl) rfl
theorem q1527 : (Jvm.Cond.code ({ cls := "FilterWaterworks", name := "content", desc := "(I)I" } : Jvm.MethodName) prog_1_method_23_code (2 : Nat) (Option.some Jvm.ClassFile.FieldType.int)) ∈ lw_all := lw_g (lw_at lw_m7 20 rfl) rfl
theorem q1532 : (Jvm.Cond.instanceMethod ({ cls := "FilterWaterworks", name := "impurities", desc := "(I)I" } : Jvm.MethodName)) ∈ lw_all := lw_g (lw_at lw_m7 25 rfl) rfl
theorem q1533 : (Jvm.Cond.selects "FilterWaterworks" ({ cls := "FilterWaterworks", name := "impurities", desc := "(I)I" } : Jvm.MethodName) ({ cls := "FilterWaterworks", name := "impurities", desc := "(I)I" } : Jvm.MethodName)) ∈ lw_all := lw_g (lw_at lw_m7 26 rfl) rfl
theorem q1534 : (Jvm.Cond.code ({ cls := "FilterWaterworks", name := "impurities", desc := "(I)I" } : Jvm.MethodName) prog_1_method_24_code (2 : Nat) (Option.some Jvm.ClassFile.FieldType.int)) ∈ lw_all := lw_g (lw_at lw_m7 27 rfl) rfl
theorem q1539 : (Jvm.Cond.instanceMethod ({ cls := "FilterWaterworks", name := "hasImpurity", desc := "(IC)Z" } : Jvm.MethodName)) ∈ lw_all := lw_g (lw_at lw_m7 32 rfl) rfl
theorem q1540 : (Jvm.Cond.selects "FilterWaterworks" ({ cls := "FilterWaterworks", name := "hasImpurity", desc := "(IC)Z" } : Jvm.MethodName) ({ cls := "FilterWaterworks", name := "hasImpurity", desc := "(IC)Z" } : Jvm.MethodName)) ∈ lw_all := lw_g (lw_at lw_m7 33 rfl) rfl
theorem q1541 : (Jvm.Cond.code ({ cls := "FilterWaterworks", name := "hasImpurity", desc := "(IC)Z" } : Jvm.MethodName) prog_1_method_25_code (4 : Nat) (Option.some Jvm.ClassFile.FieldType.boolean)) ∈ lw_all := lw_g (lw_at lw_m7 34 rfl) rfl
theorem q1542 : (Jvm.Cond.methodLink "FilterWaterworks" (156 : Nat) ({ cls := "FilterWaterworks", name := "checkArgument", desc := "(Z)V" } : Jvm.MethodName)) ∈ lw_all := lw_g (lw_at lw_m7 35 rfl) rfl
theorem q1543 : (Jvm.Cond.static ({ cls := "FilterWaterworks", name := "checkArgument", desc := "(Z)V" } : Jvm.MethodName)) ∈ lw_all := lw_g (lw_at lw_m7 36 rfl) rfl
theorem q1544 : (Jvm.Cond.code ({ cls := "FilterWaterworks", name := "checkArgument", desc := "(Z)V" } : Jvm.MethodName) prog_1_method_16_code (1 : Nat) (Option.none : Option Jvm.ClassFile.FieldType)) ∈ lw_all := lw_g (lw_at lw_m7 37 rfl) rfl
theorem q1545 : (Jvm.Cond.classLink "FilterWaterworks" (110 : Nat) "java/lang/IllegalArgumentException") ∈ lw_all := lw_g (lw_at lw_m7 38 rfl) rfl
theorem q1546 : (Jvm.Cond.methodLink "FilterWaterworks" (112 : Nat) ({ cls := "java/lang/IllegalArgumentException", name := "<init>", desc := "()V" } : Jvm.MethodName)) ∈ lw_all := lw_g (lw_at lw_m7 39 rfl) rfl
theorem q1552 : (Jvm.Cond.instanceMethod ({ cls := "FilterWaterworks", name := "tankByContent", desc := "(I)I" } : Jvm.MethodName)) ∈ lw_all := lw_g (lw_at lw_m7 45 rfl) rfl
theorem q1553 : (Jvm.Cond.selects "FilterWaterworks" ({ cls := "FilterWaterworks", name := "tankByContent", desc := "(I)I" } : Jvm.MethodName) ({ cls := "FilterWaterworks", name := "tankByContent", desc := "(I)I" } : Jvm.MethodName)) ∈ lw_all := lw_g (lw_at lw_m7 46 rfl) rfl
theorem q1554 : (Jvm.Cond.code ({ cls := "FilterWaterworks", name := "tankByContent", desc := "(I)I" } : Jvm.MethodName) prog_1_method_26_code (2 : Nat) (Option.some Jvm.ClassFile.FieldType.int)) ∈ lw_all := lw_g (lw_at lw_m7 47 rfl) rfl
theorem q1555 : (Jvm.Cond.methodLink "FilterWaterworks" (159 : Nat) ({ cls := "FilterWaterworks$Works", name := "tankAt", desc := "(I)I" } : Jvm.MethodName)) ∈ lw_all := lw_g (lw_at lw_m7 48 rfl) rfl
theorem q1568 : (Jvm.Cond.methodLink "FilterWaterworks" (162 : Nat) ({ cls := "FilterWaterworks", name := "found", desc := "(I)I" } : Jvm.MethodName)) ∈ lw_all := lw_g (lw_at lw_m7 61 rfl) rfl
theorem q1569 : (Jvm.Cond.static ({ cls := "FilterWaterworks", name := "found", desc := "(I)I" } : Jvm.MethodName)) ∈ lw_all := lw_g (lw_at lw_m7 62 rfl) rfl
theorem q1570 : (Jvm.Cond.code ({ cls := "FilterWaterworks", name := "found", desc := "(I)I" } : Jvm.MethodName) prog_1_method_19_code (1 : Nat) (Option.some Jvm.ClassFile.FieldType.int)) ∈ lw_all := lw_g (lw_at lw_m7 63 rfl) rfl
theorem q1571 : (Jvm.Cond.methodLink "FilterWaterworks" (119 : Nat) ({ cls := "FilterWaterworks", name := "checkElement", desc := "(Z)V" } : Jvm.MethodName)) ∈ lw_all := lw_g (lw_at lw_m7 64 rfl) rfl
theorem q1572 : (Jvm.Cond.static ({ cls := "FilterWaterworks", name := "checkElement", desc := "(Z)V" } : Jvm.MethodName)) ∈ lw_all := lw_g (lw_at lw_m7 65 rfl) rfl
theorem q1573 : (Jvm.Cond.code ({ cls := "FilterWaterworks", name := "checkElement", desc := "(Z)V" } : Jvm.MethodName) prog_1_method_17_code (1 : Nat) (Option.none : Option Jvm.ClassFile.FieldType)) ∈ lw_all := lw_g (lw_at lw_m7 66 rfl) rfl
theorem q1574 : (Jvm.Cond.classLink "FilterWaterworks" (113 : Nat) "java/util/NoSuchElementException") ∈ lw_all := lw_g (lw_at lw_m7 67 rfl) rfl
theorem q1575 : (Jvm.Cond.methodLink "FilterWaterworks" (115 : Nat) ({ cls := "java/util/NoSuchElementException", name := "<init>", desc := "()V" } : Jvm.MethodName)) ∈ lw_all := lw_g (lw_at lw_m7 68 rfl) rfl
theorem q1580 : (Jvm.Cond.instanceMethod ({ cls := "FilterWaterworks", name := "fillShare", desc := "(I)F" } : Jvm.MethodName)) ∈ lw_all := lw_g (lw_at lw_m7 73 rfl) rfl
theorem q1581 : (Jvm.Cond.selects "FilterWaterworks" ({ cls := "FilterWaterworks", name := "fillShare", desc := "(I)F" } : Jvm.MethodName) ({ cls := "FilterWaterworks", name := "fillShare", desc := "(I)F" } : Jvm.MethodName)) ∈ lw_all := lw_g (lw_at lw_m7 74 rfl) rfl
theorem q1582 : (Jvm.Cond.code ({ cls := "FilterWaterworks", name := "fillShare", desc := "(I)F" } : Jvm.MethodName) prog_1_method_27_code (3 : Nat) (Option.some Jvm.ClassFile.FieldType.float)) ∈ lw_all := lw_g (lw_at lw_m7 75 rfl) rfl
theorem q1587 : (Jvm.Cond.instanceMethod ({ cls := "FilterWaterworks", name := "fillShareBits", desc := "(I)I" } : Jvm.MethodName)) ∈ lw_all := lw_g (lw_at lw_m7 80 rfl) rfl
theorem q1588 : (Jvm.Cond.selects "FilterWaterworks" ({ cls := "FilterWaterworks", name := "fillShareBits", desc := "(I)I" } : Jvm.MethodName) ({ cls := "FilterWaterworks", name := "fillShareBits", desc := "(I)I" } : Jvm.MethodName)) ∈ lw_all := lw_g (lw_at lw_m7 81 rfl) rfl
theorem q1589 : (Jvm.Cond.code ({ cls := "FilterWaterworks", name := "fillShareBits", desc := "(I)I" } : Jvm.MethodName) prog_1_method_28_code (2 : Nat) (Option.some Jvm.ClassFile.FieldType.int)) ∈ lw_all := lw_g (lw_at lw_m7 82 rfl) rfl
theorem q1590 : (Jvm.Cond.methodLink "FilterWaterworks" (165 : Nat) ({ cls := "FilterWaterworks", name := "fillShare", desc := "(I)F" } : Jvm.MethodName)) ∈ lw_all := lw_g (lw_at lw_m7 83 rfl) rfl
theorem q1591 : (Jvm.Cond.methodLink "FilterWaterworks" (169 : Nat) ({ cls := "java/lang/Float", name := "floatToIntBits", desc := "(F)I" } : Jvm.MethodName)) ∈ lw_all := lw_g (lw_at lw_m7 84 rfl) rfl
theorem q1605 : (Jvm.Cond.instanceMethod ({ cls := "FilterWaterworks", name := "firstOf", desc := "(I)I" } : Jvm.MethodName)) ∈ lw_all := lw_g (lw_at lw_m7 98 rfl) rfl
theorem q1606 : (Jvm.Cond.selects "FilterWaterworks" ({ cls := "FilterWaterworks", name := "firstOf", desc := "(I)I" } : Jvm.MethodName) ({ cls := "FilterWaterworks", name := "firstOf", desc := "(I)I" } : Jvm.MethodName)) ∈ lw_all := lw_g (lw_at lw_m7 99 rfl) rfl
theorem q1607 : (Jvm.Cond.code ({ cls := "FilterWaterworks", name := "firstOf", desc := "(I)I" } : Jvm.MethodName) prog_1_method_31_code (2 : Nat) (Option.some Jvm.ClassFile.FieldType.int)) ∈ lw_all := lw_g (lw_at lw_m7 100 rfl) rfl
theorem q1608 : (Jvm.Cond.methodLink "FilterWaterworks" (183 : Nat) ({ cls := "FilterWaterworks", name := "pipeAt", desc := "(I)LFilterWaterworks$Pipe;" } : Jvm.MethodName)) ∈ lw_all := lw_g (lw_at lw_m7 101 rfl) rfl
theorem q1609 : (Jvm.Cond.privateMethod ({ cls := "FilterWaterworks", name := "pipeAt", desc := "(I)LFilterWaterworks$Pipe;" } : Jvm.MethodName)) ∈ lw_tbl := lw_at lw_m7 102 rfl
theorem q1610 : (Jvm.Cond.instanceMethod ({ cls := "FilterWaterworks", name := "pipeAt", desc := "(I)LFilterWaterworks$Pipe;" } : Jvm.MethodName)) ∈ lw_all := lw_g (lw_at lw_m7 103 rfl) rfl
theorem q1611 : (Jvm.Cond.code ({ cls := "FilterWaterworks", name := "pipeAt", desc := "(I)LFilterWaterworks$Pipe;" } : Jvm.MethodName) prog_1_method_29_code (2 : Nat) (Option.some (Jvm.ClassFile.FieldType.object "FilterWaterworks$Pipe"))) ∈ lw_all := lw_g (lw_at lw_m7 104 rfl) rfl
theorem q1612 : (Jvm.Cond.methodLink "FilterWaterworks" (175 : Nat) ({ cls := "FilterWaterworks$Works", name := "hasPipe", desc := "(I)Z" } : Jvm.MethodName)) ∈ lw_all := lw_g (lw_at lw_m7 105 rfl) rfl
theorem q1613 : (Jvm.Cond.classLink "FilterWaterworks" (181 : Nat) "FilterWaterworks$Pipe") ∈ lw_all := lw_g (lw_at lw_m7 106 rfl) rfl
theorem q1618 : (Jvm.Cond.instanceMethod ({ cls := "FilterWaterworks", name := "secondOf", desc := "(I)I" } : Jvm.MethodName)) ∈ lw_all := lw_g (lw_at lw_m7 111 rfl) rfl
theorem q1619 : (Jvm.Cond.selects "FilterWaterworks" ({ cls := "FilterWaterworks", name := "secondOf", desc := "(I)I" } : Jvm.MethodName) ({ cls := "FilterWaterworks", name := "secondOf", desc := "(I)I" } : Jvm.MethodName)) ∈ lw_all := lw_g (lw_at lw_m7 112 rfl) rfl
theorem q1620 : (Jvm.Cond.code ({ cls := "FilterWaterworks", name := "secondOf", desc := "(I)I" } : Jvm.MethodName) prog_1_method_32_code (2 : Nat) (Option.some Jvm.ClassFile.FieldType.int)) ∈ lw_all := lw_g (lw_at lw_m7 113 rfl) rfl
theorem q1625 : (Jvm.Cond.instanceMethod ({ cls := "FilterWaterworks", name := "valve", desc := "(I)I" } : Jvm.MethodName)) ∈ lw_all := lw_g (lw_at lw_m7 118 rfl) rfl
theorem q1626 : (Jvm.Cond.selects "FilterWaterworks" ({ cls := "FilterWaterworks", name := "valve", desc := "(I)I" } : Jvm.MethodName) ({ cls := "FilterWaterworks", name := "valve", desc := "(I)I" } : Jvm.MethodName)) ∈ lw_all := lw_g (lw_at lw_m7 119 rfl) rfl
theorem q1627 : (Jvm.Cond.code ({ cls := "FilterWaterworks", name := "valve", desc := "(I)I" } : Jvm.MethodName) prog_1_method_33_code (2 : Nat) (Option.some Jvm.ClassFile.FieldType.int)) ∈ lw_all := lw_g (lw_at lw_m7 120 rfl) rfl
theorem q1632 : (Jvm.Cond.instanceMethod ({ cls := "FilterWaterworks", name := "leak", desc := "(I)I" } : Jvm.MethodName)) ∈ lw_all := lw_g (lw_at lw_m7 125 rfl) rfl
theorem q1633 : (Jvm.Cond.selects "FilterWaterworks" ({ cls := "FilterWaterworks", name := "leak", desc := "(I)I" } : Jvm.MethodName) ({ cls := "FilterWaterworks", name := "leak", desc := "(I)I" } : Jvm.MethodName)) ∈ lw_all := lw_g (lw_at lw_m7 126 rfl) rfl
theorem q1634 : (Jvm.Cond.code ({ cls := "FilterWaterworks", name := "leak", desc := "(I)I" } : Jvm.MethodName) prog_1_method_34_code (2 : Nat) (Option.some Jvm.ClassFile.FieldType.int)) ∈ lw_all := lw_g (lw_at lw_m7 127 rfl) rfl
theorem q1639 : (Jvm.Cond.instanceMethod ({ cls := "FilterWaterworks", name := "mesh", desc := "(I)I" } : Jvm.MethodName)) ∈ lw_all := lw_g (lw_at lw_m7 132 rfl) rfl
theorem q1640 : (Jvm.Cond.selects "FilterWaterworks" ({ cls := "FilterWaterworks", name := "mesh", desc := "(I)I" } : Jvm.MethodName) ({ cls := "FilterWaterworks", name := "mesh", desc := "(I)I" } : Jvm.MethodName)) ∈ lw_all := lw_g (lw_at lw_m7 133 rfl) rfl
theorem q1641 : (Jvm.Cond.code ({ cls := "FilterWaterworks", name := "mesh", desc := "(I)I" } : Jvm.MethodName) prog_1_method_35_code (2 : Nat) (Option.some Jvm.ClassFile.FieldType.int)) ∈ lw_all := lw_g (lw_at lw_m7 134 rfl) rfl
theorem q1646 : (Jvm.Cond.instanceMethod ({ cls := "FilterWaterworks", name := "dirt", desc := "(I)I" } : Jvm.MethodName)) ∈ lw_all := lw_g (lw_at lw_m7 139 rfl) rfl
theorem q1647 : (Jvm.Cond.selects "FilterWaterworks" ({ cls := "FilterWaterworks", name := "dirt", desc := "(I)I" } : Jvm.MethodName) ({ cls := "FilterWaterworks", name := "dirt", desc := "(I)I" } : Jvm.MethodName)) ∈ lw_all := lw_g (lw_at lw_m7 140 rfl) rfl
theorem q1648 : (Jvm.Cond.code ({ cls := "FilterWaterworks", name := "dirt", desc := "(I)I" } : Jvm.MethodName) prog_1_method_36_code (2 : Nat) (Option.some Jvm.ClassFile.FieldType.int)) ∈ lw_all := lw_g (lw_at lw_m7 141 rfl) rfl
theorem q1653 : (Jvm.Cond.instanceMethod ({ cls := "FilterWaterworks", name := "isOpen", desc := "(I)Z" } : Jvm.MethodName)) ∈ lw_all := lw_g (lw_at lw_m7 146 rfl) rfl
theorem q1654 : (Jvm.Cond.selects "FilterWaterworks" ({ cls := "FilterWaterworks", name := "isOpen", desc := "(I)Z" } : Jvm.MethodName) ({ cls := "FilterWaterworks", name := "isOpen", desc := "(I)Z" } : Jvm.MethodName)) ∈ lw_all := lw_g (lw_at lw_m7 147 rfl) rfl
theorem q1655 : (Jvm.Cond.code ({ cls := "FilterWaterworks", name := "isOpen", desc := "(I)Z" } : Jvm.MethodName) prog_1_method_37_code (2 : Nat) (Option.some Jvm.ClassFile.FieldType.boolean)) ∈ lw_all := lw_g (lw_at lw_m7 148 rfl) rfl
theorem q1656 : (Jvm.Cond.methodLink "FilterWaterworks" (205 : Nat) ({ cls := "FilterWaterworks$Pipe", name := "isOpen", desc := "()Z" } : Jvm.MethodName)) ∈ lw_all := lw_g (lw_at lw_m7 149 rfl) rfl
theorem q1661 : (Jvm.Cond.instanceMethod ({ cls := "FilterWaterworks", name := "flow", desc := "(I)I" } : Jvm.MethodName)) ∈ lw_all := lw_g (lw_at lw_m7 154 rfl) rfl
theorem q1662 : (Jvm.Cond.selects "FilterWaterworks" ({ cls := "FilterWaterworks", name := "flow", desc := "(I)I" } : Jvm.MethodName) ({ cls := "FilterWaterworks", name := "flow", desc := "(I)I" } : Jvm.MethodName)) ∈ lw_all := lw_g (lw_at lw_m7 155 rfl) rfl
theorem q1663 : (Jvm.Cond.code ({ cls := "FilterWaterworks", name := "flow", desc := "(I)I" } : Jvm.MethodName) prog_1_method_38_code (2 : Nat) (Option.some Jvm.ClassFile.FieldType.int)) ∈ lw_all := lw_g (lw_at lw_m7 156 rfl) rfl
theorem q1664 : (Jvm.Cond.methodLink "FilterWaterworks" (209 : Nat) ({ cls := "FilterWaterworks$Works", name := "signedLitres", desc := "(LFilterWaterworks$Pipe;)I" } : Jvm.MethodName)) ∈ lw_all := lw_g (lw_at lw_m7 157 rfl) rfl
theorem q1681 : (Jvm.Cond.instanceMethod ({ cls := "FilterWaterworks", name := "litresThrough", desc := "(I)I" } : Jvm.MethodName)) ∈ lw_all := lw_g (lw_at lw_m7 174 rfl) rfl
theorem q1682 : (Jvm.Cond.selects "FilterWaterworks" ({ cls := "FilterWaterworks", name := "litresThrough", desc := "(I)I" } : Jvm.MethodName) ({ cls := "FilterWaterworks", name := "litresThrough", desc := "(I)I" } : Jvm.MethodName)) ∈ lw_all := lw_g (lw_at lw_m7 175 rfl) rfl
theorem q1683 : (Jvm.Cond.code ({ cls := "FilterWaterworks", name := "litresThrough", desc := "(I)I" } : Jvm.MethodName) prog_1_method_39_code (2 : Nat) (Option.some Jvm.ClassFile.FieldType.int)) ∈ lw_all := lw_g (lw_at lw_m7 176 rfl) rfl
theorem q1688 : (Jvm.Cond.instanceMethod ({ cls := "FilterWaterworks", name := "pipeByDirt", desc := "(I)I" } : Jvm.MethodName)) ∈ lw_all := lw_g (lw_at lw_m7 181 rfl) rfl
theorem q1689 : (Jvm.Cond.selects "FilterWaterworks" ({ cls := "FilterWaterworks", name := "pipeByDirt", desc := "(I)I" } : Jvm.MethodName) ({ cls := "FilterWaterworks", name := "pipeByDirt", desc := "(I)I" } : Jvm.MethodName)) ∈ lw_all := lw_g (lw_at lw_m7 182 rfl) rfl
theorem q1690 : (Jvm.Cond.code ({ cls := "FilterWaterworks", name := "pipeByDirt", desc := "(I)I" } : Jvm.MethodName) prog_1_method_40_code (2 : Nat) (Option.some Jvm.ClassFile.FieldType.int)) ∈ lw_all := lw_g (lw_at lw_m7 183 rfl) rfl
theorem q1691 : (Jvm.Cond.methodLink "FilterWaterworks" (216 : Nat) ({ cls := "FilterWaterworks$Works", name := "pipeAt", desc := "(I)I" } : Jvm.MethodName)) ∈ lw_all := lw_g (lw_at lw_m7 184 rfl) rfl
theorem q1699 : (Jvm.Cond.instanceMethod ({ cls := "FilterWaterworks", name := "areConnected", desc := "(II)Z" } : Jvm.MethodName)) ∈ lw_all := lw_g (lw_at lw_m7 192 rfl) rfl
theorem q1700 : (Jvm.Cond.selects "FilterWaterworks" ({ cls := "FilterWaterworks", name := "areConnected", desc := "(II)Z" } : Jvm.MethodName) ({ cls := "FilterWaterworks", name := "areConnected", desc := "(II)Z" } : Jvm.MethodName)) ∈ lw_all := lw_g (lw_at lw_m7 193 rfl) rfl
theorem q1701 : (Jvm.Cond.code ({ cls := "FilterWaterworks", name := "areConnected", desc := "(II)Z" } : Jvm.MethodName) prog_1_method_42_code (3 : Nat) (Option.some Jvm.ClassFile.FieldType.boolean)) ∈ lw_all := lw_g (lw_at lw_m7 194 rfl) rfl
theorem q1702 : (Jvm.Cond.methodLink "FilterWaterworks" (218 : Nat) ({ cls := "FilterWaterworks", name := "checkTanks", desc := "(II)V" } : Jvm.MethodName)) ∈ lw_all := lw_g (lw_at lw_m7 195 rfl) rfl
theorem q1703 : (Jvm.Cond.privateMethod ({ cls := "FilterWaterworks", name := "checkTanks", desc := "(II)V" } : Jvm.MethodName)) ∈ lw_tbl := lw_at lw_m7 196 rfl
theorem q1704 : (Jvm.Cond.instanceMethod ({ cls := "FilterWaterworks", name := "checkTanks", desc := "(II)V" } : Jvm.MethodName)) ∈ lw_all := lw_g (lw_at lw_m7 197 rfl) rfl
theorem q1705 : (Jvm.Cond.code ({ cls := "FilterWaterworks", name := "checkTanks", desc := "(II)V" } : Jvm.MethodName) prog_1_method_41_code (3 : Nat) (Option.none : Option Jvm.ClassFile.FieldType)) ∈ lw_all := lw_g (lw_at lw_m7 198 rfl) rfl
theorem q1706 : (Jvm.Cond.methodLink "FilterWaterworks" (222 : Nat) ({ cls := "FilterWaterworks$Works", name := "areConnected", desc := "(II)Z" } : Jvm.MethodName)) ∈ lw_all := lw_g (lw_at lw_m7 199 rfl) rfl
theorem q1714 : (Jvm.Cond.instanceMethod ({ cls := "FilterWaterworks", name := "isBridge", desc := "(I)Z" } : Jvm.MethodName)) ∈ lw_all := lw_g (lw_at lw_m7 207 rfl) rfl
theorem q1715 : (Jvm.Cond.selects "FilterWaterworks" ({ cls := "FilterWaterworks", name := "isBridge", desc := "(I)Z" } : Jvm.MethodName) ({ cls := "FilterWaterworks", name := "isBridge", desc := "(I)Z" } : Jvm.MethodName)) ∈ lw_all := lw_g (lw_at lw_m7 208 rfl) rfl
theorem q1716 : (Jvm.Cond.code ({ cls := "FilterWaterworks", name := "isBridge", desc := "(I)Z" } : Jvm.MethodName) prog_1_method_45_code (2 : Nat) (Option.some Jvm.ClassFile.FieldType.boolean)) ∈ lw_all := lw_g (lw_at lw_m7 209 rfl) rfl
theorem q1717 : (Jvm.Cond.methodLink "FilterWaterworks" (232 : Nat) ({ cls := "FilterWaterworks$Works", name := "isBridge", desc := "(I)Z" } : Jvm.MethodName)) ∈ lw_all := lw_g (lw_at lw_m7 210 rfl) rfl
theorem q1722 : (Jvm.Cond.instanceMethod ({ cls := "FilterWaterworks", name := "width", desc := "(II)I" } : Jvm.MethodName)) ∈ lw_all := lw_g (lw_at lw_m7 215 rfl) rfl
theorem q1723 : (Jvm.Cond.selects "FilterWaterworks" ({ cls := "FilterWaterworks", name := "width", desc := "(II)I" } : Jvm.MethodName) ({ cls := "FilterWaterworks", name := "width", desc := "(II)I" } : Jvm.MethodName)) ∈ lw_all := lw_g (lw_at lw_m7 216 rfl) rfl
theorem q1724 : (Jvm.Cond.code ({ cls := "FilterWaterworks", name := "width", desc := "(II)I" } : Jvm.MethodName) prog_1_method_48_code (3 : Nat) (Option.some Jvm.ClassFile.FieldType.int)) ∈ lw_all := lw_g (lw_at lw_m7 217 rfl) rfl
theorem q1725 : (Jvm.Cond.methodLink "FilterWaterworks" (241 : Nat) ({ cls := "FilterWaterworks$Works", name := "widths", desc := "(I)[I" } : Jvm.MethodName)) ∈ lw_all := lw_g (lw_at lw_m7 218 rfl) rfl
theorem q1730 : (Jvm.Cond.instanceMethod ({ cls := "FilterWaterworks", name := "widthBySettings", desc := "(II)I" } : Jvm.MethodName)) ∈ lw_all := lw_g (lw_at lw_m7 223 rfl) rfl
theorem q1731 : (Jvm.Cond.selects "FilterWaterworks" ({ cls := "FilterWaterworks", name := "widthBySettings", desc := "(II)I" } : Jvm.MethodName) ({ cls := "FilterWaterworks", name := "widthBySettings", desc := "(II)I" } : Jvm.MethodName)) ∈ lw_all := lw_g (lw_at lw_m7 224 rfl) rfl
theorem q1732 : (Jvm.Cond.code ({ cls := "FilterWaterworks", name := "widthBySettings", desc := "(II)I" } : Jvm.MethodName) prog_1_method_49_code (3 : Nat) (Option.some Jvm.ClassFile.FieldType.int)) ∈ lw_all := lw_g (lw_at lw_m7 225 rfl) rfl
theorem q1733 : (Jvm.Cond.methodLink "FilterWaterworks" (245 : Nat) ({ cls := "FilterWaterworks$Works", name := "widthBySettings", desc := "(II)I" } : Jvm.MethodName)) ∈ lw_all := lw_g (lw_at lw_m7 226 rfl) rfl
theorem q1738 : (Jvm.Cond.instanceMethod ({ cls := "FilterWaterworks", name := "cleanest", desc := "(II)I" } : Jvm.MethodName)) ∈ lw_all := lw_g (lw_at lw_m7 231 rfl) rfl
theorem q1739 : (Jvm.Cond.selects "FilterWaterworks" ({ cls := "FilterWaterworks", name := "cleanest", desc := "(II)I" } : Jvm.MethodName) ({ cls := "FilterWaterworks", name := "cleanest", desc := "(II)I" } : Jvm.MethodName)) ∈ lw_all := lw_g (lw_at lw_m7 232 rfl) rfl
theorem q1740 : (Jvm.Cond.code ({ cls := "FilterWaterworks", name := "cleanest", desc := "(II)I" } : Jvm.MethodName) prog_1_method_50_code (3 : Nat) (Option.some Jvm.ClassFile.FieldType.int)) ∈ lw_all := lw_g (lw_at lw_m7 233 rfl) rfl
theorem q1741 : (Jvm.Cond.methodLink "FilterWaterworks" (249 : Nat) ({ cls := "FilterWaterworks$Works", name := "reach", desc := "(I)LFilterWaterworks$Reach;" } : Jvm.MethodName)) ∈ lw_all := lw_g (lw_at lw_m7 234 rfl) rfl
theorem q1742 : (Jvm.Cond.methodLink "FilterWaterworks" (253 : Nat) ({ cls := "FilterWaterworks$Reach", name := "fewest", desc := "(I)I" } : Jvm.MethodName)) ∈ lw_all := lw_g (lw_at lw_m7 235 rfl) rfl
theorem q1747 : (Jvm.Cond.instanceMethod ({ cls := "FilterWaterworks", name := "cleanestByPasses", desc := "(II)I" } : Jvm.MethodName)) ∈ lw_all := lw_g (lw_at lw_m8 0 rfl) rfl
theorem q1748 : (Jvm.Cond.selects "FilterWaterworks" ({ cls := "FilterWaterworks", name := "cleanestByPasses", desc := "(II)I" } : Jvm.MethodName) ({ cls := "FilterWaterworks", name := "cleanestByPasses", desc := "(II)I" } : Jvm.MethodName)) ∈ lw_all := lw_g (lw_at lw_m8 1 rfl) rfl
theorem q1749 : (Jvm.Cond.code ({ cls := "FilterWaterworks", name := "cleanestByPasses", desc := "(II)I" } : Jvm.MethodName) prog_1_method_51_code (3 : Nat) (Option.some Jvm.ClassFile.FieldType.int)) ∈ lw_all := lw_g (lw_at lw_m8 2 rfl) rfl
theorem q1750 : (Jvm.Cond.methodLink "FilterWaterworks" (258 : Nat) ({ cls := "FilterWaterworks$Works", name := "reachByPasses", desc := "(I)LFilterWaterworks$Reach;" } : Jvm.MethodName)) ∈ lw_all := lw_g (lw_at lw_m8 3 rfl) rfl
theorem q1755 : (Jvm.Cond.instanceMethod ({ cls := "FilterWaterworks", name := "minutesUntilStill", desc := "()I" } : Jvm.MethodName)) ∈ lw_all := lw_g (lw_at lw_m8 8 rfl) rfl
theorem q1756 : (Jvm.Cond.selects "FilterWaterworks" ({ cls := "FilterWaterworks", name := "minutesUntilStill", desc := "()I" } : Jvm.MethodName) ({ cls := "FilterWaterworks", name := "minutesUntilStill", desc := "()I" } : Jvm.MethodName)) ∈ lw_all := lw_g (lw_at lw_m8 9 rfl) rfl
theorem q1757 : (Jvm.Cond.code ({ cls := "FilterWaterworks", name := "minutesUntilStill", desc := "()I" } : Jvm.MethodName) prog_1_method_52_code (2 : Nat) (Option.some Jvm.ClassFile.FieldType.int)) ∈ lw_all := lw_g (lw_at lw_m8 10 rfl) rfl
theorem q1758 : (Jvm.Cond.methodLink "FilterWaterworks" (261 : Nat) ({ cls := "FilterWaterworks$Works", name := "minutesUntilStill", desc := "()I" } : Jvm.MethodName)) ∈ lw_all := lw_g (lw_at lw_m8 11 rfl) rfl
theorem q1766 : (Jvm.Cond.methodLink "FilterWaterworks" (264 : Nat) ({ cls := "FilterWaterworks", name := "checkState", desc := "(Z)V" } : Jvm.MethodName)) ∈ lw_all := lw_g (lw_at lw_m8 19 rfl) rfl
theorem q1767 : (Jvm.Cond.static ({ cls := "FilterWaterworks", name := "checkState", desc := "(Z)V" } : Jvm.MethodName)) ∈ lw_all := lw_g (lw_at lw_m8 20 rfl) rfl
theorem q1768 : (Jvm.Cond.code ({ cls := "FilterWaterworks", name := "checkState", desc := "(Z)V" } : Jvm.MethodName) prog_1_method_18_code (1 : Nat) (Option.none : Option Jvm.ClassFile.FieldType)) ∈ lw_all := lw_g (lw_at lw_m8 21 rfl) rfl
theorem q1769 : (Jvm.Cond.classLink "FilterWaterworks" (116 : Nat) "java/lang/IllegalStateException") ∈ lw_all := lw_g (lw_at lw_m8 22 rfl) rfl
theorem q1770 : (Jvm.Cond.methodLink "FilterWaterworks" (118 : Nat) ({ cls := "java/lang/IllegalStateException", name := "<init>", desc := "()V" } : Jvm.MethodName)) ∈ lw_all := lw_g (lw_at lw_m8 23 rfl) rfl
theorem q1789 : (Jvm.Cond.instanceMethod ({ cls := "FilterWaterworks", name := "meanContent", desc := "()D" } : Jvm.MethodName)) ∈ lw_all := lw_g (lw_at lw_m8 42 rfl) rfl
theorem q1790 : (Jvm.Cond.selects "FilterWaterworks" ({ cls := "FilterWaterworks", name := "meanContent", desc := "()D" } : Jvm.MethodName) ({ cls := "FilterWaterworks", name := "meanContent", desc := "()D" } : Jvm.MethodName)) ∈ lw_all := lw_g (lw_at lw_m8 43 rfl) rfl
theorem q1791 : (Jvm.Cond.code ({ cls := "FilterWaterworks", name := "meanContent", desc := "()D" } : Jvm.MethodName) prog_1_method_59_code (1 : Nat) (Option.some Jvm.ClassFile.FieldType.double)) ∈ lw_all := lw_g (lw_at lw_m8 44 rfl) rfl
theorem q1792 : (Jvm.Cond.classLink "FilterWaterworks" (288 : Nat) "java/lang/ArithmeticException") ∈ lw_all := lw_g (lw_at lw_m8 45 rfl) rfl
theorem q1793 : (Jvm.Cond.methodLink "FilterWaterworks" (290 : Nat) ({ cls := "java/lang/ArithmeticException", name := "<init>", desc := "()V" } : Jvm.MethodName)) ∈ lw_all := lw_g (lw_at lw_m8 46 rfl) rfl
theorem q1801 : (Jvm.Cond.instanceMethod ({ cls := "FilterWaterworks", name := "meanContentBits", desc := "()J" } : Jvm.MethodName)) ∈ lw_all := lw_g (lw_at lw_m8 54 rfl) rfl
theorem q1802 : (Jvm.Cond.selects "FilterWaterworks" ({ cls := "FilterWaterworks", name := "meanContentBits", desc := "()J" } : Jvm.MethodName) ({ cls := "FilterWaterworks", name := "meanContentBits", desc := "()J" } : Jvm.MethodName)) ∈ lw_all := lw_g (lw_at lw_m8 55 rfl) rfl
theorem q1803 : (Jvm.Cond.code ({ cls := "FilterWaterworks", name := "meanContentBits", desc := "()J" } : Jvm.MethodName) prog_1_method_60_code (1 : Nat) (Option.some Jvm.ClassFile.FieldType.long)) ∈ lw_all := lw_g (lw_at lw_m8 56 rfl) rfl
theorem q1804 : (Jvm.Cond.methodLink "FilterWaterworks" (291 : Nat) ({ cls := "FilterWaterworks", name := "meanContent", desc := "()D" } : Jvm.MethodName)) ∈ lw_all := lw_g (lw_at lw_m8 57 rfl) rfl
theorem q1805 : (Jvm.Cond.methodLink "FilterWaterworks" (295 : Nat) ({ cls := "java/lang/Double", name := "doubleToLongBits", desc := "(D)J" } : Jvm.MethodName)) ∈ lw_all := lw_g (lw_at lw_m8 58 rfl) rfl
theorem q1819 : (Jvm.Cond.instanceMethod ({ cls := "FilterWaterworks", name := "renderTank", desc := "(I)I" } : Jvm.MethodName)) ∈ lw_all := lw_g (lw_at lw_m8 72 rfl) rfl
theorem q1820 : (Jvm.Cond.selects "FilterWaterworks" ({ cls := "FilterWaterworks", name := "renderTank", desc := "(I)I" } : Jvm.MethodName) ({ cls := "FilterWaterworks", name := "renderTank", desc := "(I)I" } : Jvm.MethodName)) ∈ lw_all := lw_g (lw_at lw_m8 73 rfl) rfl
theorem q1821 : (Jvm.Cond.code ({ cls := "FilterWaterworks", name := "renderTank", desc := "(I)I" } : Jvm.MethodName) prog_1_method_64_code (2 : Nat) (Option.some Jvm.ClassFile.FieldType.int)) ∈ lw_all := lw_g (lw_at lw_m8 74 rfl) rfl
theorem q1822 : (Jvm.Cond.methodLink "FilterWaterworks" (313 : Nat) ({ cls := "java/lang/StringBuilder", name := "append", desc := "(I)Ljava/lang/StringBuilder;" } : Jvm.MethodName)) ∈ lw_all := lw_g (lw_at lw_m8 75 rfl) rfl
theorem q1823 : (Jvm.Cond.stringRef "FilterWaterworks" (317 : Nat) "=") ∈ lw_tbl := lw_at lw_m8 76 rfl
theorem q1824 : (Jvm.Cond.methodLink "FilterWaterworks" (319 : Nat) ({ cls := "java/lang/StringBuilder", name := "append", desc := "(Ljava/lang/String;)Ljava/lang/StringBuilder;" } : Jvm.MethodName)) ∈ lw_all := lw_g (lw_at lw_m8 77 rfl) rfl
theorem q1825 : (Jvm.Cond.methodLink "FilterWaterworks" (322 : Nat) ({ cls := "FilterWaterworks$Tank", name := "toString", desc := "()Ljava/lang/String;" } : Jvm.MethodName)) ∈ lw_all := lw_g (lw_at lw_m8 78 rfl) rfl
theorem q1856 : (Jvm.Cond.methodLink "FilterWaterworks" (326 : Nat) ({ cls := "java/lang/StringBuilder", name := "toString", desc := "()Ljava/lang/String;" } : Jvm.MethodName)) ∈ lw_all := lw_g (lw_at lw_m8 109 rfl) rfl
theorem q1857 : (Jvm.Cond.methodLink "FilterWaterworks" (327 : Nat) ({ cls := "FilterWaterworks", name := "write", desc := "(Ljava/lang/String;)I" } : Jvm.MethodName)) ∈ lw_all := lw_g (lw_at lw_m8 110 rfl) rfl
theorem q1858 : (Jvm.Cond.privateMethod ({ cls := "FilterWaterworks", name := "write", desc := "(Ljava/lang/String;)I" } : Jvm.MethodName)) ∈ lw_tbl := lw_at lw_m8 111 rfl
theorem q1859 : (Jvm.Cond.instanceMethod ({ cls := "FilterWaterworks", name := "write", desc := "(Ljava/lang/String;)I" } : Jvm.MethodName)) ∈ lw_all := lw_g (lw_at lw_m8 112 rfl) rfl
theorem q1860 : (Jvm.Cond.code ({ cls := "FilterWaterworks", name := "write", desc := "(Ljava/lang/String;)I" } : Jvm.MethodName) prog_1_method_63_code (2 : Nat) (Option.some Jvm.ClassFile.FieldType.int)) ∈ lw_all := lw_g (lw_at lw_m8 113 rfl) rfl
theorem q1861 : (Jvm.Cond.methodLink "FilterWaterworks" (308 : Nat) ({ cls := "java/lang/String", name := "length", desc := "()I" } : Jvm.MethodName)) ∈ lw_all := lw_g (lw_at lw_m8 114 rfl) rfl
theorem q1866 : (Jvm.Cond.instanceMethod ({ cls := "FilterWaterworks", name := "renderPipe", desc := "(I)I" } : Jvm.MethodName)) ∈ lw_all := lw_g (lw_at lw_m8 119 rfl) rfl
theorem q1867 : (Jvm.Cond.selects "FilterWaterworks" ({ cls := "FilterWaterworks", name := "renderPipe", desc := "(I)I" } : Jvm.MethodName) ({ cls := "FilterWaterworks", name := "renderPipe", desc := "(I)I" } : Jvm.MethodName)) ∈ lw_all := lw_g (lw_at lw_m8 120 rfl) rfl
theorem q1868 : (Jvm.Cond.code ({ cls := "FilterWaterworks", name := "renderPipe", desc := "(I)I" } : Jvm.MethodName) prog_1_method_65_code (3 : Nat) (Option.some Jvm.ClassFile.FieldType.int)) ∈ lw_all := lw_g (lw_at lw_m8 121 rfl) rfl
theorem q1869 : (Jvm.Cond.stringRef "FilterWaterworks" (331 : Nat) ":") ∈ lw_tbl := lw_at lw_m8 122 rfl
theorem q1870 : (Jvm.Cond.methodLink "FilterWaterworks" (333 : Nat) ({ cls := "FilterWaterworks$Pipe", name := "toString", desc := "()Ljava/lang/String;" } : Jvm.MethodName)) ∈ lw_all := lw_g (lw_at lw_m8 123 rfl) rfl
theorem q1884 : (Jvm.Cond.stringRef "FilterWaterworks" (334 : Nat) "*") ∈ lw_tbl := lw_at lw_m8 137 rfl
theorem q1889 : (Jvm.Cond.instanceMethod ({ cls := "FilterWaterworks", name := "outputAt", desc := "(I)C" } : Jvm.MethodName)) ∈ lw_all := lw_g (lw_at lw_m8 142 rfl) rfl
theorem q1890 : (Jvm.Cond.selects "FilterWaterworks" ({ cls := "FilterWaterworks", name := "outputAt", desc := "(I)C" } : Jvm.MethodName) ({ cls := "FilterWaterworks", name := "outputAt", desc := "(I)C" } : Jvm.MethodName)) ∈ lw_all := lw_g (lw_at lw_m8 143 rfl) rfl
theorem q1891 : (Jvm.Cond.code ({ cls := "FilterWaterworks", name := "outputAt", desc := "(I)C" } : Jvm.MethodName) prog_1_method_66_code (2 : Nat) (Option.some Jvm.ClassFile.FieldType.char)) ∈ lw_all := lw_g (lw_at lw_m8 144 rfl) rfl
theorem q1892 : (Jvm.Cond.methodLink "FilterWaterworks" (336 : Nat) ({ cls := "java/lang/String", name := "charAt", desc := "(I)C" } : Jvm.MethodName)) ∈ lw_all := lw_g (lw_at lw_m8 145 rfl) rfl
theorem q1907 : (Jvm.Cond.instanceMethod ({ cls := "FilterWaterworks", name := "type", desc := "(C)I" } : Jvm.MethodName)) ∈ lw_all := lw_g (lw_at lw_m8 160 rfl) rfl
theorem q1908 : (Jvm.Cond.selects "FilterWaterworks" ({ cls := "FilterWaterworks", name := "type", desc := "(C)I" } : Jvm.MethodName) ({ cls := "FilterWaterworks", name := "type", desc := "(C)I" } : Jvm.MethodName)) ∈ lw_all := lw_g (lw_at lw_m8 161 rfl) rfl
theorem q1909 : (Jvm.Cond.code ({ cls := "FilterWaterworks", name := "type", desc := "(C)I" } : Jvm.MethodName) prog_1_method_67_code (2 : Nat) (Option.some Jvm.ClassFile.FieldType.int)) ∈ lw_all := lw_g (lw_at lw_m8 162 rfl) rfl
theorem q1910 : (Jvm.Cond.methodLink "FilterWaterworks" (340 : Nat) ({ cls := "java/lang/StringBuilder", name := "length", desc := "()I" } : Jvm.MethodName)) ∈ lw_all := lw_g (lw_at lw_m8 163 rfl) rfl
theorem q1911 : (Jvm.Cond.methodLink "FilterWaterworks" (341 : Nat) ({ cls := "java/lang/StringBuilder", name := "append", desc := "(C)Ljava/lang/StringBuilder;" } : Jvm.MethodName)) ∈ lw_all := lw_g (lw_at lw_m8 164 rfl) rfl
theorem q1916 : (Jvm.Cond.instanceMethod ({ cls := "FilterWaterworks", name := "runScript", desc := "()I" } : Jvm.MethodName)) ∈ lw_all := lw_g (lw_at lw_m8 169 rfl) rfl
theorem q1917 : (Jvm.Cond.selects "FilterWaterworks" ({ cls := "FilterWaterworks", name := "runScript", desc := "()I" } : Jvm.MethodName) ({ cls := "FilterWaterworks", name := "runScript", desc := "()I" } : Jvm.MethodName)) ∈ lw_all := lw_g (lw_at lw_m8 170 rfl) rfl
theorem q1918 : (Jvm.Cond.codeWith ({ cls := "FilterWaterworks", name := "runScript", desc := "()I" } : Jvm.MethodName) prog_1_method_69_code (3 : Nat) (Option.some Jvm.ClassFile.FieldType.int) [((16 : Nat), (31 : Nat), (32 : Nat), (364 : Nat)), ((16 : Nat), (31 : Nat), (46 : Nat), (344 : Nat))]) ∈ lw_all := lw_g (lw_at lw_m8 171 rfl) rfl
theorem q1919 : (Jvm.Cond.classLink "FilterWaterworks" (364 : Nat) "FilterWaterworks$SyntaxFailure") ∈ lw_all := lw_g (lw_at lw_m8 172 rfl) rfl
theorem q1920 : (Jvm.Cond.classLink "FilterWaterworks" (344 : Nat) "FilterWaterworks$CommandFailure") ∈ lw_all := lw_g (lw_at lw_m8 173 rfl) rfl
theorem q1921 : (Jvm.Cond.methodLink "FilterWaterworks" (349 : Nat) ({ cls := "java/lang/StringBuilder", name := "setLength", desc := "(I)V" } : Jvm.MethodName)) ∈ lw_all := lw_g (lw_at lw_m8 174 rfl) rfl
theorem q1973 : (Jvm.Cond.classLink "FilterWaterworks" (353 : Nat) "FilterWaterworks$Parser") ∈ lw_all := lw_g (lw_at lw_m8 226 rfl) rfl
theorem q1975 : (Jvm.Cond.methodLink "FilterWaterworks" (355 : Nat) ({ cls := "FilterWaterworks$Parser", name := "<init>", desc := "(Ljava/lang/String;)V" } : Jvm.MethodName)) ∈ lw_all := lw_g (lw_at lw_m8 228 rfl) rfl
theorem q1986 : (Jvm.Cond.methodLink "FilterWaterworks" (356 : Nat) ({ cls := "FilterWaterworks$Parser", name := "commands", desc := "()Ljava/util/List;" } : Jvm.MethodName)) ∈ lw_all := lw_g (lw_at lw_m8 239 rfl) rfl
theorem q2023 : (Jvm.Cond.selects "FilterWaterworks" ({ cls := "java/lang/Object", name := "toString", desc := "()Ljava/lang/String;" } : Jvm.MethodName) ({ cls := "java/lang/Object", name := "toString", desc := "()Ljava/lang/String;" } : Jvm.MethodName)) ∈ lw_all := lw_g (lw_at lw_m9 36 rfl) rfl
theorem q2190 : (Jvm.Cond.methodLink "FilterWaterworks" (360 : Nat) ({ cls := "FilterWaterworks", name := "execute", desc := "(Ljava/util/List;)I" } : Jvm.MethodName)) ∈ lw_all := lw_g (lw_at lw_m9 203 rfl) rfl
theorem q2191 : (Jvm.Cond.privateMethod ({ cls := "FilterWaterworks", name := "execute", desc := "(Ljava/util/List;)I" } : Jvm.MethodName)) ∈ lw_tbl := lw_at lw_m9 204 rfl
theorem q2192 : (Jvm.Cond.instanceMethod ({ cls := "FilterWaterworks", name := "execute", desc := "(Ljava/util/List;)I" } : Jvm.MethodName)) ∈ lw_all := lw_g (lw_at lw_m9 205 rfl) rfl
theorem q2193 : (Jvm.Cond.codeWith ({ cls := "FilterWaterworks", name := "execute", desc := "(Ljava/util/List;)I" } : Jvm.MethodName) prog_1_method_68_code (5 : Nat) (Option.some Jvm.ClassFile.FieldType.int) [((20 : Nat), (35 : Nat), (38 : Nat), (81 : Nat))]) ∈ lw_all := lw_g (lw_at lw_m9 206 rfl) rfl
theorem q2202 : (Jvm.Cond.methodLink "FilterWaterworks" (346 : Nat) ({ cls := "FilterWaterworks$CommandFailure", name := "<init>", desc := "(ILFilterWaterworks$Failure;)V" } : Jvm.MethodName)) ∈ lw_all := lw_g (lw_at lw_m9 215 rfl) rfl
theorem q2211 : (Jvm.Cond.methodLink "FilterWaterworks" (366 : Nat) ({ cls := "FilterWaterworks$SyntaxFailure", name := "position", desc := "()I" } : Jvm.MethodName)) ∈ lw_all := lw_g (lw_at lw_m9 224 rfl) rfl
theorem q2215 : (Jvm.Cond.methodLink "FilterWaterworks" (369 : Nat) ({ cls := "FilterWaterworks$SyntaxFailure", name := "asPublicException", desc := "()Ljava/lang/RuntimeException;" } : Jvm.MethodName)) ∈ lw_all := lw_g (lw_at lw_m9 228 rfl) rfl
theorem q2216 : (Jvm.Cond.methodLink "FilterWaterworks" (370 : Nat) ({ cls := "FilterWaterworks$CommandFailure", name := "index", desc := "()I" } : Jvm.MethodName)) ∈ lw_all := lw_g (lw_at lw_m9 229 rfl) rfl
theorem q2220 : (Jvm.Cond.methodLink "FilterWaterworks" (373 : Nat) ({ cls := "FilterWaterworks$CommandFailure", name := "asPublicException", desc := "()Ljava/lang/RuntimeException;" } : Jvm.MethodName)) ∈ lw_all := lw_g (lw_at lw_m9 233 rfl) rfl
theorem q2225 : (Jvm.Cond.instanceMethod ({ cls := "FilterWaterworks", name := "errorPosition", desc := "()I" } : Jvm.MethodName)) ∈ lw_all := lw_g (lw_at lw_m9 238 rfl) rfl
theorem q2226 : (Jvm.Cond.selects "FilterWaterworks" ({ cls := "FilterWaterworks", name := "errorPosition", desc := "()I" } : Jvm.MethodName) ({ cls := "FilterWaterworks", name := "errorPosition", desc := "()I" } : Jvm.MethodName)) ∈ lw_all := lw_g (lw_at lw_m9 239 rfl) rfl
theorem q2227 : (Jvm.Cond.code ({ cls := "FilterWaterworks", name := "errorPosition", desc := "()I" } : Jvm.MethodName) prog_1_method_70_code (1 : Nat) (Option.some Jvm.ClassFile.FieldType.int)) ∈ lw_all := lw_g (lw_at lw_m10 0 rfl) rfl
theorem q2232 : (Jvm.Cond.instanceMethod ({ cls := "FilterWaterworks", name := "failedCommand", desc := "()I" } : Jvm.MethodName)) ∈ lw_all := lw_g (lw_at lw_m10 5 rfl) rfl
theorem q2233 : (Jvm.Cond.selects "FilterWaterworks" ({ cls := "FilterWaterworks", name := "failedCommand", desc := "()I" } : Jvm.MethodName) ({ cls := "FilterWaterworks", name := "failedCommand", desc := "()I" } : Jvm.MethodName)) ∈ lw_all := lw_g (lw_at lw_m10 6 rfl) rfl
theorem q2234 : (Jvm.Cond.code ({ cls := "FilterWaterworks", name := "failedCommand", desc := "()I" } : Jvm.MethodName) prog_1_method_71_code (1 : Nat) (Option.some Jvm.ClassFile.FieldType.int)) ∈ lw_all := lw_g (lw_at lw_m10 7 rfl) rfl
theorem q2239 : (Jvm.Cond.instanceMethod ({ cls := "FilterWaterworks", name := "undo", desc := "()I" } : Jvm.MethodName)) ∈ lw_all := lw_g (lw_at lw_m10 12 rfl) rfl
theorem q2240 : (Jvm.Cond.selects "FilterWaterworks" ({ cls := "FilterWaterworks", name := "undo", desc := "()I" } : Jvm.MethodName) ({ cls := "FilterWaterworks", name := "undo", desc := "()I" } : Jvm.MethodName)) ∈ lw_all := lw_g (lw_at lw_m10 13 rfl) rfl
theorem q2241 : (Jvm.Cond.code ({ cls := "FilterWaterworks", name := "undo", desc := "()I" } : Jvm.MethodName) prog_1_method_72_code (1 : Nat) (Option.some Jvm.ClassFile.FieldType.int)) ∈ lw_all := lw_g (lw_at lw_m10 14 rfl) rfl
theorem q2242 : (Jvm.Cond.methodLink "FilterWaterworks" (374 : Nat) ({ cls := "java/util/LinkedList", name := "isEmpty", desc := "()Z" } : Jvm.MethodName)) ∈ lw_all := lw_g (lw_at lw_m10 15 rfl) rfl
theorem q2253 : (Jvm.Cond.methodLink "FilterWaterworks" (377 : Nat) ({ cls := "java/util/LinkedList", name := "removeLast", desc := "()Ljava/lang/Object;" } : Jvm.MethodName)) ∈ lw_all := lw_g (lw_at lw_m10 26 rfl) rfl
theorem q2265 : (Jvm.Cond.instanceMethod ({ cls := "FilterWaterworks", name := "restore", desc := "()I" } : Jvm.MethodName)) ∈ lw_all := lw_g (lw_at lw_m10 38 rfl) rfl
theorem q2266 : (Jvm.Cond.selects "FilterWaterworks" ({ cls := "FilterWaterworks", name := "restore", desc := "()I" } : Jvm.MethodName) ({ cls := "FilterWaterworks", name := "restore", desc := "()I" } : Jvm.MethodName)) ∈ lw_all := lw_g (lw_at lw_m10 39 rfl) rfl
theorem q2267 : (Jvm.Cond.code ({ cls := "FilterWaterworks", name := "restore", desc := "()I" } : Jvm.MethodName) prog_1_method_74_code (1 : Nat) (Option.some Jvm.ClassFile.FieldType.int)) ∈ lw_all := lw_g (lw_at lw_m10 40 rfl) rfl
theorem q2268 : (Jvm.Cond.methodLink "FilterWaterworks" (383 : Nat) ({ cls := "java/util/LinkedList", name := "clear", desc := "()V" } : Jvm.MethodName)) ∈ lw_all := lw_g (lw_at lw_m10 41 rfl) rfl
theorem q2835 : (Jvm.Cond.castable "FilterWaterworks" "java/lang/Object") ∈ lw_tbl := lw_at lw_m12 128 rfl
theorem in_X1 : ∀ w ∈ wsX10, w ∈ lw_all := lw_in wsX10 [248, 250, 252, 254, 256, 258, 260] (by decide +kernel) (by decide +kernel)

/-! FilterWaterworks$Works -/
set_option maxRecDepth 100000
def RX2 : String := "FilterWaterworks$Works"
def TX2 : u_T := fun k => match k with
  | 0 => ("FilterWaterworks$Works", "tanks", "Ljava/util/List;", true)
  | 1 => ("FilterWaterworks$Works", "pipes", "Ljava/util/List;", true)
  | 2 => ("FilterWaterworks$Works", "time", "I", false)
  | 3 => ("FilterWaterworks$Works", "poured", "I", false)
  | 4 => ("FilterWaterworks$Works", "drawn", "I", false)
  | _ => ("FilterWaterworks$Works", "spilled", "I", false)
def tyX2 : Nat → FieldType := fun k => match k with
  | 0 => .object "java/util/List"
  | 1 => .object "java/util/List"
  | 2 => .int
  | 3 => .int
  | 4 => .int
  | _ => .int
abbrev wsX20 : List Cond := u_ws RX2 TX2 6
theorem nmX2 : ∀ a, a < 6 → ∀ b, b < 6 → a ≠ b → (TX2 a).2.1 ≠ (TX2 b).2.1 := by decide +kernel
theorem tyX2_ok : ∀ k, k < 6 → parseFieldDescriptor (TX2 k).2.2.1 = some (tyX2 k) := by decide +kernel
abbrev cX2_init : ByteArray := prog_14_method_1_code
def yX2_init : MethodName := ⟨RX2, "<init>", "()V"⟩
def dkwX2_init_1 : List UInt8 := [181, 0, 18, 177]
abbrev dktX2_init_1 : List UInt8 := dkwX2_init_1 ++ []
def dkwX2_init_0 : List UInt8 := [42, 183, 0, 3, 42, 187, 0, 9, 89, 183, 0, 11, 181, 0, 12, 42, 187, 0, 9, 89, 183, 0, 11]
abbrev dktX2_init_0 : List UInt8 := dkwX2_init_0 ++ dktX2_init_1
theorem dksX2_init_0 : cX2_init.data.toList.drop 0 = dktX2_init_0 := by decide +kernel
theorem dksX2_init_1 : cX2_init.data.toList.drop 23 = dktX2_init_1 := dk_seg dksX2_init_0 23 rfl rfl
theorem dX2_init_0 : decode cX2_init 0 = .ok (.aload_n 0, 1) := dk_42 (dk_at dksX2_init_0 0 rfl rfl)
theorem dX2_init_1 : decode cX2_init 1 = .ok (.invokespecial 3, 3) := dk_183 0 3 (dk_at dksX2_init_0 1 rfl rfl)
theorem dX2_init_4 : decode cX2_init 4 = .ok (.aload_n 0, 1) := dk_42 (dk_at dksX2_init_0 4 rfl rfl)
theorem dX2_init_5 : decode cX2_init 5 = .ok (.new 9, 3) := dk_187 0 9 (dk_at dksX2_init_0 5 rfl rfl)
theorem dX2_init_8 : decode cX2_init 8 = .ok (.dup, 1) := dk_89 (dk_at dksX2_init_0 8 rfl rfl)
theorem dX2_init_9 : decode cX2_init 9 = .ok (.invokespecial 11, 3) := dk_183 0 11 (dk_at dksX2_init_0 9 rfl rfl)
theorem dX2_init_12 : decode cX2_init 12 = .ok (.putfield 12, 3) := dk_181 0 12 (dk_at dksX2_init_0 12 rfl rfl)
theorem dX2_init_15 : decode cX2_init 15 = .ok (.aload_n 0, 1) := dk_42 (dk_at dksX2_init_0 15 rfl rfl)
theorem dX2_init_16 : decode cX2_init 16 = .ok (.new 9, 3) := dk_187 0 9 (dk_at dksX2_init_0 16 rfl rfl)
theorem dX2_init_19 : decode cX2_init 19 = .ok (.dup, 1) := dk_89 (dk_at dksX2_init_0 19 rfl rfl)
theorem dX2_init_20 : decode cX2_init 20 = .ok (.invokespecial 11, 3) := dk_183 0 11 (dk_at dksX2_init_0 20 rfl rfl)
theorem dX2_init_23 : decode cX2_init 23 = .ok (.putfield 18, 3) := dk_181 0 18 (dk_at dksX2_init_1 0 rfl rfl)
theorem dX2_init_26 : decode cX2_init 26 = .ok (.return_, 1) := dk_177 (dk_at dksX2_init_1 3 rfl rfl)
abbrev cX2_groups : ByteArray := prog_14_method_22_code
def yX2_groups : MethodName := ⟨RX2, "groups", "()I"⟩
def dkwX2_groups_2 : List UInt8 := [132, 2, 1, 132, 3, 1, 167, 255, 223, 28, 172]
abbrev dktX2_groups_2 : List UInt8 := dkwX2_groups_2 ++ []
def dkwX2_groups_1 : List UInt8 := [185, 0, 22, 1, 0, 162, 0, 26, 43, 180, 0, 186, 29, 51, 154, 0, 11, 43, 29, 182, 0, 184]
abbrev dktX2_groups_1 : List UInt8 := dkwX2_groups_1 ++ dktX2_groups_2
def dkwX2_groups_0 : List UInt8 := [187, 0, 179, 89, 42, 4, 2, 183, 0, 181, 76, 3, 61, 3, 62, 29, 42, 180, 0, 12]
abbrev dktX2_groups_0 : List UInt8 := dkwX2_groups_0 ++ dktX2_groups_1
theorem dksX2_groups_0 : cX2_groups.data.toList.drop 0 = dktX2_groups_0 := by decide +kernel
theorem dksX2_groups_1 : cX2_groups.data.toList.drop 20 = dktX2_groups_1 := dk_seg dksX2_groups_0 20 rfl rfl
theorem dksX2_groups_2 : cX2_groups.data.toList.drop 42 = dktX2_groups_2 := dk_seg dksX2_groups_1 22 rfl rfl
theorem dX2_groups_0 : decode cX2_groups 0 = .ok (.new 179, 3) := dk_187 0 179 (dk_at dksX2_groups_0 0 rfl rfl)
theorem dX2_groups_3 : decode cX2_groups 3 = .ok (.dup, 1) := dk_89 (dk_at dksX2_groups_0 3 rfl rfl)
theorem dX2_groups_4 : decode cX2_groups 4 = .ok (.aload_n 0, 1) := dk_42 (dk_at dksX2_groups_0 4 rfl rfl)
theorem dX2_groups_5 : decode cX2_groups 5 = .ok (.iconst 1, 1) := dk_4 (dk_at dksX2_groups_0 5 rfl rfl)
theorem dX2_groups_6 : decode cX2_groups 6 = .ok (.iconst (-1), 1) := dk_2 (dk_at dksX2_groups_0 6 rfl rfl)
theorem dX2_groups_7 : decode cX2_groups 7 = .ok (.invokespecial 181, 3) := dk_183 0 181 (dk_at dksX2_groups_0 7 rfl rfl)
theorem dX2_groups_10 : decode cX2_groups 10 = .ok (.astore_n 1, 1) := dk_76 (dk_at dksX2_groups_0 10 rfl rfl)
theorem dX2_groups_11 : decode cX2_groups 11 = .ok (.iconst 0, 1) := dk_3 (dk_at dksX2_groups_0 11 rfl rfl)
theorem dX2_groups_12 : decode cX2_groups 12 = .ok (.istore_n 2, 1) := dk_61 (dk_at dksX2_groups_0 12 rfl rfl)
theorem dX2_groups_13 : decode cX2_groups 13 = .ok (.iconst 0, 1) := dk_3 (dk_at dksX2_groups_0 13 rfl rfl)
theorem dX2_groups_14 : decode cX2_groups 14 = .ok (.istore_n 3, 1) := dk_62 (dk_at dksX2_groups_0 14 rfl rfl)
theorem dX2_groups_15 : decode cX2_groups 15 = .ok (.iload_n 3, 1) := dk_29 (dk_at dksX2_groups_0 15 rfl rfl)
theorem dX2_groups_16 : decode cX2_groups 16 = .ok (.aload_n 0, 1) := dk_42 (dk_at dksX2_groups_0 16 rfl rfl)
theorem dX2_groups_17 : decode cX2_groups 17 = .ok (.getfield 12, 3) := dk_180 0 12 (dk_at dksX2_groups_0 17 rfl rfl)
theorem dX2_groups_20 : decode cX2_groups 20 = .ok (.invokeinterface 22 1, 5) := by decide +kernel
theorem dX2_groups_25 : decode cX2_groups 25 = .ok (.if_icmp .ge 26, 3) := dk_162 0 26 (dk_at dksX2_groups_1 5 rfl rfl)
theorem dX2_groups_28 : decode cX2_groups 28 = .ok (.aload_n 1, 1) := dk_43 (dk_at dksX2_groups_1 8 rfl rfl)
theorem dX2_groups_29 : decode cX2_groups 29 = .ok (.getfield 186, 3) := dk_180 0 186 (dk_at dksX2_groups_1 9 rfl rfl)
theorem dX2_groups_32 : decode cX2_groups 32 = .ok (.iload_n 3, 1) := dk_29 (dk_at dksX2_groups_1 12 rfl rfl)
theorem dX2_groups_33 : decode cX2_groups 33 = .ok (.baload, 1) := dk_51 (dk_at dksX2_groups_1 13 rfl rfl)
theorem dX2_groups_34 : decode cX2_groups 34 = .ok (.ifCond .ne 11, 3) := dk_154 0 11 (dk_at dksX2_groups_1 14 rfl rfl)
theorem dX2_groups_37 : decode cX2_groups 37 = .ok (.aload_n 1, 1) := dk_43 (dk_at dksX2_groups_1 17 rfl rfl)
theorem dX2_groups_38 : decode cX2_groups 38 = .ok (.iload_n 3, 1) := dk_29 (dk_at dksX2_groups_1 18 rfl rfl)
theorem dX2_groups_39 : decode cX2_groups 39 = .ok (.invokevirtual 184, 3) := dk_182 0 184 (dk_at dksX2_groups_1 19 rfl rfl)
theorem dX2_groups_42 : decode cX2_groups 42 = .ok (.iinc 2 1, 3) := dk_132 2 1 (dk_at dksX2_groups_2 0 rfl rfl)
theorem dX2_groups_45 : decode cX2_groups 45 = .ok (.iinc 3 1, 3) := dk_132 3 1 (dk_at dksX2_groups_2 3 rfl rfl)
theorem dX2_groups_48 : decode cX2_groups 48 = .ok (.goto (-33), 3) := dk_167 255 223 (dk_at dksX2_groups_2 6 rfl rfl)
theorem dX2_groups_51 : decode cX2_groups 51 = .ok (.iload_n 2, 1) := dk_28 (dk_at dksX2_groups_2 9 rfl rfl)
theorem dX2_groups_52 : decode cX2_groups 52 = .ok (.ireturn, 1) := dk_172 (dk_at dksX2_groups_2 10 rfl rfl)
abbrev cX2_groupsByUnions : ByteArray := prog_14_method_24_code
def yX2_groupsByUnions : MethodName := ⟨RX2, "groupsByUnions", "()I"⟩
def dkwX2_groupsByUnions_5 : List UInt8 := [21, 5, 21, 4, 79, 132, 2, 255, 132, 3, 1, 167, 255, 161, 28, 172]
abbrev dktX2_groupsByUnions_5 : List UInt8 := dkwX2_groupsByUnions_5 ++ []
def dkwX2_groupsByUnions_4 : List UInt8 := [29, 185, 0, 28, 2, 0, 192, 0, 42, 182, 0, 144, 153, 0, 19, 21, 4, 21, 5, 159, 0, 12, 43]
abbrev dktX2_groupsByUnions_4 : List UInt8 := dkwX2_groupsByUnions_4 ++ dktX2_groupsByUnions_5
def dkwX2_groupsByUnions_3 : List UInt8 := [180, 0, 18, 29, 185, 0, 28, 2, 0, 192, 0, 42, 180, 0, 120, 184, 0, 194, 54, 5, 42, 180, 0, 18]
abbrev dktX2_groupsByUnions_3 : List UInt8 := dkwX2_groupsByUnions_3 ++ dktX2_groupsByUnions_4
def dkwX2_groupsByUnions_2 : List UInt8 := [43, 42, 180, 0, 18, 29, 185, 0, 28, 2, 0, 192, 0, 42, 180, 0, 117, 184, 0, 194, 54, 4, 43, 42]
abbrev dktX2_groupsByUnions_2 : List UInt8 := dkwX2_groupsByUnions_2 ++ dktX2_groupsByUnions_3
def dkwX2_groupsByUnions_1 : List UInt8 := [132, 2, 1, 167, 255, 243, 43, 190, 61, 3, 62, 29, 42, 180, 0, 18, 185, 0, 22, 1, 0, 162, 0, 88]
abbrev dktX2_groupsByUnions_1 : List UInt8 := dkwX2_groupsByUnions_1 ++ dktX2_groupsByUnions_2
def dkwX2_groupsByUnions_0 : List UInt8 := [42, 180, 0, 12, 185, 0, 22, 1, 0, 188, 10, 76, 3, 61, 28, 43, 190, 162, 0, 13, 43, 28, 28, 79]
abbrev dktX2_groupsByUnions_0 : List UInt8 := dkwX2_groupsByUnions_0 ++ dktX2_groupsByUnions_1
theorem dksX2_groupsByUnions_0 : cX2_groupsByUnions.data.toList.drop 0 = dktX2_groupsByUnions_0 := by decide +kernel
theorem dksX2_groupsByUnions_1 : cX2_groupsByUnions.data.toList.drop 24 = dktX2_groupsByUnions_1 := dk_seg dksX2_groupsByUnions_0 24 rfl rfl
theorem dksX2_groupsByUnions_2 : cX2_groupsByUnions.data.toList.drop 48 = dktX2_groupsByUnions_2 := dk_seg dksX2_groupsByUnions_1 24 rfl rfl
theorem dksX2_groupsByUnions_3 : cX2_groupsByUnions.data.toList.drop 72 = dktX2_groupsByUnions_3 := dk_seg dksX2_groupsByUnions_2 24 rfl rfl
theorem dksX2_groupsByUnions_4 : cX2_groupsByUnions.data.toList.drop 96 = dktX2_groupsByUnions_4 := dk_seg dksX2_groupsByUnions_3 24 rfl rfl
theorem dksX2_groupsByUnions_5 : cX2_groupsByUnions.data.toList.drop 119 = dktX2_groupsByUnions_5 := dk_seg dksX2_groupsByUnions_4 23 rfl rfl
theorem dX2_groupsByUnions_0 : decode cX2_groupsByUnions 0 = .ok (.aload_n 0, 1) := dk_42 (dk_at dksX2_groupsByUnions_0 0 rfl rfl)
theorem dX2_groupsByUnions_1 : decode cX2_groupsByUnions 1 = .ok (.getfield 12, 3) := dk_180 0 12 (dk_at dksX2_groupsByUnions_0 1 rfl rfl)
theorem dX2_groupsByUnions_4 : decode cX2_groupsByUnions 4 = .ok (.invokeinterface 22 1, 5) := by decide +kernel
theorem dX2_groupsByUnions_9 : decode cX2_groupsByUnions 9 = .ok (.newarray .int, 2) := dk_188_10 (dk_at dksX2_groupsByUnions_0 9 rfl rfl)
theorem dX2_groupsByUnions_11 : decode cX2_groupsByUnions 11 = .ok (.astore_n 1, 1) := dk_76 (dk_at dksX2_groupsByUnions_0 11 rfl rfl)
theorem dX2_groupsByUnions_12 : decode cX2_groupsByUnions 12 = .ok (.iconst 0, 1) := dk_3 (dk_at dksX2_groupsByUnions_0 12 rfl rfl)
theorem dX2_groupsByUnions_13 : decode cX2_groupsByUnions 13 = .ok (.istore_n 2, 1) := dk_61 (dk_at dksX2_groupsByUnions_0 13 rfl rfl)
theorem dX2_groupsByUnions_14 : decode cX2_groupsByUnions 14 = .ok (.iload_n 2, 1) := dk_28 (dk_at dksX2_groupsByUnions_0 14 rfl rfl)
theorem dX2_groupsByUnions_15 : decode cX2_groupsByUnions 15 = .ok (.aload_n 1, 1) := dk_43 (dk_at dksX2_groupsByUnions_0 15 rfl rfl)
theorem dX2_groupsByUnions_16 : decode cX2_groupsByUnions 16 = .ok (.arraylength, 1) := dk_190 (dk_at dksX2_groupsByUnions_0 16 rfl rfl)
theorem dX2_groupsByUnions_17 : decode cX2_groupsByUnions 17 = .ok (.if_icmp .ge 13, 3) := dk_162 0 13 (dk_at dksX2_groupsByUnions_0 17 rfl rfl)
theorem dX2_groupsByUnions_20 : decode cX2_groupsByUnions 20 = .ok (.aload_n 1, 1) := dk_43 (dk_at dksX2_groupsByUnions_0 20 rfl rfl)
theorem dX2_groupsByUnions_21 : decode cX2_groupsByUnions 21 = .ok (.iload_n 2, 1) := dk_28 (dk_at dksX2_groupsByUnions_0 21 rfl rfl)
theorem dX2_groupsByUnions_22 : decode cX2_groupsByUnions 22 = .ok (.iload_n 2, 1) := dk_28 (dk_at dksX2_groupsByUnions_0 22 rfl rfl)
theorem dX2_groupsByUnions_23 : decode cX2_groupsByUnions 23 = .ok (.iastore, 1) := dk_79 (dk_at dksX2_groupsByUnions_0 23 rfl rfl)
theorem dX2_groupsByUnions_24 : decode cX2_groupsByUnions 24 = .ok (.iinc 2 1, 3) := dk_132 2 1 (dk_at dksX2_groupsByUnions_1 0 rfl rfl)
theorem dX2_groupsByUnions_27 : decode cX2_groupsByUnions 27 = .ok (.goto (-13), 3) := dk_167 255 243 (dk_at dksX2_groupsByUnions_1 3 rfl rfl)
theorem dX2_groupsByUnions_30 : decode cX2_groupsByUnions 30 = .ok (.aload_n 1, 1) := dk_43 (dk_at dksX2_groupsByUnions_1 6 rfl rfl)
theorem dX2_groupsByUnions_31 : decode cX2_groupsByUnions 31 = .ok (.arraylength, 1) := dk_190 (dk_at dksX2_groupsByUnions_1 7 rfl rfl)
theorem dX2_groupsByUnions_32 : decode cX2_groupsByUnions 32 = .ok (.istore_n 2, 1) := dk_61 (dk_at dksX2_groupsByUnions_1 8 rfl rfl)
theorem dX2_groupsByUnions_33 : decode cX2_groupsByUnions 33 = .ok (.iconst 0, 1) := dk_3 (dk_at dksX2_groupsByUnions_1 9 rfl rfl)
theorem dX2_groupsByUnions_34 : decode cX2_groupsByUnions 34 = .ok (.istore_n 3, 1) := dk_62 (dk_at dksX2_groupsByUnions_1 10 rfl rfl)
theorem dX2_groupsByUnions_35 : decode cX2_groupsByUnions 35 = .ok (.iload_n 3, 1) := dk_29 (dk_at dksX2_groupsByUnions_1 11 rfl rfl)
theorem dX2_groupsByUnions_36 : decode cX2_groupsByUnions 36 = .ok (.aload_n 0, 1) := dk_42 (dk_at dksX2_groupsByUnions_1 12 rfl rfl)
theorem dX2_groupsByUnions_37 : decode cX2_groupsByUnions 37 = .ok (.getfield 18, 3) := dk_180 0 18 (dk_at dksX2_groupsByUnions_1 13 rfl rfl)
theorem dX2_groupsByUnions_40 : decode cX2_groupsByUnions 40 = .ok (.invokeinterface 22 1, 5) := by decide +kernel
theorem dX2_groupsByUnions_45 : decode cX2_groupsByUnions 45 = .ok (.if_icmp .ge 88, 3) := dk_162 0 88 (dk_at dksX2_groupsByUnions_1 21 rfl rfl)
theorem dX2_groupsByUnions_48 : decode cX2_groupsByUnions 48 = .ok (.aload_n 1, 1) := dk_43 (dk_at dksX2_groupsByUnions_2 0 rfl rfl)
theorem dX2_groupsByUnions_49 : decode cX2_groupsByUnions 49 = .ok (.aload_n 0, 1) := dk_42 (dk_at dksX2_groupsByUnions_2 1 rfl rfl)
theorem dX2_groupsByUnions_50 : decode cX2_groupsByUnions 50 = .ok (.getfield 18, 3) := dk_180 0 18 (dk_at dksX2_groupsByUnions_2 2 rfl rfl)
theorem dX2_groupsByUnions_53 : decode cX2_groupsByUnions 53 = .ok (.iload_n 3, 1) := dk_29 (dk_at dksX2_groupsByUnions_2 5 rfl rfl)
theorem dX2_groupsByUnions_54 : decode cX2_groupsByUnions 54 = .ok (.invokeinterface 28 2, 5) := by decide +kernel
theorem dX2_groupsByUnions_59 : decode cX2_groupsByUnions 59 = .ok (.checkcast 42, 3) := dk_192 0 42 (dk_at dksX2_groupsByUnions_2 11 rfl rfl)
theorem dX2_groupsByUnions_62 : decode cX2_groupsByUnions 62 = .ok (.getfield 117, 3) := dk_180 0 117 (dk_at dksX2_groupsByUnions_2 14 rfl rfl)
theorem dX2_groupsByUnions_65 : decode cX2_groupsByUnions 65 = .ok (.invokestatic 194, 3) := dk_184 0 194 (dk_at dksX2_groupsByUnions_2 17 rfl rfl)
theorem dX2_groupsByUnions_68 : decode cX2_groupsByUnions 68 = .ok (.istore 4, 2) := dk_54 4 (dk_at dksX2_groupsByUnions_2 20 rfl rfl)
theorem dX2_groupsByUnions_70 : decode cX2_groupsByUnions 70 = .ok (.aload_n 1, 1) := dk_43 (dk_at dksX2_groupsByUnions_2 22 rfl rfl)
theorem dX2_groupsByUnions_71 : decode cX2_groupsByUnions 71 = .ok (.aload_n 0, 1) := dk_42 (dk_at dksX2_groupsByUnions_2 23 rfl rfl)
theorem dX2_groupsByUnions_72 : decode cX2_groupsByUnions 72 = .ok (.getfield 18, 3) := dk_180 0 18 (dk_at dksX2_groupsByUnions_3 0 rfl rfl)
theorem dX2_groupsByUnions_75 : decode cX2_groupsByUnions 75 = .ok (.iload_n 3, 1) := dk_29 (dk_at dksX2_groupsByUnions_3 3 rfl rfl)
theorem dX2_groupsByUnions_76 : decode cX2_groupsByUnions 76 = .ok (.invokeinterface 28 2, 5) := by decide +kernel
theorem dX2_groupsByUnions_81 : decode cX2_groupsByUnions 81 = .ok (.checkcast 42, 3) := dk_192 0 42 (dk_at dksX2_groupsByUnions_3 9 rfl rfl)
theorem dX2_groupsByUnions_84 : decode cX2_groupsByUnions 84 = .ok (.getfield 120, 3) := dk_180 0 120 (dk_at dksX2_groupsByUnions_3 12 rfl rfl)
theorem dX2_groupsByUnions_87 : decode cX2_groupsByUnions 87 = .ok (.invokestatic 194, 3) := dk_184 0 194 (dk_at dksX2_groupsByUnions_3 15 rfl rfl)
theorem dX2_groupsByUnions_90 : decode cX2_groupsByUnions 90 = .ok (.istore 5, 2) := dk_54 5 (dk_at dksX2_groupsByUnions_3 18 rfl rfl)
theorem dX2_groupsByUnions_92 : decode cX2_groupsByUnions 92 = .ok (.aload_n 0, 1) := dk_42 (dk_at dksX2_groupsByUnions_3 20 rfl rfl)
theorem dX2_groupsByUnions_93 : decode cX2_groupsByUnions 93 = .ok (.getfield 18, 3) := dk_180 0 18 (dk_at dksX2_groupsByUnions_3 21 rfl rfl)
theorem dX2_groupsByUnions_96 : decode cX2_groupsByUnions 96 = .ok (.iload_n 3, 1) := dk_29 (dk_at dksX2_groupsByUnions_4 0 rfl rfl)
theorem dX2_groupsByUnions_97 : decode cX2_groupsByUnions 97 = .ok (.invokeinterface 28 2, 5) := by decide +kernel
theorem dX2_groupsByUnions_102 : decode cX2_groupsByUnions 102 = .ok (.checkcast 42, 3) := dk_192 0 42 (dk_at dksX2_groupsByUnions_4 6 rfl rfl)
theorem dX2_groupsByUnions_105 : decode cX2_groupsByUnions 105 = .ok (.invokevirtual 144, 3) := dk_182 0 144 (dk_at dksX2_groupsByUnions_4 9 rfl rfl)
theorem dX2_groupsByUnions_108 : decode cX2_groupsByUnions 108 = .ok (.ifCond .eq 19, 3) := dk_153 0 19 (dk_at dksX2_groupsByUnions_4 12 rfl rfl)
theorem dX2_groupsByUnions_111 : decode cX2_groupsByUnions 111 = .ok (.iload 4, 2) := dk_21 4 (dk_at dksX2_groupsByUnions_4 15 rfl rfl)
theorem dX2_groupsByUnions_113 : decode cX2_groupsByUnions 113 = .ok (.iload 5, 2) := dk_21 5 (dk_at dksX2_groupsByUnions_4 17 rfl rfl)
theorem dX2_groupsByUnions_115 : decode cX2_groupsByUnions 115 = .ok (.if_icmp .eq 12, 3) := dk_159 0 12 (dk_at dksX2_groupsByUnions_4 19 rfl rfl)
theorem dX2_groupsByUnions_118 : decode cX2_groupsByUnions 118 = .ok (.aload_n 1, 1) := dk_43 (dk_at dksX2_groupsByUnions_4 22 rfl rfl)
theorem dX2_groupsByUnions_119 : decode cX2_groupsByUnions 119 = .ok (.iload 5, 2) := dk_21 5 (dk_at dksX2_groupsByUnions_5 0 rfl rfl)
theorem dX2_groupsByUnions_121 : decode cX2_groupsByUnions 121 = .ok (.iload 4, 2) := dk_21 4 (dk_at dksX2_groupsByUnions_5 2 rfl rfl)
theorem dX2_groupsByUnions_123 : decode cX2_groupsByUnions 123 = .ok (.iastore, 1) := dk_79 (dk_at dksX2_groupsByUnions_5 4 rfl rfl)
theorem dX2_groupsByUnions_124 : decode cX2_groupsByUnions 124 = .ok (.iinc 2 (-1), 3) := dk_132 2 255 (dk_at dksX2_groupsByUnions_5 5 rfl rfl)
theorem dX2_groupsByUnions_127 : decode cX2_groupsByUnions 127 = .ok (.iinc 3 1, 3) := dk_132 3 1 (dk_at dksX2_groupsByUnions_5 8 rfl rfl)
theorem dX2_groupsByUnions_130 : decode cX2_groupsByUnions 130 = .ok (.goto (-95), 3) := dk_167 255 161 (dk_at dksX2_groupsByUnions_5 11 rfl rfl)
theorem dX2_groupsByUnions_133 : decode cX2_groupsByUnions 133 = .ok (.iload_n 2, 1) := dk_28 (dk_at dksX2_groupsByUnions_5 14 rfl rfl)
theorem dX2_groupsByUnions_134 : decode cX2_groupsByUnions 134 = .ok (.ireturn, 1) := dk_172 (dk_at dksX2_groupsByUnions_5 15 rfl rfl)
abbrev cX2_rootOf : ByteArray := prog_14_method_23_code
def yX2_rootOf : MethodName := ⟨RX2, "rootOf", "([II)I"⟩
def dkwX2_rootOf_0 : List UInt8 := [42, 27, 46, 27, 160, 0, 7, 27, 167, 0, 10, 42, 42, 27, 46, 184, 0, 194, 172]
abbrev dktX2_rootOf_0 : List UInt8 := dkwX2_rootOf_0 ++ []
theorem dksX2_rootOf_0 : cX2_rootOf.data.toList.drop 0 = dktX2_rootOf_0 := by decide +kernel
theorem dX2_rootOf_0 : decode cX2_rootOf 0 = .ok (.aload_n 0, 1) := dk_42 (dk_at dksX2_rootOf_0 0 rfl rfl)
theorem dX2_rootOf_1 : decode cX2_rootOf 1 = .ok (.iload_n 1, 1) := dk_27 (dk_at dksX2_rootOf_0 1 rfl rfl)
theorem dX2_rootOf_2 : decode cX2_rootOf 2 = .ok (.iaload, 1) := dk_46 (dk_at dksX2_rootOf_0 2 rfl rfl)
theorem dX2_rootOf_3 : decode cX2_rootOf 3 = .ok (.iload_n 1, 1) := dk_27 (dk_at dksX2_rootOf_0 3 rfl rfl)
theorem dX2_rootOf_4 : decode cX2_rootOf 4 = .ok (.if_icmp .ne 7, 3) := dk_160 0 7 (dk_at dksX2_rootOf_0 4 rfl rfl)
theorem dX2_rootOf_7 : decode cX2_rootOf 7 = .ok (.iload_n 1, 1) := dk_27 (dk_at dksX2_rootOf_0 7 rfl rfl)
theorem dX2_rootOf_8 : decode cX2_rootOf 8 = .ok (.goto 10, 3) := dk_167 0 10 (dk_at dksX2_rootOf_0 8 rfl rfl)
theorem dX2_rootOf_11 : decode cX2_rootOf 11 = .ok (.aload_n 0, 1) := dk_42 (dk_at dksX2_rootOf_0 11 rfl rfl)
theorem dX2_rootOf_12 : decode cX2_rootOf 12 = .ok (.aload_n 0, 1) := dk_42 (dk_at dksX2_rootOf_0 12 rfl rfl)
theorem dX2_rootOf_13 : decode cX2_rootOf 13 = .ok (.iload_n 1, 1) := dk_27 (dk_at dksX2_rootOf_0 13 rfl rfl)
theorem dX2_rootOf_14 : decode cX2_rootOf 14 = .ok (.iaload, 1) := dk_46 (dk_at dksX2_rootOf_0 14 rfl rfl)
theorem dX2_rootOf_15 : decode cX2_rootOf 15 = .ok (.invokestatic 194, 3) := dk_184 0 194 (dk_at dksX2_rootOf_0 15 rfl rfl)
theorem dX2_rootOf_18 : decode cX2_rootOf 18 = .ok (.ireturn, 1) := dk_172 (dk_at dksX2_rootOf_0 18 rfl rfl)
abbrev cX2_bridges : ByteArray := prog_14_method_27_code
def yX2_bridges : MethodName := ⟨RX2, "bridges", "()I"⟩
def dkwX2_bridges_2 : List UInt8 := [180, 0, 213, 172]
abbrev dktX2_bridges_2 : List UInt8 := dkwX2_bridges_2 ++ []
def dkwX2_bridges_1 : List UInt8 := [43, 180, 0, 206, 28, 46, 154, 0, 9, 43, 28, 2, 182, 0, 210, 132, 2, 1, 167, 255, 225, 43]
abbrev dktX2_bridges_1 : List UInt8 := dkwX2_bridges_1 ++ dktX2_bridges_2
def dkwX2_bridges_0 : List UInt8 := [187, 0, 201, 89, 42, 183, 0, 203, 76, 3, 61, 28, 42, 180, 0, 12, 185, 0, 22, 1, 0, 162, 0, 24]
abbrev dktX2_bridges_0 : List UInt8 := dkwX2_bridges_0 ++ dktX2_bridges_1
theorem dksX2_bridges_0 : cX2_bridges.data.toList.drop 0 = dktX2_bridges_0 := by decide +kernel
theorem dksX2_bridges_1 : cX2_bridges.data.toList.drop 24 = dktX2_bridges_1 := dk_seg dksX2_bridges_0 24 rfl rfl
theorem dksX2_bridges_2 : cX2_bridges.data.toList.drop 46 = dktX2_bridges_2 := dk_seg dksX2_bridges_1 22 rfl rfl
theorem dX2_bridges_0 : decode cX2_bridges 0 = .ok (.new 201, 3) := dk_187 0 201 (dk_at dksX2_bridges_0 0 rfl rfl)
theorem dX2_bridges_3 : decode cX2_bridges 3 = .ok (.dup, 1) := dk_89 (dk_at dksX2_bridges_0 3 rfl rfl)
theorem dX2_bridges_4 : decode cX2_bridges 4 = .ok (.aload_n 0, 1) := dk_42 (dk_at dksX2_bridges_0 4 rfl rfl)
theorem dX2_bridges_5 : decode cX2_bridges 5 = .ok (.invokespecial 203, 3) := dk_183 0 203 (dk_at dksX2_bridges_0 5 rfl rfl)
theorem dX2_bridges_8 : decode cX2_bridges 8 = .ok (.astore_n 1, 1) := dk_76 (dk_at dksX2_bridges_0 8 rfl rfl)
theorem dX2_bridges_9 : decode cX2_bridges 9 = .ok (.iconst 0, 1) := dk_3 (dk_at dksX2_bridges_0 9 rfl rfl)
theorem dX2_bridges_10 : decode cX2_bridges 10 = .ok (.istore_n 2, 1) := dk_61 (dk_at dksX2_bridges_0 10 rfl rfl)
theorem dX2_bridges_11 : decode cX2_bridges 11 = .ok (.iload_n 2, 1) := dk_28 (dk_at dksX2_bridges_0 11 rfl rfl)
theorem dX2_bridges_12 : decode cX2_bridges 12 = .ok (.aload_n 0, 1) := dk_42 (dk_at dksX2_bridges_0 12 rfl rfl)
theorem dX2_bridges_13 : decode cX2_bridges 13 = .ok (.getfield 12, 3) := dk_180 0 12 (dk_at dksX2_bridges_0 13 rfl rfl)
theorem dX2_bridges_16 : decode cX2_bridges 16 = .ok (.invokeinterface 22 1, 5) := by decide +kernel
theorem dX2_bridges_21 : decode cX2_bridges 21 = .ok (.if_icmp .ge 24, 3) := dk_162 0 24 (dk_at dksX2_bridges_0 21 rfl rfl)
theorem dX2_bridges_24 : decode cX2_bridges 24 = .ok (.aload_n 1, 1) := dk_43 (dk_at dksX2_bridges_1 0 rfl rfl)
theorem dX2_bridges_25 : decode cX2_bridges 25 = .ok (.getfield 206, 3) := dk_180 0 206 (dk_at dksX2_bridges_1 1 rfl rfl)
theorem dX2_bridges_28 : decode cX2_bridges 28 = .ok (.iload_n 2, 1) := dk_28 (dk_at dksX2_bridges_1 4 rfl rfl)
theorem dX2_bridges_29 : decode cX2_bridges 29 = .ok (.iaload, 1) := dk_46 (dk_at dksX2_bridges_1 5 rfl rfl)
theorem dX2_bridges_30 : decode cX2_bridges 30 = .ok (.ifCond .ne 9, 3) := dk_154 0 9 (dk_at dksX2_bridges_1 6 rfl rfl)
theorem dX2_bridges_33 : decode cX2_bridges 33 = .ok (.aload_n 1, 1) := dk_43 (dk_at dksX2_bridges_1 9 rfl rfl)
theorem dX2_bridges_34 : decode cX2_bridges 34 = .ok (.iload_n 2, 1) := dk_28 (dk_at dksX2_bridges_1 10 rfl rfl)
theorem dX2_bridges_35 : decode cX2_bridges 35 = .ok (.iconst (-1), 1) := dk_2 (dk_at dksX2_bridges_1 11 rfl rfl)
theorem dX2_bridges_36 : decode cX2_bridges 36 = .ok (.invokevirtual 210, 3) := dk_182 0 210 (dk_at dksX2_bridges_1 12 rfl rfl)
theorem dX2_bridges_39 : decode cX2_bridges 39 = .ok (.iinc 2 1, 3) := dk_132 2 1 (dk_at dksX2_bridges_1 15 rfl rfl)
theorem dX2_bridges_42 : decode cX2_bridges 42 = .ok (.goto (-31), 3) := dk_167 255 225 (dk_at dksX2_bridges_1 18 rfl rfl)
theorem dX2_bridges_45 : decode cX2_bridges 45 = .ok (.aload_n 1, 1) := dk_43 (dk_at dksX2_bridges_1 21 rfl rfl)
theorem dX2_bridges_46 : decode cX2_bridges 46 = .ok (.getfield 213, 3) := dk_180 0 213 (dk_at dksX2_bridges_2 0 rfl rfl)
theorem dX2_bridges_49 : decode cX2_bridges 49 = .ok (.ireturn, 1) := dk_172 (dk_at dksX2_bridges_2 3 rfl rfl)
abbrev cX2_bridgesByLeavingOut : ByteArray := prog_14_method_26_code
def yX2_bridgesByLeavingOut : MethodName := ⟨RX2, "bridgesByLeavingOut", "()I"⟩
def dkwX2_bridgesByLeavingOut_1 : List UInt8 := [153, 0, 7, 4, 167, 0, 4, 3, 96, 60, 132, 2, 1, 167, 255, 224, 27, 172]
abbrev dktX2_bridgesByLeavingOut_1 : List UInt8 := dkwX2_bridgesByLeavingOut_1 ++ []
def dkwX2_bridgesByLeavingOut_0 : List UInt8 := [3, 60, 3, 61, 28, 42, 180, 0, 18, 185, 0, 22, 1, 0, 162, 0, 25, 27, 42, 28, 182, 0, 198]
abbrev dktX2_bridgesByLeavingOut_0 : List UInt8 := dkwX2_bridgesByLeavingOut_0 ++ dktX2_bridgesByLeavingOut_1
theorem dksX2_bridgesByLeavingOut_0 : cX2_bridgesByLeavingOut.data.toList.drop 0 = dktX2_bridgesByLeavingOut_0 := by decide +kernel
theorem dksX2_bridgesByLeavingOut_1 : cX2_bridgesByLeavingOut.data.toList.drop 23 = dktX2_bridgesByLeavingOut_1 := dk_seg dksX2_bridgesByLeavingOut_0 23 rfl rfl
theorem dX2_bridgesByLeavingOut_0 : decode cX2_bridgesByLeavingOut 0 = .ok (.iconst 0, 1) := dk_3 (dk_at dksX2_bridgesByLeavingOut_0 0 rfl rfl)
theorem dX2_bridgesByLeavingOut_1 : decode cX2_bridgesByLeavingOut 1 = .ok (.istore_n 1, 1) := dk_60 (dk_at dksX2_bridgesByLeavingOut_0 1 rfl rfl)
theorem dX2_bridgesByLeavingOut_2 : decode cX2_bridgesByLeavingOut 2 = .ok (.iconst 0, 1) := dk_3 (dk_at dksX2_bridgesByLeavingOut_0 2 rfl rfl)
theorem dX2_bridgesByLeavingOut_3 : decode cX2_bridgesByLeavingOut 3 = .ok (.istore_n 2, 1) := dk_61 (dk_at dksX2_bridgesByLeavingOut_0 3 rfl rfl)
theorem dX2_bridgesByLeavingOut_4 : decode cX2_bridgesByLeavingOut 4 = .ok (.iload_n 2, 1) := dk_28 (dk_at dksX2_bridgesByLeavingOut_0 4 rfl rfl)
theorem dX2_bridgesByLeavingOut_5 : decode cX2_bridgesByLeavingOut 5 = .ok (.aload_n 0, 1) := dk_42 (dk_at dksX2_bridgesByLeavingOut_0 5 rfl rfl)
theorem dX2_bridgesByLeavingOut_6 : decode cX2_bridgesByLeavingOut 6 = .ok (.getfield 18, 3) := dk_180 0 18 (dk_at dksX2_bridgesByLeavingOut_0 6 rfl rfl)
theorem dX2_bridgesByLeavingOut_9 : decode cX2_bridgesByLeavingOut 9 = .ok (.invokeinterface 22 1, 5) := by decide +kernel
theorem dX2_bridgesByLeavingOut_14 : decode cX2_bridgesByLeavingOut 14 = .ok (.if_icmp .ge 25, 3) := dk_162 0 25 (dk_at dksX2_bridgesByLeavingOut_0 14 rfl rfl)
theorem dX2_bridgesByLeavingOut_17 : decode cX2_bridgesByLeavingOut 17 = .ok (.iload_n 1, 1) := dk_27 (dk_at dksX2_bridgesByLeavingOut_0 17 rfl rfl)
theorem dX2_bridgesByLeavingOut_18 : decode cX2_bridgesByLeavingOut 18 = .ok (.aload_n 0, 1) := dk_42 (dk_at dksX2_bridgesByLeavingOut_0 18 rfl rfl)
theorem dX2_bridgesByLeavingOut_19 : decode cX2_bridgesByLeavingOut 19 = .ok (.iload_n 2, 1) := dk_28 (dk_at dksX2_bridgesByLeavingOut_0 19 rfl rfl)
theorem dX2_bridgesByLeavingOut_20 : decode cX2_bridgesByLeavingOut 20 = .ok (.invokevirtual 198, 3) := dk_182 0 198 (dk_at dksX2_bridgesByLeavingOut_0 20 rfl rfl)
theorem dX2_bridgesByLeavingOut_23 : decode cX2_bridgesByLeavingOut 23 = .ok (.ifCond .eq 7, 3) := dk_153 0 7 (dk_at dksX2_bridgesByLeavingOut_1 0 rfl rfl)
theorem dX2_bridgesByLeavingOut_26 : decode cX2_bridgesByLeavingOut 26 = .ok (.iconst 1, 1) := dk_4 (dk_at dksX2_bridgesByLeavingOut_1 3 rfl rfl)
theorem dX2_bridgesByLeavingOut_27 : decode cX2_bridgesByLeavingOut 27 = .ok (.goto 4, 3) := dk_167 0 4 (dk_at dksX2_bridgesByLeavingOut_1 4 rfl rfl)
theorem dX2_bridgesByLeavingOut_30 : decode cX2_bridgesByLeavingOut 30 = .ok (.iconst 0, 1) := dk_3 (dk_at dksX2_bridgesByLeavingOut_1 7 rfl rfl)
theorem dX2_bridgesByLeavingOut_31 : decode cX2_bridgesByLeavingOut 31 = .ok (.iadd, 1) := dk_96 (dk_at dksX2_bridgesByLeavingOut_1 8 rfl rfl)
theorem dX2_bridgesByLeavingOut_32 : decode cX2_bridgesByLeavingOut 32 = .ok (.istore_n 1, 1) := dk_60 (dk_at dksX2_bridgesByLeavingOut_1 9 rfl rfl)
theorem dX2_bridgesByLeavingOut_33 : decode cX2_bridgesByLeavingOut 33 = .ok (.iinc 2 1, 3) := dk_132 2 1 (dk_at dksX2_bridgesByLeavingOut_1 10 rfl rfl)
theorem dX2_bridgesByLeavingOut_36 : decode cX2_bridgesByLeavingOut 36 = .ok (.goto (-32), 3) := dk_167 255 224 (dk_at dksX2_bridgesByLeavingOut_1 13 rfl rfl)
theorem dX2_bridgesByLeavingOut_39 : decode cX2_bridgesByLeavingOut 39 = .ok (.iload_n 1, 1) := dk_27 (dk_at dksX2_bridgesByLeavingOut_1 16 rfl rfl)
theorem dX2_bridgesByLeavingOut_40 : decode cX2_bridgesByLeavingOut 40 = .ok (.ireturn, 1) := dk_172 (dk_at dksX2_bridgesByLeavingOut_1 17 rfl rfl)
abbrev cX2_isBridge : ByteArray := prog_14_method_25_code
def yX2_isBridge : MethodName := ⟨RX2, "isBridge", "(I)Z"⟩
def dkwX2_isBridge_1 : List UInt8 := [180, 0, 117, 44, 180, 0, 120, 4, 27, 182, 0, 190, 154, 0, 7, 4, 167, 0, 4, 3, 172]
abbrev dktX2_isBridge_1 : List UInt8 := dkwX2_isBridge_1 ++ []
def dkwX2_isBridge_0 : List UInt8 := [42, 180, 0, 18, 27, 185, 0, 28, 2, 0, 192, 0, 42, 77, 44, 182, 0, 144, 153, 0, 24, 42, 44]
abbrev dktX2_isBridge_0 : List UInt8 := dkwX2_isBridge_0 ++ dktX2_isBridge_1
theorem dksX2_isBridge_0 : cX2_isBridge.data.toList.drop 0 = dktX2_isBridge_0 := by decide +kernel
theorem dksX2_isBridge_1 : cX2_isBridge.data.toList.drop 23 = dktX2_isBridge_1 := dk_seg dksX2_isBridge_0 23 rfl rfl
theorem dX2_isBridge_0 : decode cX2_isBridge 0 = .ok (.aload_n 0, 1) := dk_42 (dk_at dksX2_isBridge_0 0 rfl rfl)
theorem dX2_isBridge_1 : decode cX2_isBridge 1 = .ok (.getfield 18, 3) := dk_180 0 18 (dk_at dksX2_isBridge_0 1 rfl rfl)
theorem dX2_isBridge_4 : decode cX2_isBridge 4 = .ok (.iload_n 1, 1) := dk_27 (dk_at dksX2_isBridge_0 4 rfl rfl)
theorem dX2_isBridge_5 : decode cX2_isBridge 5 = .ok (.invokeinterface 28 2, 5) := by decide +kernel
theorem dX2_isBridge_10 : decode cX2_isBridge 10 = .ok (.checkcast 42, 3) := dk_192 0 42 (dk_at dksX2_isBridge_0 10 rfl rfl)
theorem dX2_isBridge_13 : decode cX2_isBridge 13 = .ok (.astore_n 2, 1) := dk_77 (dk_at dksX2_isBridge_0 13 rfl rfl)
theorem dX2_isBridge_14 : decode cX2_isBridge 14 = .ok (.aload_n 2, 1) := dk_44 (dk_at dksX2_isBridge_0 14 rfl rfl)
theorem dX2_isBridge_15 : decode cX2_isBridge 15 = .ok (.invokevirtual 144, 3) := dk_182 0 144 (dk_at dksX2_isBridge_0 15 rfl rfl)
theorem dX2_isBridge_18 : decode cX2_isBridge 18 = .ok (.ifCond .eq 24, 3) := dk_153 0 24 (dk_at dksX2_isBridge_0 18 rfl rfl)
theorem dX2_isBridge_21 : decode cX2_isBridge 21 = .ok (.aload_n 0, 1) := dk_42 (dk_at dksX2_isBridge_0 21 rfl rfl)
theorem dX2_isBridge_22 : decode cX2_isBridge 22 = .ok (.aload_n 2, 1) := dk_44 (dk_at dksX2_isBridge_0 22 rfl rfl)
theorem dX2_isBridge_23 : decode cX2_isBridge 23 = .ok (.getfield 117, 3) := dk_180 0 117 (dk_at dksX2_isBridge_1 0 rfl rfl)
theorem dX2_isBridge_26 : decode cX2_isBridge 26 = .ok (.aload_n 2, 1) := dk_44 (dk_at dksX2_isBridge_1 3 rfl rfl)
theorem dX2_isBridge_27 : decode cX2_isBridge 27 = .ok (.getfield 120, 3) := dk_180 0 120 (dk_at dksX2_isBridge_1 4 rfl rfl)
theorem dX2_isBridge_30 : decode cX2_isBridge 30 = .ok (.iconst 1, 1) := dk_4 (dk_at dksX2_isBridge_1 7 rfl rfl)
theorem dX2_isBridge_31 : decode cX2_isBridge 31 = .ok (.iload_n 1, 1) := dk_27 (dk_at dksX2_isBridge_1 8 rfl rfl)
theorem dX2_isBridge_32 : decode cX2_isBridge 32 = .ok (.invokevirtual 190, 3) := dk_182 0 190 (dk_at dksX2_isBridge_1 9 rfl rfl)
theorem dX2_isBridge_35 : decode cX2_isBridge 35 = .ok (.ifCond .ne 7, 3) := dk_154 0 7 (dk_at dksX2_isBridge_1 12 rfl rfl)
theorem dX2_isBridge_38 : decode cX2_isBridge 38 = .ok (.iconst 1, 1) := dk_4 (dk_at dksX2_isBridge_1 15 rfl rfl)
theorem dX2_isBridge_39 : decode cX2_isBridge 39 = .ok (.goto 4, 3) := dk_167 0 4 (dk_at dksX2_isBridge_1 16 rfl rfl)
theorem dX2_isBridge_42 : decode cX2_isBridge 42 = .ok (.iconst 0, 1) := dk_3 (dk_at dksX2_isBridge_1 19 rfl rfl)
theorem dX2_isBridge_43 : decode cX2_isBridge 43 = .ok (.ireturn, 1) := dk_172 (dk_at dksX2_isBridge_1 20 rfl rfl)
abbrev cX2_areConnected : ByteArray := prog_14_method_20_code
def yX2_areConnected : MethodName := ⟨RX2, "areConnected", "(IIII)Z"⟩
def dkwX2_areConnected_1 : List UInt8 := [28, 51, 172]
abbrev dktX2_areConnected_1 : List UInt8 := dkwX2_areConnected_1 ++ []
def dkwX2_areConnected_0 : List UInt8 := [187, 0, 179, 89, 42, 29, 21, 4, 183, 0, 181, 58, 5, 25, 5, 27, 182, 0, 184, 25, 5, 180, 0, 186]
abbrev dktX2_areConnected_0 : List UInt8 := dkwX2_areConnected_0 ++ dktX2_areConnected_1
theorem dksX2_areConnected_0 : cX2_areConnected.data.toList.drop 0 = dktX2_areConnected_0 := by decide +kernel
theorem dksX2_areConnected_1 : cX2_areConnected.data.toList.drop 24 = dktX2_areConnected_1 := dk_seg dksX2_areConnected_0 24 rfl rfl
theorem dX2_areConnected_0 : decode cX2_areConnected 0 = .ok (.new 179, 3) := dk_187 0 179 (dk_at dksX2_areConnected_0 0 rfl rfl)
theorem dX2_areConnected_3 : decode cX2_areConnected 3 = .ok (.dup, 1) := dk_89 (dk_at dksX2_areConnected_0 3 rfl rfl)
theorem dX2_areConnected_4 : decode cX2_areConnected 4 = .ok (.aload_n 0, 1) := dk_42 (dk_at dksX2_areConnected_0 4 rfl rfl)
theorem dX2_areConnected_5 : decode cX2_areConnected 5 = .ok (.iload_n 3, 1) := dk_29 (dk_at dksX2_areConnected_0 5 rfl rfl)
theorem dX2_areConnected_6 : decode cX2_areConnected 6 = .ok (.iload 4, 2) := dk_21 4 (dk_at dksX2_areConnected_0 6 rfl rfl)
theorem dX2_areConnected_8 : decode cX2_areConnected 8 = .ok (.invokespecial 181, 3) := dk_183 0 181 (dk_at dksX2_areConnected_0 8 rfl rfl)
theorem dX2_areConnected_11 : decode cX2_areConnected 11 = .ok (.astore 5, 2) := dk_58 5 (dk_at dksX2_areConnected_0 11 rfl rfl)
theorem dX2_areConnected_13 : decode cX2_areConnected 13 = .ok (.aload 5, 2) := dk_25 5 (dk_at dksX2_areConnected_0 13 rfl rfl)
theorem dX2_areConnected_15 : decode cX2_areConnected 15 = .ok (.iload_n 1, 1) := dk_27 (dk_at dksX2_areConnected_0 15 rfl rfl)
theorem dX2_areConnected_16 : decode cX2_areConnected 16 = .ok (.invokevirtual 184, 3) := dk_182 0 184 (dk_at dksX2_areConnected_0 16 rfl rfl)
theorem dX2_areConnected_19 : decode cX2_areConnected 19 = .ok (.aload 5, 2) := dk_25 5 (dk_at dksX2_areConnected_0 19 rfl rfl)
theorem dX2_areConnected_21 : decode cX2_areConnected 21 = .ok (.getfield 186, 3) := dk_180 0 186 (dk_at dksX2_areConnected_0 21 rfl rfl)
theorem dX2_areConnected_24 : decode cX2_areConnected 24 = .ok (.iload_n 2, 1) := dk_28 (dk_at dksX2_areConnected_1 0 rfl rfl)
theorem dX2_areConnected_25 : decode cX2_areConnected 25 = .ok (.baload, 1) := dk_51 (dk_at dksX2_areConnected_1 1 rfl rfl)
theorem dX2_areConnected_26 : decode cX2_areConnected 26 = .ok (.ireturn, 1) := dk_172 (dk_at dksX2_areConnected_1 2 rfl rfl)
abbrev cX2_totalContent : ByteArray := prog_14_method_36_code
def yX2_totalContent : MethodName := ⟨RX2, "totalContent", "()I"⟩
def dkwX2_totalContent_1 : List UInt8 := [185, 0, 28, 2, 0, 192, 0, 32, 180, 0, 96, 96, 60, 132, 2, 1, 167, 255, 221, 27, 172]
abbrev dktX2_totalContent_1 : List UInt8 := dkwX2_totalContent_1 ++ []
def dkwX2_totalContent_0 : List UInt8 := [3, 60, 3, 61, 28, 42, 180, 0, 12, 185, 0, 22, 1, 0, 162, 0, 28, 27, 42, 180, 0, 12, 28]
abbrev dktX2_totalContent_0 : List UInt8 := dkwX2_totalContent_0 ++ dktX2_totalContent_1
theorem dksX2_totalContent_0 : cX2_totalContent.data.toList.drop 0 = dktX2_totalContent_0 := by decide +kernel
theorem dksX2_totalContent_1 : cX2_totalContent.data.toList.drop 23 = dktX2_totalContent_1 := dk_seg dksX2_totalContent_0 23 rfl rfl
theorem dX2_totalContent_0 : decode cX2_totalContent 0 = .ok (.iconst 0, 1) := dk_3 (dk_at dksX2_totalContent_0 0 rfl rfl)
theorem dX2_totalContent_1 : decode cX2_totalContent 1 = .ok (.istore_n 1, 1) := dk_60 (dk_at dksX2_totalContent_0 1 rfl rfl)
theorem dX2_totalContent_2 : decode cX2_totalContent 2 = .ok (.iconst 0, 1) := dk_3 (dk_at dksX2_totalContent_0 2 rfl rfl)
theorem dX2_totalContent_3 : decode cX2_totalContent 3 = .ok (.istore_n 2, 1) := dk_61 (dk_at dksX2_totalContent_0 3 rfl rfl)
theorem dX2_totalContent_4 : decode cX2_totalContent 4 = .ok (.iload_n 2, 1) := dk_28 (dk_at dksX2_totalContent_0 4 rfl rfl)
theorem dX2_totalContent_5 : decode cX2_totalContent 5 = .ok (.aload_n 0, 1) := dk_42 (dk_at dksX2_totalContent_0 5 rfl rfl)
theorem dX2_totalContent_6 : decode cX2_totalContent 6 = .ok (.getfield 12, 3) := dk_180 0 12 (dk_at dksX2_totalContent_0 6 rfl rfl)
theorem dX2_totalContent_9 : decode cX2_totalContent 9 = .ok (.invokeinterface 22 1, 5) := by decide +kernel
theorem dX2_totalContent_14 : decode cX2_totalContent 14 = .ok (.if_icmp .ge 28, 3) := dk_162 0 28 (dk_at dksX2_totalContent_0 14 rfl rfl)
theorem dX2_totalContent_17 : decode cX2_totalContent 17 = .ok (.iload_n 1, 1) := dk_27 (dk_at dksX2_totalContent_0 17 rfl rfl)
theorem dX2_totalContent_18 : decode cX2_totalContent 18 = .ok (.aload_n 0, 1) := dk_42 (dk_at dksX2_totalContent_0 18 rfl rfl)
theorem dX2_totalContent_19 : decode cX2_totalContent 19 = .ok (.getfield 12, 3) := dk_180 0 12 (dk_at dksX2_totalContent_0 19 rfl rfl)
theorem dX2_totalContent_22 : decode cX2_totalContent 22 = .ok (.iload_n 2, 1) := dk_28 (dk_at dksX2_totalContent_0 22 rfl rfl)
theorem dX2_totalContent_23 : decode cX2_totalContent 23 = .ok (.invokeinterface 28 2, 5) := by decide +kernel
theorem dX2_totalContent_28 : decode cX2_totalContent 28 = .ok (.checkcast 32, 3) := dk_192 0 32 (dk_at dksX2_totalContent_1 5 rfl rfl)
theorem dX2_totalContent_31 : decode cX2_totalContent 31 = .ok (.getfield 96, 3) := dk_180 0 96 (dk_at dksX2_totalContent_1 8 rfl rfl)
theorem dX2_totalContent_34 : decode cX2_totalContent 34 = .ok (.iadd, 1) := dk_96 (dk_at dksX2_totalContent_1 11 rfl rfl)
theorem dX2_totalContent_35 : decode cX2_totalContent 35 = .ok (.istore_n 1, 1) := dk_60 (dk_at dksX2_totalContent_1 12 rfl rfl)
theorem dX2_totalContent_36 : decode cX2_totalContent 36 = .ok (.iinc 2 1, 3) := dk_132 2 1 (dk_at dksX2_totalContent_1 13 rfl rfl)
theorem dX2_totalContent_39 : decode cX2_totalContent 39 = .ok (.goto (-35), 3) := dk_167 255 221 (dk_at dksX2_totalContent_1 16 rfl rfl)
theorem dX2_totalContent_42 : decode cX2_totalContent 42 = .ok (.iload_n 1, 1) := dk_27 (dk_at dksX2_totalContent_1 19 rfl rfl)
theorem dX2_totalContent_43 : decode cX2_totalContent 43 = .ok (.ireturn, 1) := dk_172 (dk_at dksX2_totalContent_1 20 rfl rfl)
abbrev cX2_totalContentByAccounts : ByteArray := prog_14_method_37_code
def yX2_totalContentByAccounts : MethodName := ⟨RX2, "totalContentByAccounts", "()I"⟩
def dkwX2_totalContentByAccounts_0 : List UInt8 := [42, 180, 0, 51, 42, 180, 0, 54, 100, 42, 180, 0, 57, 100, 172]
abbrev dktX2_totalContentByAccounts_0 : List UInt8 := dkwX2_totalContentByAccounts_0 ++ []
theorem dksX2_totalContentByAccounts_0 : cX2_totalContentByAccounts.data.toList.drop 0 = dktX2_totalContentByAccounts_0 := by decide +kernel
theorem dX2_totalContentByAccounts_0 : decode cX2_totalContentByAccounts 0 = .ok (.aload_n 0, 1) := dk_42 (dk_at dksX2_totalContentByAccounts_0 0 rfl rfl)
theorem dX2_totalContentByAccounts_1 : decode cX2_totalContentByAccounts 1 = .ok (.getfield 51, 3) := dk_180 0 51 (dk_at dksX2_totalContentByAccounts_0 1 rfl rfl)
theorem dX2_totalContentByAccounts_4 : decode cX2_totalContentByAccounts 4 = .ok (.aload_n 0, 1) := dk_42 (dk_at dksX2_totalContentByAccounts_0 4 rfl rfl)
theorem dX2_totalContentByAccounts_5 : decode cX2_totalContentByAccounts 5 = .ok (.getfield 54, 3) := dk_180 0 54 (dk_at dksX2_totalContentByAccounts_0 5 rfl rfl)
theorem dX2_totalContentByAccounts_8 : decode cX2_totalContentByAccounts 8 = .ok (.isub, 1) := dk_100 (dk_at dksX2_totalContentByAccounts_0 8 rfl rfl)
theorem dX2_totalContentByAccounts_9 : decode cX2_totalContentByAccounts 9 = .ok (.aload_n 0, 1) := dk_42 (dk_at dksX2_totalContentByAccounts_0 9 rfl rfl)
theorem dX2_totalContentByAccounts_10 : decode cX2_totalContentByAccounts 10 = .ok (.getfield 57, 3) := dk_180 0 57 (dk_at dksX2_totalContentByAccounts_0 10 rfl rfl)
theorem dX2_totalContentByAccounts_13 : decode cX2_totalContentByAccounts 13 = .ok (.isub, 1) := dk_100 (dk_at dksX2_totalContentByAccounts_0 13 rfl rfl)
theorem dX2_totalContentByAccounts_14 : decode cX2_totalContentByAccounts 14 = .ok (.ireturn, 1) := dk_172 (dk_at dksX2_totalContentByAccounts_0 14 rfl rfl)
abbrev cX2_fingerprint : ByteArray := prog_14_method_38_code
def yX2_fingerprint : MethodName := ⟨RX2, "fingerprint", "()J"⟩
def dkwX2_fingerprint_4 : List UInt8 := [132, 3, 1, 167, 255, 213, 31, 173]
abbrev dktX2_fingerprint_4 : List UInt8 := dkwX2_fingerprint_4 ++ []
def dkwX2_fingerprint_3 : List UInt8 := [121, 31, 16, 57, 125, 129, 42, 180, 0, 18, 29, 185, 0, 28, 2, 0, 192, 0, 42, 182, 1, 3, 131, 64]
abbrev dktX2_fingerprint_3 : List UInt8 := dkwX2_fingerprint_3 ++ dktX2_fingerprint_4
def dkwX2_fingerprint_2 : List UInt8 := [132, 3, 1, 167, 255, 214, 3, 62, 29, 42, 180, 0, 18, 185, 0, 22, 1, 0, 162, 0, 36, 31, 16, 7]
abbrev dktX2_fingerprint_2 : List UInt8 := dkwX2_fingerprint_2 ++ dktX2_fingerprint_3
def dkwX2_fingerprint_1 : List UInt8 := [16, 59, 125, 129, 42, 180, 0, 12, 29, 185, 0, 28, 2, 0, 192, 0, 32, 182, 0, 255, 131, 64]
abbrev dktX2_fingerprint_1 : List UInt8 := dkwX2_fingerprint_1 ++ dktX2_fingerprint_2
def dkwX2_fingerprint_0 : List UInt8 := [20, 0, 253, 64, 3, 62, 29, 42, 180, 0, 12, 185, 0, 22, 1, 0, 162, 0, 35, 31, 8, 121, 31]
abbrev dktX2_fingerprint_0 : List UInt8 := dkwX2_fingerprint_0 ++ dktX2_fingerprint_1
theorem dksX2_fingerprint_0 : cX2_fingerprint.data.toList.drop 0 = dktX2_fingerprint_0 := by decide +kernel
theorem dksX2_fingerprint_1 : cX2_fingerprint.data.toList.drop 23 = dktX2_fingerprint_1 := dk_seg dksX2_fingerprint_0 23 rfl rfl
theorem dksX2_fingerprint_2 : cX2_fingerprint.data.toList.drop 45 = dktX2_fingerprint_2 := dk_seg dksX2_fingerprint_1 22 rfl rfl
theorem dksX2_fingerprint_3 : cX2_fingerprint.data.toList.drop 69 = dktX2_fingerprint_3 := dk_seg dksX2_fingerprint_2 24 rfl rfl
theorem dksX2_fingerprint_4 : cX2_fingerprint.data.toList.drop 93 = dktX2_fingerprint_4 := dk_seg dksX2_fingerprint_3 24 rfl rfl
theorem dX2_fingerprint_0 : decode cX2_fingerprint 0 = .ok (.ldc2_w 253, 3) := dk_20 0 253 (dk_at dksX2_fingerprint_0 0 rfl rfl)
theorem dX2_fingerprint_3 : decode cX2_fingerprint 3 = .ok (.lstore_n 1, 1) := dk_64 (dk_at dksX2_fingerprint_0 3 rfl rfl)
theorem dX2_fingerprint_4 : decode cX2_fingerprint 4 = .ok (.iconst 0, 1) := dk_3 (dk_at dksX2_fingerprint_0 4 rfl rfl)
theorem dX2_fingerprint_5 : decode cX2_fingerprint 5 = .ok (.istore_n 3, 1) := dk_62 (dk_at dksX2_fingerprint_0 5 rfl rfl)
theorem dX2_fingerprint_6 : decode cX2_fingerprint 6 = .ok (.iload_n 3, 1) := dk_29 (dk_at dksX2_fingerprint_0 6 rfl rfl)
theorem dX2_fingerprint_7 : decode cX2_fingerprint 7 = .ok (.aload_n 0, 1) := dk_42 (dk_at dksX2_fingerprint_0 7 rfl rfl)
theorem dX2_fingerprint_8 : decode cX2_fingerprint 8 = .ok (.getfield 12, 3) := dk_180 0 12 (dk_at dksX2_fingerprint_0 8 rfl rfl)
theorem dX2_fingerprint_11 : decode cX2_fingerprint 11 = .ok (.invokeinterface 22 1, 5) := by decide +kernel
theorem dX2_fingerprint_16 : decode cX2_fingerprint 16 = .ok (.if_icmp .ge 35, 3) := dk_162 0 35 (dk_at dksX2_fingerprint_0 16 rfl rfl)
theorem dX2_fingerprint_19 : decode cX2_fingerprint 19 = .ok (.lload_n 1, 1) := dk_31 (dk_at dksX2_fingerprint_0 19 rfl rfl)
theorem dX2_fingerprint_20 : decode cX2_fingerprint 20 = .ok (.iconst 5, 1) := dk_8 (dk_at dksX2_fingerprint_0 20 rfl rfl)
theorem dX2_fingerprint_21 : decode cX2_fingerprint 21 = .ok (.lshl, 1) := dk_121 (dk_at dksX2_fingerprint_0 21 rfl rfl)
theorem dX2_fingerprint_22 : decode cX2_fingerprint 22 = .ok (.lload_n 1, 1) := dk_31 (dk_at dksX2_fingerprint_0 22 rfl rfl)
theorem dX2_fingerprint_23 : decode cX2_fingerprint 23 = .ok (.bipush 59, 2) := dk_16 59 (dk_at dksX2_fingerprint_1 0 rfl rfl)
theorem dX2_fingerprint_25 : decode cX2_fingerprint 25 = .ok (.lushr, 1) := dk_125 (dk_at dksX2_fingerprint_1 2 rfl rfl)
theorem dX2_fingerprint_26 : decode cX2_fingerprint 26 = .ok (.lor, 1) := dk_129 (dk_at dksX2_fingerprint_1 3 rfl rfl)
theorem dX2_fingerprint_27 : decode cX2_fingerprint 27 = .ok (.aload_n 0, 1) := dk_42 (dk_at dksX2_fingerprint_1 4 rfl rfl)
theorem dX2_fingerprint_28 : decode cX2_fingerprint 28 = .ok (.getfield 12, 3) := dk_180 0 12 (dk_at dksX2_fingerprint_1 5 rfl rfl)
theorem dX2_fingerprint_31 : decode cX2_fingerprint 31 = .ok (.iload_n 3, 1) := dk_29 (dk_at dksX2_fingerprint_1 8 rfl rfl)
theorem dX2_fingerprint_32 : decode cX2_fingerprint 32 = .ok (.invokeinterface 28 2, 5) := by decide +kernel
theorem dX2_fingerprint_37 : decode cX2_fingerprint 37 = .ok (.checkcast 32, 3) := dk_192 0 32 (dk_at dksX2_fingerprint_1 14 rfl rfl)
theorem dX2_fingerprint_40 : decode cX2_fingerprint 40 = .ok (.invokevirtual 255, 3) := dk_182 0 255 (dk_at dksX2_fingerprint_1 17 rfl rfl)
theorem dX2_fingerprint_43 : decode cX2_fingerprint 43 = .ok (.lxor, 1) := dk_131 (dk_at dksX2_fingerprint_1 20 rfl rfl)
theorem dX2_fingerprint_44 : decode cX2_fingerprint 44 = .ok (.lstore_n 1, 1) := dk_64 (dk_at dksX2_fingerprint_1 21 rfl rfl)
theorem dX2_fingerprint_45 : decode cX2_fingerprint 45 = .ok (.iinc 3 1, 3) := dk_132 3 1 (dk_at dksX2_fingerprint_2 0 rfl rfl)
theorem dX2_fingerprint_48 : decode cX2_fingerprint 48 = .ok (.goto (-42), 3) := dk_167 255 214 (dk_at dksX2_fingerprint_2 3 rfl rfl)
theorem dX2_fingerprint_51 : decode cX2_fingerprint 51 = .ok (.iconst 0, 1) := dk_3 (dk_at dksX2_fingerprint_2 6 rfl rfl)
theorem dX2_fingerprint_52 : decode cX2_fingerprint 52 = .ok (.istore_n 3, 1) := dk_62 (dk_at dksX2_fingerprint_2 7 rfl rfl)
theorem dX2_fingerprint_53 : decode cX2_fingerprint 53 = .ok (.iload_n 3, 1) := dk_29 (dk_at dksX2_fingerprint_2 8 rfl rfl)
theorem dX2_fingerprint_54 : decode cX2_fingerprint 54 = .ok (.aload_n 0, 1) := dk_42 (dk_at dksX2_fingerprint_2 9 rfl rfl)
theorem dX2_fingerprint_55 : decode cX2_fingerprint 55 = .ok (.getfield 18, 3) := dk_180 0 18 (dk_at dksX2_fingerprint_2 10 rfl rfl)
theorem dX2_fingerprint_58 : decode cX2_fingerprint 58 = .ok (.invokeinterface 22 1, 5) := by decide +kernel
theorem dX2_fingerprint_63 : decode cX2_fingerprint 63 = .ok (.if_icmp .ge 36, 3) := dk_162 0 36 (dk_at dksX2_fingerprint_2 18 rfl rfl)
theorem dX2_fingerprint_66 : decode cX2_fingerprint 66 = .ok (.lload_n 1, 1) := dk_31 (dk_at dksX2_fingerprint_2 21 rfl rfl)
theorem dX2_fingerprint_67 : decode cX2_fingerprint 67 = .ok (.bipush 7, 2) := dk_16 7 (dk_at dksX2_fingerprint_2 22 rfl rfl)
theorem dX2_fingerprint_69 : decode cX2_fingerprint 69 = .ok (.lshl, 1) := dk_121 (dk_at dksX2_fingerprint_3 0 rfl rfl)
theorem dX2_fingerprint_70 : decode cX2_fingerprint 70 = .ok (.lload_n 1, 1) := dk_31 (dk_at dksX2_fingerprint_3 1 rfl rfl)
theorem dX2_fingerprint_71 : decode cX2_fingerprint 71 = .ok (.bipush 57, 2) := dk_16 57 (dk_at dksX2_fingerprint_3 2 rfl rfl)
theorem dX2_fingerprint_73 : decode cX2_fingerprint 73 = .ok (.lushr, 1) := dk_125 (dk_at dksX2_fingerprint_3 4 rfl rfl)
theorem dX2_fingerprint_74 : decode cX2_fingerprint 74 = .ok (.lor, 1) := dk_129 (dk_at dksX2_fingerprint_3 5 rfl rfl)
theorem dX2_fingerprint_75 : decode cX2_fingerprint 75 = .ok (.aload_n 0, 1) := dk_42 (dk_at dksX2_fingerprint_3 6 rfl rfl)
theorem dX2_fingerprint_76 : decode cX2_fingerprint 76 = .ok (.getfield 18, 3) := dk_180 0 18 (dk_at dksX2_fingerprint_3 7 rfl rfl)
theorem dX2_fingerprint_79 : decode cX2_fingerprint 79 = .ok (.iload_n 3, 1) := dk_29 (dk_at dksX2_fingerprint_3 10 rfl rfl)
theorem dX2_fingerprint_80 : decode cX2_fingerprint 80 = .ok (.invokeinterface 28 2, 5) := by decide +kernel
theorem dX2_fingerprint_85 : decode cX2_fingerprint 85 = .ok (.checkcast 42, 3) := dk_192 0 42 (dk_at dksX2_fingerprint_3 16 rfl rfl)
theorem dX2_fingerprint_88 : decode cX2_fingerprint 88 = .ok (.invokevirtual 259, 3) := dk_182 1 3 (dk_at dksX2_fingerprint_3 19 rfl rfl)
theorem dX2_fingerprint_91 : decode cX2_fingerprint 91 = .ok (.lxor, 1) := dk_131 (dk_at dksX2_fingerprint_3 22 rfl rfl)
theorem dX2_fingerprint_92 : decode cX2_fingerprint 92 = .ok (.lstore_n 1, 1) := dk_64 (dk_at dksX2_fingerprint_3 23 rfl rfl)
theorem dX2_fingerprint_93 : decode cX2_fingerprint 93 = .ok (.iinc 3 1, 3) := dk_132 3 1 (dk_at dksX2_fingerprint_4 0 rfl rfl)
theorem dX2_fingerprint_96 : decode cX2_fingerprint 96 = .ok (.goto (-43), 3) := dk_167 255 213 (dk_at dksX2_fingerprint_4 3 rfl rfl)
theorem dX2_fingerprint_99 : decode cX2_fingerprint 99 = .ok (.lload_n 1, 1) := dk_31 (dk_at dksX2_fingerprint_4 6 rfl rfl)
theorem dX2_fingerprint_100 : decode cX2_fingerprint 100 = .ok (.lreturn, 1) := dk_173 (dk_at dksX2_fingerprint_4 7 rfl rfl)
abbrev cX2_isConsistent : ByteArray := prog_14_method_40_code
def yX2_isConsistent : MethodName := ⟨RX2, "isConsistent", "()Z"⟩
def dkwX2_isConsistent_4 : List UInt8 := [182, 1, 38, 160, 0, 7, 4, 167, 0, 4, 3, 172]
abbrev dktX2_isConsistent_4 : List UInt8 := dkwX2_isConsistent_4 ++ []
def dkwX2_isConsistent_3 : List UInt8 := [153, 0, 7, 4, 167, 0, 4, 3, 60, 132, 2, 1, 167, 255, 203, 27, 153, 0, 18, 42, 182, 1, 35, 42]
abbrev dktX2_isConsistent_3 : List UInt8 := dkwX2_isConsistent_3 ++ dktX2_isConsistent_4
def dkwX2_isConsistent_2 : List UInt8 := [42, 180, 0, 12, 28, 185, 0, 28, 2, 0, 192, 0, 32, 182, 0, 87, 155, 0, 15, 42, 28, 182, 1, 32]
abbrev dktX2_isConsistent_2 : List UInt8 := dkwX2_isConsistent_2 ++ dktX2_isConsistent_3
def dkwX2_isConsistent_1 : List UInt8 := [167, 0, 4, 3, 60, 3, 61, 28, 42, 180, 0, 12, 185, 0, 22, 1, 0, 162, 0, 46, 27, 153, 0, 34]
abbrev dktX2_isConsistent_1 : List UInt8 := dkwX2_isConsistent_1 ++ dktX2_isConsistent_2
def dkwX2_isConsistent_0 : List UInt8 := [42, 182, 1, 21, 42, 182, 1, 24, 160, 0, 18, 42, 182, 1, 27, 42, 182, 1, 29, 160, 0, 7, 4]
abbrev dktX2_isConsistent_0 : List UInt8 := dkwX2_isConsistent_0 ++ dktX2_isConsistent_1
theorem dksX2_isConsistent_0 : cX2_isConsistent.data.toList.drop 0 = dktX2_isConsistent_0 := by decide +kernel
theorem dksX2_isConsistent_1 : cX2_isConsistent.data.toList.drop 23 = dktX2_isConsistent_1 := dk_seg dksX2_isConsistent_0 23 rfl rfl
theorem dksX2_isConsistent_2 : cX2_isConsistent.data.toList.drop 47 = dktX2_isConsistent_2 := dk_seg dksX2_isConsistent_1 24 rfl rfl
theorem dksX2_isConsistent_3 : cX2_isConsistent.data.toList.drop 71 = dktX2_isConsistent_3 := dk_seg dksX2_isConsistent_2 24 rfl rfl
theorem dksX2_isConsistent_4 : cX2_isConsistent.data.toList.drop 95 = dktX2_isConsistent_4 := dk_seg dksX2_isConsistent_3 24 rfl rfl
theorem dX2_isConsistent_0 : decode cX2_isConsistent 0 = .ok (.aload_n 0, 1) := dk_42 (dk_at dksX2_isConsistent_0 0 rfl rfl)
theorem dX2_isConsistent_1 : decode cX2_isConsistent 1 = .ok (.invokevirtual 277, 3) := dk_182 1 21 (dk_at dksX2_isConsistent_0 1 rfl rfl)
theorem dX2_isConsistent_4 : decode cX2_isConsistent 4 = .ok (.aload_n 0, 1) := dk_42 (dk_at dksX2_isConsistent_0 4 rfl rfl)
theorem dX2_isConsistent_5 : decode cX2_isConsistent 5 = .ok (.invokevirtual 280, 3) := dk_182 1 24 (dk_at dksX2_isConsistent_0 5 rfl rfl)
theorem dX2_isConsistent_8 : decode cX2_isConsistent 8 = .ok (.if_icmp .ne 18, 3) := dk_160 0 18 (dk_at dksX2_isConsistent_0 8 rfl rfl)
theorem dX2_isConsistent_11 : decode cX2_isConsistent 11 = .ok (.aload_n 0, 1) := dk_42 (dk_at dksX2_isConsistent_0 11 rfl rfl)
theorem dX2_isConsistent_12 : decode cX2_isConsistent 12 = .ok (.invokevirtual 283, 3) := dk_182 1 27 (dk_at dksX2_isConsistent_0 12 rfl rfl)
theorem dX2_isConsistent_15 : decode cX2_isConsistent 15 = .ok (.aload_n 0, 1) := dk_42 (dk_at dksX2_isConsistent_0 15 rfl rfl)
theorem dX2_isConsistent_16 : decode cX2_isConsistent 16 = .ok (.invokevirtual 285, 3) := dk_182 1 29 (dk_at dksX2_isConsistent_0 16 rfl rfl)
theorem dX2_isConsistent_19 : decode cX2_isConsistent 19 = .ok (.if_icmp .ne 7, 3) := dk_160 0 7 (dk_at dksX2_isConsistent_0 19 rfl rfl)
theorem dX2_isConsistent_22 : decode cX2_isConsistent 22 = .ok (.iconst 1, 1) := dk_4 (dk_at dksX2_isConsistent_0 22 rfl rfl)
theorem dX2_isConsistent_23 : decode cX2_isConsistent 23 = .ok (.goto 4, 3) := dk_167 0 4 (dk_at dksX2_isConsistent_1 0 rfl rfl)
theorem dX2_isConsistent_26 : decode cX2_isConsistent 26 = .ok (.iconst 0, 1) := dk_3 (dk_at dksX2_isConsistent_1 3 rfl rfl)
theorem dX2_isConsistent_27 : decode cX2_isConsistent 27 = .ok (.istore_n 1, 1) := dk_60 (dk_at dksX2_isConsistent_1 4 rfl rfl)
theorem dX2_isConsistent_28 : decode cX2_isConsistent 28 = .ok (.iconst 0, 1) := dk_3 (dk_at dksX2_isConsistent_1 5 rfl rfl)
theorem dX2_isConsistent_29 : decode cX2_isConsistent 29 = .ok (.istore_n 2, 1) := dk_61 (dk_at dksX2_isConsistent_1 6 rfl rfl)
theorem dX2_isConsistent_30 : decode cX2_isConsistent 30 = .ok (.iload_n 2, 1) := dk_28 (dk_at dksX2_isConsistent_1 7 rfl rfl)
theorem dX2_isConsistent_31 : decode cX2_isConsistent 31 = .ok (.aload_n 0, 1) := dk_42 (dk_at dksX2_isConsistent_1 8 rfl rfl)
theorem dX2_isConsistent_32 : decode cX2_isConsistent 32 = .ok (.getfield 12, 3) := dk_180 0 12 (dk_at dksX2_isConsistent_1 9 rfl rfl)
theorem dX2_isConsistent_35 : decode cX2_isConsistent 35 = .ok (.invokeinterface 22 1, 5) := by decide +kernel
theorem dX2_isConsistent_40 : decode cX2_isConsistent 40 = .ok (.if_icmp .ge 46, 3) := dk_162 0 46 (dk_at dksX2_isConsistent_1 17 rfl rfl)
theorem dX2_isConsistent_43 : decode cX2_isConsistent 43 = .ok (.iload_n 1, 1) := dk_27 (dk_at dksX2_isConsistent_1 20 rfl rfl)
theorem dX2_isConsistent_44 : decode cX2_isConsistent 44 = .ok (.ifCond .eq 34, 3) := dk_153 0 34 (dk_at dksX2_isConsistent_1 21 rfl rfl)
theorem dX2_isConsistent_47 : decode cX2_isConsistent 47 = .ok (.aload_n 0, 1) := dk_42 (dk_at dksX2_isConsistent_2 0 rfl rfl)
theorem dX2_isConsistent_48 : decode cX2_isConsistent 48 = .ok (.getfield 12, 3) := dk_180 0 12 (dk_at dksX2_isConsistent_2 1 rfl rfl)
theorem dX2_isConsistent_51 : decode cX2_isConsistent 51 = .ok (.iload_n 2, 1) := dk_28 (dk_at dksX2_isConsistent_2 4 rfl rfl)
theorem dX2_isConsistent_52 : decode cX2_isConsistent 52 = .ok (.invokeinterface 28 2, 5) := by decide +kernel
theorem dX2_isConsistent_57 : decode cX2_isConsistent 57 = .ok (.checkcast 32, 3) := dk_192 0 32 (dk_at dksX2_isConsistent_2 10 rfl rfl)
theorem dX2_isConsistent_60 : decode cX2_isConsistent 60 = .ok (.invokevirtual 87, 3) := dk_182 0 87 (dk_at dksX2_isConsistent_2 13 rfl rfl)
theorem dX2_isConsistent_63 : decode cX2_isConsistent 63 = .ok (.ifCond .lt 15, 3) := dk_155 0 15 (dk_at dksX2_isConsistent_2 16 rfl rfl)
theorem dX2_isConsistent_66 : decode cX2_isConsistent 66 = .ok (.aload_n 0, 1) := dk_42 (dk_at dksX2_isConsistent_2 19 rfl rfl)
theorem dX2_isConsistent_67 : decode cX2_isConsistent 67 = .ok (.iload_n 2, 1) := dk_28 (dk_at dksX2_isConsistent_2 20 rfl rfl)
theorem dX2_isConsistent_68 : decode cX2_isConsistent 68 = .ok (.invokevirtual 288, 3) := dk_182 1 32 (dk_at dksX2_isConsistent_2 21 rfl rfl)
theorem dX2_isConsistent_71 : decode cX2_isConsistent 71 = .ok (.ifCond .eq 7, 3) := dk_153 0 7 (dk_at dksX2_isConsistent_3 0 rfl rfl)
theorem dX2_isConsistent_74 : decode cX2_isConsistent 74 = .ok (.iconst 1, 1) := dk_4 (dk_at dksX2_isConsistent_3 3 rfl rfl)
theorem dX2_isConsistent_75 : decode cX2_isConsistent 75 = .ok (.goto 4, 3) := dk_167 0 4 (dk_at dksX2_isConsistent_3 4 rfl rfl)
theorem dX2_isConsistent_78 : decode cX2_isConsistent 78 = .ok (.iconst 0, 1) := dk_3 (dk_at dksX2_isConsistent_3 7 rfl rfl)
theorem dX2_isConsistent_79 : decode cX2_isConsistent 79 = .ok (.istore_n 1, 1) := dk_60 (dk_at dksX2_isConsistent_3 8 rfl rfl)
theorem dX2_isConsistent_80 : decode cX2_isConsistent 80 = .ok (.iinc 2 1, 3) := dk_132 2 1 (dk_at dksX2_isConsistent_3 9 rfl rfl)
theorem dX2_isConsistent_83 : decode cX2_isConsistent 83 = .ok (.goto (-53), 3) := dk_167 255 203 (dk_at dksX2_isConsistent_3 12 rfl rfl)
theorem dX2_isConsistent_86 : decode cX2_isConsistent 86 = .ok (.iload_n 1, 1) := dk_27 (dk_at dksX2_isConsistent_3 15 rfl rfl)
theorem dX2_isConsistent_87 : decode cX2_isConsistent 87 = .ok (.ifCond .eq 18, 3) := dk_153 0 18 (dk_at dksX2_isConsistent_3 16 rfl rfl)
theorem dX2_isConsistent_90 : decode cX2_isConsistent 90 = .ok (.aload_n 0, 1) := dk_42 (dk_at dksX2_isConsistent_3 19 rfl rfl)
theorem dX2_isConsistent_91 : decode cX2_isConsistent 91 = .ok (.invokevirtual 291, 3) := dk_182 1 35 (dk_at dksX2_isConsistent_3 20 rfl rfl)
theorem dX2_isConsistent_94 : decode cX2_isConsistent 94 = .ok (.aload_n 0, 1) := dk_42 (dk_at dksX2_isConsistent_3 23 rfl rfl)
theorem dX2_isConsistent_95 : decode cX2_isConsistent 95 = .ok (.invokevirtual 294, 3) := dk_182 1 38 (dk_at dksX2_isConsistent_4 0 rfl rfl)
theorem dX2_isConsistent_98 : decode cX2_isConsistent 98 = .ok (.if_icmp .ne 7, 3) := dk_160 0 7 (dk_at dksX2_isConsistent_4 3 rfl rfl)
theorem dX2_isConsistent_101 : decode cX2_isConsistent 101 = .ok (.iconst 1, 1) := dk_4 (dk_at dksX2_isConsistent_4 6 rfl rfl)
theorem dX2_isConsistent_102 : decode cX2_isConsistent 102 = .ok (.goto 4, 3) := dk_167 0 4 (dk_at dksX2_isConsistent_4 7 rfl rfl)
theorem dX2_isConsistent_105 : decode cX2_isConsistent 105 = .ok (.iconst 0, 1) := dk_3 (dk_at dksX2_isConsistent_4 10 rfl rfl)
theorem dX2_isConsistent_106 : decode cX2_isConsistent 106 = .ok (.ireturn, 1) := dk_172 (dk_at dksX2_isConsistent_4 11 rfl rfl)
abbrev cX2_areWaysAlike : ByteArray := prog_14_method_39_code
def yX2_areWaysAlike : MethodName := ⟨RX2, "areWaysAlike", "(I)Z"⟩
def dkwX2_areWaysAlike_3 : List UInt8 := [160, 0, 7, 4, 167, 0, 4, 3, 61, 132, 6, 1, 167, 255, 198, 28, 172]
abbrev dktX2_areWaysAlike_3 : List UInt8 := dkwX2_areWaysAlike_3 ++ []
def dkwX2_areWaysAlike_2 : List UInt8 := [42, 27, 21, 6, 182, 1, 15, 160, 0, 24, 25, 4, 21, 6, 182, 1, 18, 25, 5, 21, 6, 182, 1, 18]
abbrev dktX2_areWaysAlike_2 : List UInt8 := dkwX2_areWaysAlike_2 ++ dktX2_areWaysAlike_3
def dkwX2_areWaysAlike_1 : List UInt8 := [54, 6, 21, 6, 42, 180, 0, 12, 185, 0, 22, 1, 0, 162, 0, 50, 28, 153, 0, 38, 45, 21, 6, 46]
abbrev dktX2_areWaysAlike_1 : List UInt8 := dkwX2_areWaysAlike_1 ++ dktX2_areWaysAlike_2
def dkwX2_areWaysAlike_0 : List UInt8 := [4, 61, 42, 27, 182, 1, 4, 78, 42, 27, 182, 1, 8, 58, 4, 42, 27, 182, 1, 12, 58, 5, 3]
abbrev dktX2_areWaysAlike_0 : List UInt8 := dkwX2_areWaysAlike_0 ++ dktX2_areWaysAlike_1
theorem dksX2_areWaysAlike_0 : cX2_areWaysAlike.data.toList.drop 0 = dktX2_areWaysAlike_0 := by decide +kernel
theorem dksX2_areWaysAlike_1 : cX2_areWaysAlike.data.toList.drop 23 = dktX2_areWaysAlike_1 := dk_seg dksX2_areWaysAlike_0 23 rfl rfl
theorem dksX2_areWaysAlike_2 : cX2_areWaysAlike.data.toList.drop 47 = dktX2_areWaysAlike_2 := dk_seg dksX2_areWaysAlike_1 24 rfl rfl
theorem dksX2_areWaysAlike_3 : cX2_areWaysAlike.data.toList.drop 71 = dktX2_areWaysAlike_3 := dk_seg dksX2_areWaysAlike_2 24 rfl rfl
theorem dX2_areWaysAlike_0 : decode cX2_areWaysAlike 0 = .ok (.iconst 1, 1) := dk_4 (dk_at dksX2_areWaysAlike_0 0 rfl rfl)
theorem dX2_areWaysAlike_1 : decode cX2_areWaysAlike 1 = .ok (.istore_n 2, 1) := dk_61 (dk_at dksX2_areWaysAlike_0 1 rfl rfl)
theorem dX2_areWaysAlike_2 : decode cX2_areWaysAlike 2 = .ok (.aload_n 0, 1) := dk_42 (dk_at dksX2_areWaysAlike_0 2 rfl rfl)
theorem dX2_areWaysAlike_3 : decode cX2_areWaysAlike 3 = .ok (.iload_n 1, 1) := dk_27 (dk_at dksX2_areWaysAlike_0 3 rfl rfl)
theorem dX2_areWaysAlike_4 : decode cX2_areWaysAlike 4 = .ok (.invokevirtual 260, 3) := dk_182 1 4 (dk_at dksX2_areWaysAlike_0 4 rfl rfl)
theorem dX2_areWaysAlike_7 : decode cX2_areWaysAlike 7 = .ok (.astore_n 3, 1) := dk_78 (dk_at dksX2_areWaysAlike_0 7 rfl rfl)
theorem dX2_areWaysAlike_8 : decode cX2_areWaysAlike 8 = .ok (.aload_n 0, 1) := dk_42 (dk_at dksX2_areWaysAlike_0 8 rfl rfl)
theorem dX2_areWaysAlike_9 : decode cX2_areWaysAlike 9 = .ok (.iload_n 1, 1) := dk_27 (dk_at dksX2_areWaysAlike_0 9 rfl rfl)
theorem dX2_areWaysAlike_10 : decode cX2_areWaysAlike 10 = .ok (.invokevirtual 264, 3) := dk_182 1 8 (dk_at dksX2_areWaysAlike_0 10 rfl rfl)
theorem dX2_areWaysAlike_13 : decode cX2_areWaysAlike 13 = .ok (.astore 4, 2) := dk_58 4 (dk_at dksX2_areWaysAlike_0 13 rfl rfl)
theorem dX2_areWaysAlike_15 : decode cX2_areWaysAlike 15 = .ok (.aload_n 0, 1) := dk_42 (dk_at dksX2_areWaysAlike_0 15 rfl rfl)
theorem dX2_areWaysAlike_16 : decode cX2_areWaysAlike 16 = .ok (.iload_n 1, 1) := dk_27 (dk_at dksX2_areWaysAlike_0 16 rfl rfl)
theorem dX2_areWaysAlike_17 : decode cX2_areWaysAlike 17 = .ok (.invokevirtual 268, 3) := dk_182 1 12 (dk_at dksX2_areWaysAlike_0 17 rfl rfl)
theorem dX2_areWaysAlike_20 : decode cX2_areWaysAlike 20 = .ok (.astore 5, 2) := dk_58 5 (dk_at dksX2_areWaysAlike_0 20 rfl rfl)
theorem dX2_areWaysAlike_22 : decode cX2_areWaysAlike 22 = .ok (.iconst 0, 1) := dk_3 (dk_at dksX2_areWaysAlike_0 22 rfl rfl)
theorem dX2_areWaysAlike_23 : decode cX2_areWaysAlike 23 = .ok (.istore 6, 2) := dk_54 6 (dk_at dksX2_areWaysAlike_1 0 rfl rfl)
theorem dX2_areWaysAlike_25 : decode cX2_areWaysAlike 25 = .ok (.iload 6, 2) := dk_21 6 (dk_at dksX2_areWaysAlike_1 2 rfl rfl)
theorem dX2_areWaysAlike_27 : decode cX2_areWaysAlike 27 = .ok (.aload_n 0, 1) := dk_42 (dk_at dksX2_areWaysAlike_1 4 rfl rfl)
theorem dX2_areWaysAlike_28 : decode cX2_areWaysAlike 28 = .ok (.getfield 12, 3) := dk_180 0 12 (dk_at dksX2_areWaysAlike_1 5 rfl rfl)
theorem dX2_areWaysAlike_31 : decode cX2_areWaysAlike 31 = .ok (.invokeinterface 22 1, 5) := by decide +kernel
theorem dX2_areWaysAlike_36 : decode cX2_areWaysAlike 36 = .ok (.if_icmp .ge 50, 3) := dk_162 0 50 (dk_at dksX2_areWaysAlike_1 13 rfl rfl)
theorem dX2_areWaysAlike_39 : decode cX2_areWaysAlike 39 = .ok (.iload_n 2, 1) := dk_28 (dk_at dksX2_areWaysAlike_1 16 rfl rfl)
theorem dX2_areWaysAlike_40 : decode cX2_areWaysAlike 40 = .ok (.ifCond .eq 38, 3) := dk_153 0 38 (dk_at dksX2_areWaysAlike_1 17 rfl rfl)
theorem dX2_areWaysAlike_43 : decode cX2_areWaysAlike 43 = .ok (.aload_n 3, 1) := dk_45 (dk_at dksX2_areWaysAlike_1 20 rfl rfl)
theorem dX2_areWaysAlike_44 : decode cX2_areWaysAlike 44 = .ok (.iload 6, 2) := dk_21 6 (dk_at dksX2_areWaysAlike_1 21 rfl rfl)
theorem dX2_areWaysAlike_46 : decode cX2_areWaysAlike 46 = .ok (.iaload, 1) := dk_46 (dk_at dksX2_areWaysAlike_1 23 rfl rfl)
theorem dX2_areWaysAlike_47 : decode cX2_areWaysAlike 47 = .ok (.aload_n 0, 1) := dk_42 (dk_at dksX2_areWaysAlike_2 0 rfl rfl)
theorem dX2_areWaysAlike_48 : decode cX2_areWaysAlike 48 = .ok (.iload_n 1, 1) := dk_27 (dk_at dksX2_areWaysAlike_2 1 rfl rfl)
theorem dX2_areWaysAlike_49 : decode cX2_areWaysAlike 49 = .ok (.iload 6, 2) := dk_21 6 (dk_at dksX2_areWaysAlike_2 2 rfl rfl)
theorem dX2_areWaysAlike_51 : decode cX2_areWaysAlike 51 = .ok (.invokevirtual 271, 3) := dk_182 1 15 (dk_at dksX2_areWaysAlike_2 4 rfl rfl)
theorem dX2_areWaysAlike_54 : decode cX2_areWaysAlike 54 = .ok (.if_icmp .ne 24, 3) := dk_160 0 24 (dk_at dksX2_areWaysAlike_2 7 rfl rfl)
theorem dX2_areWaysAlike_57 : decode cX2_areWaysAlike 57 = .ok (.aload 4, 2) := dk_25 4 (dk_at dksX2_areWaysAlike_2 10 rfl rfl)
theorem dX2_areWaysAlike_59 : decode cX2_areWaysAlike 59 = .ok (.iload 6, 2) := dk_21 6 (dk_at dksX2_areWaysAlike_2 12 rfl rfl)
theorem dX2_areWaysAlike_61 : decode cX2_areWaysAlike 61 = .ok (.invokevirtual 274, 3) := dk_182 1 18 (dk_at dksX2_areWaysAlike_2 14 rfl rfl)
theorem dX2_areWaysAlike_64 : decode cX2_areWaysAlike 64 = .ok (.aload 5, 2) := dk_25 5 (dk_at dksX2_areWaysAlike_2 17 rfl rfl)
theorem dX2_areWaysAlike_66 : decode cX2_areWaysAlike 66 = .ok (.iload 6, 2) := dk_21 6 (dk_at dksX2_areWaysAlike_2 19 rfl rfl)
theorem dX2_areWaysAlike_68 : decode cX2_areWaysAlike 68 = .ok (.invokevirtual 274, 3) := dk_182 1 18 (dk_at dksX2_areWaysAlike_2 21 rfl rfl)
theorem dX2_areWaysAlike_71 : decode cX2_areWaysAlike 71 = .ok (.if_icmp .ne 7, 3) := dk_160 0 7 (dk_at dksX2_areWaysAlike_3 0 rfl rfl)
theorem dX2_areWaysAlike_74 : decode cX2_areWaysAlike 74 = .ok (.iconst 1, 1) := dk_4 (dk_at dksX2_areWaysAlike_3 3 rfl rfl)
theorem dX2_areWaysAlike_75 : decode cX2_areWaysAlike 75 = .ok (.goto 4, 3) := dk_167 0 4 (dk_at dksX2_areWaysAlike_3 4 rfl rfl)
theorem dX2_areWaysAlike_78 : decode cX2_areWaysAlike 78 = .ok (.iconst 0, 1) := dk_3 (dk_at dksX2_areWaysAlike_3 7 rfl rfl)
theorem dX2_areWaysAlike_79 : decode cX2_areWaysAlike 79 = .ok (.istore_n 2, 1) := dk_61 (dk_at dksX2_areWaysAlike_3 8 rfl rfl)
theorem dX2_areWaysAlike_80 : decode cX2_areWaysAlike 80 = .ok (.iinc 6 1, 3) := dk_132 6 1 (dk_at dksX2_areWaysAlike_3 9 rfl rfl)
theorem dX2_areWaysAlike_83 : decode cX2_areWaysAlike 83 = .ok (.goto (-58), 3) := dk_167 255 198 (dk_at dksX2_areWaysAlike_3 12 rfl rfl)
theorem dX2_areWaysAlike_86 : decode cX2_areWaysAlike 86 = .ok (.iload_n 2, 1) := dk_28 (dk_at dksX2_areWaysAlike_3 15 rfl rfl)
theorem dX2_areWaysAlike_87 : decode cX2_areWaysAlike 87 = .ok (.ireturn, 1) := dk_172 (dk_at dksX2_areWaysAlike_3 16 rfl rfl)
abbrev cX2_widths : ByteArray := prog_14_method_28_code
def yX2_widths : MethodName := ⟨RX2, "widths", "(I)[I"⟩
def dkwX2_widths_5 : List UInt8 := [132, 5, 1, 167, 255, 181, 44, 45, 184, 0, 222, 54, 4, 167, 255, 157, 44, 176]
abbrev dktX2_widths_5 : List UInt8 := dkwX2_widths_5 ++ []
def dkwX2_widths_4 : List UInt8 := [44, 21, 7, 44, 21, 7, 46, 44, 21, 4, 46, 25, 6, 180, 0, 105, 184, 0, 148, 184, 0, 219, 79]
abbrev dktX2_widths_4 : List UInt8 := dkwX2_widths_4 ++ dktX2_widths_5
def dkwX2_widths_3 : List UInt8 := [192, 0, 42, 58, 6, 25, 6, 21, 4, 182, 0, 216, 153, 0, 35, 25, 6, 21, 4, 182, 0, 140, 54, 7]
abbrev dktX2_widths_3 : List UInt8 := dkwX2_widths_3 ++ dktX2_widths_4
def dkwX2_widths_2 : List UInt8 := [180, 0, 18, 185, 0, 22, 1, 0, 162, 0, 67, 42, 180, 0, 18, 21, 5, 185, 0, 28, 2, 0]
abbrev dktX2_widths_2 : List UInt8 := dkwX2_widths_2 ++ dktX2_widths_3
def dkwX2_widths_1 : List UInt8 := [44, 27, 7, 79, 27, 54, 4, 21, 4, 2, 159, 0, 99, 45, 21, 4, 4, 84, 3, 54, 5, 21, 5, 42]
abbrev dktX2_widths_1 : List UInt8 := dkwX2_widths_1 ++ dktX2_widths_2
def dkwX2_widths_0 : List UInt8 := [42, 180, 0, 12, 185, 0, 22, 1, 0, 188, 10, 77, 42, 180, 0, 12, 185, 0, 22, 1, 0, 188, 4, 78]
abbrev dktX2_widths_0 : List UInt8 := dkwX2_widths_0 ++ dktX2_widths_1
theorem dksX2_widths_0 : cX2_widths.data.toList.drop 0 = dktX2_widths_0 := by decide +kernel
theorem dksX2_widths_1 : cX2_widths.data.toList.drop 24 = dktX2_widths_1 := dk_seg dksX2_widths_0 24 rfl rfl
theorem dksX2_widths_2 : cX2_widths.data.toList.drop 48 = dktX2_widths_2 := dk_seg dksX2_widths_1 24 rfl rfl
theorem dksX2_widths_3 : cX2_widths.data.toList.drop 70 = dktX2_widths_3 := dk_seg dksX2_widths_2 22 rfl rfl
theorem dksX2_widths_4 : cX2_widths.data.toList.drop 94 = dktX2_widths_4 := dk_seg dksX2_widths_3 24 rfl rfl
theorem dksX2_widths_5 : cX2_widths.data.toList.drop 117 = dktX2_widths_5 := dk_seg dksX2_widths_4 23 rfl rfl
theorem dX2_widths_0 : decode cX2_widths 0 = .ok (.aload_n 0, 1) := dk_42 (dk_at dksX2_widths_0 0 rfl rfl)
theorem dX2_widths_1 : decode cX2_widths 1 = .ok (.getfield 12, 3) := dk_180 0 12 (dk_at dksX2_widths_0 1 rfl rfl)
theorem dX2_widths_4 : decode cX2_widths 4 = .ok (.invokeinterface 22 1, 5) := by decide +kernel
theorem dX2_widths_9 : decode cX2_widths 9 = .ok (.newarray .int, 2) := dk_188_10 (dk_at dksX2_widths_0 9 rfl rfl)
theorem dX2_widths_11 : decode cX2_widths 11 = .ok (.astore_n 2, 1) := dk_77 (dk_at dksX2_widths_0 11 rfl rfl)
theorem dX2_widths_12 : decode cX2_widths 12 = .ok (.aload_n 0, 1) := dk_42 (dk_at dksX2_widths_0 12 rfl rfl)
theorem dX2_widths_13 : decode cX2_widths 13 = .ok (.getfield 12, 3) := dk_180 0 12 (dk_at dksX2_widths_0 13 rfl rfl)
theorem dX2_widths_16 : decode cX2_widths 16 = .ok (.invokeinterface 22 1, 5) := by decide +kernel
theorem dX2_widths_21 : decode cX2_widths 21 = .ok (.newarray .boolean, 2) := dk_188_4 (dk_at dksX2_widths_0 21 rfl rfl)
theorem dX2_widths_23 : decode cX2_widths 23 = .ok (.astore_n 3, 1) := dk_78 (dk_at dksX2_widths_0 23 rfl rfl)
theorem dX2_widths_24 : decode cX2_widths 24 = .ok (.aload_n 2, 1) := dk_44 (dk_at dksX2_widths_1 0 rfl rfl)
theorem dX2_widths_25 : decode cX2_widths 25 = .ok (.iload_n 1, 1) := dk_27 (dk_at dksX2_widths_1 1 rfl rfl)
theorem dX2_widths_26 : decode cX2_widths 26 = .ok (.iconst 4, 1) := dk_7 (dk_at dksX2_widths_1 2 rfl rfl)
theorem dX2_widths_27 : decode cX2_widths 27 = .ok (.iastore, 1) := dk_79 (dk_at dksX2_widths_1 3 rfl rfl)
theorem dX2_widths_28 : decode cX2_widths 28 = .ok (.iload_n 1, 1) := dk_27 (dk_at dksX2_widths_1 4 rfl rfl)
theorem dX2_widths_29 : decode cX2_widths 29 = .ok (.istore 4, 2) := dk_54 4 (dk_at dksX2_widths_1 5 rfl rfl)
theorem dX2_widths_31 : decode cX2_widths 31 = .ok (.iload 4, 2) := dk_21 4 (dk_at dksX2_widths_1 7 rfl rfl)
theorem dX2_widths_33 : decode cX2_widths 33 = .ok (.iconst (-1), 1) := dk_2 (dk_at dksX2_widths_1 9 rfl rfl)
theorem dX2_widths_34 : decode cX2_widths 34 = .ok (.if_icmp .eq 99, 3) := dk_159 0 99 (dk_at dksX2_widths_1 10 rfl rfl)
theorem dX2_widths_37 : decode cX2_widths 37 = .ok (.aload_n 3, 1) := dk_45 (dk_at dksX2_widths_1 13 rfl rfl)
theorem dX2_widths_38 : decode cX2_widths 38 = .ok (.iload 4, 2) := dk_21 4 (dk_at dksX2_widths_1 14 rfl rfl)
theorem dX2_widths_40 : decode cX2_widths 40 = .ok (.iconst 1, 1) := dk_4 (dk_at dksX2_widths_1 16 rfl rfl)
theorem dX2_widths_41 : decode cX2_widths 41 = .ok (.bastore, 1) := dk_84 (dk_at dksX2_widths_1 17 rfl rfl)
theorem dX2_widths_42 : decode cX2_widths 42 = .ok (.iconst 0, 1) := dk_3 (dk_at dksX2_widths_1 18 rfl rfl)
theorem dX2_widths_43 : decode cX2_widths 43 = .ok (.istore 5, 2) := dk_54 5 (dk_at dksX2_widths_1 19 rfl rfl)
theorem dX2_widths_45 : decode cX2_widths 45 = .ok (.iload 5, 2) := dk_21 5 (dk_at dksX2_widths_1 21 rfl rfl)
theorem dX2_widths_47 : decode cX2_widths 47 = .ok (.aload_n 0, 1) := dk_42 (dk_at dksX2_widths_1 23 rfl rfl)
theorem dX2_widths_48 : decode cX2_widths 48 = .ok (.getfield 18, 3) := dk_180 0 18 (dk_at dksX2_widths_2 0 rfl rfl)
theorem dX2_widths_51 : decode cX2_widths 51 = .ok (.invokeinterface 22 1, 5) := by decide +kernel
theorem dX2_widths_56 : decode cX2_widths 56 = .ok (.if_icmp .ge 67, 3) := dk_162 0 67 (dk_at dksX2_widths_2 8 rfl rfl)
theorem dX2_widths_59 : decode cX2_widths 59 = .ok (.aload_n 0, 1) := dk_42 (dk_at dksX2_widths_2 11 rfl rfl)
theorem dX2_widths_60 : decode cX2_widths 60 = .ok (.getfield 18, 3) := dk_180 0 18 (dk_at dksX2_widths_2 12 rfl rfl)
theorem dX2_widths_63 : decode cX2_widths 63 = .ok (.iload 5, 2) := dk_21 5 (dk_at dksX2_widths_2 15 rfl rfl)
theorem dX2_widths_65 : decode cX2_widths 65 = .ok (.invokeinterface 28 2, 5) := by decide +kernel
theorem dX2_widths_70 : decode cX2_widths 70 = .ok (.checkcast 42, 3) := dk_192 0 42 (dk_at dksX2_widths_3 0 rfl rfl)
theorem dX2_widths_73 : decode cX2_widths 73 = .ok (.astore 6, 2) := dk_58 6 (dk_at dksX2_widths_3 3 rfl rfl)
theorem dX2_widths_75 : decode cX2_widths 75 = .ok (.aload 6, 2) := dk_25 6 (dk_at dksX2_widths_3 5 rfl rfl)
theorem dX2_widths_77 : decode cX2_widths 77 = .ok (.iload 4, 2) := dk_21 4 (dk_at dksX2_widths_3 7 rfl rfl)
theorem dX2_widths_79 : decode cX2_widths 79 = .ok (.invokevirtual 216, 3) := dk_182 0 216 (dk_at dksX2_widths_3 9 rfl rfl)
theorem dX2_widths_82 : decode cX2_widths 82 = .ok (.ifCond .eq 35, 3) := dk_153 0 35 (dk_at dksX2_widths_3 12 rfl rfl)
theorem dX2_widths_85 : decode cX2_widths 85 = .ok (.aload 6, 2) := dk_25 6 (dk_at dksX2_widths_3 15 rfl rfl)
theorem dX2_widths_87 : decode cX2_widths 87 = .ok (.iload 4, 2) := dk_21 4 (dk_at dksX2_widths_3 17 rfl rfl)
theorem dX2_widths_89 : decode cX2_widths 89 = .ok (.invokevirtual 140, 3) := dk_182 0 140 (dk_at dksX2_widths_3 19 rfl rfl)
theorem dX2_widths_92 : decode cX2_widths 92 = .ok (.istore 7, 2) := dk_54 7 (dk_at dksX2_widths_3 22 rfl rfl)
theorem dX2_widths_94 : decode cX2_widths 94 = .ok (.aload_n 2, 1) := dk_44 (dk_at dksX2_widths_4 0 rfl rfl)
theorem dX2_widths_95 : decode cX2_widths 95 = .ok (.iload 7, 2) := dk_21 7 (dk_at dksX2_widths_4 1 rfl rfl)
theorem dX2_widths_97 : decode cX2_widths 97 = .ok (.aload_n 2, 1) := dk_44 (dk_at dksX2_widths_4 3 rfl rfl)
theorem dX2_widths_98 : decode cX2_widths 98 = .ok (.iload 7, 2) := dk_21 7 (dk_at dksX2_widths_4 4 rfl rfl)
theorem dX2_widths_100 : decode cX2_widths 100 = .ok (.iaload, 1) := dk_46 (dk_at dksX2_widths_4 6 rfl rfl)
theorem dX2_widths_101 : decode cX2_widths 101 = .ok (.aload_n 2, 1) := dk_44 (dk_at dksX2_widths_4 7 rfl rfl)
theorem dX2_widths_102 : decode cX2_widths 102 = .ok (.iload 4, 2) := dk_21 4 (dk_at dksX2_widths_4 8 rfl rfl)
theorem dX2_widths_104 : decode cX2_widths 104 = .ok (.iaload, 1) := dk_46 (dk_at dksX2_widths_4 10 rfl rfl)
theorem dX2_widths_105 : decode cX2_widths 105 = .ok (.aload 6, 2) := dk_25 6 (dk_at dksX2_widths_4 11 rfl rfl)
theorem dX2_widths_107 : decode cX2_widths 107 = .ok (.getfield 105, 3) := dk_180 0 105 (dk_at dksX2_widths_4 13 rfl rfl)
theorem dX2_widths_110 : decode cX2_widths 110 = .ok (.invokestatic 148, 3) := dk_184 0 148 (dk_at dksX2_widths_4 16 rfl rfl)
theorem dX2_widths_113 : decode cX2_widths 113 = .ok (.invokestatic 219, 3) := dk_184 0 219 (dk_at dksX2_widths_4 19 rfl rfl)
theorem dX2_widths_116 : decode cX2_widths 116 = .ok (.iastore, 1) := dk_79 (dk_at dksX2_widths_4 22 rfl rfl)
theorem dX2_widths_117 : decode cX2_widths 117 = .ok (.iinc 5 1, 3) := dk_132 5 1 (dk_at dksX2_widths_5 0 rfl rfl)
theorem dX2_widths_120 : decode cX2_widths 120 = .ok (.goto (-75), 3) := dk_167 255 181 (dk_at dksX2_widths_5 3 rfl rfl)
theorem dX2_widths_123 : decode cX2_widths 123 = .ok (.aload_n 2, 1) := dk_44 (dk_at dksX2_widths_5 6 rfl rfl)
theorem dX2_widths_124 : decode cX2_widths 124 = .ok (.aload_n 3, 1) := dk_45 (dk_at dksX2_widths_5 7 rfl rfl)
theorem dX2_widths_125 : decode cX2_widths 125 = .ok (.invokestatic 222, 3) := dk_184 0 222 (dk_at dksX2_widths_5 8 rfl rfl)
theorem dX2_widths_128 : decode cX2_widths 128 = .ok (.istore 4, 2) := dk_54 4 (dk_at dksX2_widths_5 11 rfl rfl)
theorem dX2_widths_130 : decode cX2_widths 130 = .ok (.goto (-99), 3) := dk_167 255 157 (dk_at dksX2_widths_5 13 rfl rfl)
theorem dX2_widths_133 : decode cX2_widths 133 = .ok (.aload_n 2, 1) := dk_44 (dk_at dksX2_widths_5 16 rfl rfl)
theorem dX2_widths_134 : decode cX2_widths 134 = .ok (.areturn, 1) := dk_176 (dk_at dksX2_widths_5 17 rfl rfl)
abbrev cX2_widest : ByteArray := prog_14_method_29_code
def yX2_widest : MethodName := ⟨RX2, "widest", "([I[Z)I"⟩
def dkwX2_widest_2 : List UInt8 := [29, 167, 0, 4, 28, 61, 132, 3, 1, 167, 255, 203, 28, 172]
abbrev dktX2_widest_2 : List UInt8 := dkwX2_widest_2 ++ []
def dkwX2_widest_1 : List UInt8 := [4, 167, 0, 4, 3, 54, 4, 43, 29, 51, 154, 0, 18, 42, 29, 46, 158, 0, 12, 21, 4, 153, 0, 7]
abbrev dktX2_widest_1 : List UInt8 := dkwX2_widest_1 ++ dktX2_widest_2
def dkwX2_widest_0 : List UInt8 := [2, 61, 3, 62, 29, 42, 190, 162, 0, 53, 28, 2, 159, 0, 12, 42, 29, 46, 42, 28, 46, 164, 0, 7]
abbrev dktX2_widest_0 : List UInt8 := dkwX2_widest_0 ++ dktX2_widest_1
theorem dksX2_widest_0 : cX2_widest.data.toList.drop 0 = dktX2_widest_0 := by decide +kernel
theorem dksX2_widest_1 : cX2_widest.data.toList.drop 24 = dktX2_widest_1 := dk_seg dksX2_widest_0 24 rfl rfl
theorem dksX2_widest_2 : cX2_widest.data.toList.drop 48 = dktX2_widest_2 := dk_seg dksX2_widest_1 24 rfl rfl
theorem dX2_widest_0 : decode cX2_widest 0 = .ok (.iconst (-1), 1) := dk_2 (dk_at dksX2_widest_0 0 rfl rfl)
theorem dX2_widest_1 : decode cX2_widest 1 = .ok (.istore_n 2, 1) := dk_61 (dk_at dksX2_widest_0 1 rfl rfl)
theorem dX2_widest_2 : decode cX2_widest 2 = .ok (.iconst 0, 1) := dk_3 (dk_at dksX2_widest_0 2 rfl rfl)
theorem dX2_widest_3 : decode cX2_widest 3 = .ok (.istore_n 3, 1) := dk_62 (dk_at dksX2_widest_0 3 rfl rfl)
theorem dX2_widest_4 : decode cX2_widest 4 = .ok (.iload_n 3, 1) := dk_29 (dk_at dksX2_widest_0 4 rfl rfl)
theorem dX2_widest_5 : decode cX2_widest 5 = .ok (.aload_n 0, 1) := dk_42 (dk_at dksX2_widest_0 5 rfl rfl)
theorem dX2_widest_6 : decode cX2_widest 6 = .ok (.arraylength, 1) := dk_190 (dk_at dksX2_widest_0 6 rfl rfl)
theorem dX2_widest_7 : decode cX2_widest 7 = .ok (.if_icmp .ge 53, 3) := dk_162 0 53 (dk_at dksX2_widest_0 7 rfl rfl)
theorem dX2_widest_10 : decode cX2_widest 10 = .ok (.iload_n 2, 1) := dk_28 (dk_at dksX2_widest_0 10 rfl rfl)
theorem dX2_widest_11 : decode cX2_widest 11 = .ok (.iconst (-1), 1) := dk_2 (dk_at dksX2_widest_0 11 rfl rfl)
theorem dX2_widest_12 : decode cX2_widest 12 = .ok (.if_icmp .eq 12, 3) := dk_159 0 12 (dk_at dksX2_widest_0 12 rfl rfl)
theorem dX2_widest_15 : decode cX2_widest 15 = .ok (.aload_n 0, 1) := dk_42 (dk_at dksX2_widest_0 15 rfl rfl)
theorem dX2_widest_16 : decode cX2_widest 16 = .ok (.iload_n 3, 1) := dk_29 (dk_at dksX2_widest_0 16 rfl rfl)
theorem dX2_widest_17 : decode cX2_widest 17 = .ok (.iaload, 1) := dk_46 (dk_at dksX2_widest_0 17 rfl rfl)
theorem dX2_widest_18 : decode cX2_widest 18 = .ok (.aload_n 0, 1) := dk_42 (dk_at dksX2_widest_0 18 rfl rfl)
theorem dX2_widest_19 : decode cX2_widest 19 = .ok (.iload_n 2, 1) := dk_28 (dk_at dksX2_widest_0 19 rfl rfl)
theorem dX2_widest_20 : decode cX2_widest 20 = .ok (.iaload, 1) := dk_46 (dk_at dksX2_widest_0 20 rfl rfl)
theorem dX2_widest_21 : decode cX2_widest 21 = .ok (.if_icmp .le 7, 3) := dk_164 0 7 (dk_at dksX2_widest_0 21 rfl rfl)
theorem dX2_widest_24 : decode cX2_widest 24 = .ok (.iconst 1, 1) := dk_4 (dk_at dksX2_widest_1 0 rfl rfl)
theorem dX2_widest_25 : decode cX2_widest 25 = .ok (.goto 4, 3) := dk_167 0 4 (dk_at dksX2_widest_1 1 rfl rfl)
theorem dX2_widest_28 : decode cX2_widest 28 = .ok (.iconst 0, 1) := dk_3 (dk_at dksX2_widest_1 4 rfl rfl)
theorem dX2_widest_29 : decode cX2_widest 29 = .ok (.istore 4, 2) := dk_54 4 (dk_at dksX2_widest_1 5 rfl rfl)
theorem dX2_widest_31 : decode cX2_widest 31 = .ok (.aload_n 1, 1) := dk_43 (dk_at dksX2_widest_1 7 rfl rfl)
theorem dX2_widest_32 : decode cX2_widest 32 = .ok (.iload_n 3, 1) := dk_29 (dk_at dksX2_widest_1 8 rfl rfl)
theorem dX2_widest_33 : decode cX2_widest 33 = .ok (.baload, 1) := dk_51 (dk_at dksX2_widest_1 9 rfl rfl)
theorem dX2_widest_34 : decode cX2_widest 34 = .ok (.ifCond .ne 18, 3) := dk_154 0 18 (dk_at dksX2_widest_1 10 rfl rfl)
theorem dX2_widest_37 : decode cX2_widest 37 = .ok (.aload_n 0, 1) := dk_42 (dk_at dksX2_widest_1 13 rfl rfl)
theorem dX2_widest_38 : decode cX2_widest 38 = .ok (.iload_n 3, 1) := dk_29 (dk_at dksX2_widest_1 14 rfl rfl)
theorem dX2_widest_39 : decode cX2_widest 39 = .ok (.iaload, 1) := dk_46 (dk_at dksX2_widest_1 15 rfl rfl)
theorem dX2_widest_40 : decode cX2_widest 40 = .ok (.ifCond .le 12, 3) := dk_158 0 12 (dk_at dksX2_widest_1 16 rfl rfl)
theorem dX2_widest_43 : decode cX2_widest 43 = .ok (.iload 4, 2) := dk_21 4 (dk_at dksX2_widest_1 19 rfl rfl)
theorem dX2_widest_45 : decode cX2_widest 45 = .ok (.ifCond .eq 7, 3) := dk_153 0 7 (dk_at dksX2_widest_1 21 rfl rfl)
theorem dX2_widest_48 : decode cX2_widest 48 = .ok (.iload_n 3, 1) := dk_29 (dk_at dksX2_widest_2 0 rfl rfl)
theorem dX2_widest_49 : decode cX2_widest 49 = .ok (.goto 4, 3) := dk_167 0 4 (dk_at dksX2_widest_2 1 rfl rfl)
theorem dX2_widest_52 : decode cX2_widest 52 = .ok (.iload_n 2, 1) := dk_28 (dk_at dksX2_widest_2 4 rfl rfl)
theorem dX2_widest_53 : decode cX2_widest 53 = .ok (.istore_n 2, 1) := dk_61 (dk_at dksX2_widest_2 5 rfl rfl)
theorem dX2_widest_54 : decode cX2_widest 54 = .ok (.iinc 3 1, 3) := dk_132 3 1 (dk_at dksX2_widest_2 6 rfl rfl)
theorem dX2_widest_57 : decode cX2_widest 57 = .ok (.goto (-53), 3) := dk_167 255 203 (dk_at dksX2_widest_2 9 rfl rfl)
theorem dX2_widest_60 : decode cX2_widest 60 = .ok (.iload_n 2, 1) := dk_28 (dk_at dksX2_widest_2 12 rfl rfl)
theorem dX2_widest_61 : decode cX2_widest 61 = .ok (.ireturn, 1) := dk_172 (dk_at dksX2_widest_2 13 rfl rfl)
abbrev cX2_reach : ByteArray := prog_14_method_31_code
def yX2_reach : MethodName := ⟨RX2, "reach", "(I)LFilterWaterworks$Reach;"⟩
def dkwX2_reach_9 : List UInt8 := [132, 7, 1, 167, 255, 142, 132, 5, 1, 167, 255, 116, 44, 176]
abbrev dktX2_reach_9 : List UInt8 := dkwX2_reach_9 ++ []
def dkwX2_reach_8 : List UInt8 := [182, 0, 236, 153, 0, 19, 45, 21, 4, 17, 1, 0, 21, 9, 104, 21, 8, 96, 79, 132, 4, 1]
abbrev dktX2_reach_8 : List UInt8 := dkwX2_reach_8 ++ dktX2_reach_9
def dkwX2_reach_7 : List UInt8 := [21, 7, 185, 0, 28, 2, 0, 192, 0, 42, 21, 6, 182, 0, 216, 153, 0, 30, 44, 21, 9, 21, 8]
abbrev dktX2_reach_7 : List UInt8 := dkwX2_reach_7 ++ dktX2_reach_8
def dkwX2_reach_6 : List UInt8 := [180, 0, 18, 21, 7, 185, 0, 28, 2, 0, 192, 0, 42, 21, 6, 182, 0, 140, 54, 9, 42, 180, 0, 18]
abbrev dktX2_reach_6 : List UInt8 := dkwX2_reach_6 ++ dktX2_reach_7
def dkwX2_reach_5 : List UInt8 := [185, 0, 28, 2, 0, 192, 0, 42, 45, 21, 5, 46, 17, 1, 0, 112, 182, 0, 166, 54, 8, 42]
abbrev dktX2_reach_5 : List UInt8 := dkwX2_reach_5 ++ dktX2_reach_6
def dkwX2_reach_4 : List UInt8 := [21, 7, 42, 180, 0, 18, 185, 0, 22, 1, 0, 162, 0, 106, 42, 180, 0, 18, 21, 7]
abbrev dktX2_reach_4 : List UInt8 := dkwX2_reach_4 ++ dktX2_reach_5
def dkwX2_reach_3 : List UInt8 := [3, 54, 5, 21, 5, 21, 4, 162, 0, 139, 45, 21, 5, 46, 17, 1, 0, 108, 54, 6, 3, 54, 7]
abbrev dktX2_reach_3 : List UInt8 := dkwX2_reach_3 ++ dktX2_reach_4
def dkwX2_reach_2 : List UInt8 := [180, 0, 233, 182, 0, 236, 87, 45, 21, 4, 17, 1, 0, 27, 104, 44, 180, 0, 233, 96, 79, 132, 4, 1]
abbrev dktX2_reach_2 : List UInt8 := dkwX2_reach_2 ++ dktX2_reach_3
def dkwX2_reach_1 : List UInt8 := [192, 0, 32, 180, 0, 160, 183, 0, 228, 77, 44, 182, 0, 230, 188, 10, 78, 3, 54, 4, 44, 27, 44]
abbrev dktX2_reach_1 : List UInt8 := dkwX2_reach_1 ++ dktX2_reach_2
def dkwX2_reach_0 : List UInt8 := [187, 0, 226, 89, 42, 180, 0, 12, 185, 0, 22, 1, 0, 42, 180, 0, 12, 27, 185, 0, 28, 2, 0]
abbrev dktX2_reach_0 : List UInt8 := dkwX2_reach_0 ++ dktX2_reach_1
theorem dksX2_reach_0 : cX2_reach.data.toList.drop 0 = dktX2_reach_0 := by decide +kernel
theorem dksX2_reach_1 : cX2_reach.data.toList.drop 23 = dktX2_reach_1 := dk_seg dksX2_reach_0 23 rfl rfl
theorem dksX2_reach_2 : cX2_reach.data.toList.drop 46 = dktX2_reach_2 := dk_seg dksX2_reach_1 23 rfl rfl
theorem dksX2_reach_3 : cX2_reach.data.toList.drop 70 = dktX2_reach_3 := dk_seg dksX2_reach_2 24 rfl rfl
theorem dksX2_reach_4 : cX2_reach.data.toList.drop 93 = dktX2_reach_4 := dk_seg dksX2_reach_3 23 rfl rfl
theorem dksX2_reach_5 : cX2_reach.data.toList.drop 113 = dktX2_reach_5 := dk_seg dksX2_reach_4 20 rfl rfl
theorem dksX2_reach_6 : cX2_reach.data.toList.drop 135 = dktX2_reach_6 := dk_seg dksX2_reach_5 22 rfl rfl
theorem dksX2_reach_7 : cX2_reach.data.toList.drop 159 = dktX2_reach_7 := dk_seg dksX2_reach_6 24 rfl rfl
theorem dksX2_reach_8 : cX2_reach.data.toList.drop 182 = dktX2_reach_8 := dk_seg dksX2_reach_7 23 rfl rfl
theorem dksX2_reach_9 : cX2_reach.data.toList.drop 204 = dktX2_reach_9 := dk_seg dksX2_reach_8 22 rfl rfl
theorem dX2_reach_0 : decode cX2_reach 0 = .ok (.new 226, 3) := dk_187 0 226 (dk_at dksX2_reach_0 0 rfl rfl)
theorem dX2_reach_3 : decode cX2_reach 3 = .ok (.dup, 1) := dk_89 (dk_at dksX2_reach_0 3 rfl rfl)
theorem dX2_reach_4 : decode cX2_reach 4 = .ok (.aload_n 0, 1) := dk_42 (dk_at dksX2_reach_0 4 rfl rfl)
theorem dX2_reach_5 : decode cX2_reach 5 = .ok (.getfield 12, 3) := dk_180 0 12 (dk_at dksX2_reach_0 5 rfl rfl)
theorem dX2_reach_8 : decode cX2_reach 8 = .ok (.invokeinterface 22 1, 5) := by decide +kernel
theorem dX2_reach_13 : decode cX2_reach 13 = .ok (.aload_n 0, 1) := dk_42 (dk_at dksX2_reach_0 13 rfl rfl)
theorem dX2_reach_14 : decode cX2_reach 14 = .ok (.getfield 12, 3) := dk_180 0 12 (dk_at dksX2_reach_0 14 rfl rfl)
theorem dX2_reach_17 : decode cX2_reach 17 = .ok (.iload_n 1, 1) := dk_27 (dk_at dksX2_reach_0 17 rfl rfl)
theorem dX2_reach_18 : decode cX2_reach 18 = .ok (.invokeinterface 28 2, 5) := by decide +kernel
theorem dX2_reach_23 : decode cX2_reach 23 = .ok (.checkcast 32, 3) := dk_192 0 32 (dk_at dksX2_reach_1 0 rfl rfl)
theorem dX2_reach_26 : decode cX2_reach 26 = .ok (.getfield 160, 3) := dk_180 0 160 (dk_at dksX2_reach_1 3 rfl rfl)
theorem dX2_reach_29 : decode cX2_reach 29 = .ok (.invokespecial 228, 3) := dk_183 0 228 (dk_at dksX2_reach_1 6 rfl rfl)
theorem dX2_reach_32 : decode cX2_reach 32 = .ok (.astore_n 2, 1) := dk_77 (dk_at dksX2_reach_1 9 rfl rfl)
theorem dX2_reach_33 : decode cX2_reach 33 = .ok (.aload_n 2, 1) := dk_44 (dk_at dksX2_reach_1 10 rfl rfl)
theorem dX2_reach_34 : decode cX2_reach 34 = .ok (.invokevirtual 230, 3) := dk_182 0 230 (dk_at dksX2_reach_1 11 rfl rfl)
theorem dX2_reach_37 : decode cX2_reach 37 = .ok (.newarray .int, 2) := dk_188_10 (dk_at dksX2_reach_1 14 rfl rfl)
theorem dX2_reach_39 : decode cX2_reach 39 = .ok (.astore_n 3, 1) := dk_78 (dk_at dksX2_reach_1 16 rfl rfl)
theorem dX2_reach_40 : decode cX2_reach 40 = .ok (.iconst 0, 1) := dk_3 (dk_at dksX2_reach_1 17 rfl rfl)
theorem dX2_reach_41 : decode cX2_reach 41 = .ok (.istore 4, 2) := dk_54 4 (dk_at dksX2_reach_1 18 rfl rfl)
theorem dX2_reach_43 : decode cX2_reach 43 = .ok (.aload_n 2, 1) := dk_44 (dk_at dksX2_reach_1 20 rfl rfl)
theorem dX2_reach_44 : decode cX2_reach 44 = .ok (.iload_n 1, 1) := dk_27 (dk_at dksX2_reach_1 21 rfl rfl)
theorem dX2_reach_45 : decode cX2_reach 45 = .ok (.aload_n 2, 1) := dk_44 (dk_at dksX2_reach_1 22 rfl rfl)
theorem dX2_reach_46 : decode cX2_reach 46 = .ok (.getfield 233, 3) := dk_180 0 233 (dk_at dksX2_reach_2 0 rfl rfl)
theorem dX2_reach_49 : decode cX2_reach 49 = .ok (.invokevirtual 236, 3) := dk_182 0 236 (dk_at dksX2_reach_2 3 rfl rfl)
theorem dX2_reach_52 : decode cX2_reach 52 = .ok (.pop, 1) := dk_87 (dk_at dksX2_reach_2 6 rfl rfl)
theorem dX2_reach_53 : decode cX2_reach 53 = .ok (.aload_n 3, 1) := dk_45 (dk_at dksX2_reach_2 7 rfl rfl)
theorem dX2_reach_54 : decode cX2_reach 54 = .ok (.iload 4, 2) := dk_21 4 (dk_at dksX2_reach_2 8 rfl rfl)
theorem dX2_reach_56 : decode cX2_reach 56 = .ok (.sipush 256, 3) := dk_17 1 0 (dk_at dksX2_reach_2 10 rfl rfl)
theorem dX2_reach_59 : decode cX2_reach 59 = .ok (.iload_n 1, 1) := dk_27 (dk_at dksX2_reach_2 13 rfl rfl)
theorem dX2_reach_60 : decode cX2_reach 60 = .ok (.imul, 1) := dk_104 (dk_at dksX2_reach_2 14 rfl rfl)
theorem dX2_reach_61 : decode cX2_reach 61 = .ok (.aload_n 2, 1) := dk_44 (dk_at dksX2_reach_2 15 rfl rfl)
theorem dX2_reach_62 : decode cX2_reach 62 = .ok (.getfield 233, 3) := dk_180 0 233 (dk_at dksX2_reach_2 16 rfl rfl)
theorem dX2_reach_65 : decode cX2_reach 65 = .ok (.iadd, 1) := dk_96 (dk_at dksX2_reach_2 19 rfl rfl)
theorem dX2_reach_66 : decode cX2_reach 66 = .ok (.iastore, 1) := dk_79 (dk_at dksX2_reach_2 20 rfl rfl)
theorem dX2_reach_67 : decode cX2_reach 67 = .ok (.iinc 4 1, 3) := dk_132 4 1 (dk_at dksX2_reach_2 21 rfl rfl)
theorem dX2_reach_70 : decode cX2_reach 70 = .ok (.iconst 0, 1) := dk_3 (dk_at dksX2_reach_3 0 rfl rfl)
theorem dX2_reach_71 : decode cX2_reach 71 = .ok (.istore 5, 2) := dk_54 5 (dk_at dksX2_reach_3 1 rfl rfl)
theorem dX2_reach_73 : decode cX2_reach 73 = .ok (.iload 5, 2) := dk_21 5 (dk_at dksX2_reach_3 3 rfl rfl)
theorem dX2_reach_75 : decode cX2_reach 75 = .ok (.iload 4, 2) := dk_21 4 (dk_at dksX2_reach_3 5 rfl rfl)
theorem dX2_reach_77 : decode cX2_reach 77 = .ok (.if_icmp .ge 139, 3) := dk_162 0 139 (dk_at dksX2_reach_3 7 rfl rfl)
theorem dX2_reach_80 : decode cX2_reach 80 = .ok (.aload_n 3, 1) := dk_45 (dk_at dksX2_reach_3 10 rfl rfl)
theorem dX2_reach_81 : decode cX2_reach 81 = .ok (.iload 5, 2) := dk_21 5 (dk_at dksX2_reach_3 11 rfl rfl)
theorem dX2_reach_83 : decode cX2_reach 83 = .ok (.iaload, 1) := dk_46 (dk_at dksX2_reach_3 13 rfl rfl)
theorem dX2_reach_84 : decode cX2_reach 84 = .ok (.sipush 256, 3) := dk_17 1 0 (dk_at dksX2_reach_3 14 rfl rfl)
theorem dX2_reach_87 : decode cX2_reach 87 = .ok (.idiv, 1) := dk_108 (dk_at dksX2_reach_3 17 rfl rfl)
theorem dX2_reach_88 : decode cX2_reach 88 = .ok (.istore 6, 2) := dk_54 6 (dk_at dksX2_reach_3 18 rfl rfl)
theorem dX2_reach_90 : decode cX2_reach 90 = .ok (.iconst 0, 1) := dk_3 (dk_at dksX2_reach_3 20 rfl rfl)
theorem dX2_reach_91 : decode cX2_reach 91 = .ok (.istore 7, 2) := dk_54 7 (dk_at dksX2_reach_3 21 rfl rfl)
theorem dX2_reach_93 : decode cX2_reach 93 = .ok (.iload 7, 2) := dk_21 7 (dk_at dksX2_reach_4 0 rfl rfl)
theorem dX2_reach_95 : decode cX2_reach 95 = .ok (.aload_n 0, 1) := dk_42 (dk_at dksX2_reach_4 2 rfl rfl)
theorem dX2_reach_96 : decode cX2_reach 96 = .ok (.getfield 18, 3) := dk_180 0 18 (dk_at dksX2_reach_4 3 rfl rfl)
theorem dX2_reach_99 : decode cX2_reach 99 = .ok (.invokeinterface 22 1, 5) := by decide +kernel
theorem dX2_reach_104 : decode cX2_reach 104 = .ok (.if_icmp .ge 106, 3) := dk_162 0 106 (dk_at dksX2_reach_4 11 rfl rfl)
theorem dX2_reach_107 : decode cX2_reach 107 = .ok (.aload_n 0, 1) := dk_42 (dk_at dksX2_reach_4 14 rfl rfl)
theorem dX2_reach_108 : decode cX2_reach 108 = .ok (.getfield 18, 3) := dk_180 0 18 (dk_at dksX2_reach_4 15 rfl rfl)
theorem dX2_reach_111 : decode cX2_reach 111 = .ok (.iload 7, 2) := dk_21 7 (dk_at dksX2_reach_4 18 rfl rfl)
theorem dX2_reach_113 : decode cX2_reach 113 = .ok (.invokeinterface 28 2, 5) := by decide +kernel
theorem dX2_reach_118 : decode cX2_reach 118 = .ok (.checkcast 42, 3) := dk_192 0 42 (dk_at dksX2_reach_5 5 rfl rfl)
theorem dX2_reach_121 : decode cX2_reach 121 = .ok (.aload_n 3, 1) := dk_45 (dk_at dksX2_reach_5 8 rfl rfl)
theorem dX2_reach_122 : decode cX2_reach 122 = .ok (.iload 5, 2) := dk_21 5 (dk_at dksX2_reach_5 9 rfl rfl)
theorem dX2_reach_124 : decode cX2_reach 124 = .ok (.iaload, 1) := dk_46 (dk_at dksX2_reach_5 11 rfl rfl)
theorem dX2_reach_125 : decode cX2_reach 125 = .ok (.sipush 256, 3) := dk_17 1 0 (dk_at dksX2_reach_5 12 rfl rfl)
theorem dX2_reach_128 : decode cX2_reach 128 = .ok (.irem, 1) := dk_112 (dk_at dksX2_reach_5 15 rfl rfl)
theorem dX2_reach_129 : decode cX2_reach 129 = .ok (.invokevirtual 166, 3) := dk_182 0 166 (dk_at dksX2_reach_5 16 rfl rfl)
theorem dX2_reach_132 : decode cX2_reach 132 = .ok (.istore 8, 2) := dk_54 8 (dk_at dksX2_reach_5 19 rfl rfl)
theorem dX2_reach_134 : decode cX2_reach 134 = .ok (.aload_n 0, 1) := dk_42 (dk_at dksX2_reach_5 21 rfl rfl)
theorem dX2_reach_135 : decode cX2_reach 135 = .ok (.getfield 18, 3) := dk_180 0 18 (dk_at dksX2_reach_6 0 rfl rfl)
theorem dX2_reach_138 : decode cX2_reach 138 = .ok (.iload 7, 2) := dk_21 7 (dk_at dksX2_reach_6 3 rfl rfl)
theorem dX2_reach_140 : decode cX2_reach 140 = .ok (.invokeinterface 28 2, 5) := by decide +kernel
theorem dX2_reach_145 : decode cX2_reach 145 = .ok (.checkcast 42, 3) := dk_192 0 42 (dk_at dksX2_reach_6 10 rfl rfl)
theorem dX2_reach_148 : decode cX2_reach 148 = .ok (.iload 6, 2) := dk_21 6 (dk_at dksX2_reach_6 13 rfl rfl)
theorem dX2_reach_150 : decode cX2_reach 150 = .ok (.invokevirtual 140, 3) := dk_182 0 140 (dk_at dksX2_reach_6 15 rfl rfl)
theorem dX2_reach_153 : decode cX2_reach 153 = .ok (.istore 9, 2) := dk_54 9 (dk_at dksX2_reach_6 18 rfl rfl)
theorem dX2_reach_155 : decode cX2_reach 155 = .ok (.aload_n 0, 1) := dk_42 (dk_at dksX2_reach_6 20 rfl rfl)
theorem dX2_reach_156 : decode cX2_reach 156 = .ok (.getfield 18, 3) := dk_180 0 18 (dk_at dksX2_reach_6 21 rfl rfl)
theorem dX2_reach_159 : decode cX2_reach 159 = .ok (.iload 7, 2) := dk_21 7 (dk_at dksX2_reach_7 0 rfl rfl)
theorem dX2_reach_161 : decode cX2_reach 161 = .ok (.invokeinterface 28 2, 5) := by decide +kernel
theorem dX2_reach_166 : decode cX2_reach 166 = .ok (.checkcast 42, 3) := dk_192 0 42 (dk_at dksX2_reach_7 7 rfl rfl)
theorem dX2_reach_169 : decode cX2_reach 169 = .ok (.iload 6, 2) := dk_21 6 (dk_at dksX2_reach_7 10 rfl rfl)
theorem dX2_reach_171 : decode cX2_reach 171 = .ok (.invokevirtual 216, 3) := dk_182 0 216 (dk_at dksX2_reach_7 12 rfl rfl)
theorem dX2_reach_174 : decode cX2_reach 174 = .ok (.ifCond .eq 30, 3) := dk_153 0 30 (dk_at dksX2_reach_7 15 rfl rfl)
theorem dX2_reach_177 : decode cX2_reach 177 = .ok (.aload_n 2, 1) := dk_44 (dk_at dksX2_reach_7 18 rfl rfl)
theorem dX2_reach_178 : decode cX2_reach 178 = .ok (.iload 9, 2) := dk_21 9 (dk_at dksX2_reach_7 19 rfl rfl)
theorem dX2_reach_180 : decode cX2_reach 180 = .ok (.iload 8, 2) := dk_21 8 (dk_at dksX2_reach_7 21 rfl rfl)
theorem dX2_reach_182 : decode cX2_reach 182 = .ok (.invokevirtual 236, 3) := dk_182 0 236 (dk_at dksX2_reach_8 0 rfl rfl)
theorem dX2_reach_185 : decode cX2_reach 185 = .ok (.ifCond .eq 19, 3) := dk_153 0 19 (dk_at dksX2_reach_8 3 rfl rfl)
theorem dX2_reach_188 : decode cX2_reach 188 = .ok (.aload_n 3, 1) := dk_45 (dk_at dksX2_reach_8 6 rfl rfl)
theorem dX2_reach_189 : decode cX2_reach 189 = .ok (.iload 4, 2) := dk_21 4 (dk_at dksX2_reach_8 7 rfl rfl)
theorem dX2_reach_191 : decode cX2_reach 191 = .ok (.sipush 256, 3) := dk_17 1 0 (dk_at dksX2_reach_8 9 rfl rfl)
theorem dX2_reach_194 : decode cX2_reach 194 = .ok (.iload 9, 2) := dk_21 9 (dk_at dksX2_reach_8 12 rfl rfl)
theorem dX2_reach_196 : decode cX2_reach 196 = .ok (.imul, 1) := dk_104 (dk_at dksX2_reach_8 14 rfl rfl)
theorem dX2_reach_197 : decode cX2_reach 197 = .ok (.iload 8, 2) := dk_21 8 (dk_at dksX2_reach_8 15 rfl rfl)
theorem dX2_reach_199 : decode cX2_reach 199 = .ok (.iadd, 1) := dk_96 (dk_at dksX2_reach_8 17 rfl rfl)
theorem dX2_reach_200 : decode cX2_reach 200 = .ok (.iastore, 1) := dk_79 (dk_at dksX2_reach_8 18 rfl rfl)
theorem dX2_reach_201 : decode cX2_reach 201 = .ok (.iinc 4 1, 3) := dk_132 4 1 (dk_at dksX2_reach_8 19 rfl rfl)
theorem dX2_reach_204 : decode cX2_reach 204 = .ok (.iinc 7 1, 3) := dk_132 7 1 (dk_at dksX2_reach_9 0 rfl rfl)
theorem dX2_reach_207 : decode cX2_reach 207 = .ok (.goto (-114), 3) := dk_167 255 142 (dk_at dksX2_reach_9 3 rfl rfl)
theorem dX2_reach_210 : decode cX2_reach 210 = .ok (.iinc 5 1, 3) := dk_132 5 1 (dk_at dksX2_reach_9 6 rfl rfl)
theorem dX2_reach_213 : decode cX2_reach 213 = .ok (.goto (-140), 3) := dk_167 255 116 (dk_at dksX2_reach_9 9 rfl rfl)
theorem dX2_reach_216 : decode cX2_reach 216 = .ok (.aload_n 2, 1) := dk_44 (dk_at dksX2_reach_9 12 rfl rfl)
theorem dX2_reach_217 : decode cX2_reach 217 = .ok (.areturn, 1) := dk_176 (dk_at dksX2_reach_9 13 rfl rfl)
abbrev cX2_reachByPasses : ByteArray := prog_14_method_32_code
def yX2_reachByPasses : MethodName := ⟨RX2, "reachByPasses", "(I)LFilterWaterworks$Reach;"⟩
def dkwX2_reachByPasses_6 : List UInt8 := [153, 0, 7, 4, 167, 0, 4, 3, 62, 132, 4, 1, 167, 255, 159, 167, 255, 147, 44, 176]
abbrev dktX2_reachByPasses_6 : List UInt8 := dkwX2_reachByPasses_6 ++ []
def dkwX2_reachByPasses_5 : List UInt8 := [25, 5, 182, 0, 144, 153, 0, 17, 44, 25, 5, 25, 5, 180, 0, 120, 184, 0, 239, 154, 0, 7, 29]
abbrev dktX2_reachByPasses_5 : List UInt8 := dkwX2_reachByPasses_5 ++ dktX2_reachByPasses_6
def dkwX2_reachByPasses_4 : List UInt8 := [25, 5, 25, 5, 180, 0, 117, 184, 0, 239, 154, 0, 7, 29, 153, 0, 7, 4, 167, 0, 4, 3, 62]
abbrev dktX2_reachByPasses_4 : List UInt8 := dkwX2_reachByPasses_4 ++ dktX2_reachByPasses_5
def dkwX2_reachByPasses_3 : List UInt8 := [180, 0, 18, 21, 4, 185, 0, 28, 2, 0, 192, 0, 42, 58, 5, 25, 5, 182, 0, 144, 153, 0, 17, 44]
abbrev dktX2_reachByPasses_3 : List UInt8 := dkwX2_reachByPasses_3 ++ dktX2_reachByPasses_4
def dkwX2_reachByPasses_2 : List UInt8 := [153, 0, 111, 3, 62, 3, 54, 4, 21, 4, 42, 180, 0, 18, 185, 0, 22, 1, 0, 162, 0, 89, 42]
abbrev dktX2_reachByPasses_2 : List UInt8 := dkwX2_reachByPasses_2 ++ dktX2_reachByPasses_3
def dkwX2_reachByPasses_1 : List UInt8 := [192, 0, 32, 180, 0, 160, 183, 0, 228, 77, 44, 27, 44, 180, 0, 233, 182, 0, 236, 87, 4, 62, 29]
abbrev dktX2_reachByPasses_1 : List UInt8 := dkwX2_reachByPasses_1 ++ dktX2_reachByPasses_2
def dkwX2_reachByPasses_0 : List UInt8 := [187, 0, 226, 89, 42, 180, 0, 12, 185, 0, 22, 1, 0, 42, 180, 0, 12, 27, 185, 0, 28, 2, 0]
abbrev dktX2_reachByPasses_0 : List UInt8 := dkwX2_reachByPasses_0 ++ dktX2_reachByPasses_1
theorem dksX2_reachByPasses_0 : cX2_reachByPasses.data.toList.drop 0 = dktX2_reachByPasses_0 := by decide +kernel
theorem dksX2_reachByPasses_1 : cX2_reachByPasses.data.toList.drop 23 = dktX2_reachByPasses_1 := dk_seg dksX2_reachByPasses_0 23 rfl rfl
theorem dksX2_reachByPasses_2 : cX2_reachByPasses.data.toList.drop 46 = dktX2_reachByPasses_2 := dk_seg dksX2_reachByPasses_1 23 rfl rfl
theorem dksX2_reachByPasses_3 : cX2_reachByPasses.data.toList.drop 69 = dktX2_reachByPasses_3 := dk_seg dksX2_reachByPasses_2 23 rfl rfl
theorem dksX2_reachByPasses_4 : cX2_reachByPasses.data.toList.drop 93 = dktX2_reachByPasses_4 := dk_seg dksX2_reachByPasses_3 24 rfl rfl
theorem dksX2_reachByPasses_5 : cX2_reachByPasses.data.toList.drop 116 = dktX2_reachByPasses_5 := dk_seg dksX2_reachByPasses_4 23 rfl rfl
theorem dksX2_reachByPasses_6 : cX2_reachByPasses.data.toList.drop 139 = dktX2_reachByPasses_6 := dk_seg dksX2_reachByPasses_5 23 rfl rfl
theorem dX2_reachByPasses_0 : decode cX2_reachByPasses 0 = .ok (.new 226, 3) := dk_187 0 226 (dk_at dksX2_reachByPasses_0 0 rfl rfl)
theorem dX2_reachByPasses_3 : decode cX2_reachByPasses 3 = .ok (.dup, 1) := dk_89 (dk_at dksX2_reachByPasses_0 3 rfl rfl)
theorem dX2_reachByPasses_4 : decode cX2_reachByPasses 4 = .ok (.aload_n 0, 1) := dk_42 (dk_at dksX2_reachByPasses_0 4 rfl rfl)
theorem dX2_reachByPasses_5 : decode cX2_reachByPasses 5 = .ok (.getfield 12, 3) := dk_180 0 12 (dk_at dksX2_reachByPasses_0 5 rfl rfl)
theorem dX2_reachByPasses_8 : decode cX2_reachByPasses 8 = .ok (.invokeinterface 22 1, 5) := by decide +kernel
theorem dX2_reachByPasses_13 : decode cX2_reachByPasses 13 = .ok (.aload_n 0, 1) := dk_42 (dk_at dksX2_reachByPasses_0 13 rfl rfl)
theorem dX2_reachByPasses_14 : decode cX2_reachByPasses 14 = .ok (.getfield 12, 3) := dk_180 0 12 (dk_at dksX2_reachByPasses_0 14 rfl rfl)
theorem dX2_reachByPasses_17 : decode cX2_reachByPasses 17 = .ok (.iload_n 1, 1) := dk_27 (dk_at dksX2_reachByPasses_0 17 rfl rfl)
theorem dX2_reachByPasses_18 : decode cX2_reachByPasses 18 = .ok (.invokeinterface 28 2, 5) := by decide +kernel
theorem dX2_reachByPasses_23 : decode cX2_reachByPasses 23 = .ok (.checkcast 32, 3) := dk_192 0 32 (dk_at dksX2_reachByPasses_1 0 rfl rfl)
theorem dX2_reachByPasses_26 : decode cX2_reachByPasses 26 = .ok (.getfield 160, 3) := dk_180 0 160 (dk_at dksX2_reachByPasses_1 3 rfl rfl)
theorem dX2_reachByPasses_29 : decode cX2_reachByPasses 29 = .ok (.invokespecial 228, 3) := dk_183 0 228 (dk_at dksX2_reachByPasses_1 6 rfl rfl)
theorem dX2_reachByPasses_32 : decode cX2_reachByPasses 32 = .ok (.astore_n 2, 1) := dk_77 (dk_at dksX2_reachByPasses_1 9 rfl rfl)
theorem dX2_reachByPasses_33 : decode cX2_reachByPasses 33 = .ok (.aload_n 2, 1) := dk_44 (dk_at dksX2_reachByPasses_1 10 rfl rfl)
theorem dX2_reachByPasses_34 : decode cX2_reachByPasses 34 = .ok (.iload_n 1, 1) := dk_27 (dk_at dksX2_reachByPasses_1 11 rfl rfl)
theorem dX2_reachByPasses_35 : decode cX2_reachByPasses 35 = .ok (.aload_n 2, 1) := dk_44 (dk_at dksX2_reachByPasses_1 12 rfl rfl)
theorem dX2_reachByPasses_36 : decode cX2_reachByPasses 36 = .ok (.getfield 233, 3) := dk_180 0 233 (dk_at dksX2_reachByPasses_1 13 rfl rfl)
theorem dX2_reachByPasses_39 : decode cX2_reachByPasses 39 = .ok (.invokevirtual 236, 3) := dk_182 0 236 (dk_at dksX2_reachByPasses_1 16 rfl rfl)
theorem dX2_reachByPasses_42 : decode cX2_reachByPasses 42 = .ok (.pop, 1) := dk_87 (dk_at dksX2_reachByPasses_1 19 rfl rfl)
theorem dX2_reachByPasses_43 : decode cX2_reachByPasses 43 = .ok (.iconst 1, 1) := dk_4 (dk_at dksX2_reachByPasses_1 20 rfl rfl)
theorem dX2_reachByPasses_44 : decode cX2_reachByPasses 44 = .ok (.istore_n 3, 1) := dk_62 (dk_at dksX2_reachByPasses_1 21 rfl rfl)
theorem dX2_reachByPasses_45 : decode cX2_reachByPasses 45 = .ok (.iload_n 3, 1) := dk_29 (dk_at dksX2_reachByPasses_1 22 rfl rfl)
theorem dX2_reachByPasses_46 : decode cX2_reachByPasses 46 = .ok (.ifCond .eq 111, 3) := dk_153 0 111 (dk_at dksX2_reachByPasses_2 0 rfl rfl)
theorem dX2_reachByPasses_49 : decode cX2_reachByPasses 49 = .ok (.iconst 0, 1) := dk_3 (dk_at dksX2_reachByPasses_2 3 rfl rfl)
theorem dX2_reachByPasses_50 : decode cX2_reachByPasses 50 = .ok (.istore_n 3, 1) := dk_62 (dk_at dksX2_reachByPasses_2 4 rfl rfl)
theorem dX2_reachByPasses_51 : decode cX2_reachByPasses 51 = .ok (.iconst 0, 1) := dk_3 (dk_at dksX2_reachByPasses_2 5 rfl rfl)
theorem dX2_reachByPasses_52 : decode cX2_reachByPasses 52 = .ok (.istore 4, 2) := dk_54 4 (dk_at dksX2_reachByPasses_2 6 rfl rfl)
theorem dX2_reachByPasses_54 : decode cX2_reachByPasses 54 = .ok (.iload 4, 2) := dk_21 4 (dk_at dksX2_reachByPasses_2 8 rfl rfl)
theorem dX2_reachByPasses_56 : decode cX2_reachByPasses 56 = .ok (.aload_n 0, 1) := dk_42 (dk_at dksX2_reachByPasses_2 10 rfl rfl)
theorem dX2_reachByPasses_57 : decode cX2_reachByPasses 57 = .ok (.getfield 18, 3) := dk_180 0 18 (dk_at dksX2_reachByPasses_2 11 rfl rfl)
theorem dX2_reachByPasses_60 : decode cX2_reachByPasses 60 = .ok (.invokeinterface 22 1, 5) := by decide +kernel
theorem dX2_reachByPasses_65 : decode cX2_reachByPasses 65 = .ok (.if_icmp .ge 89, 3) := dk_162 0 89 (dk_at dksX2_reachByPasses_2 19 rfl rfl)
theorem dX2_reachByPasses_68 : decode cX2_reachByPasses 68 = .ok (.aload_n 0, 1) := dk_42 (dk_at dksX2_reachByPasses_2 22 rfl rfl)
theorem dX2_reachByPasses_69 : decode cX2_reachByPasses 69 = .ok (.getfield 18, 3) := dk_180 0 18 (dk_at dksX2_reachByPasses_3 0 rfl rfl)
theorem dX2_reachByPasses_72 : decode cX2_reachByPasses 72 = .ok (.iload 4, 2) := dk_21 4 (dk_at dksX2_reachByPasses_3 3 rfl rfl)
theorem dX2_reachByPasses_74 : decode cX2_reachByPasses 74 = .ok (.invokeinterface 28 2, 5) := by decide +kernel
theorem dX2_reachByPasses_79 : decode cX2_reachByPasses 79 = .ok (.checkcast 42, 3) := dk_192 0 42 (dk_at dksX2_reachByPasses_3 10 rfl rfl)
theorem dX2_reachByPasses_82 : decode cX2_reachByPasses 82 = .ok (.astore 5, 2) := dk_58 5 (dk_at dksX2_reachByPasses_3 13 rfl rfl)
theorem dX2_reachByPasses_84 : decode cX2_reachByPasses 84 = .ok (.aload 5, 2) := dk_25 5 (dk_at dksX2_reachByPasses_3 15 rfl rfl)
theorem dX2_reachByPasses_86 : decode cX2_reachByPasses 86 = .ok (.invokevirtual 144, 3) := dk_182 0 144 (dk_at dksX2_reachByPasses_3 17 rfl rfl)
theorem dX2_reachByPasses_89 : decode cX2_reachByPasses 89 = .ok (.ifCond .eq 17, 3) := dk_153 0 17 (dk_at dksX2_reachByPasses_3 20 rfl rfl)
theorem dX2_reachByPasses_92 : decode cX2_reachByPasses 92 = .ok (.aload_n 2, 1) := dk_44 (dk_at dksX2_reachByPasses_3 23 rfl rfl)
theorem dX2_reachByPasses_93 : decode cX2_reachByPasses 93 = .ok (.aload 5, 2) := dk_25 5 (dk_at dksX2_reachByPasses_4 0 rfl rfl)
theorem dX2_reachByPasses_95 : decode cX2_reachByPasses 95 = .ok (.aload 5, 2) := dk_25 5 (dk_at dksX2_reachByPasses_4 2 rfl rfl)
theorem dX2_reachByPasses_97 : decode cX2_reachByPasses 97 = .ok (.getfield 117, 3) := dk_180 0 117 (dk_at dksX2_reachByPasses_4 4 rfl rfl)
theorem dX2_reachByPasses_100 : decode cX2_reachByPasses 100 = .ok (.invokestatic 239, 3) := dk_184 0 239 (dk_at dksX2_reachByPasses_4 7 rfl rfl)
theorem dX2_reachByPasses_103 : decode cX2_reachByPasses 103 = .ok (.ifCond .ne 7, 3) := dk_154 0 7 (dk_at dksX2_reachByPasses_4 10 rfl rfl)
theorem dX2_reachByPasses_106 : decode cX2_reachByPasses 106 = .ok (.iload_n 3, 1) := dk_29 (dk_at dksX2_reachByPasses_4 13 rfl rfl)
theorem dX2_reachByPasses_107 : decode cX2_reachByPasses 107 = .ok (.ifCond .eq 7, 3) := dk_153 0 7 (dk_at dksX2_reachByPasses_4 14 rfl rfl)
theorem dX2_reachByPasses_110 : decode cX2_reachByPasses 110 = .ok (.iconst 1, 1) := dk_4 (dk_at dksX2_reachByPasses_4 17 rfl rfl)
theorem dX2_reachByPasses_111 : decode cX2_reachByPasses 111 = .ok (.goto 4, 3) := dk_167 0 4 (dk_at dksX2_reachByPasses_4 18 rfl rfl)
theorem dX2_reachByPasses_114 : decode cX2_reachByPasses 114 = .ok (.iconst 0, 1) := dk_3 (dk_at dksX2_reachByPasses_4 21 rfl rfl)
theorem dX2_reachByPasses_115 : decode cX2_reachByPasses 115 = .ok (.istore_n 3, 1) := dk_62 (dk_at dksX2_reachByPasses_4 22 rfl rfl)
theorem dX2_reachByPasses_116 : decode cX2_reachByPasses 116 = .ok (.aload 5, 2) := dk_25 5 (dk_at dksX2_reachByPasses_5 0 rfl rfl)
theorem dX2_reachByPasses_118 : decode cX2_reachByPasses 118 = .ok (.invokevirtual 144, 3) := dk_182 0 144 (dk_at dksX2_reachByPasses_5 2 rfl rfl)
theorem dX2_reachByPasses_121 : decode cX2_reachByPasses 121 = .ok (.ifCond .eq 17, 3) := dk_153 0 17 (dk_at dksX2_reachByPasses_5 5 rfl rfl)
theorem dX2_reachByPasses_124 : decode cX2_reachByPasses 124 = .ok (.aload_n 2, 1) := dk_44 (dk_at dksX2_reachByPasses_5 8 rfl rfl)
theorem dX2_reachByPasses_125 : decode cX2_reachByPasses 125 = .ok (.aload 5, 2) := dk_25 5 (dk_at dksX2_reachByPasses_5 9 rfl rfl)
theorem dX2_reachByPasses_127 : decode cX2_reachByPasses 127 = .ok (.aload 5, 2) := dk_25 5 (dk_at dksX2_reachByPasses_5 11 rfl rfl)
theorem dX2_reachByPasses_129 : decode cX2_reachByPasses 129 = .ok (.getfield 120, 3) := dk_180 0 120 (dk_at dksX2_reachByPasses_5 13 rfl rfl)
theorem dX2_reachByPasses_132 : decode cX2_reachByPasses 132 = .ok (.invokestatic 239, 3) := dk_184 0 239 (dk_at dksX2_reachByPasses_5 16 rfl rfl)
theorem dX2_reachByPasses_135 : decode cX2_reachByPasses 135 = .ok (.ifCond .ne 7, 3) := dk_154 0 7 (dk_at dksX2_reachByPasses_5 19 rfl rfl)
theorem dX2_reachByPasses_138 : decode cX2_reachByPasses 138 = .ok (.iload_n 3, 1) := dk_29 (dk_at dksX2_reachByPasses_5 22 rfl rfl)
theorem dX2_reachByPasses_139 : decode cX2_reachByPasses 139 = .ok (.ifCond .eq 7, 3) := dk_153 0 7 (dk_at dksX2_reachByPasses_6 0 rfl rfl)
theorem dX2_reachByPasses_142 : decode cX2_reachByPasses 142 = .ok (.iconst 1, 1) := dk_4 (dk_at dksX2_reachByPasses_6 3 rfl rfl)
theorem dX2_reachByPasses_143 : decode cX2_reachByPasses 143 = .ok (.goto 4, 3) := dk_167 0 4 (dk_at dksX2_reachByPasses_6 4 rfl rfl)
theorem dX2_reachByPasses_146 : decode cX2_reachByPasses 146 = .ok (.iconst 0, 1) := dk_3 (dk_at dksX2_reachByPasses_6 7 rfl rfl)
theorem dX2_reachByPasses_147 : decode cX2_reachByPasses 147 = .ok (.istore_n 3, 1) := dk_62 (dk_at dksX2_reachByPasses_6 8 rfl rfl)
theorem dX2_reachByPasses_148 : decode cX2_reachByPasses 148 = .ok (.iinc 4 1, 3) := dk_132 4 1 (dk_at dksX2_reachByPasses_6 9 rfl rfl)
theorem dX2_reachByPasses_151 : decode cX2_reachByPasses 151 = .ok (.goto (-97), 3) := dk_167 255 159 (dk_at dksX2_reachByPasses_6 12 rfl rfl)
theorem dX2_reachByPasses_154 : decode cX2_reachByPasses 154 = .ok (.goto (-109), 3) := dk_167 255 147 (dk_at dksX2_reachByPasses_6 15 rfl rfl)
theorem dX2_reachByPasses_157 : decode cX2_reachByPasses 157 = .ok (.aload_n 2, 1) := dk_44 (dk_at dksX2_reachByPasses_6 18 rfl rfl)
theorem dX2_reachByPasses_158 : decode cX2_reachByPasses 158 = .ok (.areturn, 1) := dk_176 (dk_at dksX2_reachByPasses_6 19 rfl rfl)
abbrev cX2_passes : ByteArray := prog_14_method_33_code
def yX2_passes : MethodName := ⟨RX2, "passes", "(LFilterWaterworks$Reach;LFilterWaterworks$Pipe;I)Z"⟩
def dkwX2_passes_2 : List UInt8 := [167, 0, 4, 3, 62, 132, 4, 255, 167, 255, 210, 29, 172]
abbrev dktX2_passes_2 : List UInt8 := dkwX2_passes_2 ++ []
def dkwX2_passes_1 : List UInt8 := [43, 28, 182, 0, 140, 43, 21, 4, 182, 0, 166, 182, 0, 236, 154, 0, 7, 29, 153, 0, 7, 4]
abbrev dktX2_passes_1 : List UInt8 := dkwX2_passes_1 ++ dktX2_passes_2
def dkwX2_passes_0 : List UInt8 := [3, 62, 42, 180, 0, 233, 54, 4, 21, 4, 155, 0, 47, 42, 28, 21, 4, 182, 0, 243, 153, 0, 31, 42]
abbrev dktX2_passes_0 : List UInt8 := dkwX2_passes_0 ++ dktX2_passes_1
theorem dksX2_passes_0 : cX2_passes.data.toList.drop 0 = dktX2_passes_0 := by decide +kernel
theorem dksX2_passes_1 : cX2_passes.data.toList.drop 24 = dktX2_passes_1 := dk_seg dksX2_passes_0 24 rfl rfl
theorem dksX2_passes_2 : cX2_passes.data.toList.drop 46 = dktX2_passes_2 := dk_seg dksX2_passes_1 22 rfl rfl
theorem dX2_passes_0 : decode cX2_passes 0 = .ok (.iconst 0, 1) := dk_3 (dk_at dksX2_passes_0 0 rfl rfl)
theorem dX2_passes_1 : decode cX2_passes 1 = .ok (.istore_n 3, 1) := dk_62 (dk_at dksX2_passes_0 1 rfl rfl)
theorem dX2_passes_2 : decode cX2_passes 2 = .ok (.aload_n 0, 1) := dk_42 (dk_at dksX2_passes_0 2 rfl rfl)
theorem dX2_passes_3 : decode cX2_passes 3 = .ok (.getfield 233, 3) := dk_180 0 233 (dk_at dksX2_passes_0 3 rfl rfl)
theorem dX2_passes_6 : decode cX2_passes 6 = .ok (.istore 4, 2) := dk_54 4 (dk_at dksX2_passes_0 6 rfl rfl)
theorem dX2_passes_8 : decode cX2_passes 8 = .ok (.iload 4, 2) := dk_21 4 (dk_at dksX2_passes_0 8 rfl rfl)
theorem dX2_passes_10 : decode cX2_passes 10 = .ok (.ifCond .lt 47, 3) := dk_155 0 47 (dk_at dksX2_passes_0 10 rfl rfl)
theorem dX2_passes_13 : decode cX2_passes 13 = .ok (.aload_n 0, 1) := dk_42 (dk_at dksX2_passes_0 13 rfl rfl)
theorem dX2_passes_14 : decode cX2_passes 14 = .ok (.iload_n 2, 1) := dk_28 (dk_at dksX2_passes_0 14 rfl rfl)
theorem dX2_passes_15 : decode cX2_passes 15 = .ok (.iload 4, 2) := dk_21 4 (dk_at dksX2_passes_0 15 rfl rfl)
theorem dX2_passes_17 : decode cX2_passes 17 = .ok (.invokevirtual 243, 3) := dk_182 0 243 (dk_at dksX2_passes_0 17 rfl rfl)
theorem dX2_passes_20 : decode cX2_passes 20 = .ok (.ifCond .eq 31, 3) := dk_153 0 31 (dk_at dksX2_passes_0 20 rfl rfl)
theorem dX2_passes_23 : decode cX2_passes 23 = .ok (.aload_n 0, 1) := dk_42 (dk_at dksX2_passes_0 23 rfl rfl)
theorem dX2_passes_24 : decode cX2_passes 24 = .ok (.aload_n 1, 1) := dk_43 (dk_at dksX2_passes_1 0 rfl rfl)
theorem dX2_passes_25 : decode cX2_passes 25 = .ok (.iload_n 2, 1) := dk_28 (dk_at dksX2_passes_1 1 rfl rfl)
theorem dX2_passes_26 : decode cX2_passes 26 = .ok (.invokevirtual 140, 3) := dk_182 0 140 (dk_at dksX2_passes_1 2 rfl rfl)
theorem dX2_passes_29 : decode cX2_passes 29 = .ok (.aload_n 1, 1) := dk_43 (dk_at dksX2_passes_1 5 rfl rfl)
theorem dX2_passes_30 : decode cX2_passes 30 = .ok (.iload 4, 2) := dk_21 4 (dk_at dksX2_passes_1 6 rfl rfl)
theorem dX2_passes_32 : decode cX2_passes 32 = .ok (.invokevirtual 166, 3) := dk_182 0 166 (dk_at dksX2_passes_1 8 rfl rfl)
theorem dX2_passes_35 : decode cX2_passes 35 = .ok (.invokevirtual 236, 3) := dk_182 0 236 (dk_at dksX2_passes_1 11 rfl rfl)
theorem dX2_passes_38 : decode cX2_passes 38 = .ok (.ifCond .ne 7, 3) := dk_154 0 7 (dk_at dksX2_passes_1 14 rfl rfl)
theorem dX2_passes_41 : decode cX2_passes 41 = .ok (.iload_n 3, 1) := dk_29 (dk_at dksX2_passes_1 17 rfl rfl)
theorem dX2_passes_42 : decode cX2_passes 42 = .ok (.ifCond .eq 7, 3) := dk_153 0 7 (dk_at dksX2_passes_1 18 rfl rfl)
theorem dX2_passes_45 : decode cX2_passes 45 = .ok (.iconst 1, 1) := dk_4 (dk_at dksX2_passes_1 21 rfl rfl)
theorem dX2_passes_46 : decode cX2_passes 46 = .ok (.goto 4, 3) := dk_167 0 4 (dk_at dksX2_passes_2 0 rfl rfl)
theorem dX2_passes_49 : decode cX2_passes 49 = .ok (.iconst 0, 1) := dk_3 (dk_at dksX2_passes_2 3 rfl rfl)
theorem dX2_passes_50 : decode cX2_passes 50 = .ok (.istore_n 3, 1) := dk_62 (dk_at dksX2_passes_2 4 rfl rfl)
theorem dX2_passes_51 : decode cX2_passes 51 = .ok (.iinc 4 (-1), 3) := dk_132 4 255 (dk_at dksX2_passes_2 5 rfl rfl)
theorem dX2_passes_54 : decode cX2_passes 54 = .ok (.goto (-46), 3) := dk_167 255 210 (dk_at dksX2_passes_2 8 rfl rfl)
theorem dX2_passes_57 : decode cX2_passes 57 = .ok (.iload_n 3, 1) := dk_29 (dk_at dksX2_passes_2 11 rfl rfl)
theorem dX2_passes_58 : decode cX2_passes 58 = .ok (.ireturn, 1) := dk_172 (dk_at dksX2_passes_2 12 rfl rfl)
abbrev cX2_widthBySettings : ByteArray := prog_14_method_30_code
def yX2_widthBySettings : MethodName := ⟨RX2, "widthBySettings", "(II)I"⟩
def dkwX2_widthBySettings_1 : List UInt8 := [172]
abbrev dktX2_widthBySettings_1 : List UInt8 := dkwX2_widthBySettings_1 ++ []
def dkwX2_widthBySettings_0 : List UInt8 := [7, 62, 29, 158, 0, 20, 42, 27, 28, 29, 2, 182, 0, 190, 154, 0, 9, 132, 3, 255, 167, 255, 238, 29]
abbrev dktX2_widthBySettings_0 : List UInt8 := dkwX2_widthBySettings_0 ++ dktX2_widthBySettings_1
theorem dksX2_widthBySettings_0 : cX2_widthBySettings.data.toList.drop 0 = dktX2_widthBySettings_0 := by decide +kernel
theorem dksX2_widthBySettings_1 : cX2_widthBySettings.data.toList.drop 24 = dktX2_widthBySettings_1 := dk_seg dksX2_widthBySettings_0 24 rfl rfl
theorem dX2_widthBySettings_0 : decode cX2_widthBySettings 0 = .ok (.iconst 4, 1) := dk_7 (dk_at dksX2_widthBySettings_0 0 rfl rfl)
theorem dX2_widthBySettings_1 : decode cX2_widthBySettings 1 = .ok (.istore_n 3, 1) := dk_62 (dk_at dksX2_widthBySettings_0 1 rfl rfl)
theorem dX2_widthBySettings_2 : decode cX2_widthBySettings 2 = .ok (.iload_n 3, 1) := dk_29 (dk_at dksX2_widthBySettings_0 2 rfl rfl)
theorem dX2_widthBySettings_3 : decode cX2_widthBySettings 3 = .ok (.ifCond .le 20, 3) := dk_158 0 20 (dk_at dksX2_widthBySettings_0 3 rfl rfl)
theorem dX2_widthBySettings_6 : decode cX2_widthBySettings 6 = .ok (.aload_n 0, 1) := dk_42 (dk_at dksX2_widthBySettings_0 6 rfl rfl)
theorem dX2_widthBySettings_7 : decode cX2_widthBySettings 7 = .ok (.iload_n 1, 1) := dk_27 (dk_at dksX2_widthBySettings_0 7 rfl rfl)
theorem dX2_widthBySettings_8 : decode cX2_widthBySettings 8 = .ok (.iload_n 2, 1) := dk_28 (dk_at dksX2_widthBySettings_0 8 rfl rfl)
theorem dX2_widthBySettings_9 : decode cX2_widthBySettings 9 = .ok (.iload_n 3, 1) := dk_29 (dk_at dksX2_widthBySettings_0 9 rfl rfl)
theorem dX2_widthBySettings_10 : decode cX2_widthBySettings 10 = .ok (.iconst (-1), 1) := dk_2 (dk_at dksX2_widthBySettings_0 10 rfl rfl)
theorem dX2_widthBySettings_11 : decode cX2_widthBySettings 11 = .ok (.invokevirtual 190, 3) := dk_182 0 190 (dk_at dksX2_widthBySettings_0 11 rfl rfl)
theorem dX2_widthBySettings_14 : decode cX2_widthBySettings 14 = .ok (.ifCond .ne 9, 3) := dk_154 0 9 (dk_at dksX2_widthBySettings_0 14 rfl rfl)
theorem dX2_widthBySettings_17 : decode cX2_widthBySettings 17 = .ok (.iinc 3 (-1), 3) := dk_132 3 255 (dk_at dksX2_widthBySettings_0 17 rfl rfl)
theorem dX2_widthBySettings_20 : decode cX2_widthBySettings 20 = .ok (.goto (-18), 3) := dk_167 255 238 (dk_at dksX2_widthBySettings_0 20 rfl rfl)
theorem dX2_widthBySettings_23 : decode cX2_widthBySettings 23 = .ok (.iload_n 3, 1) := dk_29 (dk_at dksX2_widthBySettings_0 23 rfl rfl)
theorem dX2_widthBySettings_24 : decode cX2_widthBySettings 24 = .ok (.ireturn, 1) := dk_172 (dk_at dksX2_widthBySettings_1 0 rfl rfl)
abbrev cX2_copy : ByteArray := prog_14_method_2_code
def yX2_copy : MethodName := ⟨RX2, "copy", "()LFilterWaterworks$Works;"⟩
def dkwX2_copy_5 : List UInt8 := [42, 180, 0, 54, 181, 0, 54, 43, 42, 180, 0, 57, 181, 0, 57, 43, 176]
abbrev dktX2_copy_5 : List UInt8 := dkwX2_copy_5 ++ []
def dkwX2_copy_4 : List UInt8 := [87, 132, 2, 1, 167, 255, 214, 43, 42, 180, 0, 47, 181, 0, 47, 43, 42, 180, 0, 51, 181, 0, 51, 43]
abbrev dktX2_copy_4 : List UInt8 := dkwX2_copy_4 ++ dktX2_copy_5
def dkwX2_copy_3 : List UInt8 := [180, 0, 18, 42, 180, 0, 18, 28, 185, 0, 28, 2, 0, 192, 0, 42, 182, 0, 44, 185, 0, 38, 2, 0]
abbrev dktX2_copy_3 : List UInt8 := dkwX2_copy_3 ++ dktX2_copy_4
def dkwX2_copy_2 : List UInt8 := [87, 132, 2, 1, 167, 255, 214, 3, 61, 28, 42, 180, 0, 18, 185, 0, 22, 1, 0, 162, 0, 35, 43]
abbrev dktX2_copy_2 : List UInt8 := dkwX2_copy_2 ++ dktX2_copy_3
def dkwX2_copy_1 : List UInt8 := [180, 0, 12, 42, 180, 0, 12, 28, 185, 0, 28, 2, 0, 192, 0, 32, 182, 0, 34, 185, 0, 38, 2, 0]
abbrev dktX2_copy_1 : List UInt8 := dkwX2_copy_1 ++ dktX2_copy_2
def dkwX2_copy_0 : List UInt8 := [187, 0, 13, 89, 183, 0, 21, 76, 3, 61, 28, 42, 180, 0, 12, 185, 0, 22, 1, 0, 162, 0, 35, 43]
abbrev dktX2_copy_0 : List UInt8 := dkwX2_copy_0 ++ dktX2_copy_1
theorem dksX2_copy_0 : cX2_copy.data.toList.drop 0 = dktX2_copy_0 := by decide +kernel
theorem dksX2_copy_1 : cX2_copy.data.toList.drop 24 = dktX2_copy_1 := dk_seg dksX2_copy_0 24 rfl rfl
theorem dksX2_copy_2 : cX2_copy.data.toList.drop 48 = dktX2_copy_2 := dk_seg dksX2_copy_1 24 rfl rfl
theorem dksX2_copy_3 : cX2_copy.data.toList.drop 71 = dktX2_copy_3 := dk_seg dksX2_copy_2 23 rfl rfl
theorem dksX2_copy_4 : cX2_copy.data.toList.drop 95 = dktX2_copy_4 := dk_seg dksX2_copy_3 24 rfl rfl
theorem dksX2_copy_5 : cX2_copy.data.toList.drop 119 = dktX2_copy_5 := dk_seg dksX2_copy_4 24 rfl rfl
theorem dX2_copy_0 : decode cX2_copy 0 = .ok (.new 13, 3) := dk_187 0 13 (dk_at dksX2_copy_0 0 rfl rfl)
theorem dX2_copy_3 : decode cX2_copy 3 = .ok (.dup, 1) := dk_89 (dk_at dksX2_copy_0 3 rfl rfl)
theorem dX2_copy_4 : decode cX2_copy 4 = .ok (.invokespecial 21, 3) := dk_183 0 21 (dk_at dksX2_copy_0 4 rfl rfl)
theorem dX2_copy_7 : decode cX2_copy 7 = .ok (.astore_n 1, 1) := dk_76 (dk_at dksX2_copy_0 7 rfl rfl)
theorem dX2_copy_8 : decode cX2_copy 8 = .ok (.iconst 0, 1) := dk_3 (dk_at dksX2_copy_0 8 rfl rfl)
theorem dX2_copy_9 : decode cX2_copy 9 = .ok (.istore_n 2, 1) := dk_61 (dk_at dksX2_copy_0 9 rfl rfl)
theorem dX2_copy_10 : decode cX2_copy 10 = .ok (.iload_n 2, 1) := dk_28 (dk_at dksX2_copy_0 10 rfl rfl)
theorem dX2_copy_11 : decode cX2_copy 11 = .ok (.aload_n 0, 1) := dk_42 (dk_at dksX2_copy_0 11 rfl rfl)
theorem dX2_copy_12 : decode cX2_copy 12 = .ok (.getfield 12, 3) := dk_180 0 12 (dk_at dksX2_copy_0 12 rfl rfl)
theorem dX2_copy_15 : decode cX2_copy 15 = .ok (.invokeinterface 22 1, 5) := by decide +kernel
theorem dX2_copy_20 : decode cX2_copy 20 = .ok (.if_icmp .ge 35, 3) := dk_162 0 35 (dk_at dksX2_copy_0 20 rfl rfl)
theorem dX2_copy_23 : decode cX2_copy 23 = .ok (.aload_n 1, 1) := dk_43 (dk_at dksX2_copy_0 23 rfl rfl)
theorem dX2_copy_24 : decode cX2_copy 24 = .ok (.getfield 12, 3) := dk_180 0 12 (dk_at dksX2_copy_1 0 rfl rfl)
theorem dX2_copy_27 : decode cX2_copy 27 = .ok (.aload_n 0, 1) := dk_42 (dk_at dksX2_copy_1 3 rfl rfl)
theorem dX2_copy_28 : decode cX2_copy 28 = .ok (.getfield 12, 3) := dk_180 0 12 (dk_at dksX2_copy_1 4 rfl rfl)
theorem dX2_copy_31 : decode cX2_copy 31 = .ok (.iload_n 2, 1) := dk_28 (dk_at dksX2_copy_1 7 rfl rfl)
theorem dX2_copy_32 : decode cX2_copy 32 = .ok (.invokeinterface 28 2, 5) := by decide +kernel
theorem dX2_copy_37 : decode cX2_copy 37 = .ok (.checkcast 32, 3) := dk_192 0 32 (dk_at dksX2_copy_1 13 rfl rfl)
theorem dX2_copy_40 : decode cX2_copy 40 = .ok (.invokevirtual 34, 3) := dk_182 0 34 (dk_at dksX2_copy_1 16 rfl rfl)
theorem dX2_copy_43 : decode cX2_copy 43 = .ok (.invokeinterface 38 2, 5) := by decide +kernel
theorem dX2_copy_48 : decode cX2_copy 48 = .ok (.pop, 1) := dk_87 (dk_at dksX2_copy_2 0 rfl rfl)
theorem dX2_copy_49 : decode cX2_copy 49 = .ok (.iinc 2 1, 3) := dk_132 2 1 (dk_at dksX2_copy_2 1 rfl rfl)
theorem dX2_copy_52 : decode cX2_copy 52 = .ok (.goto (-42), 3) := dk_167 255 214 (dk_at dksX2_copy_2 4 rfl rfl)
theorem dX2_copy_55 : decode cX2_copy 55 = .ok (.iconst 0, 1) := dk_3 (dk_at dksX2_copy_2 7 rfl rfl)
theorem dX2_copy_56 : decode cX2_copy 56 = .ok (.istore_n 2, 1) := dk_61 (dk_at dksX2_copy_2 8 rfl rfl)
theorem dX2_copy_57 : decode cX2_copy 57 = .ok (.iload_n 2, 1) := dk_28 (dk_at dksX2_copy_2 9 rfl rfl)
theorem dX2_copy_58 : decode cX2_copy 58 = .ok (.aload_n 0, 1) := dk_42 (dk_at dksX2_copy_2 10 rfl rfl)
theorem dX2_copy_59 : decode cX2_copy 59 = .ok (.getfield 18, 3) := dk_180 0 18 (dk_at dksX2_copy_2 11 rfl rfl)
theorem dX2_copy_62 : decode cX2_copy 62 = .ok (.invokeinterface 22 1, 5) := by decide +kernel
theorem dX2_copy_67 : decode cX2_copy 67 = .ok (.if_icmp .ge 35, 3) := dk_162 0 35 (dk_at dksX2_copy_2 19 rfl rfl)
theorem dX2_copy_70 : decode cX2_copy 70 = .ok (.aload_n 1, 1) := dk_43 (dk_at dksX2_copy_2 22 rfl rfl)
theorem dX2_copy_71 : decode cX2_copy 71 = .ok (.getfield 18, 3) := dk_180 0 18 (dk_at dksX2_copy_3 0 rfl rfl)
theorem dX2_copy_74 : decode cX2_copy 74 = .ok (.aload_n 0, 1) := dk_42 (dk_at dksX2_copy_3 3 rfl rfl)
theorem dX2_copy_75 : decode cX2_copy 75 = .ok (.getfield 18, 3) := dk_180 0 18 (dk_at dksX2_copy_3 4 rfl rfl)
theorem dX2_copy_78 : decode cX2_copy 78 = .ok (.iload_n 2, 1) := dk_28 (dk_at dksX2_copy_3 7 rfl rfl)
theorem dX2_copy_79 : decode cX2_copy 79 = .ok (.invokeinterface 28 2, 5) := by decide +kernel
theorem dX2_copy_84 : decode cX2_copy 84 = .ok (.checkcast 42, 3) := dk_192 0 42 (dk_at dksX2_copy_3 13 rfl rfl)
theorem dX2_copy_87 : decode cX2_copy 87 = .ok (.invokevirtual 44, 3) := dk_182 0 44 (dk_at dksX2_copy_3 16 rfl rfl)
theorem dX2_copy_90 : decode cX2_copy 90 = .ok (.invokeinterface 38 2, 5) := by decide +kernel
theorem dX2_copy_95 : decode cX2_copy 95 = .ok (.pop, 1) := dk_87 (dk_at dksX2_copy_4 0 rfl rfl)
theorem dX2_copy_96 : decode cX2_copy 96 = .ok (.iinc 2 1, 3) := dk_132 2 1 (dk_at dksX2_copy_4 1 rfl rfl)
theorem dX2_copy_99 : decode cX2_copy 99 = .ok (.goto (-42), 3) := dk_167 255 214 (dk_at dksX2_copy_4 4 rfl rfl)
theorem dX2_copy_102 : decode cX2_copy 102 = .ok (.aload_n 1, 1) := dk_43 (dk_at dksX2_copy_4 7 rfl rfl)
theorem dX2_copy_103 : decode cX2_copy 103 = .ok (.aload_n 0, 1) := dk_42 (dk_at dksX2_copy_4 8 rfl rfl)
theorem dX2_copy_104 : decode cX2_copy 104 = .ok (.getfield 47, 3) := dk_180 0 47 (dk_at dksX2_copy_4 9 rfl rfl)
theorem dX2_copy_107 : decode cX2_copy 107 = .ok (.putfield 47, 3) := dk_181 0 47 (dk_at dksX2_copy_4 12 rfl rfl)
theorem dX2_copy_110 : decode cX2_copy 110 = .ok (.aload_n 1, 1) := dk_43 (dk_at dksX2_copy_4 15 rfl rfl)
theorem dX2_copy_111 : decode cX2_copy 111 = .ok (.aload_n 0, 1) := dk_42 (dk_at dksX2_copy_4 16 rfl rfl)
theorem dX2_copy_112 : decode cX2_copy 112 = .ok (.getfield 51, 3) := dk_180 0 51 (dk_at dksX2_copy_4 17 rfl rfl)
theorem dX2_copy_115 : decode cX2_copy 115 = .ok (.putfield 51, 3) := dk_181 0 51 (dk_at dksX2_copy_4 20 rfl rfl)
theorem dX2_copy_118 : decode cX2_copy 118 = .ok (.aload_n 1, 1) := dk_43 (dk_at dksX2_copy_4 23 rfl rfl)
theorem dX2_copy_119 : decode cX2_copy 119 = .ok (.aload_n 0, 1) := dk_42 (dk_at dksX2_copy_5 0 rfl rfl)
theorem dX2_copy_120 : decode cX2_copy 120 = .ok (.getfield 54, 3) := dk_180 0 54 (dk_at dksX2_copy_5 1 rfl rfl)
theorem dX2_copy_123 : decode cX2_copy 123 = .ok (.putfield 54, 3) := dk_181 0 54 (dk_at dksX2_copy_5 4 rfl rfl)
theorem dX2_copy_126 : decode cX2_copy 126 = .ok (.aload_n 1, 1) := dk_43 (dk_at dksX2_copy_5 7 rfl rfl)
theorem dX2_copy_127 : decode cX2_copy 127 = .ok (.aload_n 0, 1) := dk_42 (dk_at dksX2_copy_5 8 rfl rfl)
theorem dX2_copy_128 : decode cX2_copy 128 = .ok (.getfield 57, 3) := dk_180 0 57 (dk_at dksX2_copy_5 9 rfl rfl)
theorem dX2_copy_131 : decode cX2_copy 131 = .ok (.putfield 57, 3) := dk_181 0 57 (dk_at dksX2_copy_5 12 rfl rfl)
theorem dX2_copy_134 : decode cX2_copy 134 = .ok (.aload_n 1, 1) := dk_43 (dk_at dksX2_copy_5 15 rfl rfl)
theorem dX2_copy_135 : decode cX2_copy 135 = .ok (.areturn, 1) := dk_176 (dk_at dksX2_copy_5 16 rfl rfl)
abbrev cX2_addTank : ByteArray := prog_14_method_5_code
def yX2_addTank : MethodName := ⟨RX2, "addTank", "(I)I"⟩
def dkwX2_addTank_2 : List UInt8 := [183, 0, 72, 185, 0, 38, 2, 0, 87, 42, 180, 0, 12, 185, 0, 22, 1, 0, 4, 100, 172]
abbrev dktX2_addTank_2 : List UInt8 := dkwX2_addTank_2 ++ []
def dkwX2_addTank_1 : List UInt8 := [16, 8, 162, 0, 7, 4, 167, 0, 4, 3, 18, 70, 184, 0, 66, 42, 180, 0, 12, 187, 0, 32, 89, 27]
abbrev dktX2_addTank_1 : List UInt8 := dkwX2_addTank_1 ++ dktX2_addTank_2
def dkwX2_addTank_0 : List UInt8 := [27, 16, 10, 17, 3, 231, 184, 0, 60, 18, 64, 184, 0, 66, 42, 180, 0, 12, 185, 0, 22, 1, 0]
abbrev dktX2_addTank_0 : List UInt8 := dkwX2_addTank_0 ++ dktX2_addTank_1
theorem dksX2_addTank_0 : cX2_addTank.data.toList.drop 0 = dktX2_addTank_0 := by decide +kernel
theorem dksX2_addTank_1 : cX2_addTank.data.toList.drop 23 = dktX2_addTank_1 := dk_seg dksX2_addTank_0 23 rfl rfl
theorem dksX2_addTank_2 : cX2_addTank.data.toList.drop 47 = dktX2_addTank_2 := dk_seg dksX2_addTank_1 24 rfl rfl
theorem dX2_addTank_0 : decode cX2_addTank 0 = .ok (.iload_n 1, 1) := dk_27 (dk_at dksX2_addTank_0 0 rfl rfl)
theorem dX2_addTank_1 : decode cX2_addTank 1 = .ok (.bipush 10, 2) := dk_16 10 (dk_at dksX2_addTank_0 1 rfl rfl)
theorem dX2_addTank_3 : decode cX2_addTank 3 = .ok (.sipush 999, 3) := dk_17 3 231 (dk_at dksX2_addTank_0 3 rfl rfl)
theorem dX2_addTank_6 : decode cX2_addTank 6 = .ok (.invokestatic 60, 3) := dk_184 0 60 (dk_at dksX2_addTank_0 6 rfl rfl)
theorem dX2_addTank_9 : decode cX2_addTank 9 = .ok (.ldc 64, 2) := dk_18 64 (dk_at dksX2_addTank_0 9 rfl rfl)
theorem dX2_addTank_11 : decode cX2_addTank 11 = .ok (.invokestatic 66, 3) := dk_184 0 66 (dk_at dksX2_addTank_0 11 rfl rfl)
theorem dX2_addTank_14 : decode cX2_addTank 14 = .ok (.aload_n 0, 1) := dk_42 (dk_at dksX2_addTank_0 14 rfl rfl)
theorem dX2_addTank_15 : decode cX2_addTank 15 = .ok (.getfield 12, 3) := dk_180 0 12 (dk_at dksX2_addTank_0 15 rfl rfl)
theorem dX2_addTank_18 : decode cX2_addTank 18 = .ok (.invokeinterface 22 1, 5) := by decide +kernel
theorem dX2_addTank_23 : decode cX2_addTank 23 = .ok (.bipush 8, 2) := dk_16 8 (dk_at dksX2_addTank_1 0 rfl rfl)
theorem dX2_addTank_25 : decode cX2_addTank 25 = .ok (.if_icmp .ge 7, 3) := dk_162 0 7 (dk_at dksX2_addTank_1 2 rfl rfl)
theorem dX2_addTank_28 : decode cX2_addTank 28 = .ok (.iconst 1, 1) := dk_4 (dk_at dksX2_addTank_1 5 rfl rfl)
theorem dX2_addTank_29 : decode cX2_addTank 29 = .ok (.goto 4, 3) := dk_167 0 4 (dk_at dksX2_addTank_1 6 rfl rfl)
theorem dX2_addTank_32 : decode cX2_addTank 32 = .ok (.iconst 0, 1) := dk_3 (dk_at dksX2_addTank_1 9 rfl rfl)
theorem dX2_addTank_33 : decode cX2_addTank 33 = .ok (.ldc 70, 2) := dk_18 70 (dk_at dksX2_addTank_1 10 rfl rfl)
theorem dX2_addTank_35 : decode cX2_addTank 35 = .ok (.invokestatic 66, 3) := dk_184 0 66 (dk_at dksX2_addTank_1 12 rfl rfl)
theorem dX2_addTank_38 : decode cX2_addTank 38 = .ok (.aload_n 0, 1) := dk_42 (dk_at dksX2_addTank_1 15 rfl rfl)
theorem dX2_addTank_39 : decode cX2_addTank 39 = .ok (.getfield 12, 3) := dk_180 0 12 (dk_at dksX2_addTank_1 16 rfl rfl)
theorem dX2_addTank_42 : decode cX2_addTank 42 = .ok (.new 32, 3) := dk_187 0 32 (dk_at dksX2_addTank_1 19 rfl rfl)
theorem dX2_addTank_45 : decode cX2_addTank 45 = .ok (.dup, 1) := dk_89 (dk_at dksX2_addTank_1 22 rfl rfl)
theorem dX2_addTank_46 : decode cX2_addTank 46 = .ok (.iload_n 1, 1) := dk_27 (dk_at dksX2_addTank_1 23 rfl rfl)
theorem dX2_addTank_47 : decode cX2_addTank 47 = .ok (.invokespecial 72, 3) := dk_183 0 72 (dk_at dksX2_addTank_2 0 rfl rfl)
theorem dX2_addTank_50 : decode cX2_addTank 50 = .ok (.invokeinterface 38 2, 5) := by decide +kernel
theorem dX2_addTank_55 : decode cX2_addTank 55 = .ok (.pop, 1) := dk_87 (dk_at dksX2_addTank_2 8 rfl rfl)
theorem dX2_addTank_56 : decode cX2_addTank 56 = .ok (.aload_n 0, 1) := dk_42 (dk_at dksX2_addTank_2 9 rfl rfl)
theorem dX2_addTank_57 : decode cX2_addTank 57 = .ok (.getfield 12, 3) := dk_180 0 12 (dk_at dksX2_addTank_2 10 rfl rfl)
theorem dX2_addTank_60 : decode cX2_addTank 60 = .ok (.invokeinterface 22 1, 5) := by decide +kernel
theorem dX2_addTank_65 : decode cX2_addTank 65 = .ok (.iconst 1, 1) := dk_4 (dk_at dksX2_addTank_2 18 rfl rfl)
theorem dX2_addTank_66 : decode cX2_addTank 66 = .ok (.isub, 1) := dk_100 (dk_at dksX2_addTank_2 19 rfl rfl)
theorem dX2_addTank_67 : decode cX2_addTank 67 = .ok (.ireturn, 1) := dk_172 (dk_at dksX2_addTank_2 20 rfl rfl)
abbrev cX2_addPipe : ByteArray := prog_14_method_6_code
def yX2_addPipe : MethodName := ⟨RX2, "addPipe", "(III)I"⟩
def dkwX2_addPipe_4 : List UInt8 := [180, 0, 18, 185, 0, 22, 1, 0, 4, 100, 172]
abbrev dktX2_addPipe_4 : List UInt8 := dkwX2_addPipe_4 ++ []
def dkwX2_addPipe_3 : List UInt8 := [184, 0, 66, 42, 180, 0, 18, 187, 0, 42, 89, 27, 28, 29, 183, 0, 84, 185, 0, 38, 2, 0, 87, 42]
abbrev dktX2_addPipe_3 : List UInt8 := dkwX2_addPipe_3 ++ dktX2_addPipe_4
def dkwX2_addPipe_2 : List UInt8 := [184, 0, 66, 42, 180, 0, 18, 185, 0, 22, 1, 0, 16, 12, 162, 0, 7, 4, 167, 0, 4, 3, 18, 70]
abbrev dktX2_addPipe_2 : List UInt8 := dkwX2_addPipe_2 ++ dktX2_addPipe_3
def dkwX2_addPipe_1 : List UInt8 := [184, 0, 66, 27, 28, 159, 0, 14, 29, 184, 0, 81, 153, 0, 7, 4, 167, 0, 4, 3, 18, 64]
abbrev dktX2_addPipe_1 : List UInt8 := dkwX2_addPipe_1 ++ dktX2_addPipe_2
def dkwX2_addPipe_0 : List UInt8 := [42, 27, 182, 0, 75, 153, 0, 15, 42, 28, 182, 0, 75, 153, 0, 7, 4, 167, 0, 4, 3, 18, 79]
abbrev dktX2_addPipe_0 : List UInt8 := dkwX2_addPipe_0 ++ dktX2_addPipe_1
theorem dksX2_addPipe_0 : cX2_addPipe.data.toList.drop 0 = dktX2_addPipe_0 := by decide +kernel
theorem dksX2_addPipe_1 : cX2_addPipe.data.toList.drop 23 = dktX2_addPipe_1 := dk_seg dksX2_addPipe_0 23 rfl rfl
theorem dksX2_addPipe_2 : cX2_addPipe.data.toList.drop 45 = dktX2_addPipe_2 := dk_seg dksX2_addPipe_1 22 rfl rfl
theorem dksX2_addPipe_3 : cX2_addPipe.data.toList.drop 69 = dktX2_addPipe_3 := dk_seg dksX2_addPipe_2 24 rfl rfl
theorem dksX2_addPipe_4 : cX2_addPipe.data.toList.drop 93 = dktX2_addPipe_4 := dk_seg dksX2_addPipe_3 24 rfl rfl
theorem dX2_addPipe_0 : decode cX2_addPipe 0 = .ok (.aload_n 0, 1) := dk_42 (dk_at dksX2_addPipe_0 0 rfl rfl)
theorem dX2_addPipe_1 : decode cX2_addPipe 1 = .ok (.iload_n 1, 1) := dk_27 (dk_at dksX2_addPipe_0 1 rfl rfl)
theorem dX2_addPipe_2 : decode cX2_addPipe 2 = .ok (.invokevirtual 75, 3) := dk_182 0 75 (dk_at dksX2_addPipe_0 2 rfl rfl)
theorem dX2_addPipe_5 : decode cX2_addPipe 5 = .ok (.ifCond .eq 15, 3) := dk_153 0 15 (dk_at dksX2_addPipe_0 5 rfl rfl)
theorem dX2_addPipe_8 : decode cX2_addPipe 8 = .ok (.aload_n 0, 1) := dk_42 (dk_at dksX2_addPipe_0 8 rfl rfl)
theorem dX2_addPipe_9 : decode cX2_addPipe 9 = .ok (.iload_n 2, 1) := dk_28 (dk_at dksX2_addPipe_0 9 rfl rfl)
theorem dX2_addPipe_10 : decode cX2_addPipe 10 = .ok (.invokevirtual 75, 3) := dk_182 0 75 (dk_at dksX2_addPipe_0 10 rfl rfl)
theorem dX2_addPipe_13 : decode cX2_addPipe 13 = .ok (.ifCond .eq 7, 3) := dk_153 0 7 (dk_at dksX2_addPipe_0 13 rfl rfl)
theorem dX2_addPipe_16 : decode cX2_addPipe 16 = .ok (.iconst 1, 1) := dk_4 (dk_at dksX2_addPipe_0 16 rfl rfl)
theorem dX2_addPipe_17 : decode cX2_addPipe 17 = .ok (.goto 4, 3) := dk_167 0 4 (dk_at dksX2_addPipe_0 17 rfl rfl)
theorem dX2_addPipe_20 : decode cX2_addPipe 20 = .ok (.iconst 0, 1) := dk_3 (dk_at dksX2_addPipe_0 20 rfl rfl)
theorem dX2_addPipe_21 : decode cX2_addPipe 21 = .ok (.ldc 79, 2) := dk_18 79 (dk_at dksX2_addPipe_0 21 rfl rfl)
theorem dX2_addPipe_23 : decode cX2_addPipe 23 = .ok (.invokestatic 66, 3) := dk_184 0 66 (dk_at dksX2_addPipe_1 0 rfl rfl)
theorem dX2_addPipe_26 : decode cX2_addPipe 26 = .ok (.iload_n 1, 1) := dk_27 (dk_at dksX2_addPipe_1 3 rfl rfl)
theorem dX2_addPipe_27 : decode cX2_addPipe 27 = .ok (.iload_n 2, 1) := dk_28 (dk_at dksX2_addPipe_1 4 rfl rfl)
theorem dX2_addPipe_28 : decode cX2_addPipe 28 = .ok (.if_icmp .eq 14, 3) := dk_159 0 14 (dk_at dksX2_addPipe_1 5 rfl rfl)
theorem dX2_addPipe_31 : decode cX2_addPipe 31 = .ok (.iload_n 3, 1) := dk_29 (dk_at dksX2_addPipe_1 8 rfl rfl)
theorem dX2_addPipe_32 : decode cX2_addPipe 32 = .ok (.invokestatic 81, 3) := dk_184 0 81 (dk_at dksX2_addPipe_1 9 rfl rfl)
theorem dX2_addPipe_35 : decode cX2_addPipe 35 = .ok (.ifCond .eq 7, 3) := dk_153 0 7 (dk_at dksX2_addPipe_1 12 rfl rfl)
theorem dX2_addPipe_38 : decode cX2_addPipe 38 = .ok (.iconst 1, 1) := dk_4 (dk_at dksX2_addPipe_1 15 rfl rfl)
theorem dX2_addPipe_39 : decode cX2_addPipe 39 = .ok (.goto 4, 3) := dk_167 0 4 (dk_at dksX2_addPipe_1 16 rfl rfl)
theorem dX2_addPipe_42 : decode cX2_addPipe 42 = .ok (.iconst 0, 1) := dk_3 (dk_at dksX2_addPipe_1 19 rfl rfl)
theorem dX2_addPipe_43 : decode cX2_addPipe 43 = .ok (.ldc 64, 2) := dk_18 64 (dk_at dksX2_addPipe_1 20 rfl rfl)
theorem dX2_addPipe_45 : decode cX2_addPipe 45 = .ok (.invokestatic 66, 3) := dk_184 0 66 (dk_at dksX2_addPipe_2 0 rfl rfl)
theorem dX2_addPipe_48 : decode cX2_addPipe 48 = .ok (.aload_n 0, 1) := dk_42 (dk_at dksX2_addPipe_2 3 rfl rfl)
theorem dX2_addPipe_49 : decode cX2_addPipe 49 = .ok (.getfield 18, 3) := dk_180 0 18 (dk_at dksX2_addPipe_2 4 rfl rfl)
theorem dX2_addPipe_52 : decode cX2_addPipe 52 = .ok (.invokeinterface 22 1, 5) := by decide +kernel
theorem dX2_addPipe_57 : decode cX2_addPipe 57 = .ok (.bipush 12, 2) := dk_16 12 (dk_at dksX2_addPipe_2 12 rfl rfl)
theorem dX2_addPipe_59 : decode cX2_addPipe 59 = .ok (.if_icmp .ge 7, 3) := dk_162 0 7 (dk_at dksX2_addPipe_2 14 rfl rfl)
theorem dX2_addPipe_62 : decode cX2_addPipe 62 = .ok (.iconst 1, 1) := dk_4 (dk_at dksX2_addPipe_2 17 rfl rfl)
theorem dX2_addPipe_63 : decode cX2_addPipe 63 = .ok (.goto 4, 3) := dk_167 0 4 (dk_at dksX2_addPipe_2 18 rfl rfl)
theorem dX2_addPipe_66 : decode cX2_addPipe 66 = .ok (.iconst 0, 1) := dk_3 (dk_at dksX2_addPipe_2 21 rfl rfl)
theorem dX2_addPipe_67 : decode cX2_addPipe 67 = .ok (.ldc 70, 2) := dk_18 70 (dk_at dksX2_addPipe_2 22 rfl rfl)
theorem dX2_addPipe_69 : decode cX2_addPipe 69 = .ok (.invokestatic 66, 3) := dk_184 0 66 (dk_at dksX2_addPipe_3 0 rfl rfl)
theorem dX2_addPipe_72 : decode cX2_addPipe 72 = .ok (.aload_n 0, 1) := dk_42 (dk_at dksX2_addPipe_3 3 rfl rfl)
theorem dX2_addPipe_73 : decode cX2_addPipe 73 = .ok (.getfield 18, 3) := dk_180 0 18 (dk_at dksX2_addPipe_3 4 rfl rfl)
theorem dX2_addPipe_76 : decode cX2_addPipe 76 = .ok (.new 42, 3) := dk_187 0 42 (dk_at dksX2_addPipe_3 7 rfl rfl)
theorem dX2_addPipe_79 : decode cX2_addPipe 79 = .ok (.dup, 1) := dk_89 (dk_at dksX2_addPipe_3 10 rfl rfl)
theorem dX2_addPipe_80 : decode cX2_addPipe 80 = .ok (.iload_n 1, 1) := dk_27 (dk_at dksX2_addPipe_3 11 rfl rfl)
theorem dX2_addPipe_81 : decode cX2_addPipe 81 = .ok (.iload_n 2, 1) := dk_28 (dk_at dksX2_addPipe_3 12 rfl rfl)
theorem dX2_addPipe_82 : decode cX2_addPipe 82 = .ok (.iload_n 3, 1) := dk_29 (dk_at dksX2_addPipe_3 13 rfl rfl)
theorem dX2_addPipe_83 : decode cX2_addPipe 83 = .ok (.invokespecial 84, 3) := dk_183 0 84 (dk_at dksX2_addPipe_3 14 rfl rfl)
theorem dX2_addPipe_86 : decode cX2_addPipe 86 = .ok (.invokeinterface 38 2, 5) := by decide +kernel
theorem dX2_addPipe_91 : decode cX2_addPipe 91 = .ok (.pop, 1) := dk_87 (dk_at dksX2_addPipe_3 22 rfl rfl)
theorem dX2_addPipe_92 : decode cX2_addPipe 92 = .ok (.aload_n 0, 1) := dk_42 (dk_at dksX2_addPipe_3 23 rfl rfl)
theorem dX2_addPipe_93 : decode cX2_addPipe 93 = .ok (.getfield 18, 3) := dk_180 0 18 (dk_at dksX2_addPipe_4 0 rfl rfl)
theorem dX2_addPipe_96 : decode cX2_addPipe 96 = .ok (.invokeinterface 22 1, 5) := by decide +kernel
theorem dX2_addPipe_101 : decode cX2_addPipe 101 = .ok (.iconst 1, 1) := dk_4 (dk_at dksX2_addPipe_4 8 rfl rfl)
theorem dX2_addPipe_102 : decode cX2_addPipe 102 = .ok (.isub, 1) := dk_100 (dk_at dksX2_addPipe_4 9 rfl rfl)
theorem dX2_addPipe_103 : decode cX2_addPipe 103 = .ok (.ireturn, 1) := dk_172 (dk_at dksX2_addPipe_4 10 rfl rfl)
abbrev cX2_hasTank : ByteArray := prog_14_method_3_code
def yX2_hasTank : MethodName := ⟨RX2, "hasTank", "(I)Z"⟩
def dkwX2_hasTank_0 : List UInt8 := [27, 3, 42, 180, 0, 12, 185, 0, 22, 1, 0, 4, 100, 184, 0, 60, 172]
abbrev dktX2_hasTank_0 : List UInt8 := dkwX2_hasTank_0 ++ []
theorem dksX2_hasTank_0 : cX2_hasTank.data.toList.drop 0 = dktX2_hasTank_0 := by decide +kernel
theorem dX2_hasTank_0 : decode cX2_hasTank 0 = .ok (.iload_n 1, 1) := dk_27 (dk_at dksX2_hasTank_0 0 rfl rfl)
theorem dX2_hasTank_1 : decode cX2_hasTank 1 = .ok (.iconst 0, 1) := dk_3 (dk_at dksX2_hasTank_0 1 rfl rfl)
theorem dX2_hasTank_2 : decode cX2_hasTank 2 = .ok (.aload_n 0, 1) := dk_42 (dk_at dksX2_hasTank_0 2 rfl rfl)
theorem dX2_hasTank_3 : decode cX2_hasTank 3 = .ok (.getfield 12, 3) := dk_180 0 12 (dk_at dksX2_hasTank_0 3 rfl rfl)
theorem dX2_hasTank_6 : decode cX2_hasTank 6 = .ok (.invokeinterface 22 1, 5) := by decide +kernel
theorem dX2_hasTank_11 : decode cX2_hasTank 11 = .ok (.iconst 1, 1) := dk_4 (dk_at dksX2_hasTank_0 11 rfl rfl)
theorem dX2_hasTank_12 : decode cX2_hasTank 12 = .ok (.isub, 1) := dk_100 (dk_at dksX2_hasTank_0 12 rfl rfl)
theorem dX2_hasTank_13 : decode cX2_hasTank 13 = .ok (.invokestatic 60, 3) := dk_184 0 60 (dk_at dksX2_hasTank_0 13 rfl rfl)
theorem dX2_hasTank_16 : decode cX2_hasTank 16 = .ok (.ireturn, 1) := dk_172 (dk_at dksX2_hasTank_0 16 rfl rfl)
abbrev cX2_pour : ByteArray := prog_14_method_7_code
def yX2_pour : MethodName := ⟨RX2, "pour", "(III)I"⟩
def dkwX2_pour_4 : List UInt8 := [180, 0, 96, 172]
abbrev dktX2_pour_4 : List UInt8 := dkwX2_pour_4 ++ []
def dkwX2_pour_3 : List UInt8 := [18, 90, 184, 0, 66, 25, 4, 28, 29, 182, 0, 92, 42, 89, 180, 0, 51, 28, 96, 181, 0, 51, 25, 4]
abbrev dktX2_pour_3 : List UInt8 := dkwX2_pour_3 ++ dktX2_pour_4
def dkwX2_pour_2 : List UInt8 := [185, 0, 28, 2, 0, 192, 0, 32, 58, 4, 28, 25, 4, 182, 0, 87, 163, 0, 7, 4, 167, 0, 4, 3]
abbrev dktX2_pour_2 : List UInt8 := dkwX2_pour_2 ++ dktX2_pour_3
def dkwX2_pour_1 : List UInt8 := [184, 0, 81, 153, 0, 7, 4, 167, 0, 4, 3, 18, 64, 184, 0, 66, 42, 180, 0, 12, 27]
abbrev dktX2_pour_1 : List UInt8 := dkwX2_pour_1 ++ dktX2_pour_2
def dkwX2_pour_0 : List UInt8 := [42, 27, 182, 0, 75, 18, 79, 184, 0, 66, 28, 4, 17, 3, 231, 184, 0, 60, 153, 0, 14, 29]
abbrev dktX2_pour_0 : List UInt8 := dkwX2_pour_0 ++ dktX2_pour_1
theorem dksX2_pour_0 : cX2_pour.data.toList.drop 0 = dktX2_pour_0 := by decide +kernel
theorem dksX2_pour_1 : cX2_pour.data.toList.drop 22 = dktX2_pour_1 := dk_seg dksX2_pour_0 22 rfl rfl
theorem dksX2_pour_2 : cX2_pour.data.toList.drop 43 = dktX2_pour_2 := dk_seg dksX2_pour_1 21 rfl rfl
theorem dksX2_pour_3 : cX2_pour.data.toList.drop 67 = dktX2_pour_3 := dk_seg dksX2_pour_2 24 rfl rfl
theorem dksX2_pour_4 : cX2_pour.data.toList.drop 91 = dktX2_pour_4 := dk_seg dksX2_pour_3 24 rfl rfl
theorem dX2_pour_0 : decode cX2_pour 0 = .ok (.aload_n 0, 1) := dk_42 (dk_at dksX2_pour_0 0 rfl rfl)
theorem dX2_pour_1 : decode cX2_pour 1 = .ok (.iload_n 1, 1) := dk_27 (dk_at dksX2_pour_0 1 rfl rfl)
theorem dX2_pour_2 : decode cX2_pour 2 = .ok (.invokevirtual 75, 3) := dk_182 0 75 (dk_at dksX2_pour_0 2 rfl rfl)
theorem dX2_pour_5 : decode cX2_pour 5 = .ok (.ldc 79, 2) := dk_18 79 (dk_at dksX2_pour_0 5 rfl rfl)
theorem dX2_pour_7 : decode cX2_pour 7 = .ok (.invokestatic 66, 3) := dk_184 0 66 (dk_at dksX2_pour_0 7 rfl rfl)
theorem dX2_pour_10 : decode cX2_pour 10 = .ok (.iload_n 2, 1) := dk_28 (dk_at dksX2_pour_0 10 rfl rfl)
theorem dX2_pour_11 : decode cX2_pour 11 = .ok (.iconst 1, 1) := dk_4 (dk_at dksX2_pour_0 11 rfl rfl)
theorem dX2_pour_12 : decode cX2_pour 12 = .ok (.sipush 999, 3) := dk_17 3 231 (dk_at dksX2_pour_0 12 rfl rfl)
theorem dX2_pour_15 : decode cX2_pour 15 = .ok (.invokestatic 60, 3) := dk_184 0 60 (dk_at dksX2_pour_0 15 rfl rfl)
theorem dX2_pour_18 : decode cX2_pour 18 = .ok (.ifCond .eq 14, 3) := dk_153 0 14 (dk_at dksX2_pour_0 18 rfl rfl)
theorem dX2_pour_21 : decode cX2_pour 21 = .ok (.iload_n 3, 1) := dk_29 (dk_at dksX2_pour_0 21 rfl rfl)
theorem dX2_pour_22 : decode cX2_pour 22 = .ok (.invokestatic 81, 3) := dk_184 0 81 (dk_at dksX2_pour_1 0 rfl rfl)
theorem dX2_pour_25 : decode cX2_pour 25 = .ok (.ifCond .eq 7, 3) := dk_153 0 7 (dk_at dksX2_pour_1 3 rfl rfl)
theorem dX2_pour_28 : decode cX2_pour 28 = .ok (.iconst 1, 1) := dk_4 (dk_at dksX2_pour_1 6 rfl rfl)
theorem dX2_pour_29 : decode cX2_pour 29 = .ok (.goto 4, 3) := dk_167 0 4 (dk_at dksX2_pour_1 7 rfl rfl)
theorem dX2_pour_32 : decode cX2_pour 32 = .ok (.iconst 0, 1) := dk_3 (dk_at dksX2_pour_1 10 rfl rfl)
theorem dX2_pour_33 : decode cX2_pour 33 = .ok (.ldc 64, 2) := dk_18 64 (dk_at dksX2_pour_1 11 rfl rfl)
theorem dX2_pour_35 : decode cX2_pour 35 = .ok (.invokestatic 66, 3) := dk_184 0 66 (dk_at dksX2_pour_1 13 rfl rfl)
theorem dX2_pour_38 : decode cX2_pour 38 = .ok (.aload_n 0, 1) := dk_42 (dk_at dksX2_pour_1 16 rfl rfl)
theorem dX2_pour_39 : decode cX2_pour 39 = .ok (.getfield 12, 3) := dk_180 0 12 (dk_at dksX2_pour_1 17 rfl rfl)
theorem dX2_pour_42 : decode cX2_pour 42 = .ok (.iload_n 1, 1) := dk_27 (dk_at dksX2_pour_1 20 rfl rfl)
theorem dX2_pour_43 : decode cX2_pour 43 = .ok (.invokeinterface 28 2, 5) := by decide +kernel
theorem dX2_pour_48 : decode cX2_pour 48 = .ok (.checkcast 32, 3) := dk_192 0 32 (dk_at dksX2_pour_2 5 rfl rfl)
theorem dX2_pour_51 : decode cX2_pour 51 = .ok (.astore 4, 2) := dk_58 4 (dk_at dksX2_pour_2 8 rfl rfl)
theorem dX2_pour_53 : decode cX2_pour 53 = .ok (.iload_n 2, 1) := dk_28 (dk_at dksX2_pour_2 10 rfl rfl)
theorem dX2_pour_54 : decode cX2_pour 54 = .ok (.aload 4, 2) := dk_25 4 (dk_at dksX2_pour_2 11 rfl rfl)
theorem dX2_pour_56 : decode cX2_pour 56 = .ok (.invokevirtual 87, 3) := dk_182 0 87 (dk_at dksX2_pour_2 13 rfl rfl)
theorem dX2_pour_59 : decode cX2_pour 59 = .ok (.if_icmp .gt 7, 3) := dk_163 0 7 (dk_at dksX2_pour_2 16 rfl rfl)
theorem dX2_pour_62 : decode cX2_pour 62 = .ok (.iconst 1, 1) := dk_4 (dk_at dksX2_pour_2 19 rfl rfl)
theorem dX2_pour_63 : decode cX2_pour 63 = .ok (.goto 4, 3) := dk_167 0 4 (dk_at dksX2_pour_2 20 rfl rfl)
theorem dX2_pour_66 : decode cX2_pour 66 = .ok (.iconst 0, 1) := dk_3 (dk_at dksX2_pour_2 23 rfl rfl)
theorem dX2_pour_67 : decode cX2_pour 67 = .ok (.ldc 90, 2) := dk_18 90 (dk_at dksX2_pour_3 0 rfl rfl)
theorem dX2_pour_69 : decode cX2_pour 69 = .ok (.invokestatic 66, 3) := dk_184 0 66 (dk_at dksX2_pour_3 2 rfl rfl)
theorem dX2_pour_72 : decode cX2_pour 72 = .ok (.aload 4, 2) := dk_25 4 (dk_at dksX2_pour_3 5 rfl rfl)
theorem dX2_pour_74 : decode cX2_pour 74 = .ok (.iload_n 2, 1) := dk_28 (dk_at dksX2_pour_3 7 rfl rfl)
theorem dX2_pour_75 : decode cX2_pour 75 = .ok (.iload_n 3, 1) := dk_29 (dk_at dksX2_pour_3 8 rfl rfl)
theorem dX2_pour_76 : decode cX2_pour 76 = .ok (.invokevirtual 92, 3) := dk_182 0 92 (dk_at dksX2_pour_3 9 rfl rfl)
theorem dX2_pour_79 : decode cX2_pour 79 = .ok (.aload_n 0, 1) := dk_42 (dk_at dksX2_pour_3 12 rfl rfl)
theorem dX2_pour_80 : decode cX2_pour 80 = .ok (.dup, 1) := dk_89 (dk_at dksX2_pour_3 13 rfl rfl)
theorem dX2_pour_81 : decode cX2_pour 81 = .ok (.getfield 51, 3) := dk_180 0 51 (dk_at dksX2_pour_3 14 rfl rfl)
theorem dX2_pour_84 : decode cX2_pour 84 = .ok (.iload_n 2, 1) := dk_28 (dk_at dksX2_pour_3 17 rfl rfl)
theorem dX2_pour_85 : decode cX2_pour 85 = .ok (.iadd, 1) := dk_96 (dk_at dksX2_pour_3 18 rfl rfl)
theorem dX2_pour_86 : decode cX2_pour 86 = .ok (.putfield 51, 3) := dk_181 0 51 (dk_at dksX2_pour_3 19 rfl rfl)
theorem dX2_pour_89 : decode cX2_pour 89 = .ok (.aload 4, 2) := dk_25 4 (dk_at dksX2_pour_3 22 rfl rfl)
theorem dX2_pour_91 : decode cX2_pour 91 = .ok (.getfield 96, 3) := dk_180 0 96 (dk_at dksX2_pour_4 0 rfl rfl)
theorem dX2_pour_94 : decode cX2_pour 94 = .ok (.ireturn, 1) := dk_172 (dk_at dksX2_pour_4 3 rfl rfl)
abbrev cX2_draw : ByteArray := prog_14_method_8_code
def yX2_draw : MethodName := ⟨RX2, "draw", "(II)I"⟩
def dkwX2_draw_3 : List UInt8 := [45, 180, 0, 96, 172]
abbrev dktX2_draw_3 : List UInt8 := dkwX2_draw_3 ++ []
def dkwX2_draw_2 : List UInt8 := [167, 0, 4, 3, 18, 90, 184, 0, 66, 45, 28, 182, 0, 99, 42, 89, 180, 0, 54, 28, 96, 181, 0, 54]
abbrev dktX2_draw_2 : List UInt8 := dkwX2_draw_2 ++ dktX2_draw_3
def dkwX2_draw_1 : List UInt8 := [180, 0, 12, 27, 185, 0, 28, 2, 0, 192, 0, 32, 78, 28, 45, 180, 0, 96, 163, 0, 7, 4]
abbrev dktX2_draw_1 : List UInt8 := dkwX2_draw_1 ++ dktX2_draw_2
def dkwX2_draw_0 : List UInt8 := [42, 27, 182, 0, 75, 18, 79, 184, 0, 66, 28, 4, 17, 3, 231, 184, 0, 60, 18, 64, 184, 0, 66, 42]
abbrev dktX2_draw_0 : List UInt8 := dkwX2_draw_0 ++ dktX2_draw_1
theorem dksX2_draw_0 : cX2_draw.data.toList.drop 0 = dktX2_draw_0 := by decide +kernel
theorem dksX2_draw_1 : cX2_draw.data.toList.drop 24 = dktX2_draw_1 := dk_seg dksX2_draw_0 24 rfl rfl
theorem dksX2_draw_2 : cX2_draw.data.toList.drop 46 = dktX2_draw_2 := dk_seg dksX2_draw_1 22 rfl rfl
theorem dksX2_draw_3 : cX2_draw.data.toList.drop 70 = dktX2_draw_3 := dk_seg dksX2_draw_2 24 rfl rfl
theorem dX2_draw_0 : decode cX2_draw 0 = .ok (.aload_n 0, 1) := dk_42 (dk_at dksX2_draw_0 0 rfl rfl)
theorem dX2_draw_1 : decode cX2_draw 1 = .ok (.iload_n 1, 1) := dk_27 (dk_at dksX2_draw_0 1 rfl rfl)
theorem dX2_draw_2 : decode cX2_draw 2 = .ok (.invokevirtual 75, 3) := dk_182 0 75 (dk_at dksX2_draw_0 2 rfl rfl)
theorem dX2_draw_5 : decode cX2_draw 5 = .ok (.ldc 79, 2) := dk_18 79 (dk_at dksX2_draw_0 5 rfl rfl)
theorem dX2_draw_7 : decode cX2_draw 7 = .ok (.invokestatic 66, 3) := dk_184 0 66 (dk_at dksX2_draw_0 7 rfl rfl)
theorem dX2_draw_10 : decode cX2_draw 10 = .ok (.iload_n 2, 1) := dk_28 (dk_at dksX2_draw_0 10 rfl rfl)
theorem dX2_draw_11 : decode cX2_draw 11 = .ok (.iconst 1, 1) := dk_4 (dk_at dksX2_draw_0 11 rfl rfl)
theorem dX2_draw_12 : decode cX2_draw 12 = .ok (.sipush 999, 3) := dk_17 3 231 (dk_at dksX2_draw_0 12 rfl rfl)
theorem dX2_draw_15 : decode cX2_draw 15 = .ok (.invokestatic 60, 3) := dk_184 0 60 (dk_at dksX2_draw_0 15 rfl rfl)
theorem dX2_draw_18 : decode cX2_draw 18 = .ok (.ldc 64, 2) := dk_18 64 (dk_at dksX2_draw_0 18 rfl rfl)
theorem dX2_draw_20 : decode cX2_draw 20 = .ok (.invokestatic 66, 3) := dk_184 0 66 (dk_at dksX2_draw_0 20 rfl rfl)
theorem dX2_draw_23 : decode cX2_draw 23 = .ok (.aload_n 0, 1) := dk_42 (dk_at dksX2_draw_0 23 rfl rfl)
theorem dX2_draw_24 : decode cX2_draw 24 = .ok (.getfield 12, 3) := dk_180 0 12 (dk_at dksX2_draw_1 0 rfl rfl)
theorem dX2_draw_27 : decode cX2_draw 27 = .ok (.iload_n 1, 1) := dk_27 (dk_at dksX2_draw_1 3 rfl rfl)
theorem dX2_draw_28 : decode cX2_draw 28 = .ok (.invokeinterface 28 2, 5) := by decide +kernel
theorem dX2_draw_33 : decode cX2_draw 33 = .ok (.checkcast 32, 3) := dk_192 0 32 (dk_at dksX2_draw_1 9 rfl rfl)
theorem dX2_draw_36 : decode cX2_draw 36 = .ok (.astore_n 3, 1) := dk_78 (dk_at dksX2_draw_1 12 rfl rfl)
theorem dX2_draw_37 : decode cX2_draw 37 = .ok (.iload_n 2, 1) := dk_28 (dk_at dksX2_draw_1 13 rfl rfl)
theorem dX2_draw_38 : decode cX2_draw 38 = .ok (.aload_n 3, 1) := dk_45 (dk_at dksX2_draw_1 14 rfl rfl)
theorem dX2_draw_39 : decode cX2_draw 39 = .ok (.getfield 96, 3) := dk_180 0 96 (dk_at dksX2_draw_1 15 rfl rfl)
theorem dX2_draw_42 : decode cX2_draw 42 = .ok (.if_icmp .gt 7, 3) := dk_163 0 7 (dk_at dksX2_draw_1 18 rfl rfl)
theorem dX2_draw_45 : decode cX2_draw 45 = .ok (.iconst 1, 1) := dk_4 (dk_at dksX2_draw_1 21 rfl rfl)
theorem dX2_draw_46 : decode cX2_draw 46 = .ok (.goto 4, 3) := dk_167 0 4 (dk_at dksX2_draw_2 0 rfl rfl)
theorem dX2_draw_49 : decode cX2_draw 49 = .ok (.iconst 0, 1) := dk_3 (dk_at dksX2_draw_2 3 rfl rfl)
theorem dX2_draw_50 : decode cX2_draw 50 = .ok (.ldc 90, 2) := dk_18 90 (dk_at dksX2_draw_2 4 rfl rfl)
theorem dX2_draw_52 : decode cX2_draw 52 = .ok (.invokestatic 66, 3) := dk_184 0 66 (dk_at dksX2_draw_2 6 rfl rfl)
theorem dX2_draw_55 : decode cX2_draw 55 = .ok (.aload_n 3, 1) := dk_45 (dk_at dksX2_draw_2 9 rfl rfl)
theorem dX2_draw_56 : decode cX2_draw 56 = .ok (.iload_n 2, 1) := dk_28 (dk_at dksX2_draw_2 10 rfl rfl)
theorem dX2_draw_57 : decode cX2_draw 57 = .ok (.invokevirtual 99, 3) := dk_182 0 99 (dk_at dksX2_draw_2 11 rfl rfl)
theorem dX2_draw_60 : decode cX2_draw 60 = .ok (.aload_n 0, 1) := dk_42 (dk_at dksX2_draw_2 14 rfl rfl)
theorem dX2_draw_61 : decode cX2_draw 61 = .ok (.dup, 1) := dk_89 (dk_at dksX2_draw_2 15 rfl rfl)
theorem dX2_draw_62 : decode cX2_draw 62 = .ok (.getfield 54, 3) := dk_180 0 54 (dk_at dksX2_draw_2 16 rfl rfl)
theorem dX2_draw_65 : decode cX2_draw 65 = .ok (.iload_n 2, 1) := dk_28 (dk_at dksX2_draw_2 19 rfl rfl)
theorem dX2_draw_66 : decode cX2_draw 66 = .ok (.iadd, 1) := dk_96 (dk_at dksX2_draw_2 20 rfl rfl)
theorem dX2_draw_67 : decode cX2_draw 67 = .ok (.putfield 54, 3) := dk_181 0 54 (dk_at dksX2_draw_2 21 rfl rfl)
theorem dX2_draw_70 : decode cX2_draw 70 = .ok (.aload_n 3, 1) := dk_45 (dk_at dksX2_draw_3 0 rfl rfl)
theorem dX2_draw_71 : decode cX2_draw 71 = .ok (.getfield 96, 3) := dk_180 0 96 (dk_at dksX2_draw_3 1 rfl rfl)
theorem dX2_draw_74 : decode cX2_draw 74 = .ok (.ireturn, 1) := dk_172 (dk_at dksX2_draw_3 4 rfl rfl)
abbrev cX2_setValve : ByteArray := prog_14_method_9_code
def yX2_setValve : MethodName := ⟨RX2, "setValve", "(II)I"⟩
def dkwX2_setValve_2 : List UInt8 := [185, 0, 28, 2, 0, 192, 0, 42, 28, 181, 0, 105, 29, 172]
abbrev dktX2_setValve_2 : List UInt8 := dkwX2_setValve_2 ++ []
def dkwX2_setValve_1 : List UInt8 := [180, 0, 18, 27, 185, 0, 28, 2, 0, 192, 0, 42, 180, 0, 105, 62, 42, 180, 0, 18, 27]
abbrev dktX2_setValve_1 : List UInt8 := dkwX2_setValve_1 ++ dktX2_setValve_2
def dkwX2_setValve_0 : List UInt8 := [42, 27, 182, 0, 102, 18, 79, 184, 0, 66, 28, 3, 7, 184, 0, 60, 18, 64, 184, 0, 66, 42]
abbrev dktX2_setValve_0 : List UInt8 := dkwX2_setValve_0 ++ dktX2_setValve_1
theorem dksX2_setValve_0 : cX2_setValve.data.toList.drop 0 = dktX2_setValve_0 := by decide +kernel
theorem dksX2_setValve_1 : cX2_setValve.data.toList.drop 22 = dktX2_setValve_1 := dk_seg dksX2_setValve_0 22 rfl rfl
theorem dksX2_setValve_2 : cX2_setValve.data.toList.drop 43 = dktX2_setValve_2 := dk_seg dksX2_setValve_1 21 rfl rfl
theorem dX2_setValve_0 : decode cX2_setValve 0 = .ok (.aload_n 0, 1) := dk_42 (dk_at dksX2_setValve_0 0 rfl rfl)
theorem dX2_setValve_1 : decode cX2_setValve 1 = .ok (.iload_n 1, 1) := dk_27 (dk_at dksX2_setValve_0 1 rfl rfl)
theorem dX2_setValve_2 : decode cX2_setValve 2 = .ok (.invokevirtual 102, 3) := dk_182 0 102 (dk_at dksX2_setValve_0 2 rfl rfl)
theorem dX2_setValve_5 : decode cX2_setValve 5 = .ok (.ldc 79, 2) := dk_18 79 (dk_at dksX2_setValve_0 5 rfl rfl)
theorem dX2_setValve_7 : decode cX2_setValve 7 = .ok (.invokestatic 66, 3) := dk_184 0 66 (dk_at dksX2_setValve_0 7 rfl rfl)
theorem dX2_setValve_10 : decode cX2_setValve 10 = .ok (.iload_n 2, 1) := dk_28 (dk_at dksX2_setValve_0 10 rfl rfl)
theorem dX2_setValve_11 : decode cX2_setValve 11 = .ok (.iconst 0, 1) := dk_3 (dk_at dksX2_setValve_0 11 rfl rfl)
theorem dX2_setValve_12 : decode cX2_setValve 12 = .ok (.iconst 4, 1) := dk_7 (dk_at dksX2_setValve_0 12 rfl rfl)
theorem dX2_setValve_13 : decode cX2_setValve 13 = .ok (.invokestatic 60, 3) := dk_184 0 60 (dk_at dksX2_setValve_0 13 rfl rfl)
theorem dX2_setValve_16 : decode cX2_setValve 16 = .ok (.ldc 64, 2) := dk_18 64 (dk_at dksX2_setValve_0 16 rfl rfl)
theorem dX2_setValve_18 : decode cX2_setValve 18 = .ok (.invokestatic 66, 3) := dk_184 0 66 (dk_at dksX2_setValve_0 18 rfl rfl)
theorem dX2_setValve_21 : decode cX2_setValve 21 = .ok (.aload_n 0, 1) := dk_42 (dk_at dksX2_setValve_0 21 rfl rfl)
theorem dX2_setValve_22 : decode cX2_setValve 22 = .ok (.getfield 18, 3) := dk_180 0 18 (dk_at dksX2_setValve_1 0 rfl rfl)
theorem dX2_setValve_25 : decode cX2_setValve 25 = .ok (.iload_n 1, 1) := dk_27 (dk_at dksX2_setValve_1 3 rfl rfl)
theorem dX2_setValve_26 : decode cX2_setValve 26 = .ok (.invokeinterface 28 2, 5) := by decide +kernel
theorem dX2_setValve_31 : decode cX2_setValve 31 = .ok (.checkcast 42, 3) := dk_192 0 42 (dk_at dksX2_setValve_1 9 rfl rfl)
theorem dX2_setValve_34 : decode cX2_setValve 34 = .ok (.getfield 105, 3) := dk_180 0 105 (dk_at dksX2_setValve_1 12 rfl rfl)
theorem dX2_setValve_37 : decode cX2_setValve 37 = .ok (.istore_n 3, 1) := dk_62 (dk_at dksX2_setValve_1 15 rfl rfl)
theorem dX2_setValve_38 : decode cX2_setValve 38 = .ok (.aload_n 0, 1) := dk_42 (dk_at dksX2_setValve_1 16 rfl rfl)
theorem dX2_setValve_39 : decode cX2_setValve 39 = .ok (.getfield 18, 3) := dk_180 0 18 (dk_at dksX2_setValve_1 17 rfl rfl)
theorem dX2_setValve_42 : decode cX2_setValve 42 = .ok (.iload_n 1, 1) := dk_27 (dk_at dksX2_setValve_1 20 rfl rfl)
theorem dX2_setValve_43 : decode cX2_setValve 43 = .ok (.invokeinterface 28 2, 5) := by decide +kernel
theorem dX2_setValve_48 : decode cX2_setValve 48 = .ok (.checkcast 42, 3) := dk_192 0 42 (dk_at dksX2_setValve_2 5 rfl rfl)
theorem dX2_setValve_51 : decode cX2_setValve 51 = .ok (.iload_n 2, 1) := dk_28 (dk_at dksX2_setValve_2 8 rfl rfl)
theorem dX2_setValve_52 : decode cX2_setValve 52 = .ok (.putfield 105, 3) := dk_181 0 105 (dk_at dksX2_setValve_2 9 rfl rfl)
theorem dX2_setValve_55 : decode cX2_setValve 55 = .ok (.iload_n 3, 1) := dk_29 (dk_at dksX2_setValve_2 12 rfl rfl)
theorem dX2_setValve_56 : decode cX2_setValve 56 = .ok (.ireturn, 1) := dk_172 (dk_at dksX2_setValve_2 13 rfl rfl)
abbrev cX2_hasPipe : ByteArray := prog_14_method_4_code
def yX2_hasPipe : MethodName := ⟨RX2, "hasPipe", "(I)Z"⟩
def dkwX2_hasPipe_0 : List UInt8 := [27, 3, 42, 180, 0, 18, 185, 0, 22, 1, 0, 4, 100, 184, 0, 60, 172]
abbrev dktX2_hasPipe_0 : List UInt8 := dkwX2_hasPipe_0 ++ []
theorem dksX2_hasPipe_0 : cX2_hasPipe.data.toList.drop 0 = dktX2_hasPipe_0 := by decide +kernel
theorem dX2_hasPipe_0 : decode cX2_hasPipe 0 = .ok (.iload_n 1, 1) := dk_27 (dk_at dksX2_hasPipe_0 0 rfl rfl)
theorem dX2_hasPipe_1 : decode cX2_hasPipe 1 = .ok (.iconst 0, 1) := dk_3 (dk_at dksX2_hasPipe_0 1 rfl rfl)
theorem dX2_hasPipe_2 : decode cX2_hasPipe 2 = .ok (.aload_n 0, 1) := dk_42 (dk_at dksX2_hasPipe_0 2 rfl rfl)
theorem dX2_hasPipe_3 : decode cX2_hasPipe 3 = .ok (.getfield 18, 3) := dk_180 0 18 (dk_at dksX2_hasPipe_0 3 rfl rfl)
theorem dX2_hasPipe_6 : decode cX2_hasPipe 6 = .ok (.invokeinterface 22 1, 5) := by decide +kernel
theorem dX2_hasPipe_11 : decode cX2_hasPipe 11 = .ok (.iconst 1, 1) := dk_4 (dk_at dksX2_hasPipe_0 11 rfl rfl)
theorem dX2_hasPipe_12 : decode cX2_hasPipe 12 = .ok (.isub, 1) := dk_100 (dk_at dksX2_hasPipe_0 12 rfl rfl)
theorem dX2_hasPipe_13 : decode cX2_hasPipe 13 = .ok (.invokestatic 60, 3) := dk_184 0 60 (dk_at dksX2_hasPipe_0 13 rfl rfl)
theorem dX2_hasPipe_16 : decode cX2_hasPipe 16 = .ok (.ireturn, 1) := dk_172 (dk_at dksX2_hasPipe_0 16 rfl rfl)
abbrev cX2_setLeak : ByteArray := prog_14_method_10_code
def yX2_setLeak : MethodName := ⟨RX2, "setLeak", "(II)I"⟩
def dkwX2_setLeak_2 : List UInt8 := [185, 0, 28, 2, 0, 192, 0, 42, 28, 181, 0, 108, 29, 172]
abbrev dktX2_setLeak_2 : List UInt8 := dkwX2_setLeak_2 ++ []
def dkwX2_setLeak_1 : List UInt8 := [180, 0, 18, 27, 185, 0, 28, 2, 0, 192, 0, 42, 180, 0, 108, 62, 42, 180, 0, 18, 27]
abbrev dktX2_setLeak_1 : List UInt8 := dkwX2_setLeak_1 ++ dktX2_setLeak_2
def dkwX2_setLeak_0 : List UInt8 := [42, 27, 182, 0, 102, 18, 79, 184, 0, 66, 28, 3, 16, 9, 184, 0, 60, 18, 64, 184, 0, 66, 42]
abbrev dktX2_setLeak_0 : List UInt8 := dkwX2_setLeak_0 ++ dktX2_setLeak_1
theorem dksX2_setLeak_0 : cX2_setLeak.data.toList.drop 0 = dktX2_setLeak_0 := by decide +kernel
theorem dksX2_setLeak_1 : cX2_setLeak.data.toList.drop 23 = dktX2_setLeak_1 := dk_seg dksX2_setLeak_0 23 rfl rfl
theorem dksX2_setLeak_2 : cX2_setLeak.data.toList.drop 44 = dktX2_setLeak_2 := dk_seg dksX2_setLeak_1 21 rfl rfl
theorem dX2_setLeak_0 : decode cX2_setLeak 0 = .ok (.aload_n 0, 1) := dk_42 (dk_at dksX2_setLeak_0 0 rfl rfl)
theorem dX2_setLeak_1 : decode cX2_setLeak 1 = .ok (.iload_n 1, 1) := dk_27 (dk_at dksX2_setLeak_0 1 rfl rfl)
theorem dX2_setLeak_2 : decode cX2_setLeak 2 = .ok (.invokevirtual 102, 3) := dk_182 0 102 (dk_at dksX2_setLeak_0 2 rfl rfl)
theorem dX2_setLeak_5 : decode cX2_setLeak 5 = .ok (.ldc 79, 2) := dk_18 79 (dk_at dksX2_setLeak_0 5 rfl rfl)
theorem dX2_setLeak_7 : decode cX2_setLeak 7 = .ok (.invokestatic 66, 3) := dk_184 0 66 (dk_at dksX2_setLeak_0 7 rfl rfl)
theorem dX2_setLeak_10 : decode cX2_setLeak 10 = .ok (.iload_n 2, 1) := dk_28 (dk_at dksX2_setLeak_0 10 rfl rfl)
theorem dX2_setLeak_11 : decode cX2_setLeak 11 = .ok (.iconst 0, 1) := dk_3 (dk_at dksX2_setLeak_0 11 rfl rfl)
theorem dX2_setLeak_12 : decode cX2_setLeak 12 = .ok (.bipush 9, 2) := dk_16 9 (dk_at dksX2_setLeak_0 12 rfl rfl)
theorem dX2_setLeak_14 : decode cX2_setLeak 14 = .ok (.invokestatic 60, 3) := dk_184 0 60 (dk_at dksX2_setLeak_0 14 rfl rfl)
theorem dX2_setLeak_17 : decode cX2_setLeak 17 = .ok (.ldc 64, 2) := dk_18 64 (dk_at dksX2_setLeak_0 17 rfl rfl)
theorem dX2_setLeak_19 : decode cX2_setLeak 19 = .ok (.invokestatic 66, 3) := dk_184 0 66 (dk_at dksX2_setLeak_0 19 rfl rfl)
theorem dX2_setLeak_22 : decode cX2_setLeak 22 = .ok (.aload_n 0, 1) := dk_42 (dk_at dksX2_setLeak_0 22 rfl rfl)
theorem dX2_setLeak_23 : decode cX2_setLeak 23 = .ok (.getfield 18, 3) := dk_180 0 18 (dk_at dksX2_setLeak_1 0 rfl rfl)
theorem dX2_setLeak_26 : decode cX2_setLeak 26 = .ok (.iload_n 1, 1) := dk_27 (dk_at dksX2_setLeak_1 3 rfl rfl)
theorem dX2_setLeak_27 : decode cX2_setLeak 27 = .ok (.invokeinterface 28 2, 5) := by decide +kernel
theorem dX2_setLeak_32 : decode cX2_setLeak 32 = .ok (.checkcast 42, 3) := dk_192 0 42 (dk_at dksX2_setLeak_1 9 rfl rfl)
theorem dX2_setLeak_35 : decode cX2_setLeak 35 = .ok (.getfield 108, 3) := dk_180 0 108 (dk_at dksX2_setLeak_1 12 rfl rfl)
theorem dX2_setLeak_38 : decode cX2_setLeak 38 = .ok (.istore_n 3, 1) := dk_62 (dk_at dksX2_setLeak_1 15 rfl rfl)
theorem dX2_setLeak_39 : decode cX2_setLeak 39 = .ok (.aload_n 0, 1) := dk_42 (dk_at dksX2_setLeak_1 16 rfl rfl)
theorem dX2_setLeak_40 : decode cX2_setLeak 40 = .ok (.getfield 18, 3) := dk_180 0 18 (dk_at dksX2_setLeak_1 17 rfl rfl)
theorem dX2_setLeak_43 : decode cX2_setLeak 43 = .ok (.iload_n 1, 1) := dk_27 (dk_at dksX2_setLeak_1 20 rfl rfl)
theorem dX2_setLeak_44 : decode cX2_setLeak 44 = .ok (.invokeinterface 28 2, 5) := by decide +kernel
theorem dX2_setLeak_49 : decode cX2_setLeak 49 = .ok (.checkcast 42, 3) := dk_192 0 42 (dk_at dksX2_setLeak_2 5 rfl rfl)
theorem dX2_setLeak_52 : decode cX2_setLeak 52 = .ok (.iload_n 2, 1) := dk_28 (dk_at dksX2_setLeak_2 8 rfl rfl)
theorem dX2_setLeak_53 : decode cX2_setLeak 53 = .ok (.putfield 108, 3) := dk_181 0 108 (dk_at dksX2_setLeak_2 9 rfl rfl)
theorem dX2_setLeak_56 : decode cX2_setLeak 56 = .ok (.iload_n 3, 1) := dk_29 (dk_at dksX2_setLeak_2 12 rfl rfl)
theorem dX2_setLeak_57 : decode cX2_setLeak 57 = .ok (.ireturn, 1) := dk_172 (dk_at dksX2_setLeak_2 13 rfl rfl)
abbrev cX2_cleanFilter : ByteArray := prog_14_method_11_code
def yX2_cleanFilter : MethodName := ⟨RX2, "cleanFilter", "(I)I"⟩
def dkwX2_cleanFilter_1 : List UInt8 := [180, 0, 111, 61, 42, 180, 0, 18, 27, 185, 0, 28, 2, 0, 192, 0, 42, 3, 181, 0, 111, 28, 172]
abbrev dktX2_cleanFilter_1 : List UInt8 := dkwX2_cleanFilter_1 ++ []
def dkwX2_cleanFilter_0 : List UInt8 := [42, 27, 182, 0, 102, 18, 79, 184, 0, 66, 42, 180, 0, 18, 27, 185, 0, 28, 2, 0, 192, 0, 42]
abbrev dktX2_cleanFilter_0 : List UInt8 := dkwX2_cleanFilter_0 ++ dktX2_cleanFilter_1
theorem dksX2_cleanFilter_0 : cX2_cleanFilter.data.toList.drop 0 = dktX2_cleanFilter_0 := by decide +kernel
theorem dksX2_cleanFilter_1 : cX2_cleanFilter.data.toList.drop 23 = dktX2_cleanFilter_1 := dk_seg dksX2_cleanFilter_0 23 rfl rfl
theorem dX2_cleanFilter_0 : decode cX2_cleanFilter 0 = .ok (.aload_n 0, 1) := dk_42 (dk_at dksX2_cleanFilter_0 0 rfl rfl)
theorem dX2_cleanFilter_1 : decode cX2_cleanFilter 1 = .ok (.iload_n 1, 1) := dk_27 (dk_at dksX2_cleanFilter_0 1 rfl rfl)
theorem dX2_cleanFilter_2 : decode cX2_cleanFilter 2 = .ok (.invokevirtual 102, 3) := dk_182 0 102 (dk_at dksX2_cleanFilter_0 2 rfl rfl)
theorem dX2_cleanFilter_5 : decode cX2_cleanFilter 5 = .ok (.ldc 79, 2) := dk_18 79 (dk_at dksX2_cleanFilter_0 5 rfl rfl)
theorem dX2_cleanFilter_7 : decode cX2_cleanFilter 7 = .ok (.invokestatic 66, 3) := dk_184 0 66 (dk_at dksX2_cleanFilter_0 7 rfl rfl)
theorem dX2_cleanFilter_10 : decode cX2_cleanFilter 10 = .ok (.aload_n 0, 1) := dk_42 (dk_at dksX2_cleanFilter_0 10 rfl rfl)
theorem dX2_cleanFilter_11 : decode cX2_cleanFilter 11 = .ok (.getfield 18, 3) := dk_180 0 18 (dk_at dksX2_cleanFilter_0 11 rfl rfl)
theorem dX2_cleanFilter_14 : decode cX2_cleanFilter 14 = .ok (.iload_n 1, 1) := dk_27 (dk_at dksX2_cleanFilter_0 14 rfl rfl)
theorem dX2_cleanFilter_15 : decode cX2_cleanFilter 15 = .ok (.invokeinterface 28 2, 5) := by decide +kernel
theorem dX2_cleanFilter_20 : decode cX2_cleanFilter 20 = .ok (.checkcast 42, 3) := dk_192 0 42 (dk_at dksX2_cleanFilter_0 20 rfl rfl)
theorem dX2_cleanFilter_23 : decode cX2_cleanFilter 23 = .ok (.getfield 111, 3) := dk_180 0 111 (dk_at dksX2_cleanFilter_1 0 rfl rfl)
theorem dX2_cleanFilter_26 : decode cX2_cleanFilter 26 = .ok (.istore_n 2, 1) := dk_61 (dk_at dksX2_cleanFilter_1 3 rfl rfl)
theorem dX2_cleanFilter_27 : decode cX2_cleanFilter 27 = .ok (.aload_n 0, 1) := dk_42 (dk_at dksX2_cleanFilter_1 4 rfl rfl)
theorem dX2_cleanFilter_28 : decode cX2_cleanFilter 28 = .ok (.getfield 18, 3) := dk_180 0 18 (dk_at dksX2_cleanFilter_1 5 rfl rfl)
theorem dX2_cleanFilter_31 : decode cX2_cleanFilter 31 = .ok (.iload_n 1, 1) := dk_27 (dk_at dksX2_cleanFilter_1 8 rfl rfl)
theorem dX2_cleanFilter_32 : decode cX2_cleanFilter 32 = .ok (.invokeinterface 28 2, 5) := by decide +kernel
theorem dX2_cleanFilter_37 : decode cX2_cleanFilter 37 = .ok (.checkcast 42, 3) := dk_192 0 42 (dk_at dksX2_cleanFilter_1 14 rfl rfl)
theorem dX2_cleanFilter_40 : decode cX2_cleanFilter 40 = .ok (.iconst 0, 1) := dk_3 (dk_at dksX2_cleanFilter_1 17 rfl rfl)
theorem dX2_cleanFilter_41 : decode cX2_cleanFilter 41 = .ok (.putfield 111, 3) := dk_181 0 111 (dk_at dksX2_cleanFilter_1 18 rfl rfl)
theorem dX2_cleanFilter_44 : decode cX2_cleanFilter 44 = .ok (.iload_n 2, 1) := dk_28 (dk_at dksX2_cleanFilter_1 21 rfl rfl)
theorem dX2_cleanFilter_45 : decode cX2_cleanFilter 45 = .ok (.ireturn, 1) := dk_172 (dk_at dksX2_cleanFilter_1 22 rfl rfl)
abbrev cX2_advance : ByteArray := prog_14_method_12_code
def yX2_advance : MethodName := ⟨RX2, "advance", "(I)I"⟩
def dkwX2_advance_1 : List UInt8 := [42, 182, 0, 114, 132, 3, 1, 167, 255, 244, 42, 180, 0, 57, 28, 100, 172]
abbrev dktX2_advance_1 : List UInt8 := dkwX2_advance_1 ++ []
def dkwX2_advance_0 : List UInt8 := [27, 4, 16, 60, 184, 0, 60, 18, 64, 184, 0, 66, 42, 180, 0, 57, 61, 3, 62, 29, 27, 162, 0, 13]
abbrev dktX2_advance_0 : List UInt8 := dkwX2_advance_0 ++ dktX2_advance_1
theorem dksX2_advance_0 : cX2_advance.data.toList.drop 0 = dktX2_advance_0 := by decide +kernel
theorem dksX2_advance_1 : cX2_advance.data.toList.drop 24 = dktX2_advance_1 := dk_seg dksX2_advance_0 24 rfl rfl
theorem dX2_advance_0 : decode cX2_advance 0 = .ok (.iload_n 1, 1) := dk_27 (dk_at dksX2_advance_0 0 rfl rfl)
theorem dX2_advance_1 : decode cX2_advance 1 = .ok (.iconst 1, 1) := dk_4 (dk_at dksX2_advance_0 1 rfl rfl)
theorem dX2_advance_2 : decode cX2_advance 2 = .ok (.bipush 60, 2) := dk_16 60 (dk_at dksX2_advance_0 2 rfl rfl)
theorem dX2_advance_4 : decode cX2_advance 4 = .ok (.invokestatic 60, 3) := dk_184 0 60 (dk_at dksX2_advance_0 4 rfl rfl)
theorem dX2_advance_7 : decode cX2_advance 7 = .ok (.ldc 64, 2) := dk_18 64 (dk_at dksX2_advance_0 7 rfl rfl)
theorem dX2_advance_9 : decode cX2_advance 9 = .ok (.invokestatic 66, 3) := dk_184 0 66 (dk_at dksX2_advance_0 9 rfl rfl)
theorem dX2_advance_12 : decode cX2_advance 12 = .ok (.aload_n 0, 1) := dk_42 (dk_at dksX2_advance_0 12 rfl rfl)
theorem dX2_advance_13 : decode cX2_advance 13 = .ok (.getfield 57, 3) := dk_180 0 57 (dk_at dksX2_advance_0 13 rfl rfl)
theorem dX2_advance_16 : decode cX2_advance 16 = .ok (.istore_n 2, 1) := dk_61 (dk_at dksX2_advance_0 16 rfl rfl)
theorem dX2_advance_17 : decode cX2_advance 17 = .ok (.iconst 0, 1) := dk_3 (dk_at dksX2_advance_0 17 rfl rfl)
theorem dX2_advance_18 : decode cX2_advance 18 = .ok (.istore_n 3, 1) := dk_62 (dk_at dksX2_advance_0 18 rfl rfl)
theorem dX2_advance_19 : decode cX2_advance 19 = .ok (.iload_n 3, 1) := dk_29 (dk_at dksX2_advance_0 19 rfl rfl)
theorem dX2_advance_20 : decode cX2_advance 20 = .ok (.iload_n 1, 1) := dk_27 (dk_at dksX2_advance_0 20 rfl rfl)
theorem dX2_advance_21 : decode cX2_advance 21 = .ok (.if_icmp .ge 13, 3) := dk_162 0 13 (dk_at dksX2_advance_0 21 rfl rfl)
theorem dX2_advance_24 : decode cX2_advance 24 = .ok (.aload_n 0, 1) := dk_42 (dk_at dksX2_advance_1 0 rfl rfl)
theorem dX2_advance_25 : decode cX2_advance 25 = .ok (.invokevirtual 114, 3) := dk_182 0 114 (dk_at dksX2_advance_1 1 rfl rfl)
theorem dX2_advance_28 : decode cX2_advance 28 = .ok (.iinc 3 1, 3) := dk_132 3 1 (dk_at dksX2_advance_1 4 rfl rfl)
theorem dX2_advance_31 : decode cX2_advance 31 = .ok (.goto (-12), 3) := dk_167 255 244 (dk_at dksX2_advance_1 7 rfl rfl)
theorem dX2_advance_34 : decode cX2_advance 34 = .ok (.aload_n 0, 1) := dk_42 (dk_at dksX2_advance_1 10 rfl rfl)
theorem dX2_advance_35 : decode cX2_advance 35 = .ok (.getfield 57, 3) := dk_180 0 57 (dk_at dksX2_advance_1 11 rfl rfl)
theorem dX2_advance_38 : decode cX2_advance 38 = .ok (.iload_n 2, 1) := dk_28 (dk_at dksX2_advance_1 14 rfl rfl)
theorem dX2_advance_39 : decode cX2_advance 39 = .ok (.isub, 1) := dk_100 (dk_at dksX2_advance_1 15 rfl rfl)
theorem dX2_advance_40 : decode cX2_advance 40 = .ok (.ireturn, 1) := dk_172 (dk_at dksX2_advance_1 16 rfl rfl)
abbrev cX2_passMinute : ByteArray := prog_14_method_17_code
def yX2_passMinute : MethodName := ⟨RX2, "passMinute", "()V"⟩
def dkwX2_passMinute_3 : List UInt8 := [167, 255, 200, 177]
abbrev dktX2_passMinute_3 : List UInt8 := dkwX2_passMinute_3 ++ []
def dkwX2_passMinute_2 : List UInt8 := [158, 0, 21, 42, 42, 180, 0, 18, 27, 185, 0, 28, 2, 0, 192, 0, 42, 28, 182, 0, 172, 132, 1, 1]
abbrev dktX2_passMinute_2 : List UInt8 := dkwX2_passMinute_2 ++ dktX2_passMinute_3
def dkwX2_passMinute_1 : List UInt8 := [162, 0, 49, 42, 42, 180, 0, 18, 27, 185, 0, 28, 2, 0, 192, 0, 42, 182, 0, 154, 61, 28]
abbrev dktX2_passMinute_1 : List UInt8 := dkwX2_passMinute_1 ++ dktX2_passMinute_2
def dkwX2_passMinute_0 : List UInt8 := [42, 89, 180, 0, 47, 4, 96, 181, 0, 47, 3, 60, 27, 42, 180, 0, 18, 185, 0, 22, 1, 0]
abbrev dktX2_passMinute_0 : List UInt8 := dkwX2_passMinute_0 ++ dktX2_passMinute_1
theorem dksX2_passMinute_0 : cX2_passMinute.data.toList.drop 0 = dktX2_passMinute_0 := by decide +kernel
theorem dksX2_passMinute_1 : cX2_passMinute.data.toList.drop 22 = dktX2_passMinute_1 := dk_seg dksX2_passMinute_0 22 rfl rfl
theorem dksX2_passMinute_2 : cX2_passMinute.data.toList.drop 44 = dktX2_passMinute_2 := dk_seg dksX2_passMinute_1 22 rfl rfl
theorem dksX2_passMinute_3 : cX2_passMinute.data.toList.drop 68 = dktX2_passMinute_3 := dk_seg dksX2_passMinute_2 24 rfl rfl
theorem dX2_passMinute_0 : decode cX2_passMinute 0 = .ok (.aload_n 0, 1) := dk_42 (dk_at dksX2_passMinute_0 0 rfl rfl)
theorem dX2_passMinute_1 : decode cX2_passMinute 1 = .ok (.dup, 1) := dk_89 (dk_at dksX2_passMinute_0 1 rfl rfl)
theorem dX2_passMinute_2 : decode cX2_passMinute 2 = .ok (.getfield 47, 3) := dk_180 0 47 (dk_at dksX2_passMinute_0 2 rfl rfl)
theorem dX2_passMinute_5 : decode cX2_passMinute 5 = .ok (.iconst 1, 1) := dk_4 (dk_at dksX2_passMinute_0 5 rfl rfl)
theorem dX2_passMinute_6 : decode cX2_passMinute 6 = .ok (.iadd, 1) := dk_96 (dk_at dksX2_passMinute_0 6 rfl rfl)
theorem dX2_passMinute_7 : decode cX2_passMinute 7 = .ok (.putfield 47, 3) := dk_181 0 47 (dk_at dksX2_passMinute_0 7 rfl rfl)
theorem dX2_passMinute_10 : decode cX2_passMinute 10 = .ok (.iconst 0, 1) := dk_3 (dk_at dksX2_passMinute_0 10 rfl rfl)
theorem dX2_passMinute_11 : decode cX2_passMinute 11 = .ok (.istore_n 1, 1) := dk_60 (dk_at dksX2_passMinute_0 11 rfl rfl)
theorem dX2_passMinute_12 : decode cX2_passMinute 12 = .ok (.iload_n 1, 1) := dk_27 (dk_at dksX2_passMinute_0 12 rfl rfl)
theorem dX2_passMinute_13 : decode cX2_passMinute 13 = .ok (.aload_n 0, 1) := dk_42 (dk_at dksX2_passMinute_0 13 rfl rfl)
theorem dX2_passMinute_14 : decode cX2_passMinute 14 = .ok (.getfield 18, 3) := dk_180 0 18 (dk_at dksX2_passMinute_0 14 rfl rfl)
theorem dX2_passMinute_17 : decode cX2_passMinute 17 = .ok (.invokeinterface 22 1, 5) := by decide +kernel
theorem dX2_passMinute_22 : decode cX2_passMinute 22 = .ok (.if_icmp .ge 49, 3) := dk_162 0 49 (dk_at dksX2_passMinute_1 0 rfl rfl)
theorem dX2_passMinute_25 : decode cX2_passMinute 25 = .ok (.aload_n 0, 1) := dk_42 (dk_at dksX2_passMinute_1 3 rfl rfl)
theorem dX2_passMinute_26 : decode cX2_passMinute 26 = .ok (.aload_n 0, 1) := dk_42 (dk_at dksX2_passMinute_1 4 rfl rfl)
theorem dX2_passMinute_27 : decode cX2_passMinute 27 = .ok (.getfield 18, 3) := dk_180 0 18 (dk_at dksX2_passMinute_1 5 rfl rfl)
theorem dX2_passMinute_30 : decode cX2_passMinute 30 = .ok (.iload_n 1, 1) := dk_27 (dk_at dksX2_passMinute_1 8 rfl rfl)
theorem dX2_passMinute_31 : decode cX2_passMinute 31 = .ok (.invokeinterface 28 2, 5) := by decide +kernel
theorem dX2_passMinute_36 : decode cX2_passMinute 36 = .ok (.checkcast 42, 3) := dk_192 0 42 (dk_at dksX2_passMinute_1 14 rfl rfl)
theorem dX2_passMinute_39 : decode cX2_passMinute 39 = .ok (.invokevirtual 154, 3) := dk_182 0 154 (dk_at dksX2_passMinute_1 17 rfl rfl)
theorem dX2_passMinute_42 : decode cX2_passMinute 42 = .ok (.istore_n 2, 1) := dk_61 (dk_at dksX2_passMinute_1 20 rfl rfl)
theorem dX2_passMinute_43 : decode cX2_passMinute 43 = .ok (.iload_n 2, 1) := dk_28 (dk_at dksX2_passMinute_1 21 rfl rfl)
theorem dX2_passMinute_44 : decode cX2_passMinute 44 = .ok (.ifCond .le 21, 3) := dk_158 0 21 (dk_at dksX2_passMinute_2 0 rfl rfl)
theorem dX2_passMinute_47 : decode cX2_passMinute 47 = .ok (.aload_n 0, 1) := dk_42 (dk_at dksX2_passMinute_2 3 rfl rfl)
theorem dX2_passMinute_48 : decode cX2_passMinute 48 = .ok (.aload_n 0, 1) := dk_42 (dk_at dksX2_passMinute_2 4 rfl rfl)
theorem dX2_passMinute_49 : decode cX2_passMinute 49 = .ok (.getfield 18, 3) := dk_180 0 18 (dk_at dksX2_passMinute_2 5 rfl rfl)
theorem dX2_passMinute_52 : decode cX2_passMinute 52 = .ok (.iload_n 1, 1) := dk_27 (dk_at dksX2_passMinute_2 8 rfl rfl)
theorem dX2_passMinute_53 : decode cX2_passMinute 53 = .ok (.invokeinterface 28 2, 5) := by decide +kernel
theorem dX2_passMinute_58 : decode cX2_passMinute 58 = .ok (.checkcast 42, 3) := dk_192 0 42 (dk_at dksX2_passMinute_2 14 rfl rfl)
theorem dX2_passMinute_61 : decode cX2_passMinute 61 = .ok (.iload_n 2, 1) := dk_28 (dk_at dksX2_passMinute_2 17 rfl rfl)
theorem dX2_passMinute_62 : decode cX2_passMinute 62 = .ok (.invokevirtual 172, 3) := dk_182 0 172 (dk_at dksX2_passMinute_2 18 rfl rfl)
theorem dX2_passMinute_65 : decode cX2_passMinute 65 = .ok (.iinc 1 1, 3) := dk_132 1 1 (dk_at dksX2_passMinute_2 21 rfl rfl)
theorem dX2_passMinute_68 : decode cX2_passMinute 68 = .ok (.goto (-56), 3) := dk_167 255 200 (dk_at dksX2_passMinute_3 0 rfl rfl)
theorem dX2_passMinute_71 : decode cX2_passMinute 71 = .ok (.return_, 1) := dk_177 (dk_at dksX2_passMinute_3 3 rfl rfl)
abbrev cX2_litres : ByteArray := prog_14_method_14_code
def yX2_litres : MethodName := ⟨RX2, "litres", "(LFilterWaterworks$Pipe;)I"⟩
def dkwX2_litres_3 : List UInt8 := [21, 5, 25, 4, 182, 0, 87, 184, 0, 148, 184, 0, 148, 167, 0, 4, 3, 172]
abbrev dktX2_litres_3 : List UInt8 := dkwX2_litres_3 ++ []
def dkwX2_litres_2 : List UInt8 := [25, 4, 180, 0, 96, 100, 5, 108, 54, 5, 43, 182, 0, 144, 153, 0, 25, 8, 43, 180, 0, 105, 104]
abbrev dktX2_litres_2 : List UInt8 := dkwX2_litres_2 ++ dktX2_litres_3
def dkwX2_litres_1 : List UInt8 := [42, 180, 0, 12, 43, 28, 182, 0, 140, 185, 0, 28, 2, 0, 192, 0, 32, 58, 4, 45, 180, 0, 96]
abbrev dktX2_litres_1 : List UInt8 := dkwX2_litres_1 ++ dktX2_litres_2
def dkwX2_litres_0 : List UInt8 := [42, 43, 182, 0, 132, 43, 182, 0, 136, 61, 42, 180, 0, 12, 28, 185, 0, 28, 2, 0, 192, 0, 32, 78]
abbrev dktX2_litres_0 : List UInt8 := dkwX2_litres_0 ++ dktX2_litres_1
theorem dksX2_litres_0 : cX2_litres.data.toList.drop 0 = dktX2_litres_0 := by decide +kernel
theorem dksX2_litres_1 : cX2_litres.data.toList.drop 24 = dktX2_litres_1 := dk_seg dksX2_litres_0 24 rfl rfl
theorem dksX2_litres_2 : cX2_litres.data.toList.drop 47 = dktX2_litres_2 := dk_seg dksX2_litres_1 23 rfl rfl
theorem dksX2_litres_3 : cX2_litres.data.toList.drop 70 = dktX2_litres_3 := dk_seg dksX2_litres_2 23 rfl rfl
theorem dX2_litres_0 : decode cX2_litres 0 = .ok (.aload_n 0, 1) := dk_42 (dk_at dksX2_litres_0 0 rfl rfl)
theorem dX2_litres_1 : decode cX2_litres 1 = .ok (.aload_n 1, 1) := dk_43 (dk_at dksX2_litres_0 1 rfl rfl)
theorem dX2_litres_2 : decode cX2_litres 2 = .ok (.invokevirtual 132, 3) := dk_182 0 132 (dk_at dksX2_litres_0 2 rfl rfl)
theorem dX2_litres_5 : decode cX2_litres 5 = .ok (.aload_n 1, 1) := dk_43 (dk_at dksX2_litres_0 5 rfl rfl)
theorem dX2_litres_6 : decode cX2_litres 6 = .ok (.invokevirtual 136, 3) := dk_182 0 136 (dk_at dksX2_litres_0 6 rfl rfl)
theorem dX2_litres_9 : decode cX2_litres 9 = .ok (.istore_n 2, 1) := dk_61 (dk_at dksX2_litres_0 9 rfl rfl)
theorem dX2_litres_10 : decode cX2_litres 10 = .ok (.aload_n 0, 1) := dk_42 (dk_at dksX2_litres_0 10 rfl rfl)
theorem dX2_litres_11 : decode cX2_litres 11 = .ok (.getfield 12, 3) := dk_180 0 12 (dk_at dksX2_litres_0 11 rfl rfl)
theorem dX2_litres_14 : decode cX2_litres 14 = .ok (.iload_n 2, 1) := dk_28 (dk_at dksX2_litres_0 14 rfl rfl)
theorem dX2_litres_15 : decode cX2_litres 15 = .ok (.invokeinterface 28 2, 5) := by decide +kernel
theorem dX2_litres_20 : decode cX2_litres 20 = .ok (.checkcast 32, 3) := dk_192 0 32 (dk_at dksX2_litres_0 20 rfl rfl)
theorem dX2_litres_23 : decode cX2_litres 23 = .ok (.astore_n 3, 1) := dk_78 (dk_at dksX2_litres_0 23 rfl rfl)
theorem dX2_litres_24 : decode cX2_litres 24 = .ok (.aload_n 0, 1) := dk_42 (dk_at dksX2_litres_1 0 rfl rfl)
theorem dX2_litres_25 : decode cX2_litres 25 = .ok (.getfield 12, 3) := dk_180 0 12 (dk_at dksX2_litres_1 1 rfl rfl)
theorem dX2_litres_28 : decode cX2_litres 28 = .ok (.aload_n 1, 1) := dk_43 (dk_at dksX2_litres_1 4 rfl rfl)
theorem dX2_litres_29 : decode cX2_litres 29 = .ok (.iload_n 2, 1) := dk_28 (dk_at dksX2_litres_1 5 rfl rfl)
theorem dX2_litres_30 : decode cX2_litres 30 = .ok (.invokevirtual 140, 3) := dk_182 0 140 (dk_at dksX2_litres_1 6 rfl rfl)
theorem dX2_litres_33 : decode cX2_litres 33 = .ok (.invokeinterface 28 2, 5) := by decide +kernel
theorem dX2_litres_38 : decode cX2_litres 38 = .ok (.checkcast 32, 3) := dk_192 0 32 (dk_at dksX2_litres_1 14 rfl rfl)
theorem dX2_litres_41 : decode cX2_litres 41 = .ok (.astore 4, 2) := dk_58 4 (dk_at dksX2_litres_1 17 rfl rfl)
theorem dX2_litres_43 : decode cX2_litres 43 = .ok (.aload_n 3, 1) := dk_45 (dk_at dksX2_litres_1 19 rfl rfl)
theorem dX2_litres_44 : decode cX2_litres 44 = .ok (.getfield 96, 3) := dk_180 0 96 (dk_at dksX2_litres_1 20 rfl rfl)
theorem dX2_litres_47 : decode cX2_litres 47 = .ok (.aload 4, 2) := dk_25 4 (dk_at dksX2_litres_2 0 rfl rfl)
theorem dX2_litres_49 : decode cX2_litres 49 = .ok (.getfield 96, 3) := dk_180 0 96 (dk_at dksX2_litres_2 2 rfl rfl)
theorem dX2_litres_52 : decode cX2_litres 52 = .ok (.isub, 1) := dk_100 (dk_at dksX2_litres_2 5 rfl rfl)
theorem dX2_litres_53 : decode cX2_litres 53 = .ok (.iconst 2, 1) := dk_5 (dk_at dksX2_litres_2 6 rfl rfl)
theorem dX2_litres_54 : decode cX2_litres 54 = .ok (.idiv, 1) := dk_108 (dk_at dksX2_litres_2 7 rfl rfl)
theorem dX2_litres_55 : decode cX2_litres 55 = .ok (.istore 5, 2) := dk_54 5 (dk_at dksX2_litres_2 8 rfl rfl)
theorem dX2_litres_57 : decode cX2_litres 57 = .ok (.aload_n 1, 1) := dk_43 (dk_at dksX2_litres_2 10 rfl rfl)
theorem dX2_litres_58 : decode cX2_litres 58 = .ok (.invokevirtual 144, 3) := dk_182 0 144 (dk_at dksX2_litres_2 11 rfl rfl)
theorem dX2_litres_61 : decode cX2_litres 61 = .ok (.ifCond .eq 25, 3) := dk_153 0 25 (dk_at dksX2_litres_2 14 rfl rfl)
theorem dX2_litres_64 : decode cX2_litres 64 = .ok (.iconst 5, 1) := dk_8 (dk_at dksX2_litres_2 17 rfl rfl)
theorem dX2_litres_65 : decode cX2_litres 65 = .ok (.aload_n 1, 1) := dk_43 (dk_at dksX2_litres_2 18 rfl rfl)
theorem dX2_litres_66 : decode cX2_litres 66 = .ok (.getfield 105, 3) := dk_180 0 105 (dk_at dksX2_litres_2 19 rfl rfl)
theorem dX2_litres_69 : decode cX2_litres 69 = .ok (.imul, 1) := dk_104 (dk_at dksX2_litres_2 22 rfl rfl)
theorem dX2_litres_70 : decode cX2_litres 70 = .ok (.iload 5, 2) := dk_21 5 (dk_at dksX2_litres_3 0 rfl rfl)
theorem dX2_litres_72 : decode cX2_litres 72 = .ok (.aload 4, 2) := dk_25 4 (dk_at dksX2_litres_3 2 rfl rfl)
theorem dX2_litres_74 : decode cX2_litres 74 = .ok (.invokevirtual 87, 3) := dk_182 0 87 (dk_at dksX2_litres_3 4 rfl rfl)
theorem dX2_litres_77 : decode cX2_litres 77 = .ok (.invokestatic 148, 3) := dk_184 0 148 (dk_at dksX2_litres_3 7 rfl rfl)
theorem dX2_litres_80 : decode cX2_litres 80 = .ok (.invokestatic 148, 3) := dk_184 0 148 (dk_at dksX2_litres_3 10 rfl rfl)
theorem dX2_litres_83 : decode cX2_litres 83 = .ok (.goto 4, 3) := dk_167 0 4 (dk_at dksX2_litres_3 13 rfl rfl)
theorem dX2_litres_86 : decode cX2_litres 86 = .ok (.iconst 0, 1) := dk_3 (dk_at dksX2_litres_3 16 rfl rfl)
theorem dX2_litres_87 : decode cX2_litres 87 = .ok (.ireturn, 1) := dk_172 (dk_at dksX2_litres_3 17 rfl rfl)
abbrev cX2_direction : ByteArray := prog_14_method_13_code
def yX2_direction : MethodName := ⟨RX2, "direction", "(LFilterWaterworks$Pipe;)LFilterWaterworks$Direction;"⟩
def dkwX2_direction_2 : List UInt8 := [153, 0, 9, 178, 0, 123, 167, 0, 6, 178, 0, 129, 176]
abbrev dktX2_direction_2 : List UInt8 := dkwX2_direction_2 ++ []
def dkwX2_direction_1 : List UInt8 := [180, 0, 120, 185, 0, 28, 2, 0, 192, 0, 32, 180, 0, 96, 164, 0, 7, 4, 167, 0, 4, 3, 61, 28]
abbrev dktX2_direction_1 : List UInt8 := dkwX2_direction_1 ++ dktX2_direction_2
def dkwX2_direction_0 : List UInt8 := [42, 180, 0, 12, 43, 180, 0, 117, 185, 0, 28, 2, 0, 192, 0, 32, 180, 0, 96, 42, 180, 0, 12, 43]
abbrev dktX2_direction_0 : List UInt8 := dkwX2_direction_0 ++ dktX2_direction_1
theorem dksX2_direction_0 : cX2_direction.data.toList.drop 0 = dktX2_direction_0 := by decide +kernel
theorem dksX2_direction_1 : cX2_direction.data.toList.drop 24 = dktX2_direction_1 := dk_seg dksX2_direction_0 24 rfl rfl
theorem dksX2_direction_2 : cX2_direction.data.toList.drop 48 = dktX2_direction_2 := dk_seg dksX2_direction_1 24 rfl rfl
theorem dX2_direction_0 : decode cX2_direction 0 = .ok (.aload_n 0, 1) := dk_42 (dk_at dksX2_direction_0 0 rfl rfl)
theorem dX2_direction_1 : decode cX2_direction 1 = .ok (.getfield 12, 3) := dk_180 0 12 (dk_at dksX2_direction_0 1 rfl rfl)
theorem dX2_direction_4 : decode cX2_direction 4 = .ok (.aload_n 1, 1) := dk_43 (dk_at dksX2_direction_0 4 rfl rfl)
theorem dX2_direction_5 : decode cX2_direction 5 = .ok (.getfield 117, 3) := dk_180 0 117 (dk_at dksX2_direction_0 5 rfl rfl)
theorem dX2_direction_8 : decode cX2_direction 8 = .ok (.invokeinterface 28 2, 5) := by decide +kernel
theorem dX2_direction_13 : decode cX2_direction 13 = .ok (.checkcast 32, 3) := dk_192 0 32 (dk_at dksX2_direction_0 13 rfl rfl)
theorem dX2_direction_16 : decode cX2_direction 16 = .ok (.getfield 96, 3) := dk_180 0 96 (dk_at dksX2_direction_0 16 rfl rfl)
theorem dX2_direction_19 : decode cX2_direction 19 = .ok (.aload_n 0, 1) := dk_42 (dk_at dksX2_direction_0 19 rfl rfl)
theorem dX2_direction_20 : decode cX2_direction 20 = .ok (.getfield 12, 3) := dk_180 0 12 (dk_at dksX2_direction_0 20 rfl rfl)
theorem dX2_direction_23 : decode cX2_direction 23 = .ok (.aload_n 1, 1) := dk_43 (dk_at dksX2_direction_0 23 rfl rfl)
theorem dX2_direction_24 : decode cX2_direction 24 = .ok (.getfield 120, 3) := dk_180 0 120 (dk_at dksX2_direction_1 0 rfl rfl)
theorem dX2_direction_27 : decode cX2_direction 27 = .ok (.invokeinterface 28 2, 5) := by decide +kernel
theorem dX2_direction_32 : decode cX2_direction 32 = .ok (.checkcast 32, 3) := dk_192 0 32 (dk_at dksX2_direction_1 8 rfl rfl)
theorem dX2_direction_35 : decode cX2_direction 35 = .ok (.getfield 96, 3) := dk_180 0 96 (dk_at dksX2_direction_1 11 rfl rfl)
theorem dX2_direction_38 : decode cX2_direction 38 = .ok (.if_icmp .le 7, 3) := dk_164 0 7 (dk_at dksX2_direction_1 14 rfl rfl)
theorem dX2_direction_41 : decode cX2_direction 41 = .ok (.iconst 1, 1) := dk_4 (dk_at dksX2_direction_1 17 rfl rfl)
theorem dX2_direction_42 : decode cX2_direction 42 = .ok (.goto 4, 3) := dk_167 0 4 (dk_at dksX2_direction_1 18 rfl rfl)
theorem dX2_direction_45 : decode cX2_direction 45 = .ok (.iconst 0, 1) := dk_3 (dk_at dksX2_direction_1 21 rfl rfl)
theorem dX2_direction_46 : decode cX2_direction 46 = .ok (.istore_n 2, 1) := dk_61 (dk_at dksX2_direction_1 22 rfl rfl)
theorem dX2_direction_47 : decode cX2_direction 47 = .ok (.iload_n 2, 1) := dk_28 (dk_at dksX2_direction_1 23 rfl rfl)
theorem dX2_direction_48 : decode cX2_direction 48 = .ok (.ifCond .eq 9, 3) := dk_153 0 9 (dk_at dksX2_direction_2 0 rfl rfl)
theorem dX2_direction_51 : decode cX2_direction 51 = .ok (.getstatic 123, 3) := dk_178 0 123 (dk_at dksX2_direction_2 3 rfl rfl)
theorem dX2_direction_54 : decode cX2_direction 54 = .ok (.goto 6, 3) := dk_167 0 6 (dk_at dksX2_direction_2 6 rfl rfl)
theorem dX2_direction_57 : decode cX2_direction 57 = .ok (.getstatic 129, 3) := dk_178 0 129 (dk_at dksX2_direction_2 9 rfl rfl)
theorem dX2_direction_60 : decode cX2_direction 60 = .ok (.areturn, 1) := dk_176 (dk_at dksX2_direction_2 12 rfl rfl)
abbrev cX2_flow : ByteArray := prog_14_method_16_code
def yX2_flow : MethodName := ⟨RX2, "flow", "(LFilterWaterworks$Pipe;I)V"⟩
def dkwX2_flow_4 : List UInt8 := [21, 6, 100, 43, 21, 5, 182, 0, 166, 182, 0, 92, 43, 21, 5, 182, 0, 169, 177]
abbrev dktX2_flow_4 : List UInt8 := dkwX2_flow_4 ++ []
def dkwX2_flow_3 : List UInt8 := [28, 21, 6, 164, 0, 33, 42, 180, 0, 12, 43, 29, 182, 0, 140, 185, 0, 28, 2, 0, 192, 0, 32, 28]
abbrev dktX2_flow_3 : List UInt8 := dkwX2_flow_3 ++ dktX2_flow_4
def dkwX2_flow_2 : List UInt8 := [182, 0, 99, 43, 89, 180, 0, 163, 28, 96, 181, 0, 163, 42, 89, 180, 0, 57, 21, 6, 96, 181, 0, 57]
abbrev dktX2_flow_2 : List UInt8 := dkwX2_flow_2 ++ dktX2_flow_3
def dkwX2_flow_1 : List UInt8 := [58, 4, 25, 4, 180, 0, 160, 54, 5, 28, 43, 180, 0, 108, 184, 0, 148, 54, 6, 25, 4, 28]
abbrev dktX2_flow_1 : List UInt8 := dkwX2_flow_1 ++ dktX2_flow_2
def dkwX2_flow_0 : List UInt8 := [42, 43, 182, 0, 132, 43, 182, 0, 136, 62, 42, 180, 0, 12, 29, 185, 0, 28, 2, 0, 192, 0, 32]
abbrev dktX2_flow_0 : List UInt8 := dkwX2_flow_0 ++ dktX2_flow_1
theorem dksX2_flow_0 : cX2_flow.data.toList.drop 0 = dktX2_flow_0 := by decide +kernel
theorem dksX2_flow_1 : cX2_flow.data.toList.drop 23 = dktX2_flow_1 := dk_seg dksX2_flow_0 23 rfl rfl
theorem dksX2_flow_2 : cX2_flow.data.toList.drop 45 = dktX2_flow_2 := dk_seg dksX2_flow_1 22 rfl rfl
theorem dksX2_flow_3 : cX2_flow.data.toList.drop 69 = dktX2_flow_3 := dk_seg dksX2_flow_2 24 rfl rfl
theorem dksX2_flow_4 : cX2_flow.data.toList.drop 93 = dktX2_flow_4 := dk_seg dksX2_flow_3 24 rfl rfl
theorem dX2_flow_0 : decode cX2_flow 0 = .ok (.aload_n 0, 1) := dk_42 (dk_at dksX2_flow_0 0 rfl rfl)
theorem dX2_flow_1 : decode cX2_flow 1 = .ok (.aload_n 1, 1) := dk_43 (dk_at dksX2_flow_0 1 rfl rfl)
theorem dX2_flow_2 : decode cX2_flow 2 = .ok (.invokevirtual 132, 3) := dk_182 0 132 (dk_at dksX2_flow_0 2 rfl rfl)
theorem dX2_flow_5 : decode cX2_flow 5 = .ok (.aload_n 1, 1) := dk_43 (dk_at dksX2_flow_0 5 rfl rfl)
theorem dX2_flow_6 : decode cX2_flow 6 = .ok (.invokevirtual 136, 3) := dk_182 0 136 (dk_at dksX2_flow_0 6 rfl rfl)
theorem dX2_flow_9 : decode cX2_flow 9 = .ok (.istore_n 3, 1) := dk_62 (dk_at dksX2_flow_0 9 rfl rfl)
theorem dX2_flow_10 : decode cX2_flow 10 = .ok (.aload_n 0, 1) := dk_42 (dk_at dksX2_flow_0 10 rfl rfl)
theorem dX2_flow_11 : decode cX2_flow 11 = .ok (.getfield 12, 3) := dk_180 0 12 (dk_at dksX2_flow_0 11 rfl rfl)
theorem dX2_flow_14 : decode cX2_flow 14 = .ok (.iload_n 3, 1) := dk_29 (dk_at dksX2_flow_0 14 rfl rfl)
theorem dX2_flow_15 : decode cX2_flow 15 = .ok (.invokeinterface 28 2, 5) := by decide +kernel
theorem dX2_flow_20 : decode cX2_flow 20 = .ok (.checkcast 32, 3) := dk_192 0 32 (dk_at dksX2_flow_0 20 rfl rfl)
theorem dX2_flow_23 : decode cX2_flow 23 = .ok (.astore 4, 2) := dk_58 4 (dk_at dksX2_flow_1 0 rfl rfl)
theorem dX2_flow_25 : decode cX2_flow 25 = .ok (.aload 4, 2) := dk_25 4 (dk_at dksX2_flow_1 2 rfl rfl)
theorem dX2_flow_27 : decode cX2_flow 27 = .ok (.getfield 160, 3) := dk_180 0 160 (dk_at dksX2_flow_1 4 rfl rfl)
theorem dX2_flow_30 : decode cX2_flow 30 = .ok (.istore 5, 2) := dk_54 5 (dk_at dksX2_flow_1 7 rfl rfl)
theorem dX2_flow_32 : decode cX2_flow 32 = .ok (.iload_n 2, 1) := dk_28 (dk_at dksX2_flow_1 9 rfl rfl)
theorem dX2_flow_33 : decode cX2_flow 33 = .ok (.aload_n 1, 1) := dk_43 (dk_at dksX2_flow_1 10 rfl rfl)
theorem dX2_flow_34 : decode cX2_flow 34 = .ok (.getfield 108, 3) := dk_180 0 108 (dk_at dksX2_flow_1 11 rfl rfl)
theorem dX2_flow_37 : decode cX2_flow 37 = .ok (.invokestatic 148, 3) := dk_184 0 148 (dk_at dksX2_flow_1 14 rfl rfl)
theorem dX2_flow_40 : decode cX2_flow 40 = .ok (.istore 6, 2) := dk_54 6 (dk_at dksX2_flow_1 17 rfl rfl)
theorem dX2_flow_42 : decode cX2_flow 42 = .ok (.aload 4, 2) := dk_25 4 (dk_at dksX2_flow_1 19 rfl rfl)
theorem dX2_flow_44 : decode cX2_flow 44 = .ok (.iload_n 2, 1) := dk_28 (dk_at dksX2_flow_1 21 rfl rfl)
theorem dX2_flow_45 : decode cX2_flow 45 = .ok (.invokevirtual 99, 3) := dk_182 0 99 (dk_at dksX2_flow_2 0 rfl rfl)
theorem dX2_flow_48 : decode cX2_flow 48 = .ok (.aload_n 1, 1) := dk_43 (dk_at dksX2_flow_2 3 rfl rfl)
theorem dX2_flow_49 : decode cX2_flow 49 = .ok (.dup, 1) := dk_89 (dk_at dksX2_flow_2 4 rfl rfl)
theorem dX2_flow_50 : decode cX2_flow 50 = .ok (.getfield 163, 3) := dk_180 0 163 (dk_at dksX2_flow_2 5 rfl rfl)
theorem dX2_flow_53 : decode cX2_flow 53 = .ok (.iload_n 2, 1) := dk_28 (dk_at dksX2_flow_2 8 rfl rfl)
theorem dX2_flow_54 : decode cX2_flow 54 = .ok (.iadd, 1) := dk_96 (dk_at dksX2_flow_2 9 rfl rfl)
theorem dX2_flow_55 : decode cX2_flow 55 = .ok (.putfield 163, 3) := dk_181 0 163 (dk_at dksX2_flow_2 10 rfl rfl)
theorem dX2_flow_58 : decode cX2_flow 58 = .ok (.aload_n 0, 1) := dk_42 (dk_at dksX2_flow_2 13 rfl rfl)
theorem dX2_flow_59 : decode cX2_flow 59 = .ok (.dup, 1) := dk_89 (dk_at dksX2_flow_2 14 rfl rfl)
theorem dX2_flow_60 : decode cX2_flow 60 = .ok (.getfield 57, 3) := dk_180 0 57 (dk_at dksX2_flow_2 15 rfl rfl)
theorem dX2_flow_63 : decode cX2_flow 63 = .ok (.iload 6, 2) := dk_21 6 (dk_at dksX2_flow_2 18 rfl rfl)
theorem dX2_flow_65 : decode cX2_flow 65 = .ok (.iadd, 1) := dk_96 (dk_at dksX2_flow_2 20 rfl rfl)
theorem dX2_flow_66 : decode cX2_flow 66 = .ok (.putfield 57, 3) := dk_181 0 57 (dk_at dksX2_flow_2 21 rfl rfl)
theorem dX2_flow_69 : decode cX2_flow 69 = .ok (.iload_n 2, 1) := dk_28 (dk_at dksX2_flow_3 0 rfl rfl)
theorem dX2_flow_70 : decode cX2_flow 70 = .ok (.iload 6, 2) := dk_21 6 (dk_at dksX2_flow_3 1 rfl rfl)
theorem dX2_flow_72 : decode cX2_flow 72 = .ok (.if_icmp .le 33, 3) := dk_164 0 33 (dk_at dksX2_flow_3 3 rfl rfl)
theorem dX2_flow_75 : decode cX2_flow 75 = .ok (.aload_n 0, 1) := dk_42 (dk_at dksX2_flow_3 6 rfl rfl)
theorem dX2_flow_76 : decode cX2_flow 76 = .ok (.getfield 12, 3) := dk_180 0 12 (dk_at dksX2_flow_3 7 rfl rfl)
theorem dX2_flow_79 : decode cX2_flow 79 = .ok (.aload_n 1, 1) := dk_43 (dk_at dksX2_flow_3 10 rfl rfl)
theorem dX2_flow_80 : decode cX2_flow 80 = .ok (.iload_n 3, 1) := dk_29 (dk_at dksX2_flow_3 11 rfl rfl)
theorem dX2_flow_81 : decode cX2_flow 81 = .ok (.invokevirtual 140, 3) := dk_182 0 140 (dk_at dksX2_flow_3 12 rfl rfl)
theorem dX2_flow_84 : decode cX2_flow 84 = .ok (.invokeinterface 28 2, 5) := by decide +kernel
theorem dX2_flow_89 : decode cX2_flow 89 = .ok (.checkcast 32, 3) := dk_192 0 32 (dk_at dksX2_flow_3 20 rfl rfl)
theorem dX2_flow_92 : decode cX2_flow 92 = .ok (.iload_n 2, 1) := dk_28 (dk_at dksX2_flow_3 23 rfl rfl)
theorem dX2_flow_93 : decode cX2_flow 93 = .ok (.iload 6, 2) := dk_21 6 (dk_at dksX2_flow_4 0 rfl rfl)
theorem dX2_flow_95 : decode cX2_flow 95 = .ok (.isub, 1) := dk_100 (dk_at dksX2_flow_4 2 rfl rfl)
theorem dX2_flow_96 : decode cX2_flow 96 = .ok (.aload_n 1, 1) := dk_43 (dk_at dksX2_flow_4 3 rfl rfl)
theorem dX2_flow_97 : decode cX2_flow 97 = .ok (.iload 5, 2) := dk_21 5 (dk_at dksX2_flow_4 4 rfl rfl)
theorem dX2_flow_99 : decode cX2_flow 99 = .ok (.invokevirtual 166, 3) := dk_182 0 166 (dk_at dksX2_flow_4 6 rfl rfl)
theorem dX2_flow_102 : decode cX2_flow 102 = .ok (.invokevirtual 92, 3) := dk_182 0 92 (dk_at dksX2_flow_4 9 rfl rfl)
theorem dX2_flow_105 : decode cX2_flow 105 = .ok (.aload_n 1, 1) := dk_43 (dk_at dksX2_flow_4 12 rfl rfl)
theorem dX2_flow_106 : decode cX2_flow 106 = .ok (.iload 5, 2) := dk_21 5 (dk_at dksX2_flow_4 13 rfl rfl)
theorem dX2_flow_108 : decode cX2_flow 108 = .ok (.invokevirtual 169, 3) := dk_182 0 169 (dk_at dksX2_flow_4 15 rfl rfl)
theorem dX2_flow_111 : decode cX2_flow 111 = .ok (.return_, 1) := dk_177 (dk_at dksX2_flow_4 18 rfl rfl)
abbrev cX2_tankAt : ByteArray := prog_14_method_34_code
def yX2_tankAt : MethodName := ⟨RX2, "tankAt", "(I)I"⟩
def dkwX2_tankAt_5 : List UInt8 := [3, 96, 62, 132, 4, 1, 167, 255, 155, 29, 27, 160, 0, 5, 28, 172, 132, 2, 1, 167, 255, 124, 2, 172]
abbrev dktX2_tankAt_5 : List UInt8 := dkwX2_tankAt_5 ++ []
def dkwX2_tankAt_4 : List UInt8 := [192, 0, 32, 182, 0, 250, 154, 0, 14, 21, 5, 153, 0, 13, 21, 4, 28, 162, 0, 7, 4, 167, 0, 4]
abbrev dktX2_tankAt_4 : List UInt8 := dkwX2_tankAt_4 ++ dktX2_tankAt_5
def dkwX2_tankAt_3 : List UInt8 := [180, 0, 12, 21, 4, 185, 0, 28, 2, 0, 192, 0, 32, 42, 180, 0, 12, 28, 185, 0, 28, 2, 0]
abbrev dktX2_tankAt_3 : List UInt8 := dkwX2_tankAt_3 ++ dktX2_tankAt_4
def dkwX2_tankAt_2 : List UInt8 := [192, 0, 32, 42, 180, 0, 12, 28, 185, 0, 28, 2, 0, 192, 0, 32, 182, 0, 246, 54, 5, 29, 42]
abbrev dktX2_tankAt_2 : List UInt8 := dkwX2_tankAt_2 ++ dktX2_tankAt_3
def dkwX2_tankAt_1 : List UInt8 := [180, 0, 12, 185, 0, 22, 1, 0, 162, 0, 93, 42, 180, 0, 12, 21, 4, 185, 0, 28, 2, 0]
abbrev dktX2_tankAt_1 : List UInt8 := dkwX2_tankAt_1 ++ dktX2_tankAt_2
def dkwX2_tankAt_0 : List UInt8 := [3, 61, 28, 42, 180, 0, 12, 185, 0, 22, 1, 0, 162, 0, 125, 3, 62, 3, 54, 4, 21, 4, 42]
abbrev dktX2_tankAt_0 : List UInt8 := dkwX2_tankAt_0 ++ dktX2_tankAt_1
theorem dksX2_tankAt_0 : cX2_tankAt.data.toList.drop 0 = dktX2_tankAt_0 := by decide +kernel
theorem dksX2_tankAt_1 : cX2_tankAt.data.toList.drop 23 = dktX2_tankAt_1 := dk_seg dksX2_tankAt_0 23 rfl rfl
theorem dksX2_tankAt_2 : cX2_tankAt.data.toList.drop 45 = dktX2_tankAt_2 := dk_seg dksX2_tankAt_1 22 rfl rfl
theorem dksX2_tankAt_3 : cX2_tankAt.data.toList.drop 68 = dktX2_tankAt_3 := dk_seg dksX2_tankAt_2 23 rfl rfl
theorem dksX2_tankAt_4 : cX2_tankAt.data.toList.drop 91 = dktX2_tankAt_4 := dk_seg dksX2_tankAt_3 23 rfl rfl
theorem dksX2_tankAt_5 : cX2_tankAt.data.toList.drop 115 = dktX2_tankAt_5 := dk_seg dksX2_tankAt_4 24 rfl rfl
theorem dX2_tankAt_0 : decode cX2_tankAt 0 = .ok (.iconst 0, 1) := dk_3 (dk_at dksX2_tankAt_0 0 rfl rfl)
theorem dX2_tankAt_1 : decode cX2_tankAt 1 = .ok (.istore_n 2, 1) := dk_61 (dk_at dksX2_tankAt_0 1 rfl rfl)
theorem dX2_tankAt_2 : decode cX2_tankAt 2 = .ok (.iload_n 2, 1) := dk_28 (dk_at dksX2_tankAt_0 2 rfl rfl)
theorem dX2_tankAt_3 : decode cX2_tankAt 3 = .ok (.aload_n 0, 1) := dk_42 (dk_at dksX2_tankAt_0 3 rfl rfl)
theorem dX2_tankAt_4 : decode cX2_tankAt 4 = .ok (.getfield 12, 3) := dk_180 0 12 (dk_at dksX2_tankAt_0 4 rfl rfl)
theorem dX2_tankAt_7 : decode cX2_tankAt 7 = .ok (.invokeinterface 22 1, 5) := by decide +kernel
theorem dX2_tankAt_12 : decode cX2_tankAt 12 = .ok (.if_icmp .ge 125, 3) := dk_162 0 125 (dk_at dksX2_tankAt_0 12 rfl rfl)
theorem dX2_tankAt_15 : decode cX2_tankAt 15 = .ok (.iconst 0, 1) := dk_3 (dk_at dksX2_tankAt_0 15 rfl rfl)
theorem dX2_tankAt_16 : decode cX2_tankAt 16 = .ok (.istore_n 3, 1) := dk_62 (dk_at dksX2_tankAt_0 16 rfl rfl)
theorem dX2_tankAt_17 : decode cX2_tankAt 17 = .ok (.iconst 0, 1) := dk_3 (dk_at dksX2_tankAt_0 17 rfl rfl)
theorem dX2_tankAt_18 : decode cX2_tankAt 18 = .ok (.istore 4, 2) := dk_54 4 (dk_at dksX2_tankAt_0 18 rfl rfl)
theorem dX2_tankAt_20 : decode cX2_tankAt 20 = .ok (.iload 4, 2) := dk_21 4 (dk_at dksX2_tankAt_0 20 rfl rfl)
theorem dX2_tankAt_22 : decode cX2_tankAt 22 = .ok (.aload_n 0, 1) := dk_42 (dk_at dksX2_tankAt_0 22 rfl rfl)
theorem dX2_tankAt_23 : decode cX2_tankAt 23 = .ok (.getfield 12, 3) := dk_180 0 12 (dk_at dksX2_tankAt_1 0 rfl rfl)
theorem dX2_tankAt_26 : decode cX2_tankAt 26 = .ok (.invokeinterface 22 1, 5) := by decide +kernel
theorem dX2_tankAt_31 : decode cX2_tankAt 31 = .ok (.if_icmp .ge 93, 3) := dk_162 0 93 (dk_at dksX2_tankAt_1 8 rfl rfl)
theorem dX2_tankAt_34 : decode cX2_tankAt 34 = .ok (.aload_n 0, 1) := dk_42 (dk_at dksX2_tankAt_1 11 rfl rfl)
theorem dX2_tankAt_35 : decode cX2_tankAt 35 = .ok (.getfield 12, 3) := dk_180 0 12 (dk_at dksX2_tankAt_1 12 rfl rfl)
theorem dX2_tankAt_38 : decode cX2_tankAt 38 = .ok (.iload 4, 2) := dk_21 4 (dk_at dksX2_tankAt_1 15 rfl rfl)
theorem dX2_tankAt_40 : decode cX2_tankAt 40 = .ok (.invokeinterface 28 2, 5) := by decide +kernel
theorem dX2_tankAt_45 : decode cX2_tankAt 45 = .ok (.checkcast 32, 3) := dk_192 0 32 (dk_at dksX2_tankAt_2 0 rfl rfl)
theorem dX2_tankAt_48 : decode cX2_tankAt 48 = .ok (.aload_n 0, 1) := dk_42 (dk_at dksX2_tankAt_2 3 rfl rfl)
theorem dX2_tankAt_49 : decode cX2_tankAt 49 = .ok (.getfield 12, 3) := dk_180 0 12 (dk_at dksX2_tankAt_2 4 rfl rfl)
theorem dX2_tankAt_52 : decode cX2_tankAt 52 = .ok (.iload_n 2, 1) := dk_28 (dk_at dksX2_tankAt_2 7 rfl rfl)
theorem dX2_tankAt_53 : decode cX2_tankAt 53 = .ok (.invokeinterface 28 2, 5) := by decide +kernel
theorem dX2_tankAt_58 : decode cX2_tankAt 58 = .ok (.checkcast 32, 3) := dk_192 0 32 (dk_at dksX2_tankAt_2 13 rfl rfl)
theorem dX2_tankAt_61 : decode cX2_tankAt 61 = .ok (.invokevirtual 246, 3) := dk_182 0 246 (dk_at dksX2_tankAt_2 16 rfl rfl)
theorem dX2_tankAt_64 : decode cX2_tankAt 64 = .ok (.istore 5, 2) := dk_54 5 (dk_at dksX2_tankAt_2 19 rfl rfl)
theorem dX2_tankAt_66 : decode cX2_tankAt 66 = .ok (.iload_n 3, 1) := dk_29 (dk_at dksX2_tankAt_2 21 rfl rfl)
theorem dX2_tankAt_67 : decode cX2_tankAt 67 = .ok (.aload_n 0, 1) := dk_42 (dk_at dksX2_tankAt_2 22 rfl rfl)
theorem dX2_tankAt_68 : decode cX2_tankAt 68 = .ok (.getfield 12, 3) := dk_180 0 12 (dk_at dksX2_tankAt_3 0 rfl rfl)
theorem dX2_tankAt_71 : decode cX2_tankAt 71 = .ok (.iload 4, 2) := dk_21 4 (dk_at dksX2_tankAt_3 3 rfl rfl)
theorem dX2_tankAt_73 : decode cX2_tankAt 73 = .ok (.invokeinterface 28 2, 5) := by decide +kernel
theorem dX2_tankAt_78 : decode cX2_tankAt 78 = .ok (.checkcast 32, 3) := dk_192 0 32 (dk_at dksX2_tankAt_3 10 rfl rfl)
theorem dX2_tankAt_81 : decode cX2_tankAt 81 = .ok (.aload_n 0, 1) := dk_42 (dk_at dksX2_tankAt_3 13 rfl rfl)
theorem dX2_tankAt_82 : decode cX2_tankAt 82 = .ok (.getfield 12, 3) := dk_180 0 12 (dk_at dksX2_tankAt_3 14 rfl rfl)
theorem dX2_tankAt_85 : decode cX2_tankAt 85 = .ok (.iload_n 2, 1) := dk_28 (dk_at dksX2_tankAt_3 17 rfl rfl)
theorem dX2_tankAt_86 : decode cX2_tankAt 86 = .ok (.invokeinterface 28 2, 5) := by decide +kernel
theorem dX2_tankAt_91 : decode cX2_tankAt 91 = .ok (.checkcast 32, 3) := dk_192 0 32 (dk_at dksX2_tankAt_4 0 rfl rfl)
theorem dX2_tankAt_94 : decode cX2_tankAt 94 = .ok (.invokevirtual 250, 3) := dk_182 0 250 (dk_at dksX2_tankAt_4 3 rfl rfl)
theorem dX2_tankAt_97 : decode cX2_tankAt 97 = .ok (.ifCond .ne 14, 3) := dk_154 0 14 (dk_at dksX2_tankAt_4 6 rfl rfl)
theorem dX2_tankAt_100 : decode cX2_tankAt 100 = .ok (.iload 5, 2) := dk_21 5 (dk_at dksX2_tankAt_4 9 rfl rfl)
theorem dX2_tankAt_102 : decode cX2_tankAt 102 = .ok (.ifCond .eq 13, 3) := dk_153 0 13 (dk_at dksX2_tankAt_4 11 rfl rfl)
theorem dX2_tankAt_105 : decode cX2_tankAt 105 = .ok (.iload 4, 2) := dk_21 4 (dk_at dksX2_tankAt_4 14 rfl rfl)
theorem dX2_tankAt_107 : decode cX2_tankAt 107 = .ok (.iload_n 2, 1) := dk_28 (dk_at dksX2_tankAt_4 16 rfl rfl)
theorem dX2_tankAt_108 : decode cX2_tankAt 108 = .ok (.if_icmp .ge 7, 3) := dk_162 0 7 (dk_at dksX2_tankAt_4 17 rfl rfl)
theorem dX2_tankAt_111 : decode cX2_tankAt 111 = .ok (.iconst 1, 1) := dk_4 (dk_at dksX2_tankAt_4 20 rfl rfl)
theorem dX2_tankAt_112 : decode cX2_tankAt 112 = .ok (.goto 4, 3) := dk_167 0 4 (dk_at dksX2_tankAt_4 21 rfl rfl)
theorem dX2_tankAt_115 : decode cX2_tankAt 115 = .ok (.iconst 0, 1) := dk_3 (dk_at dksX2_tankAt_5 0 rfl rfl)
theorem dX2_tankAt_116 : decode cX2_tankAt 116 = .ok (.iadd, 1) := dk_96 (dk_at dksX2_tankAt_5 1 rfl rfl)
theorem dX2_tankAt_117 : decode cX2_tankAt 117 = .ok (.istore_n 3, 1) := dk_62 (dk_at dksX2_tankAt_5 2 rfl rfl)
theorem dX2_tankAt_118 : decode cX2_tankAt 118 = .ok (.iinc 4 1, 3) := dk_132 4 1 (dk_at dksX2_tankAt_5 3 rfl rfl)
theorem dX2_tankAt_121 : decode cX2_tankAt 121 = .ok (.goto (-101), 3) := dk_167 255 155 (dk_at dksX2_tankAt_5 6 rfl rfl)
theorem dX2_tankAt_124 : decode cX2_tankAt 124 = .ok (.iload_n 3, 1) := dk_29 (dk_at dksX2_tankAt_5 9 rfl rfl)
theorem dX2_tankAt_125 : decode cX2_tankAt 125 = .ok (.iload_n 1, 1) := dk_27 (dk_at dksX2_tankAt_5 10 rfl rfl)
theorem dX2_tankAt_126 : decode cX2_tankAt 126 = .ok (.if_icmp .ne 5, 3) := dk_160 0 5 (dk_at dksX2_tankAt_5 11 rfl rfl)
theorem dX2_tankAt_129 : decode cX2_tankAt 129 = .ok (.iload_n 2, 1) := dk_28 (dk_at dksX2_tankAt_5 14 rfl rfl)
theorem dX2_tankAt_130 : decode cX2_tankAt 130 = .ok (.ireturn, 1) := dk_172 (dk_at dksX2_tankAt_5 15 rfl rfl)
theorem dX2_tankAt_131 : decode cX2_tankAt 131 = .ok (.iinc 2 1, 3) := dk_132 2 1 (dk_at dksX2_tankAt_5 16 rfl rfl)
theorem dX2_tankAt_134 : decode cX2_tankAt 134 = .ok (.goto (-132), 3) := dk_167 255 124 (dk_at dksX2_tankAt_5 19 rfl rfl)
theorem dX2_tankAt_137 : decode cX2_tankAt 137 = .ok (.iconst (-1), 1) := dk_2 (dk_at dksX2_tankAt_5 22 rfl rfl)
theorem dX2_tankAt_138 : decode cX2_tankAt 138 = .ok (.ireturn, 1) := dk_172 (dk_at dksX2_tankAt_5 23 rfl rfl)
abbrev cX2_signedLitres : ByteArray := prog_14_method_15_code
def yX2_signedLitres : MethodName := ⟨RX2, "signedLitres", "(LFilterWaterworks$Pipe;)I"⟩
def dkwX2_signedLitres_0 : List UInt8 := [42, 43, 182, 0, 132, 42, 43, 182, 0, 154, 182, 0, 157, 172]
abbrev dktX2_signedLitres_0 : List UInt8 := dkwX2_signedLitres_0 ++ []
theorem dksX2_signedLitres_0 : cX2_signedLitres.data.toList.drop 0 = dktX2_signedLitres_0 := by decide +kernel
theorem dX2_signedLitres_0 : decode cX2_signedLitres 0 = .ok (.aload_n 0, 1) := dk_42 (dk_at dksX2_signedLitres_0 0 rfl rfl)
theorem dX2_signedLitres_1 : decode cX2_signedLitres 1 = .ok (.aload_n 1, 1) := dk_43 (dk_at dksX2_signedLitres_0 1 rfl rfl)
theorem dX2_signedLitres_2 : decode cX2_signedLitres 2 = .ok (.invokevirtual 132, 3) := dk_182 0 132 (dk_at dksX2_signedLitres_0 2 rfl rfl)
theorem dX2_signedLitres_5 : decode cX2_signedLitres 5 = .ok (.aload_n 0, 1) := dk_42 (dk_at dksX2_signedLitres_0 5 rfl rfl)
theorem dX2_signedLitres_6 : decode cX2_signedLitres 6 = .ok (.aload_n 1, 1) := dk_43 (dk_at dksX2_signedLitres_0 6 rfl rfl)
theorem dX2_signedLitres_7 : decode cX2_signedLitres 7 = .ok (.invokevirtual 154, 3) := dk_182 0 154 (dk_at dksX2_signedLitres_0 7 rfl rfl)
theorem dX2_signedLitres_10 : decode cX2_signedLitres 10 = .ok (.invokevirtual 157, 3) := dk_182 0 157 (dk_at dksX2_signedLitres_0 10 rfl rfl)
theorem dX2_signedLitres_13 : decode cX2_signedLitres 13 = .ok (.ireturn, 1) := dk_172 (dk_at dksX2_signedLitres_0 13 rfl rfl)
abbrev cX2_pipeAt : ByteArray := prog_14_method_35_code
def yX2_pipeAt : MethodName := ⟨RX2, "pipeAt", "(I)I"⟩
def dkwX2_pipeAt_6 : List UInt8 := [132, 4, 1, 167, 255, 133, 29, 27, 160, 0, 5, 28, 172, 132, 2, 1, 167, 255, 102, 2, 172]
abbrev dktX2_pipeAt_6 : List UInt8 := dkwX2_pipeAt_6 ++ []
def dkwX2_pipeAt_5 : List UInt8 := [29, 21, 5, 157, 0, 14, 21, 5, 154, 0, 13, 21, 4, 28, 162, 0, 7, 4, 167, 0, 4, 3, 96, 62]
abbrev dktX2_pipeAt_5 : List UInt8 := dkwX2_pipeAt_5 ++ dktX2_pipeAt_6
def dkwX2_pipeAt_4 : List UInt8 := [42, 180, 0, 18, 28, 185, 0, 28, 2, 0, 192, 0, 42, 180, 0, 163, 100, 167, 0, 5, 21, 5, 54, 5]
abbrev dktX2_pipeAt_4 : List UInt8 := dkwX2_pipeAt_4 ++ dktX2_pipeAt_5
def dkwX2_pipeAt_3 : List UInt8 := [54, 5, 21, 5, 154, 0, 40, 42, 180, 0, 18, 21, 4, 185, 0, 28, 2, 0, 192, 0, 42, 180, 0, 163]
abbrev dktX2_pipeAt_3 : List UInt8 := dkwX2_pipeAt_3 ++ dktX2_pipeAt_4
def dkwX2_pipeAt_2 : List UInt8 := [192, 0, 42, 180, 0, 111, 42, 180, 0, 18, 28, 185, 0, 28, 2, 0, 192, 0, 42, 180, 0, 111, 100]
abbrev dktX2_pipeAt_2 : List UInt8 := dkwX2_pipeAt_2 ++ dktX2_pipeAt_3
def dkwX2_pipeAt_1 : List UInt8 := [180, 0, 18, 185, 0, 22, 1, 0, 162, 0, 115, 42, 180, 0, 18, 21, 4, 185, 0, 28, 2, 0]
abbrev dktX2_pipeAt_1 : List UInt8 := dkwX2_pipeAt_1 ++ dktX2_pipeAt_2
def dkwX2_pipeAt_0 : List UInt8 := [3, 61, 28, 42, 180, 0, 18, 185, 0, 22, 1, 0, 162, 0, 147, 3, 62, 3, 54, 4, 21, 4, 42]
abbrev dktX2_pipeAt_0 : List UInt8 := dkwX2_pipeAt_0 ++ dktX2_pipeAt_1
theorem dksX2_pipeAt_0 : cX2_pipeAt.data.toList.drop 0 = dktX2_pipeAt_0 := by decide +kernel
theorem dksX2_pipeAt_1 : cX2_pipeAt.data.toList.drop 23 = dktX2_pipeAt_1 := dk_seg dksX2_pipeAt_0 23 rfl rfl
theorem dksX2_pipeAt_2 : cX2_pipeAt.data.toList.drop 45 = dktX2_pipeAt_2 := dk_seg dksX2_pipeAt_1 22 rfl rfl
theorem dksX2_pipeAt_3 : cX2_pipeAt.data.toList.drop 68 = dktX2_pipeAt_3 := dk_seg dksX2_pipeAt_2 23 rfl rfl
theorem dksX2_pipeAt_4 : cX2_pipeAt.data.toList.drop 92 = dktX2_pipeAt_4 := dk_seg dksX2_pipeAt_3 24 rfl rfl
theorem dksX2_pipeAt_5 : cX2_pipeAt.data.toList.drop 116 = dktX2_pipeAt_5 := dk_seg dksX2_pipeAt_4 24 rfl rfl
theorem dksX2_pipeAt_6 : cX2_pipeAt.data.toList.drop 140 = dktX2_pipeAt_6 := dk_seg dksX2_pipeAt_5 24 rfl rfl
theorem dX2_pipeAt_0 : decode cX2_pipeAt 0 = .ok (.iconst 0, 1) := dk_3 (dk_at dksX2_pipeAt_0 0 rfl rfl)
theorem dX2_pipeAt_1 : decode cX2_pipeAt 1 = .ok (.istore_n 2, 1) := dk_61 (dk_at dksX2_pipeAt_0 1 rfl rfl)
theorem dX2_pipeAt_2 : decode cX2_pipeAt 2 = .ok (.iload_n 2, 1) := dk_28 (dk_at dksX2_pipeAt_0 2 rfl rfl)
theorem dX2_pipeAt_3 : decode cX2_pipeAt 3 = .ok (.aload_n 0, 1) := dk_42 (dk_at dksX2_pipeAt_0 3 rfl rfl)
theorem dX2_pipeAt_4 : decode cX2_pipeAt 4 = .ok (.getfield 18, 3) := dk_180 0 18 (dk_at dksX2_pipeAt_0 4 rfl rfl)
theorem dX2_pipeAt_7 : decode cX2_pipeAt 7 = .ok (.invokeinterface 22 1, 5) := by decide +kernel
theorem dX2_pipeAt_12 : decode cX2_pipeAt 12 = .ok (.if_icmp .ge 147, 3) := dk_162 0 147 (dk_at dksX2_pipeAt_0 12 rfl rfl)
theorem dX2_pipeAt_15 : decode cX2_pipeAt 15 = .ok (.iconst 0, 1) := dk_3 (dk_at dksX2_pipeAt_0 15 rfl rfl)
theorem dX2_pipeAt_16 : decode cX2_pipeAt 16 = .ok (.istore_n 3, 1) := dk_62 (dk_at dksX2_pipeAt_0 16 rfl rfl)
theorem dX2_pipeAt_17 : decode cX2_pipeAt 17 = .ok (.iconst 0, 1) := dk_3 (dk_at dksX2_pipeAt_0 17 rfl rfl)
theorem dX2_pipeAt_18 : decode cX2_pipeAt 18 = .ok (.istore 4, 2) := dk_54 4 (dk_at dksX2_pipeAt_0 18 rfl rfl)
theorem dX2_pipeAt_20 : decode cX2_pipeAt 20 = .ok (.iload 4, 2) := dk_21 4 (dk_at dksX2_pipeAt_0 20 rfl rfl)
theorem dX2_pipeAt_22 : decode cX2_pipeAt 22 = .ok (.aload_n 0, 1) := dk_42 (dk_at dksX2_pipeAt_0 22 rfl rfl)
theorem dX2_pipeAt_23 : decode cX2_pipeAt 23 = .ok (.getfield 18, 3) := dk_180 0 18 (dk_at dksX2_pipeAt_1 0 rfl rfl)
theorem dX2_pipeAt_26 : decode cX2_pipeAt 26 = .ok (.invokeinterface 22 1, 5) := by decide +kernel
theorem dX2_pipeAt_31 : decode cX2_pipeAt 31 = .ok (.if_icmp .ge 115, 3) := dk_162 0 115 (dk_at dksX2_pipeAt_1 8 rfl rfl)
theorem dX2_pipeAt_34 : decode cX2_pipeAt 34 = .ok (.aload_n 0, 1) := dk_42 (dk_at dksX2_pipeAt_1 11 rfl rfl)
theorem dX2_pipeAt_35 : decode cX2_pipeAt 35 = .ok (.getfield 18, 3) := dk_180 0 18 (dk_at dksX2_pipeAt_1 12 rfl rfl)
theorem dX2_pipeAt_38 : decode cX2_pipeAt 38 = .ok (.iload 4, 2) := dk_21 4 (dk_at dksX2_pipeAt_1 15 rfl rfl)
theorem dX2_pipeAt_40 : decode cX2_pipeAt 40 = .ok (.invokeinterface 28 2, 5) := by decide +kernel
theorem dX2_pipeAt_45 : decode cX2_pipeAt 45 = .ok (.checkcast 42, 3) := dk_192 0 42 (dk_at dksX2_pipeAt_2 0 rfl rfl)
theorem dX2_pipeAt_48 : decode cX2_pipeAt 48 = .ok (.getfield 111, 3) := dk_180 0 111 (dk_at dksX2_pipeAt_2 3 rfl rfl)
theorem dX2_pipeAt_51 : decode cX2_pipeAt 51 = .ok (.aload_n 0, 1) := dk_42 (dk_at dksX2_pipeAt_2 6 rfl rfl)
theorem dX2_pipeAt_52 : decode cX2_pipeAt 52 = .ok (.getfield 18, 3) := dk_180 0 18 (dk_at dksX2_pipeAt_2 7 rfl rfl)
theorem dX2_pipeAt_55 : decode cX2_pipeAt 55 = .ok (.iload_n 2, 1) := dk_28 (dk_at dksX2_pipeAt_2 10 rfl rfl)
theorem dX2_pipeAt_56 : decode cX2_pipeAt 56 = .ok (.invokeinterface 28 2, 5) := by decide +kernel
theorem dX2_pipeAt_61 : decode cX2_pipeAt 61 = .ok (.checkcast 42, 3) := dk_192 0 42 (dk_at dksX2_pipeAt_2 16 rfl rfl)
theorem dX2_pipeAt_64 : decode cX2_pipeAt 64 = .ok (.getfield 111, 3) := dk_180 0 111 (dk_at dksX2_pipeAt_2 19 rfl rfl)
theorem dX2_pipeAt_67 : decode cX2_pipeAt 67 = .ok (.isub, 1) := dk_100 (dk_at dksX2_pipeAt_2 22 rfl rfl)
theorem dX2_pipeAt_68 : decode cX2_pipeAt 68 = .ok (.istore 5, 2) := dk_54 5 (dk_at dksX2_pipeAt_3 0 rfl rfl)
theorem dX2_pipeAt_70 : decode cX2_pipeAt 70 = .ok (.iload 5, 2) := dk_21 5 (dk_at dksX2_pipeAt_3 2 rfl rfl)
theorem dX2_pipeAt_72 : decode cX2_pipeAt 72 = .ok (.ifCond .ne 40, 3) := dk_154 0 40 (dk_at dksX2_pipeAt_3 4 rfl rfl)
theorem dX2_pipeAt_75 : decode cX2_pipeAt 75 = .ok (.aload_n 0, 1) := dk_42 (dk_at dksX2_pipeAt_3 7 rfl rfl)
theorem dX2_pipeAt_76 : decode cX2_pipeAt 76 = .ok (.getfield 18, 3) := dk_180 0 18 (dk_at dksX2_pipeAt_3 8 rfl rfl)
theorem dX2_pipeAt_79 : decode cX2_pipeAt 79 = .ok (.iload 4, 2) := dk_21 4 (dk_at dksX2_pipeAt_3 11 rfl rfl)
theorem dX2_pipeAt_81 : decode cX2_pipeAt 81 = .ok (.invokeinterface 28 2, 5) := by decide +kernel
theorem dX2_pipeAt_86 : decode cX2_pipeAt 86 = .ok (.checkcast 42, 3) := dk_192 0 42 (dk_at dksX2_pipeAt_3 18 rfl rfl)
theorem dX2_pipeAt_89 : decode cX2_pipeAt 89 = .ok (.getfield 163, 3) := dk_180 0 163 (dk_at dksX2_pipeAt_3 21 rfl rfl)
theorem dX2_pipeAt_92 : decode cX2_pipeAt 92 = .ok (.aload_n 0, 1) := dk_42 (dk_at dksX2_pipeAt_4 0 rfl rfl)
theorem dX2_pipeAt_93 : decode cX2_pipeAt 93 = .ok (.getfield 18, 3) := dk_180 0 18 (dk_at dksX2_pipeAt_4 1 rfl rfl)
theorem dX2_pipeAt_96 : decode cX2_pipeAt 96 = .ok (.iload_n 2, 1) := dk_28 (dk_at dksX2_pipeAt_4 4 rfl rfl)
theorem dX2_pipeAt_97 : decode cX2_pipeAt 97 = .ok (.invokeinterface 28 2, 5) := by decide +kernel
theorem dX2_pipeAt_102 : decode cX2_pipeAt 102 = .ok (.checkcast 42, 3) := dk_192 0 42 (dk_at dksX2_pipeAt_4 10 rfl rfl)
theorem dX2_pipeAt_105 : decode cX2_pipeAt 105 = .ok (.getfield 163, 3) := dk_180 0 163 (dk_at dksX2_pipeAt_4 13 rfl rfl)
theorem dX2_pipeAt_108 : decode cX2_pipeAt 108 = .ok (.isub, 1) := dk_100 (dk_at dksX2_pipeAt_4 16 rfl rfl)
theorem dX2_pipeAt_109 : decode cX2_pipeAt 109 = .ok (.goto 5, 3) := dk_167 0 5 (dk_at dksX2_pipeAt_4 17 rfl rfl)
theorem dX2_pipeAt_112 : decode cX2_pipeAt 112 = .ok (.iload 5, 2) := dk_21 5 (dk_at dksX2_pipeAt_4 20 rfl rfl)
theorem dX2_pipeAt_114 : decode cX2_pipeAt 114 = .ok (.istore 5, 2) := dk_54 5 (dk_at dksX2_pipeAt_4 22 rfl rfl)
theorem dX2_pipeAt_116 : decode cX2_pipeAt 116 = .ok (.iload_n 3, 1) := dk_29 (dk_at dksX2_pipeAt_5 0 rfl rfl)
theorem dX2_pipeAt_117 : decode cX2_pipeAt 117 = .ok (.iload 5, 2) := dk_21 5 (dk_at dksX2_pipeAt_5 1 rfl rfl)
theorem dX2_pipeAt_119 : decode cX2_pipeAt 119 = .ok (.ifCond .gt 14, 3) := dk_157 0 14 (dk_at dksX2_pipeAt_5 3 rfl rfl)
theorem dX2_pipeAt_122 : decode cX2_pipeAt 122 = .ok (.iload 5, 2) := dk_21 5 (dk_at dksX2_pipeAt_5 6 rfl rfl)
theorem dX2_pipeAt_124 : decode cX2_pipeAt 124 = .ok (.ifCond .ne 13, 3) := dk_154 0 13 (dk_at dksX2_pipeAt_5 8 rfl rfl)
theorem dX2_pipeAt_127 : decode cX2_pipeAt 127 = .ok (.iload 4, 2) := dk_21 4 (dk_at dksX2_pipeAt_5 11 rfl rfl)
theorem dX2_pipeAt_129 : decode cX2_pipeAt 129 = .ok (.iload_n 2, 1) := dk_28 (dk_at dksX2_pipeAt_5 13 rfl rfl)
theorem dX2_pipeAt_130 : decode cX2_pipeAt 130 = .ok (.if_icmp .ge 7, 3) := dk_162 0 7 (dk_at dksX2_pipeAt_5 14 rfl rfl)
theorem dX2_pipeAt_133 : decode cX2_pipeAt 133 = .ok (.iconst 1, 1) := dk_4 (dk_at dksX2_pipeAt_5 17 rfl rfl)
theorem dX2_pipeAt_134 : decode cX2_pipeAt 134 = .ok (.goto 4, 3) := dk_167 0 4 (dk_at dksX2_pipeAt_5 18 rfl rfl)
theorem dX2_pipeAt_137 : decode cX2_pipeAt 137 = .ok (.iconst 0, 1) := dk_3 (dk_at dksX2_pipeAt_5 21 rfl rfl)
theorem dX2_pipeAt_138 : decode cX2_pipeAt 138 = .ok (.iadd, 1) := dk_96 (dk_at dksX2_pipeAt_5 22 rfl rfl)
theorem dX2_pipeAt_139 : decode cX2_pipeAt 139 = .ok (.istore_n 3, 1) := dk_62 (dk_at dksX2_pipeAt_5 23 rfl rfl)
theorem dX2_pipeAt_140 : decode cX2_pipeAt 140 = .ok (.iinc 4 1, 3) := dk_132 4 1 (dk_at dksX2_pipeAt_6 0 rfl rfl)
theorem dX2_pipeAt_143 : decode cX2_pipeAt 143 = .ok (.goto (-123), 3) := dk_167 255 133 (dk_at dksX2_pipeAt_6 3 rfl rfl)
theorem dX2_pipeAt_146 : decode cX2_pipeAt 146 = .ok (.iload_n 3, 1) := dk_29 (dk_at dksX2_pipeAt_6 6 rfl rfl)
theorem dX2_pipeAt_147 : decode cX2_pipeAt 147 = .ok (.iload_n 1, 1) := dk_27 (dk_at dksX2_pipeAt_6 7 rfl rfl)
theorem dX2_pipeAt_148 : decode cX2_pipeAt 148 = .ok (.if_icmp .ne 5, 3) := dk_160 0 5 (dk_at dksX2_pipeAt_6 8 rfl rfl)
theorem dX2_pipeAt_151 : decode cX2_pipeAt 151 = .ok (.iload_n 2, 1) := dk_28 (dk_at dksX2_pipeAt_6 11 rfl rfl)
theorem dX2_pipeAt_152 : decode cX2_pipeAt 152 = .ok (.ireturn, 1) := dk_172 (dk_at dksX2_pipeAt_6 12 rfl rfl)
theorem dX2_pipeAt_153 : decode cX2_pipeAt 153 = .ok (.iinc 2 1, 3) := dk_132 2 1 (dk_at dksX2_pipeAt_6 13 rfl rfl)
theorem dX2_pipeAt_156 : decode cX2_pipeAt 156 = .ok (.goto (-154), 3) := dk_167 255 102 (dk_at dksX2_pipeAt_6 16 rfl rfl)
theorem dX2_pipeAt_159 : decode cX2_pipeAt 159 = .ok (.iconst (-1), 1) := dk_2 (dk_at dksX2_pipeAt_6 19 rfl rfl)
theorem dX2_pipeAt_160 : decode cX2_pipeAt 160 = .ok (.ireturn, 1) := dk_172 (dk_at dksX2_pipeAt_6 20 rfl rfl)
abbrev cX2_areConnected_2 : ByteArray := prog_14_method_21_code
def yX2_areConnected_2 : MethodName := ⟨RX2, "areConnected", "(II)Z"⟩
def dkwX2_areConnected_2_0 : List UInt8 := [42, 27, 28, 4, 2, 182, 0, 190, 172]
abbrev dktX2_areConnected_2_0 : List UInt8 := dkwX2_areConnected_2_0 ++ []
theorem dksX2_areConnected_2_0 : cX2_areConnected_2.data.toList.drop 0 = dktX2_areConnected_2_0 := by decide +kernel
theorem dX2_areConnected_2_0 : decode cX2_areConnected_2 0 = .ok (.aload_n 0, 1) := dk_42 (dk_at dksX2_areConnected_2_0 0 rfl rfl)
theorem dX2_areConnected_2_1 : decode cX2_areConnected_2 1 = .ok (.iload_n 1, 1) := dk_27 (dk_at dksX2_areConnected_2_0 1 rfl rfl)
theorem dX2_areConnected_2_2 : decode cX2_areConnected_2 2 = .ok (.iload_n 2, 1) := dk_28 (dk_at dksX2_areConnected_2_0 2 rfl rfl)
theorem dX2_areConnected_2_3 : decode cX2_areConnected_2 3 = .ok (.iconst 1, 1) := dk_4 (dk_at dksX2_areConnected_2_0 3 rfl rfl)
theorem dX2_areConnected_2_4 : decode cX2_areConnected_2 4 = .ok (.iconst (-1), 1) := dk_2 (dk_at dksX2_areConnected_2_0 4 rfl rfl)
theorem dX2_areConnected_2_5 : decode cX2_areConnected_2 5 = .ok (.invokevirtual 190, 3) := dk_182 0 190 (dk_at dksX2_areConnected_2_0 5 rfl rfl)
theorem dX2_areConnected_2_8 : decode cX2_areConnected_2 8 = .ok (.ireturn, 1) := dk_172 (dk_at dksX2_areConnected_2_0 8 rfl rfl)
abbrev cX2_minutesUntilStill : ByteArray := prog_14_method_19_code
def yX2_minutesUntilStill : MethodName := ⟨RX2, "minutesUntilStill", "()I"⟩
def dkwX2_minutesUntilStill_1 : List UInt8 := [167, 255, 235, 42, 182, 0, 176, 153, 0, 7, 27, 167, 0, 4, 2, 172]
abbrev dktX2_minutesUntilStill_1 : List UInt8 := dkwX2_minutesUntilStill_1 ++ []
def dkwX2_minutesUntilStill_0 : List UInt8 := [3, 60, 42, 182, 0, 176, 154, 0, 20, 27, 17, 1, 44, 162, 0, 13, 42, 182, 0, 114, 132, 1, 1]
abbrev dktX2_minutesUntilStill_0 : List UInt8 := dkwX2_minutesUntilStill_0 ++ dktX2_minutesUntilStill_1
theorem dksX2_minutesUntilStill_0 : cX2_minutesUntilStill.data.toList.drop 0 = dktX2_minutesUntilStill_0 := by decide +kernel
theorem dksX2_minutesUntilStill_1 : cX2_minutesUntilStill.data.toList.drop 23 = dktX2_minutesUntilStill_1 := dk_seg dksX2_minutesUntilStill_0 23 rfl rfl
theorem dX2_minutesUntilStill_0 : decode cX2_minutesUntilStill 0 = .ok (.iconst 0, 1) := dk_3 (dk_at dksX2_minutesUntilStill_0 0 rfl rfl)
theorem dX2_minutesUntilStill_1 : decode cX2_minutesUntilStill 1 = .ok (.istore_n 1, 1) := dk_60 (dk_at dksX2_minutesUntilStill_0 1 rfl rfl)
theorem dX2_minutesUntilStill_2 : decode cX2_minutesUntilStill 2 = .ok (.aload_n 0, 1) := dk_42 (dk_at dksX2_minutesUntilStill_0 2 rfl rfl)
theorem dX2_minutesUntilStill_3 : decode cX2_minutesUntilStill 3 = .ok (.invokevirtual 176, 3) := dk_182 0 176 (dk_at dksX2_minutesUntilStill_0 3 rfl rfl)
theorem dX2_minutesUntilStill_6 : decode cX2_minutesUntilStill 6 = .ok (.ifCond .ne 20, 3) := dk_154 0 20 (dk_at dksX2_minutesUntilStill_0 6 rfl rfl)
theorem dX2_minutesUntilStill_9 : decode cX2_minutesUntilStill 9 = .ok (.iload_n 1, 1) := dk_27 (dk_at dksX2_minutesUntilStill_0 9 rfl rfl)
theorem dX2_minutesUntilStill_10 : decode cX2_minutesUntilStill 10 = .ok (.sipush 300, 3) := dk_17 1 44 (dk_at dksX2_minutesUntilStill_0 10 rfl rfl)
theorem dX2_minutesUntilStill_13 : decode cX2_minutesUntilStill 13 = .ok (.if_icmp .ge 13, 3) := dk_162 0 13 (dk_at dksX2_minutesUntilStill_0 13 rfl rfl)
theorem dX2_minutesUntilStill_16 : decode cX2_minutesUntilStill 16 = .ok (.aload_n 0, 1) := dk_42 (dk_at dksX2_minutesUntilStill_0 16 rfl rfl)
theorem dX2_minutesUntilStill_17 : decode cX2_minutesUntilStill 17 = .ok (.invokevirtual 114, 3) := dk_182 0 114 (dk_at dksX2_minutesUntilStill_0 17 rfl rfl)
theorem dX2_minutesUntilStill_20 : decode cX2_minutesUntilStill 20 = .ok (.iinc 1 1, 3) := dk_132 1 1 (dk_at dksX2_minutesUntilStill_0 20 rfl rfl)
theorem dX2_minutesUntilStill_23 : decode cX2_minutesUntilStill 23 = .ok (.goto (-21), 3) := dk_167 255 235 (dk_at dksX2_minutesUntilStill_1 0 rfl rfl)
theorem dX2_minutesUntilStill_26 : decode cX2_minutesUntilStill 26 = .ok (.aload_n 0, 1) := dk_42 (dk_at dksX2_minutesUntilStill_1 3 rfl rfl)
theorem dX2_minutesUntilStill_27 : decode cX2_minutesUntilStill 27 = .ok (.invokevirtual 176, 3) := dk_182 0 176 (dk_at dksX2_minutesUntilStill_1 4 rfl rfl)
theorem dX2_minutesUntilStill_30 : decode cX2_minutesUntilStill 30 = .ok (.ifCond .eq 7, 3) := dk_153 0 7 (dk_at dksX2_minutesUntilStill_1 7 rfl rfl)
theorem dX2_minutesUntilStill_33 : decode cX2_minutesUntilStill 33 = .ok (.iload_n 1, 1) := dk_27 (dk_at dksX2_minutesUntilStill_1 10 rfl rfl)
theorem dX2_minutesUntilStill_34 : decode cX2_minutesUntilStill 34 = .ok (.goto 4, 3) := dk_167 0 4 (dk_at dksX2_minutesUntilStill_1 11 rfl rfl)
theorem dX2_minutesUntilStill_37 : decode cX2_minutesUntilStill 37 = .ok (.iconst (-1), 1) := dk_2 (dk_at dksX2_minutesUntilStill_1 14 rfl rfl)
theorem dX2_minutesUntilStill_38 : decode cX2_minutesUntilStill 38 = .ok (.ireturn, 1) := dk_172 (dk_at dksX2_minutesUntilStill_1 15 rfl rfl)
abbrev cX2_isStill : ByteArray := prog_14_method_18_code
def yX2_isStill : MethodName := ⟨RX2, "isStill", "()Z"⟩
def dkwX2_isStill_2 : List UInt8 := [132, 2, 1, 167, 255, 210, 27, 172]
abbrev dktX2_isStill_2 : List UInt8 := dkwX2_isStill_2 ++ []
def dkwX2_isStill_1 : List UInt8 := [180, 0, 18, 28, 185, 0, 28, 2, 0, 192, 0, 42, 182, 0, 154, 154, 0, 7, 4, 167, 0, 4, 3, 60]
abbrev dktX2_isStill_1 : List UInt8 := dkwX2_isStill_1 ++ dktX2_isStill_2
def dkwX2_isStill_0 : List UInt8 := [4, 60, 3, 61, 28, 42, 180, 0, 18, 185, 0, 22, 1, 0, 162, 0, 39, 27, 153, 0, 27, 42, 42]
abbrev dktX2_isStill_0 : List UInt8 := dkwX2_isStill_0 ++ dktX2_isStill_1
theorem dksX2_isStill_0 : cX2_isStill.data.toList.drop 0 = dktX2_isStill_0 := by decide +kernel
theorem dksX2_isStill_1 : cX2_isStill.data.toList.drop 23 = dktX2_isStill_1 := dk_seg dksX2_isStill_0 23 rfl rfl
theorem dksX2_isStill_2 : cX2_isStill.data.toList.drop 47 = dktX2_isStill_2 := dk_seg dksX2_isStill_1 24 rfl rfl
theorem dX2_isStill_0 : decode cX2_isStill 0 = .ok (.iconst 1, 1) := dk_4 (dk_at dksX2_isStill_0 0 rfl rfl)
theorem dX2_isStill_1 : decode cX2_isStill 1 = .ok (.istore_n 1, 1) := dk_60 (dk_at dksX2_isStill_0 1 rfl rfl)
theorem dX2_isStill_2 : decode cX2_isStill 2 = .ok (.iconst 0, 1) := dk_3 (dk_at dksX2_isStill_0 2 rfl rfl)
theorem dX2_isStill_3 : decode cX2_isStill 3 = .ok (.istore_n 2, 1) := dk_61 (dk_at dksX2_isStill_0 3 rfl rfl)
theorem dX2_isStill_4 : decode cX2_isStill 4 = .ok (.iload_n 2, 1) := dk_28 (dk_at dksX2_isStill_0 4 rfl rfl)
theorem dX2_isStill_5 : decode cX2_isStill 5 = .ok (.aload_n 0, 1) := dk_42 (dk_at dksX2_isStill_0 5 rfl rfl)
theorem dX2_isStill_6 : decode cX2_isStill 6 = .ok (.getfield 18, 3) := dk_180 0 18 (dk_at dksX2_isStill_0 6 rfl rfl)
theorem dX2_isStill_9 : decode cX2_isStill 9 = .ok (.invokeinterface 22 1, 5) := by decide +kernel
theorem dX2_isStill_14 : decode cX2_isStill 14 = .ok (.if_icmp .ge 39, 3) := dk_162 0 39 (dk_at dksX2_isStill_0 14 rfl rfl)
theorem dX2_isStill_17 : decode cX2_isStill 17 = .ok (.iload_n 1, 1) := dk_27 (dk_at dksX2_isStill_0 17 rfl rfl)
theorem dX2_isStill_18 : decode cX2_isStill 18 = .ok (.ifCond .eq 27, 3) := dk_153 0 27 (dk_at dksX2_isStill_0 18 rfl rfl)
theorem dX2_isStill_21 : decode cX2_isStill 21 = .ok (.aload_n 0, 1) := dk_42 (dk_at dksX2_isStill_0 21 rfl rfl)
theorem dX2_isStill_22 : decode cX2_isStill 22 = .ok (.aload_n 0, 1) := dk_42 (dk_at dksX2_isStill_0 22 rfl rfl)
theorem dX2_isStill_23 : decode cX2_isStill 23 = .ok (.getfield 18, 3) := dk_180 0 18 (dk_at dksX2_isStill_1 0 rfl rfl)
theorem dX2_isStill_26 : decode cX2_isStill 26 = .ok (.iload_n 2, 1) := dk_28 (dk_at dksX2_isStill_1 3 rfl rfl)
theorem dX2_isStill_27 : decode cX2_isStill 27 = .ok (.invokeinterface 28 2, 5) := by decide +kernel
theorem dX2_isStill_32 : decode cX2_isStill 32 = .ok (.checkcast 42, 3) := dk_192 0 42 (dk_at dksX2_isStill_1 9 rfl rfl)
theorem dX2_isStill_35 : decode cX2_isStill 35 = .ok (.invokevirtual 154, 3) := dk_182 0 154 (dk_at dksX2_isStill_1 12 rfl rfl)
theorem dX2_isStill_38 : decode cX2_isStill 38 = .ok (.ifCond .ne 7, 3) := dk_154 0 7 (dk_at dksX2_isStill_1 15 rfl rfl)
theorem dX2_isStill_41 : decode cX2_isStill 41 = .ok (.iconst 1, 1) := dk_4 (dk_at dksX2_isStill_1 18 rfl rfl)
theorem dX2_isStill_42 : decode cX2_isStill 42 = .ok (.goto 4, 3) := dk_167 0 4 (dk_at dksX2_isStill_1 19 rfl rfl)
theorem dX2_isStill_45 : decode cX2_isStill 45 = .ok (.iconst 0, 1) := dk_3 (dk_at dksX2_isStill_1 22 rfl rfl)
theorem dX2_isStill_46 : decode cX2_isStill 46 = .ok (.istore_n 1, 1) := dk_60 (dk_at dksX2_isStill_1 23 rfl rfl)
theorem dX2_isStill_47 : decode cX2_isStill 47 = .ok (.iinc 2 1, 3) := dk_132 2 1 (dk_at dksX2_isStill_2 0 rfl rfl)
theorem dX2_isStill_50 : decode cX2_isStill 50 = .ok (.goto (-46), 3) := dk_167 255 210 (dk_at dksX2_isStill_2 3 rfl rfl)
theorem dX2_isStill_53 : decode cX2_isStill 53 = .ok (.iload_n 1, 1) := dk_27 (dk_at dksX2_isStill_2 6 rfl rfl)
theorem dX2_isStill_54 : decode cX2_isStill 54 = .ok (.ireturn, 1) := dk_172 (dk_at dksX2_isStill_2 7 rfl rfl)
theorem q69 : (Jvm.Cond.initialized "FilterWaterworks$Works") ∈ lw_all := lw_g (lw_at lw_m1 2 rfl) rfl
theorem q126 : (Jvm.Cond.instantiable "FilterWaterworks$Works" (6 : Nat)) ∈ lw_all := lw_g (lw_at lw_m1 59 rfl) rfl
theorem q128 : (Jvm.Cond.instanceMethod ({ cls := "FilterWaterworks$Works", name := "<init>", desc := "()V" } : Jvm.MethodName)) ∈ lw_all := lw_g (lw_at lw_m1 61 rfl) rfl
theorem q129 : (Jvm.Cond.code ({ cls := "FilterWaterworks$Works", name := "<init>", desc := "()V" } : Jvm.MethodName) prog_14_method_1_code (1 : Nat) (Option.none : Option Jvm.ClassFile.FieldType)) ∈ lw_all := lw_g (lw_at lw_m1 62 rfl) rfl
theorem q130 : (Jvm.Cond.methodLink "FilterWaterworks$Works" (3 : Nat) ({ cls := "java/lang/Object", name := "<init>", desc := "()V" } : Jvm.MethodName)) ∈ lw_all := lw_g (lw_at lw_m1 63 rfl) rfl
theorem q131 : (Jvm.Cond.classLink "FilterWaterworks$Works" (9 : Nat) "java/util/ArrayList") ∈ lw_all := lw_g (lw_at lw_m1 64 rfl) rfl
theorem q133 : (Jvm.Cond.methodLink "FilterWaterworks$Works" (11 : Nat) ({ cls := "java/util/ArrayList", name := "<init>", desc := "()V" } : Jvm.MethodName)) ∈ lw_all := lw_g (lw_at lw_m1 66 rfl) rfl
theorem q159 : (Jvm.Cond.fieldLink "FilterWaterworks$Works" (12 : Nat) "FilterWaterworks$Works" "tanks" "Ljava/util/List;") ∈ lw_all := lw_g (lw_at lw_m1 92 rfl) rfl
theorem q162 : (Jvm.Cond.fieldLink "FilterWaterworks$Works" (18 : Nat) "FilterWaterworks$Works" "pipes" "Ljava/util/List;") ∈ lw_all := lw_g (lw_at lw_m1 95 rfl) rfl
theorem q166 : (Jvm.Cond.fieldLink "FilterWaterworks$Works" (47 : Nat) "FilterWaterworks$Works" "time" "I") ∈ lw_all := lw_g (lw_at lw_m1 99 rfl) rfl
theorem q168 : (Jvm.Cond.fieldLink "FilterWaterworks$Works" (51 : Nat) "FilterWaterworks$Works" "poured" "I") ∈ lw_all := lw_g (lw_at lw_m1 101 rfl) rfl
theorem q170 : (Jvm.Cond.fieldLink "FilterWaterworks$Works" (54 : Nat) "FilterWaterworks$Works" "drawn" "I") ∈ lw_all := lw_g (lw_at lw_m1 103 rfl) rfl
theorem q172 : (Jvm.Cond.fieldLink "FilterWaterworks$Works" (57 : Nat) "FilterWaterworks$Works" "spilled" "I") ∈ lw_all := lw_g (lw_at lw_m1 105 rfl) rfl
theorem q174 : (Jvm.Cond.laysFinal "FilterWaterworks$Works" "FilterWaterworks$Works" "tanks" "Ljava/util/List;") ∈ lw_all := lw_g (lw_at lw_m1 107 rfl) rfl
theorem q175 : (Jvm.Cond.soleField "FilterWaterworks$Works" "tanks") ∈ lw_all := lw_g (lw_at lw_m1 108 rfl) rfl
theorem q176 : (Jvm.Cond.laysFinal "FilterWaterworks$Works" "FilterWaterworks$Works" "pipes" "Ljava/util/List;") ∈ lw_all := lw_g (lw_at lw_m1 109 rfl) rfl
theorem q177 : (Jvm.Cond.soleField "FilterWaterworks$Works" "pipes") ∈ lw_all := lw_g (lw_at lw_m1 110 rfl) rfl
theorem q178 : (Jvm.Cond.lays "FilterWaterworks$Works" "FilterWaterworks$Works" "time" "I") ∈ lw_all := lw_g (lw_at lw_m1 111 rfl) rfl
theorem q179 : (Jvm.Cond.soleField "FilterWaterworks$Works" "time") ∈ lw_all := lw_g (lw_at lw_m1 112 rfl) rfl
theorem q180 : (Jvm.Cond.lays "FilterWaterworks$Works" "FilterWaterworks$Works" "poured" "I") ∈ lw_all := lw_g (lw_at lw_m1 113 rfl) rfl
theorem q181 : (Jvm.Cond.soleField "FilterWaterworks$Works" "poured") ∈ lw_all := lw_g (lw_at lw_m1 114 rfl) rfl
theorem q182 : (Jvm.Cond.lays "FilterWaterworks$Works" "FilterWaterworks$Works" "drawn" "I") ∈ lw_all := lw_g (lw_at lw_m1 115 rfl) rfl
theorem q183 : (Jvm.Cond.soleField "FilterWaterworks$Works" "drawn") ∈ lw_all := lw_g (lw_at lw_m1 116 rfl) rfl
theorem q184 : (Jvm.Cond.lays "FilterWaterworks$Works" "FilterWaterworks$Works" "spilled" "I") ∈ lw_all := lw_g (lw_at lw_m1 117 rfl) rfl
theorem q185 : (Jvm.Cond.soleField "FilterWaterworks$Works" "spilled") ∈ lw_all := lw_g (lw_at lw_m1 118 rfl) rfl
theorem q186 : (Jvm.Cond.superclass "FilterWaterworks$Works" "java/lang/Object") ∈ lw_all := lw_g (lw_at lw_m1 119 rfl) rfl
theorem q292 : (Jvm.Cond.instanceMethod ({ cls := "FilterWaterworks$Works", name := "groups", desc := "()I" } : Jvm.MethodName)) ∈ lw_all := lw_g (lw_at lw_m1 225 rfl) rfl
theorem q293 : (Jvm.Cond.selects "FilterWaterworks$Works" ({ cls := "FilterWaterworks$Works", name := "groups", desc := "()I" } : Jvm.MethodName) ({ cls := "FilterWaterworks$Works", name := "groups", desc := "()I" } : Jvm.MethodName)) ∈ lw_all := lw_g (lw_at lw_m1 226 rfl) rfl
theorem q294 : (Jvm.Cond.code ({ cls := "FilterWaterworks$Works", name := "groups", desc := "()I" } : Jvm.MethodName) prog_14_method_22_code (4 : Nat) (Option.some Jvm.ClassFile.FieldType.int)) ∈ lw_all := lw_g (lw_at lw_m1 227 rfl) rfl
theorem q295 : (Jvm.Cond.classLink "FilterWaterworks$Works" (179 : Nat) "FilterWaterworks$Works$Walk") ∈ lw_all := lw_g (lw_at lw_m1 228 rfl) rfl
theorem q297 : (Jvm.Cond.methodLink "FilterWaterworks$Works" (181 : Nat) ({ cls := "FilterWaterworks$Works$Walk", name := "<init>", desc := "(LFilterWaterworks$Works;II)V" } : Jvm.MethodName)) ∈ lw_all := lw_g (lw_at lw_m1 230 rfl) rfl
theorem q302 : (Jvm.Cond.fieldLinkNest "FilterWaterworks$Works" (186 : Nat) "FilterWaterworks$Works$Walk" "isReached" "[Z" "FilterWaterworks") ∈ lw_tbl := lw_at lw_m1 235 rfl
theorem q316 : (Jvm.Cond.interfaceEntry "FilterWaterworks$Works" (22 : Nat)) ∈ lw_tbl := lw_at lw_m2 9 rfl
theorem q317 : (Jvm.Cond.methodLink "FilterWaterworks$Works" (22 : Nat) ({ cls := "java/util/List", name := "size", desc := "()I" } : Jvm.MethodName)) ∈ lw_all := lw_g (lw_at lw_m2 10 rfl) rfl
theorem q318 : (Jvm.Cond.methodLink "FilterWaterworks$Works" (184 : Nat) ({ cls := "FilterWaterworks$Works$Walk", name := "from", desc := "(I)V" } : Jvm.MethodName)) ∈ lw_all := lw_g (lw_at lw_m2 11 rfl) rfl
theorem q689 : (Jvm.Cond.instanceMethod ({ cls := "FilterWaterworks$Works", name := "groupsByUnions", desc := "()I" } : Jvm.MethodName)) ∈ lw_all := lw_g (lw_at lw_m3 142 rfl) rfl
theorem q690 : (Jvm.Cond.selects "FilterWaterworks$Works" ({ cls := "FilterWaterworks$Works", name := "groupsByUnions", desc := "()I" } : Jvm.MethodName) ({ cls := "FilterWaterworks$Works", name := "groupsByUnions", desc := "()I" } : Jvm.MethodName)) ∈ lw_all := lw_g (lw_at lw_m3 143 rfl) rfl
theorem q691 : (Jvm.Cond.code ({ cls := "FilterWaterworks$Works", name := "groupsByUnions", desc := "()I" } : Jvm.MethodName) prog_14_method_24_code (6 : Nat) (Option.some Jvm.ClassFile.FieldType.int)) ∈ lw_all := lw_g (lw_at lw_m3 144 rfl) rfl
theorem q692 : (Jvm.Cond.interfaceEntry "FilterWaterworks$Works" (28 : Nat)) ∈ lw_tbl := lw_at lw_m3 145 rfl
theorem q693 : (Jvm.Cond.methodLink "FilterWaterworks$Works" (28 : Nat) ({ cls := "java/util/List", name := "get", desc := "(I)Ljava/lang/Object;" } : Jvm.MethodName)) ∈ lw_all := lw_g (lw_at lw_m3 146 rfl) rfl
theorem q694 : (Jvm.Cond.classLink "FilterWaterworks$Works" (42 : Nat) "FilterWaterworks$Pipe") ∈ lw_all := lw_g (lw_at lw_m3 147 rfl) rfl
theorem q695 : (Jvm.Cond.methodLink "FilterWaterworks$Works" (194 : Nat) ({ cls := "FilterWaterworks$Works", name := "rootOf", desc := "([II)I" } : Jvm.MethodName)) ∈ lw_all := lw_g (lw_at lw_m3 148 rfl) rfl
theorem q696 : (Jvm.Cond.static ({ cls := "FilterWaterworks$Works", name := "rootOf", desc := "([II)I" } : Jvm.MethodName)) ∈ lw_all := lw_g (lw_at lw_m3 149 rfl) rfl
theorem q697 : (Jvm.Cond.code ({ cls := "FilterWaterworks$Works", name := "rootOf", desc := "([II)I" } : Jvm.MethodName) prog_14_method_23_code (2 : Nat) (Option.some Jvm.ClassFile.FieldType.int)) ∈ lw_all := lw_g (lw_at lw_m3 150 rfl) rfl
theorem q698 : (Jvm.Cond.methodLink "FilterWaterworks$Works" (144 : Nat) ({ cls := "FilterWaterworks$Pipe", name := "isOpen", desc := "()Z" } : Jvm.MethodName)) ∈ lw_all := lw_g (lw_at lw_m3 151 rfl) rfl
theorem q705 : (Jvm.Cond.instanceMethod ({ cls := "FilterWaterworks$Works", name := "bridges", desc := "()I" } : Jvm.MethodName)) ∈ lw_all := lw_g (lw_at lw_m3 158 rfl) rfl
theorem q706 : (Jvm.Cond.selects "FilterWaterworks$Works" ({ cls := "FilterWaterworks$Works", name := "bridges", desc := "()I" } : Jvm.MethodName) ({ cls := "FilterWaterworks$Works", name := "bridges", desc := "()I" } : Jvm.MethodName)) ∈ lw_all := lw_g (lw_at lw_m3 159 rfl) rfl
theorem q707 : (Jvm.Cond.code ({ cls := "FilterWaterworks$Works", name := "bridges", desc := "()I" } : Jvm.MethodName) prog_14_method_27_code (3 : Nat) (Option.some Jvm.ClassFile.FieldType.int)) ∈ lw_all := lw_g (lw_at lw_m3 160 rfl) rfl
theorem q708 : (Jvm.Cond.classLink "FilterWaterworks$Works" (201 : Nat) "FilterWaterworks$Works$Numbering") ∈ lw_all := lw_g (lw_at lw_m3 161 rfl) rfl
theorem q710 : (Jvm.Cond.methodLinkNest "FilterWaterworks$Works" (203 : Nat) ({ cls := "FilterWaterworks$Works$Numbering", name := "<init>", desc := "(LFilterWaterworks$Works;)V" } : Jvm.MethodName) "FilterWaterworks") ∈ lw_tbl := lw_at lw_m3 163 rfl
theorem q717 : (Jvm.Cond.fieldLinkNest "FilterWaterworks$Works" (206 : Nat) "FilterWaterworks$Works$Numbering" "numbers" "[I" "FilterWaterworks") ∈ lw_tbl := lw_at lw_m3 170 rfl
theorem q721 : (Jvm.Cond.fieldLinkNest "FilterWaterworks$Works" (213 : Nat) "FilterWaterworks$Works$Numbering" "bridges" "I" "FilterWaterworks") ∈ lw_tbl := lw_at lw_m3 174 rfl
theorem q734 : (Jvm.Cond.methodLink "FilterWaterworks$Works" (210 : Nat) ({ cls := "FilterWaterworks$Works$Numbering", name := "visit", desc := "(II)V" } : Jvm.MethodName)) ∈ lw_all := lw_g (lw_at lw_m3 187 rfl) rfl
theorem q755 : (Jvm.Cond.instanceMethod ({ cls := "FilterWaterworks$Works", name := "bridgesByLeavingOut", desc := "()I" } : Jvm.MethodName)) ∈ lw_all := lw_g (lw_at lw_m3 208 rfl) rfl
theorem q756 : (Jvm.Cond.selects "FilterWaterworks$Works" ({ cls := "FilterWaterworks$Works", name := "bridgesByLeavingOut", desc := "()I" } : Jvm.MethodName) ({ cls := "FilterWaterworks$Works", name := "bridgesByLeavingOut", desc := "()I" } : Jvm.MethodName)) ∈ lw_all := lw_g (lw_at lw_m3 209 rfl) rfl
theorem q757 : (Jvm.Cond.code ({ cls := "FilterWaterworks$Works", name := "bridgesByLeavingOut", desc := "()I" } : Jvm.MethodName) prog_14_method_26_code (3 : Nat) (Option.some Jvm.ClassFile.FieldType.int)) ∈ lw_all := lw_g (lw_at lw_m3 210 rfl) rfl
theorem q758 : (Jvm.Cond.methodLink "FilterWaterworks$Works" (198 : Nat) ({ cls := "FilterWaterworks$Works", name := "isBridge", desc := "(I)Z" } : Jvm.MethodName)) ∈ lw_all := lw_g (lw_at lw_m3 211 rfl) rfl
theorem q759 : (Jvm.Cond.instanceMethod ({ cls := "FilterWaterworks$Works", name := "isBridge", desc := "(I)Z" } : Jvm.MethodName)) ∈ lw_all := lw_g (lw_at lw_m3 212 rfl) rfl
theorem q760 : (Jvm.Cond.selects "FilterWaterworks$Works" ({ cls := "FilterWaterworks$Works", name := "isBridge", desc := "(I)Z" } : Jvm.MethodName) ({ cls := "FilterWaterworks$Works", name := "isBridge", desc := "(I)Z" } : Jvm.MethodName)) ∈ lw_all := lw_g (lw_at lw_m3 213 rfl) rfl
theorem q761 : (Jvm.Cond.code ({ cls := "FilterWaterworks$Works", name := "isBridge", desc := "(I)Z" } : Jvm.MethodName) prog_14_method_25_code (3 : Nat) (Option.some Jvm.ClassFile.FieldType.boolean)) ∈ lw_all := lw_g (lw_at lw_m3 214 rfl) rfl
theorem q762 : (Jvm.Cond.methodLink "FilterWaterworks$Works" (190 : Nat) ({ cls := "FilterWaterworks$Works", name := "areConnected", desc := "(IIII)Z" } : Jvm.MethodName)) ∈ lw_all := lw_g (lw_at lw_m3 215 rfl) rfl
theorem q763 : (Jvm.Cond.privateMethod ({ cls := "FilterWaterworks$Works", name := "areConnected", desc := "(IIII)Z" } : Jvm.MethodName)) ∈ lw_tbl := lw_at lw_m3 216 rfl
theorem q764 : (Jvm.Cond.instanceMethod ({ cls := "FilterWaterworks$Works", name := "areConnected", desc := "(IIII)Z" } : Jvm.MethodName)) ∈ lw_all := lw_g (lw_at lw_m3 217 rfl) rfl
theorem q765 : (Jvm.Cond.code ({ cls := "FilterWaterworks$Works", name := "areConnected", desc := "(IIII)Z" } : Jvm.MethodName) prog_14_method_20_code (6 : Nat) (Option.some Jvm.ClassFile.FieldType.boolean)) ∈ lw_all := lw_g (lw_at lw_m3 218 rfl) rfl
theorem q787 : (Jvm.Cond.instanceMethod ({ cls := "FilterWaterworks$Works", name := "totalContent", desc := "()I" } : Jvm.MethodName)) ∈ lw_all := lw_g (lw_at lw_m4 0 rfl) rfl
theorem q788 : (Jvm.Cond.selects "FilterWaterworks$Works" ({ cls := "FilterWaterworks$Works", name := "totalContent", desc := "()I" } : Jvm.MethodName) ({ cls := "FilterWaterworks$Works", name := "totalContent", desc := "()I" } : Jvm.MethodName)) ∈ lw_all := lw_g (lw_at lw_m4 1 rfl) rfl
theorem q789 : (Jvm.Cond.code ({ cls := "FilterWaterworks$Works", name := "totalContent", desc := "()I" } : Jvm.MethodName) prog_14_method_36_code (3 : Nat) (Option.some Jvm.ClassFile.FieldType.int)) ∈ lw_all := lw_g (lw_at lw_m4 2 rfl) rfl
theorem q790 : (Jvm.Cond.classLink "FilterWaterworks$Works" (32 : Nat) "FilterWaterworks$Tank") ∈ lw_all := lw_g (lw_at lw_m4 3 rfl) rfl
theorem q796 : (Jvm.Cond.instanceMethod ({ cls := "FilterWaterworks$Works", name := "totalContentByAccounts", desc := "()I" } : Jvm.MethodName)) ∈ lw_all := lw_g (lw_at lw_m4 9 rfl) rfl
theorem q797 : (Jvm.Cond.selects "FilterWaterworks$Works" ({ cls := "FilterWaterworks$Works", name := "totalContentByAccounts", desc := "()I" } : Jvm.MethodName) ({ cls := "FilterWaterworks$Works", name := "totalContentByAccounts", desc := "()I" } : Jvm.MethodName)) ∈ lw_all := lw_g (lw_at lw_m4 10 rfl) rfl
theorem q798 : (Jvm.Cond.code ({ cls := "FilterWaterworks$Works", name := "totalContentByAccounts", desc := "()I" } : Jvm.MethodName) prog_14_method_37_code (1 : Nat) (Option.some Jvm.ClassFile.FieldType.int)) ∈ lw_all := lw_g (lw_at lw_m4 11 rfl) rfl
theorem q804 : (Jvm.Cond.instanceMethod ({ cls := "FilterWaterworks$Works", name := "fingerprint", desc := "()J" } : Jvm.MethodName)) ∈ lw_all := lw_g (lw_at lw_m4 17 rfl) rfl
theorem q805 : (Jvm.Cond.selects "FilterWaterworks$Works" ({ cls := "FilterWaterworks$Works", name := "fingerprint", desc := "()J" } : Jvm.MethodName) ({ cls := "FilterWaterworks$Works", name := "fingerprint", desc := "()J" } : Jvm.MethodName)) ∈ lw_all := lw_g (lw_at lw_m4 18 rfl) rfl
theorem q806 : (Jvm.Cond.code ({ cls := "FilterWaterworks$Works", name := "fingerprint", desc := "()J" } : Jvm.MethodName) prog_14_method_38_code (4 : Nat) (Option.some Jvm.ClassFile.FieldType.long)) ∈ lw_all := lw_g (lw_at lw_m4 19 rfl) rfl
theorem q807 : (Jvm.Cond.constantLong "FilterWaterworks$Works" (253 : Nat) (17 : Int64)) ∈ lw_all := lw_g (lw_at lw_m4 20 rfl) rfl
theorem q808 : (Jvm.Cond.methodLink "FilterWaterworks$Works" (255 : Nat) ({ cls := "FilterWaterworks$Tank", name := "mark", desc := "()J" } : Jvm.MethodName)) ∈ lw_all := lw_g (lw_at lw_m4 21 rfl) rfl
theorem q814 : (Jvm.Cond.methodLink "FilterWaterworks$Works" (259 : Nat) ({ cls := "FilterWaterworks$Pipe", name := "mark", desc := "()J" } : Jvm.MethodName)) ∈ lw_all := lw_g (lw_at lw_m4 27 rfl) rfl
theorem q826 : (Jvm.Cond.instanceMethod ({ cls := "FilterWaterworks$Works", name := "isConsistent", desc := "()Z" } : Jvm.MethodName)) ∈ lw_all := lw_g (lw_at lw_m4 39 rfl) rfl
theorem q827 : (Jvm.Cond.selects "FilterWaterworks$Works" ({ cls := "FilterWaterworks$Works", name := "isConsistent", desc := "()Z" } : Jvm.MethodName) ({ cls := "FilterWaterworks$Works", name := "isConsistent", desc := "()Z" } : Jvm.MethodName)) ∈ lw_all := lw_g (lw_at lw_m4 40 rfl) rfl
theorem q828 : (Jvm.Cond.code ({ cls := "FilterWaterworks$Works", name := "isConsistent", desc := "()Z" } : Jvm.MethodName) prog_14_method_40_code (3 : Nat) (Option.some Jvm.ClassFile.FieldType.boolean)) ∈ lw_all := lw_g (lw_at lw_m4 41 rfl) rfl
theorem q829 : (Jvm.Cond.methodLink "FilterWaterworks$Works" (277 : Nat) ({ cls := "FilterWaterworks$Works", name := "groups", desc := "()I" } : Jvm.MethodName)) ∈ lw_all := lw_g (lw_at lw_m4 42 rfl) rfl
theorem q830 : (Jvm.Cond.methodLink "FilterWaterworks$Works" (280 : Nat) ({ cls := "FilterWaterworks$Works", name := "groupsByUnions", desc := "()I" } : Jvm.MethodName)) ∈ lw_all := lw_g (lw_at lw_m4 43 rfl) rfl
theorem q831 : (Jvm.Cond.methodLink "FilterWaterworks$Works" (283 : Nat) ({ cls := "FilterWaterworks$Works", name := "bridges", desc := "()I" } : Jvm.MethodName)) ∈ lw_all := lw_g (lw_at lw_m4 44 rfl) rfl
theorem q832 : (Jvm.Cond.methodLink "FilterWaterworks$Works" (285 : Nat) ({ cls := "FilterWaterworks$Works", name := "bridgesByLeavingOut", desc := "()I" } : Jvm.MethodName)) ∈ lw_all := lw_g (lw_at lw_m4 45 rfl) rfl
theorem q833 : (Jvm.Cond.methodLink "FilterWaterworks$Works" (87 : Nat) ({ cls := "FilterWaterworks$Tank", name := "room", desc := "()I" } : Jvm.MethodName)) ∈ lw_all := lw_g (lw_at lw_m4 46 rfl) rfl
theorem q837 : (Jvm.Cond.methodLink "FilterWaterworks$Works" (288 : Nat) ({ cls := "FilterWaterworks$Works", name := "areWaysAlike", desc := "(I)Z" } : Jvm.MethodName)) ∈ lw_all := lw_g (lw_at lw_m4 50 rfl) rfl
theorem q838 : (Jvm.Cond.privateMethod ({ cls := "FilterWaterworks$Works", name := "areWaysAlike", desc := "(I)Z" } : Jvm.MethodName)) ∈ lw_tbl := lw_at lw_m4 51 rfl
theorem q839 : (Jvm.Cond.instanceMethod ({ cls := "FilterWaterworks$Works", name := "areWaysAlike", desc := "(I)Z" } : Jvm.MethodName)) ∈ lw_all := lw_g (lw_at lw_m4 52 rfl) rfl
theorem q840 : (Jvm.Cond.code ({ cls := "FilterWaterworks$Works", name := "areWaysAlike", desc := "(I)Z" } : Jvm.MethodName) prog_14_method_39_code (7 : Nat) (Option.some Jvm.ClassFile.FieldType.boolean)) ∈ lw_all := lw_g (lw_at lw_m4 53 rfl) rfl
theorem q841 : (Jvm.Cond.methodLink "FilterWaterworks$Works" (260 : Nat) ({ cls := "FilterWaterworks$Works", name := "widths", desc := "(I)[I" } : Jvm.MethodName)) ∈ lw_all := lw_g (lw_at lw_m4 54 rfl) rfl
theorem q842 : (Jvm.Cond.instanceMethod ({ cls := "FilterWaterworks$Works", name := "widths", desc := "(I)[I" } : Jvm.MethodName)) ∈ lw_all := lw_g (lw_at lw_m4 55 rfl) rfl
theorem q843 : (Jvm.Cond.selects "FilterWaterworks$Works" ({ cls := "FilterWaterworks$Works", name := "widths", desc := "(I)[I" } : Jvm.MethodName) ({ cls := "FilterWaterworks$Works", name := "widths", desc := "(I)[I" } : Jvm.MethodName)) ∈ lw_all := lw_g (lw_at lw_m4 56 rfl) rfl
theorem q844 : (Jvm.Cond.code ({ cls := "FilterWaterworks$Works", name := "widths", desc := "(I)[I" } : Jvm.MethodName) prog_14_method_28_code (8 : Nat) (Option.some (Jvm.ClassFile.FieldType.array Jvm.ClassFile.FieldType.int))) ∈ lw_all := lw_g (lw_at lw_m4 57 rfl) rfl
theorem q845 : (Jvm.Cond.methodLink "FilterWaterworks$Works" (216 : Nat) ({ cls := "FilterWaterworks$Pipe", name := "leadsFrom", desc := "(I)Z" } : Jvm.MethodName)) ∈ lw_all := lw_g (lw_at lw_m4 58 rfl) rfl
theorem q851 : (Jvm.Cond.methodLink "FilterWaterworks$Works" (140 : Nat) ({ cls := "FilterWaterworks$Pipe", name := "otherEnd", desc := "(I)I" } : Jvm.MethodName)) ∈ lw_all := lw_g (lw_at lw_m4 64 rfl) rfl
theorem q852 : (Jvm.Cond.methodLink "FilterWaterworks$Works" (148 : Nat) ({ cls := "java/lang/Math", name := "min", desc := "(II)I" } : Jvm.MethodName)) ∈ lw_all := lw_g (lw_at lw_m4 65 rfl) rfl
theorem q853 : (Jvm.Cond.methodLink "FilterWaterworks$Works" (219 : Nat) ({ cls := "java/lang/Math", name := "max", desc := "(II)I" } : Jvm.MethodName)) ∈ lw_all := lw_g (lw_at lw_m4 66 rfl) rfl
theorem q854 : (Jvm.Cond.methodLink "FilterWaterworks$Works" (222 : Nat) ({ cls := "FilterWaterworks$Works", name := "widest", desc := "([I[Z)I" } : Jvm.MethodName)) ∈ lw_all := lw_g (lw_at lw_m4 67 rfl) rfl
theorem q855 : (Jvm.Cond.static ({ cls := "FilterWaterworks$Works", name := "widest", desc := "([I[Z)I" } : Jvm.MethodName)) ∈ lw_all := lw_g (lw_at lw_m4 68 rfl) rfl
theorem q856 : (Jvm.Cond.code ({ cls := "FilterWaterworks$Works", name := "widest", desc := "([I[Z)I" } : Jvm.MethodName) prog_14_method_29_code (5 : Nat) (Option.some Jvm.ClassFile.FieldType.int)) ∈ lw_all := lw_g (lw_at lw_m4 69 rfl) rfl
theorem q857 : (Jvm.Cond.methodLink "FilterWaterworks$Works" (264 : Nat) ({ cls := "FilterWaterworks$Works", name := "reach", desc := "(I)LFilterWaterworks$Reach;" } : Jvm.MethodName)) ∈ lw_all := lw_g (lw_at lw_m4 70 rfl) rfl
theorem q858 : (Jvm.Cond.instanceMethod ({ cls := "FilterWaterworks$Works", name := "reach", desc := "(I)LFilterWaterworks$Reach;" } : Jvm.MethodName)) ∈ lw_all := lw_g (lw_at lw_m4 71 rfl) rfl
theorem q859 : (Jvm.Cond.selects "FilterWaterworks$Works" ({ cls := "FilterWaterworks$Works", name := "reach", desc := "(I)LFilterWaterworks$Reach;" } : Jvm.MethodName) ({ cls := "FilterWaterworks$Works", name := "reach", desc := "(I)LFilterWaterworks$Reach;" } : Jvm.MethodName)) ∈ lw_all := lw_g (lw_at lw_m4 72 rfl) rfl
theorem q860 : (Jvm.Cond.code ({ cls := "FilterWaterworks$Works", name := "reach", desc := "(I)LFilterWaterworks$Reach;" } : Jvm.MethodName) prog_14_method_31_code (10 : Nat) (Option.some (Jvm.ClassFile.FieldType.object "FilterWaterworks$Reach"))) ∈ lw_all := lw_g (lw_at lw_m4 73 rfl) rfl
theorem q861 : (Jvm.Cond.classLink "FilterWaterworks$Works" (226 : Nat) "FilterWaterworks$Reach") ∈ lw_all := lw_g (lw_at lw_m4 74 rfl) rfl
theorem q863 : (Jvm.Cond.methodLink "FilterWaterworks$Works" (228 : Nat) ({ cls := "FilterWaterworks$Reach", name := "<init>", desc := "(II)V" } : Jvm.MethodName)) ∈ lw_all := lw_g (lw_at lw_m4 76 rfl) rfl
theorem q868 : (Jvm.Cond.fieldLinkNest "FilterWaterworks$Works" (233 : Nat) "FilterWaterworks$Reach" "start" "I" "FilterWaterworks") ∈ lw_tbl := lw_at lw_m4 81 rfl
theorem q876 : (Jvm.Cond.methodLink "FilterWaterworks$Works" (230 : Nat) ({ cls := "FilterWaterworks$Reach", name := "states", desc := "()I" } : Jvm.MethodName)) ∈ lw_all := lw_g (lw_at lw_m4 89 rfl) rfl
theorem q882 : (Jvm.Cond.methodLink "FilterWaterworks$Works" (236 : Nat) ({ cls := "FilterWaterworks$Reach", name := "add", desc := "(II)Z" } : Jvm.MethodName)) ∈ lw_all := lw_g (lw_at lw_m4 95 rfl) rfl
theorem q890 : (Jvm.Cond.methodLink "FilterWaterworks$Works" (166 : Nat) ({ cls := "FilterWaterworks$Pipe", name := "cleaned", desc := "(I)I" } : Jvm.MethodName)) ∈ lw_all := lw_g (lw_at lw_m4 103 rfl) rfl
theorem q894 : (Jvm.Cond.methodLink "FilterWaterworks$Works" (268 : Nat) ({ cls := "FilterWaterworks$Works", name := "reachByPasses", desc := "(I)LFilterWaterworks$Reach;" } : Jvm.MethodName)) ∈ lw_all := lw_g (lw_at lw_m4 107 rfl) rfl
theorem q895 : (Jvm.Cond.instanceMethod ({ cls := "FilterWaterworks$Works", name := "reachByPasses", desc := "(I)LFilterWaterworks$Reach;" } : Jvm.MethodName)) ∈ lw_all := lw_g (lw_at lw_m4 108 rfl) rfl
theorem q896 : (Jvm.Cond.selects "FilterWaterworks$Works" ({ cls := "FilterWaterworks$Works", name := "reachByPasses", desc := "(I)LFilterWaterworks$Reach;" } : Jvm.MethodName) ({ cls := "FilterWaterworks$Works", name := "reachByPasses", desc := "(I)LFilterWaterworks$Reach;" } : Jvm.MethodName)) ∈ lw_all := lw_g (lw_at lw_m4 109 rfl) rfl
theorem q897 : (Jvm.Cond.code ({ cls := "FilterWaterworks$Works", name := "reachByPasses", desc := "(I)LFilterWaterworks$Reach;" } : Jvm.MethodName) prog_14_method_32_code (6 : Nat) (Option.some (Jvm.ClassFile.FieldType.object "FilterWaterworks$Reach"))) ∈ lw_all := lw_g (lw_at lw_m4 110 rfl) rfl
theorem q898 : (Jvm.Cond.methodLink "FilterWaterworks$Works" (239 : Nat) ({ cls := "FilterWaterworks$Works", name := "passes", desc := "(LFilterWaterworks$Reach;LFilterWaterworks$Pipe;I)Z" } : Jvm.MethodName)) ∈ lw_all := lw_g (lw_at lw_m4 111 rfl) rfl
theorem q899 : (Jvm.Cond.static ({ cls := "FilterWaterworks$Works", name := "passes", desc := "(LFilterWaterworks$Reach;LFilterWaterworks$Pipe;I)Z" } : Jvm.MethodName)) ∈ lw_all := lw_g (lw_at lw_m4 112 rfl) rfl
theorem q900 : (Jvm.Cond.code ({ cls := "FilterWaterworks$Works", name := "passes", desc := "(LFilterWaterworks$Reach;LFilterWaterworks$Pipe;I)Z" } : Jvm.MethodName) prog_14_method_33_code (5 : Nat) (Option.some Jvm.ClassFile.FieldType.boolean)) ∈ lw_all := lw_g (lw_at lw_m4 113 rfl) rfl
theorem q901 : (Jvm.Cond.methodLink "FilterWaterworks$Works" (243 : Nat) ({ cls := "FilterWaterworks$Reach", name := "has", desc := "(II)Z" } : Jvm.MethodName)) ∈ lw_all := lw_g (lw_at lw_m4 114 rfl) rfl
theorem q902 : (Jvm.Cond.methodLink "FilterWaterworks$Works" (271 : Nat) ({ cls := "FilterWaterworks$Works", name := "widthBySettings", desc := "(II)I" } : Jvm.MethodName)) ∈ lw_all := lw_g (lw_at lw_m4 115 rfl) rfl
theorem q903 : (Jvm.Cond.instanceMethod ({ cls := "FilterWaterworks$Works", name := "widthBySettings", desc := "(II)I" } : Jvm.MethodName)) ∈ lw_all := lw_g (lw_at lw_m4 116 rfl) rfl
theorem q904 : (Jvm.Cond.selects "FilterWaterworks$Works" ({ cls := "FilterWaterworks$Works", name := "widthBySettings", desc := "(II)I" } : Jvm.MethodName) ({ cls := "FilterWaterworks$Works", name := "widthBySettings", desc := "(II)I" } : Jvm.MethodName)) ∈ lw_all := lw_g (lw_at lw_m4 117 rfl) rfl
theorem q905 : (Jvm.Cond.code ({ cls := "FilterWaterworks$Works", name := "widthBySettings", desc := "(II)I" } : Jvm.MethodName) prog_14_method_30_code (4 : Nat) (Option.some Jvm.ClassFile.FieldType.int)) ∈ lw_all := lw_g (lw_at lw_m4 118 rfl) rfl
theorem q906 : (Jvm.Cond.methodLink "FilterWaterworks$Works" (274 : Nat) ({ cls := "FilterWaterworks$Reach", name := "fewest", desc := "(I)I" } : Jvm.MethodName)) ∈ lw_all := lw_g (lw_at lw_m4 119 rfl) rfl
theorem q910 : (Jvm.Cond.methodLink "FilterWaterworks$Works" (291 : Nat) ({ cls := "FilterWaterworks$Works", name := "totalContent", desc := "()I" } : Jvm.MethodName)) ∈ lw_all := lw_g (lw_at lw_m4 123 rfl) rfl
theorem q911 : (Jvm.Cond.methodLink "FilterWaterworks$Works" (294 : Nat) ({ cls := "FilterWaterworks$Works", name := "totalContentByAccounts", desc := "()I" } : Jvm.MethodName)) ∈ lw_all := lw_g (lw_at lw_m4 124 rfl) rfl
theorem q933 : (Jvm.Cond.instanceMethod ({ cls := "FilterWaterworks$Works", name := "copy", desc := "()LFilterWaterworks$Works;" } : Jvm.MethodName)) ∈ lw_all := lw_g (lw_at lw_m4 146 rfl) rfl
theorem q934 : (Jvm.Cond.selects "FilterWaterworks$Works" ({ cls := "FilterWaterworks$Works", name := "copy", desc := "()LFilterWaterworks$Works;" } : Jvm.MethodName) ({ cls := "FilterWaterworks$Works", name := "copy", desc := "()LFilterWaterworks$Works;" } : Jvm.MethodName)) ∈ lw_all := lw_g (lw_at lw_m4 147 rfl) rfl
theorem q935 : (Jvm.Cond.code ({ cls := "FilterWaterworks$Works", name := "copy", desc := "()LFilterWaterworks$Works;" } : Jvm.MethodName) prog_14_method_2_code (3 : Nat) (Option.some (Jvm.ClassFile.FieldType.object "FilterWaterworks$Works"))) ∈ lw_all := lw_g (lw_at lw_m4 148 rfl) rfl
theorem q936 : (Jvm.Cond.classLink "FilterWaterworks$Works" (13 : Nat) "FilterWaterworks$Works") ∈ lw_all := lw_g (lw_at lw_m4 149 rfl) rfl
theorem q937 : (Jvm.Cond.methodLink "FilterWaterworks$Works" (21 : Nat) ({ cls := "FilterWaterworks$Works", name := "<init>", desc := "()V" } : Jvm.MethodName)) ∈ lw_all := lw_g (lw_at lw_m4 150 rfl) rfl
theorem q938 : (Jvm.Cond.methodLink "FilterWaterworks$Works" (34 : Nat) ({ cls := "FilterWaterworks$Tank", name := "copy", desc := "()LFilterWaterworks$Tank;" } : Jvm.MethodName)) ∈ lw_all := lw_g (lw_at lw_m4 151 rfl) rfl
theorem q951 : (Jvm.Cond.fieldLinkNest "FilterWaterworks$Works" (96 : Nat) "FilterWaterworks$Tank" "content" "I" "FilterWaterworks") ∈ lw_tbl := lw_at lw_m4 164 rfl
theorem q954 : (Jvm.Cond.fieldLinkNest "FilterWaterworks$Works" (160 : Nat) "FilterWaterworks$Tank" "impurities" "I" "FilterWaterworks") ∈ lw_tbl := lw_at lw_m4 167 rfl
theorem q963 : (Jvm.Cond.interfaceEntry "FilterWaterworks$Works" (38 : Nat)) ∈ lw_tbl := lw_at lw_m4 176 rfl
theorem q964 : (Jvm.Cond.methodLink "FilterWaterworks$Works" (38 : Nat) ({ cls := "java/util/List", name := "add", desc := "(Ljava/lang/Object;)Z" } : Jvm.MethodName)) ∈ lw_all := lw_g (lw_at lw_m4 177 rfl) rfl
theorem q1002 : (Jvm.Cond.selects "FilterWaterworks$Works" ({ cls := "java/lang/Object", name := "getClass", desc := "()Ljava/lang/Class;" } : Jvm.MethodName) ({ cls := "java/lang/Object", name := "getClass", desc := "()Ljava/lang/Class;" } : Jvm.MethodName)) ∈ lw_all := lw_g (lw_at lw_m4 215 rfl) rfl
theorem q1057 : (Jvm.Cond.methodLink "FilterWaterworks$Works" (44 : Nat) ({ cls := "FilterWaterworks$Pipe", name := "copy", desc := "()LFilterWaterworks$Pipe;" } : Jvm.MethodName)) ∈ lw_all := lw_g (lw_at lw_m5 30 rfl) rfl
theorem q1069 : (Jvm.Cond.fieldLinkNest "FilterWaterworks$Works" (117 : Nat) "FilterWaterworks$Pipe" "first" "I" "FilterWaterworks") ∈ lw_tbl := lw_at lw_m5 42 rfl
theorem q1073 : (Jvm.Cond.fieldLinkNest "FilterWaterworks$Works" (120 : Nat) "FilterWaterworks$Pipe" "second" "I" "FilterWaterworks") ∈ lw_tbl := lw_at lw_m5 46 rfl
theorem q1079 : (Jvm.Cond.fieldLinkNest "FilterWaterworks$Works" (105 : Nat) "FilterWaterworks$Pipe" "setting" "I" "FilterWaterworks") ∈ lw_tbl := lw_at lw_m5 52 rfl
theorem q1082 : (Jvm.Cond.fieldLinkNest "FilterWaterworks$Works" (108 : Nat) "FilterWaterworks$Pipe" "rate" "I" "FilterWaterworks") ∈ lw_tbl := lw_at lw_m5 55 rfl
theorem q1085 : (Jvm.Cond.fieldLinkNest "FilterWaterworks$Works" (111 : Nat) "FilterWaterworks$Pipe" "dirt" "I" "FilterWaterworks") ∈ lw_tbl := lw_at lw_m5 58 rfl
theorem q1088 : (Jvm.Cond.fieldLinkNest "FilterWaterworks$Works" (163 : Nat) "FilterWaterworks$Pipe" "through" "I" "FilterWaterworks") ∈ lw_tbl := lw_at lw_m5 61 rfl
theorem q1203 : (Jvm.Cond.instanceMethod ({ cls := "FilterWaterworks$Works", name := "addTank", desc := "(I)I" } : Jvm.MethodName)) ∈ lw_all := lw_g (lw_at lw_m5 176 rfl) rfl
theorem q1204 : (Jvm.Cond.selects "FilterWaterworks$Works" ({ cls := "FilterWaterworks$Works", name := "addTank", desc := "(I)I" } : Jvm.MethodName) ({ cls := "FilterWaterworks$Works", name := "addTank", desc := "(I)I" } : Jvm.MethodName)) ∈ lw_all := lw_g (lw_at lw_m5 177 rfl) rfl
theorem q1205 : (Jvm.Cond.code ({ cls := "FilterWaterworks$Works", name := "addTank", desc := "(I)I" } : Jvm.MethodName) prog_14_method_5_code (2 : Nat) (Option.some Jvm.ClassFile.FieldType.int)) ∈ lw_all := lw_g (lw_at lw_m5 178 rfl) rfl
theorem q1206 : (Jvm.Cond.methodLinkNest "FilterWaterworks$Works" (60 : Nat) ({ cls := "FilterWaterworks", name := "isBetween", desc := "(III)Z" } : Jvm.MethodName) "FilterWaterworks") ∈ lw_tbl := lw_at lw_m5 179 rfl
theorem q1209 : (Jvm.Cond.stringRef "FilterWaterworks$Works" (64 : Nat) "argument") ∈ lw_tbl := lw_at lw_m5 182 rfl
theorem q1210 : (Jvm.Cond.methodLinkNest "FilterWaterworks$Works" (66 : Nat) ({ cls := "FilterWaterworks", name := "demand", desc := "(ZLjava/lang/String;)V" } : Jvm.MethodName) "FilterWaterworks") ∈ lw_tbl := lw_at lw_m5 183 rfl
theorem q1239 : (Jvm.Cond.stringRef "FilterWaterworks$Works" (70 : Nat) "state") ∈ lw_tbl := lw_at lw_m5 212 rfl
theorem q1240 : (Jvm.Cond.methodLink "FilterWaterworks$Works" (72 : Nat) ({ cls := "FilterWaterworks$Tank", name := "<init>", desc := "(I)V" } : Jvm.MethodName)) ∈ lw_all := lw_g (lw_at lw_m5 213 rfl) rfl
theorem q1244 : (Jvm.Cond.instanceMethod ({ cls := "FilterWaterworks$Works", name := "addPipe", desc := "(III)I" } : Jvm.MethodName)) ∈ lw_all := lw_g (lw_at lw_m5 217 rfl) rfl
theorem q1245 : (Jvm.Cond.selects "FilterWaterworks$Works" ({ cls := "FilterWaterworks$Works", name := "addPipe", desc := "(III)I" } : Jvm.MethodName) ({ cls := "FilterWaterworks$Works", name := "addPipe", desc := "(III)I" } : Jvm.MethodName)) ∈ lw_all := lw_g (lw_at lw_m5 218 rfl) rfl
theorem q1246 : (Jvm.Cond.code ({ cls := "FilterWaterworks$Works", name := "addPipe", desc := "(III)I" } : Jvm.MethodName) prog_14_method_6_code (4 : Nat) (Option.some Jvm.ClassFile.FieldType.int)) ∈ lw_all := lw_g (lw_at lw_m5 219 rfl) rfl
theorem q1247 : (Jvm.Cond.methodLink "FilterWaterworks$Works" (75 : Nat) ({ cls := "FilterWaterworks$Works", name := "hasTank", desc := "(I)Z" } : Jvm.MethodName)) ∈ lw_all := lw_g (lw_at lw_m5 220 rfl) rfl
theorem q1248 : (Jvm.Cond.instanceMethod ({ cls := "FilterWaterworks$Works", name := "hasTank", desc := "(I)Z" } : Jvm.MethodName)) ∈ lw_all := lw_g (lw_at lw_m5 221 rfl) rfl
theorem q1249 : (Jvm.Cond.selects "FilterWaterworks$Works" ({ cls := "FilterWaterworks$Works", name := "hasTank", desc := "(I)Z" } : Jvm.MethodName) ({ cls := "FilterWaterworks$Works", name := "hasTank", desc := "(I)Z" } : Jvm.MethodName)) ∈ lw_all := lw_g (lw_at lw_m5 222 rfl) rfl
theorem q1250 : (Jvm.Cond.code ({ cls := "FilterWaterworks$Works", name := "hasTank", desc := "(I)Z" } : Jvm.MethodName) prog_14_method_3_code (2 : Nat) (Option.some Jvm.ClassFile.FieldType.boolean)) ∈ lw_all := lw_g (lw_at lw_m5 223 rfl) rfl
theorem q1251 : (Jvm.Cond.stringRef "FilterWaterworks$Works" (79 : Nat) "index") ∈ lw_tbl := lw_at lw_m5 224 rfl
theorem q1252 : (Jvm.Cond.methodLinkNest "FilterWaterworks$Works" (81 : Nat) ({ cls := "FilterWaterworks", name := "isSet", desc := "(I)Z" } : Jvm.MethodName) "FilterWaterworks") ∈ lw_tbl := lw_at lw_m5 225 rfl
theorem q1256 : (Jvm.Cond.methodLink "FilterWaterworks$Works" (84 : Nat) ({ cls := "FilterWaterworks$Pipe", name := "<init>", desc := "(III)V" } : Jvm.MethodName)) ∈ lw_all := lw_g (lw_at lw_m5 229 rfl) rfl
theorem q1258 : (Jvm.Cond.instanceMethod ({ cls := "FilterWaterworks$Works", name := "pour", desc := "(III)I" } : Jvm.MethodName)) ∈ lw_all := lw_g (lw_at lw_m5 231 rfl) rfl
theorem q1259 : (Jvm.Cond.selects "FilterWaterworks$Works" ({ cls := "FilterWaterworks$Works", name := "pour", desc := "(III)I" } : Jvm.MethodName) ({ cls := "FilterWaterworks$Works", name := "pour", desc := "(III)I" } : Jvm.MethodName)) ∈ lw_all := lw_g (lw_at lw_m5 232 rfl) rfl
theorem q1260 : (Jvm.Cond.code ({ cls := "FilterWaterworks$Works", name := "pour", desc := "(III)I" } : Jvm.MethodName) prog_14_method_7_code (5 : Nat) (Option.some Jvm.ClassFile.FieldType.int)) ∈ lw_all := lw_g (lw_at lw_m5 233 rfl) rfl
theorem q1261 : (Jvm.Cond.stringRef "FilterWaterworks$Works" (90 : Nat) "rule") ∈ lw_tbl := lw_at lw_m5 234 rfl
theorem q1262 : (Jvm.Cond.methodLink "FilterWaterworks$Works" (92 : Nat) ({ cls := "FilterWaterworks$Tank", name := "fill", desc := "(II)V" } : Jvm.MethodName)) ∈ lw_all := lw_g (lw_at lw_m5 235 rfl) rfl
theorem q1267 : (Jvm.Cond.instanceMethod ({ cls := "FilterWaterworks$Works", name := "draw", desc := "(II)I" } : Jvm.MethodName)) ∈ lw_all := lw_g (lw_at lw_m6 0 rfl) rfl
theorem q1268 : (Jvm.Cond.selects "FilterWaterworks$Works" ({ cls := "FilterWaterworks$Works", name := "draw", desc := "(II)I" } : Jvm.MethodName) ({ cls := "FilterWaterworks$Works", name := "draw", desc := "(II)I" } : Jvm.MethodName)) ∈ lw_all := lw_g (lw_at lw_m6 1 rfl) rfl
theorem q1269 : (Jvm.Cond.code ({ cls := "FilterWaterworks$Works", name := "draw", desc := "(II)I" } : Jvm.MethodName) prog_14_method_8_code (4 : Nat) (Option.some Jvm.ClassFile.FieldType.int)) ∈ lw_all := lw_g (lw_at lw_m6 2 rfl) rfl
theorem q1270 : (Jvm.Cond.methodLink "FilterWaterworks$Works" (99 : Nat) ({ cls := "FilterWaterworks$Tank", name := "drain", desc := "(I)V" } : Jvm.MethodName)) ∈ lw_all := lw_g (lw_at lw_m6 3 rfl) rfl
theorem q1275 : (Jvm.Cond.instanceMethod ({ cls := "FilterWaterworks$Works", name := "setValve", desc := "(II)I" } : Jvm.MethodName)) ∈ lw_all := lw_g (lw_at lw_m6 8 rfl) rfl
theorem q1276 : (Jvm.Cond.selects "FilterWaterworks$Works" ({ cls := "FilterWaterworks$Works", name := "setValve", desc := "(II)I" } : Jvm.MethodName) ({ cls := "FilterWaterworks$Works", name := "setValve", desc := "(II)I" } : Jvm.MethodName)) ∈ lw_all := lw_g (lw_at lw_m6 9 rfl) rfl
theorem q1277 : (Jvm.Cond.code ({ cls := "FilterWaterworks$Works", name := "setValve", desc := "(II)I" } : Jvm.MethodName) prog_14_method_9_code (4 : Nat) (Option.some Jvm.ClassFile.FieldType.int)) ∈ lw_all := lw_g (lw_at lw_m6 10 rfl) rfl
theorem q1278 : (Jvm.Cond.methodLink "FilterWaterworks$Works" (102 : Nat) ({ cls := "FilterWaterworks$Works", name := "hasPipe", desc := "(I)Z" } : Jvm.MethodName)) ∈ lw_all := lw_g (lw_at lw_m6 11 rfl) rfl
theorem q1279 : (Jvm.Cond.instanceMethod ({ cls := "FilterWaterworks$Works", name := "hasPipe", desc := "(I)Z" } : Jvm.MethodName)) ∈ lw_all := lw_g (lw_at lw_m6 12 rfl) rfl
theorem q1280 : (Jvm.Cond.selects "FilterWaterworks$Works" ({ cls := "FilterWaterworks$Works", name := "hasPipe", desc := "(I)Z" } : Jvm.MethodName) ({ cls := "FilterWaterworks$Works", name := "hasPipe", desc := "(I)Z" } : Jvm.MethodName)) ∈ lw_all := lw_g (lw_at lw_m6 13 rfl) rfl
theorem q1281 : (Jvm.Cond.code ({ cls := "FilterWaterworks$Works", name := "hasPipe", desc := "(I)Z" } : Jvm.MethodName) prog_14_method_4_code (2 : Nat) (Option.some Jvm.ClassFile.FieldType.boolean)) ∈ lw_all := lw_g (lw_at lw_m6 14 rfl) rfl
theorem q1283 : (Jvm.Cond.instanceMethod ({ cls := "FilterWaterworks$Works", name := "setLeak", desc := "(II)I" } : Jvm.MethodName)) ∈ lw_all := lw_g (lw_at lw_m6 16 rfl) rfl
theorem q1284 : (Jvm.Cond.selects "FilterWaterworks$Works" ({ cls := "FilterWaterworks$Works", name := "setLeak", desc := "(II)I" } : Jvm.MethodName) ({ cls := "FilterWaterworks$Works", name := "setLeak", desc := "(II)I" } : Jvm.MethodName)) ∈ lw_all := lw_g (lw_at lw_m6 17 rfl) rfl
theorem q1285 : (Jvm.Cond.code ({ cls := "FilterWaterworks$Works", name := "setLeak", desc := "(II)I" } : Jvm.MethodName) prog_14_method_10_code (4 : Nat) (Option.some Jvm.ClassFile.FieldType.int)) ∈ lw_all := lw_g (lw_at lw_m6 18 rfl) rfl
theorem q1287 : (Jvm.Cond.instanceMethod ({ cls := "FilterWaterworks$Works", name := "cleanFilter", desc := "(I)I" } : Jvm.MethodName)) ∈ lw_all := lw_g (lw_at lw_m6 20 rfl) rfl
theorem q1288 : (Jvm.Cond.selects "FilterWaterworks$Works" ({ cls := "FilterWaterworks$Works", name := "cleanFilter", desc := "(I)I" } : Jvm.MethodName) ({ cls := "FilterWaterworks$Works", name := "cleanFilter", desc := "(I)I" } : Jvm.MethodName)) ∈ lw_all := lw_g (lw_at lw_m6 21 rfl) rfl
theorem q1289 : (Jvm.Cond.code ({ cls := "FilterWaterworks$Works", name := "cleanFilter", desc := "(I)I" } : Jvm.MethodName) prog_14_method_11_code (3 : Nat) (Option.some Jvm.ClassFile.FieldType.int)) ∈ lw_all := lw_g (lw_at lw_m6 22 rfl) rfl
theorem q1291 : (Jvm.Cond.instanceMethod ({ cls := "FilterWaterworks$Works", name := "advance", desc := "(I)I" } : Jvm.MethodName)) ∈ lw_all := lw_g (lw_at lw_m6 24 rfl) rfl
theorem q1292 : (Jvm.Cond.selects "FilterWaterworks$Works" ({ cls := "FilterWaterworks$Works", name := "advance", desc := "(I)I" } : Jvm.MethodName) ({ cls := "FilterWaterworks$Works", name := "advance", desc := "(I)I" } : Jvm.MethodName)) ∈ lw_all := lw_g (lw_at lw_m6 25 rfl) rfl
theorem q1293 : (Jvm.Cond.code ({ cls := "FilterWaterworks$Works", name := "advance", desc := "(I)I" } : Jvm.MethodName) prog_14_method_12_code (4 : Nat) (Option.some Jvm.ClassFile.FieldType.int)) ∈ lw_all := lw_g (lw_at lw_m6 26 rfl) rfl
theorem q1294 : (Jvm.Cond.methodLink "FilterWaterworks$Works" (114 : Nat) ({ cls := "FilterWaterworks$Works", name := "passMinute", desc := "()V" } : Jvm.MethodName)) ∈ lw_all := lw_g (lw_at lw_m6 27 rfl) rfl
theorem q1295 : (Jvm.Cond.privateMethod ({ cls := "FilterWaterworks$Works", name := "passMinute", desc := "()V" } : Jvm.MethodName)) ∈ lw_tbl := lw_at lw_m6 28 rfl
theorem q1296 : (Jvm.Cond.instanceMethod ({ cls := "FilterWaterworks$Works", name := "passMinute", desc := "()V" } : Jvm.MethodName)) ∈ lw_all := lw_g (lw_at lw_m6 29 rfl) rfl
theorem q1297 : (Jvm.Cond.code ({ cls := "FilterWaterworks$Works", name := "passMinute", desc := "()V" } : Jvm.MethodName) prog_14_method_17_code (3 : Nat) (Option.none : Option Jvm.ClassFile.FieldType)) ∈ lw_all := lw_g (lw_at lw_m6 30 rfl) rfl
theorem q1298 : (Jvm.Cond.methodLink "FilterWaterworks$Works" (154 : Nat) ({ cls := "FilterWaterworks$Works", name := "litres", desc := "(LFilterWaterworks$Pipe;)I" } : Jvm.MethodName)) ∈ lw_all := lw_g (lw_at lw_m6 31 rfl) rfl
theorem q1299 : (Jvm.Cond.instanceMethod ({ cls := "FilterWaterworks$Works", name := "litres", desc := "(LFilterWaterworks$Pipe;)I" } : Jvm.MethodName)) ∈ lw_all := lw_g (lw_at lw_m6 32 rfl) rfl
theorem q1300 : (Jvm.Cond.selects "FilterWaterworks$Works" ({ cls := "FilterWaterworks$Works", name := "litres", desc := "(LFilterWaterworks$Pipe;)I" } : Jvm.MethodName) ({ cls := "FilterWaterworks$Works", name := "litres", desc := "(LFilterWaterworks$Pipe;)I" } : Jvm.MethodName)) ∈ lw_all := lw_g (lw_at lw_m6 33 rfl) rfl
theorem q1301 : (Jvm.Cond.code ({ cls := "FilterWaterworks$Works", name := "litres", desc := "(LFilterWaterworks$Pipe;)I" } : Jvm.MethodName) prog_14_method_14_code (6 : Nat) (Option.some Jvm.ClassFile.FieldType.int)) ∈ lw_all := lw_g (lw_at lw_m6 34 rfl) rfl
theorem q1302 : (Jvm.Cond.methodLink "FilterWaterworks$Works" (132 : Nat) ({ cls := "FilterWaterworks$Works", name := "direction", desc := "(LFilterWaterworks$Pipe;)LFilterWaterworks$Direction;" } : Jvm.MethodName)) ∈ lw_all := lw_g (lw_at lw_m6 35 rfl) rfl
theorem q1303 : (Jvm.Cond.privateMethod ({ cls := "FilterWaterworks$Works", name := "direction", desc := "(LFilterWaterworks$Pipe;)LFilterWaterworks$Direction;" } : Jvm.MethodName)) ∈ lw_tbl := lw_at lw_m6 36 rfl
theorem q1304 : (Jvm.Cond.instanceMethod ({ cls := "FilterWaterworks$Works", name := "direction", desc := "(LFilterWaterworks$Pipe;)LFilterWaterworks$Direction;" } : Jvm.MethodName)) ∈ lw_all := lw_g (lw_at lw_m6 37 rfl) rfl
theorem q1305 : (Jvm.Cond.code ({ cls := "FilterWaterworks$Works", name := "direction", desc := "(LFilterWaterworks$Pipe;)LFilterWaterworks$Direction;" } : Jvm.MethodName) prog_14_method_13_code (3 : Nat) (Option.some (Jvm.ClassFile.FieldType.object "FilterWaterworks$Direction"))) ∈ lw_all := lw_g (lw_at lw_m6 38 rfl) rfl
theorem q1306 : (Jvm.Cond.fieldLink "FilterWaterworks$Works" (123 : Nat) "FilterWaterworks$Direction" "FORWARD" "LFilterWaterworks$Direction;") ∈ lw_all := lw_g (lw_at lw_m6 39 rfl) rfl
theorem q1308 : (Jvm.Cond.fieldLink "FilterWaterworks$Works" (129 : Nat) "FilterWaterworks$Direction" "BACKWARD" "LFilterWaterworks$Direction;") ∈ lw_all := lw_g (lw_at lw_m6 41 rfl) rfl
theorem q1310 : (Jvm.Cond.methodLink "FilterWaterworks$Works" (136 : Nat) ({ cls := "FilterWaterworks$Direction", name := "from", desc := "(LFilterWaterworks$Pipe;)I" } : Jvm.MethodName)) ∈ lw_all := lw_g (lw_at lw_m6 43 rfl) rfl
theorem q1319 : (Jvm.Cond.methodLink "FilterWaterworks$Works" (172 : Nat) ({ cls := "FilterWaterworks$Works", name := "flow", desc := "(LFilterWaterworks$Pipe;I)V" } : Jvm.MethodName)) ∈ lw_all := lw_g (lw_at lw_m6 52 rfl) rfl
theorem q1320 : (Jvm.Cond.privateMethod ({ cls := "FilterWaterworks$Works", name := "flow", desc := "(LFilterWaterworks$Pipe;I)V" } : Jvm.MethodName)) ∈ lw_tbl := lw_at lw_m6 53 rfl
theorem q1321 : (Jvm.Cond.instanceMethod ({ cls := "FilterWaterworks$Works", name := "flow", desc := "(LFilterWaterworks$Pipe;I)V" } : Jvm.MethodName)) ∈ lw_all := lw_g (lw_at lw_m6 54 rfl) rfl
theorem q1322 : (Jvm.Cond.code ({ cls := "FilterWaterworks$Works", name := "flow", desc := "(LFilterWaterworks$Pipe;I)V" } : Jvm.MethodName) prog_14_method_16_code (7 : Nat) (Option.none : Option Jvm.ClassFile.FieldType)) ∈ lw_all := lw_g (lw_at lw_m6 55 rfl) rfl
theorem q1323 : (Jvm.Cond.methodLink "FilterWaterworks$Works" (169 : Nat) ({ cls := "FilterWaterworks$Pipe", name := "soil", desc := "(I)V" } : Jvm.MethodName)) ∈ lw_all := lw_g (lw_at lw_m6 56 rfl) rfl
theorem q1556 : (Jvm.Cond.instanceMethod ({ cls := "FilterWaterworks$Works", name := "tankAt", desc := "(I)I" } : Jvm.MethodName)) ∈ lw_all := lw_g (lw_at lw_m7 49 rfl) rfl
theorem q1557 : (Jvm.Cond.selects "FilterWaterworks$Works" ({ cls := "FilterWaterworks$Works", name := "tankAt", desc := "(I)I" } : Jvm.MethodName) ({ cls := "FilterWaterworks$Works", name := "tankAt", desc := "(I)I" } : Jvm.MethodName)) ∈ lw_all := lw_g (lw_at lw_m7 50 rfl) rfl
theorem q1558 : (Jvm.Cond.code ({ cls := "FilterWaterworks$Works", name := "tankAt", desc := "(I)I" } : Jvm.MethodName) prog_14_method_34_code (6 : Nat) (Option.some Jvm.ClassFile.FieldType.int)) ∈ lw_all := lw_g (lw_at lw_m7 51 rfl) rfl
theorem q1559 : (Jvm.Cond.methodLink "FilterWaterworks$Works" (246 : Nat) ({ cls := "FilterWaterworks$Tank", name := "isTiedWith", desc := "(LFilterWaterworks$Tank;)Z" } : Jvm.MethodName)) ∈ lw_all := lw_g (lw_at lw_m7 52 rfl) rfl
theorem q1564 : (Jvm.Cond.methodLink "FilterWaterworks$Works" (250 : Nat) ({ cls := "FilterWaterworks$Tank", name := "isAheadOf", desc := "(LFilterWaterworks$Tank;)Z" } : Jvm.MethodName)) ∈ lw_all := lw_g (lw_at lw_m7 57 rfl) rfl
theorem q1665 : (Jvm.Cond.instanceMethod ({ cls := "FilterWaterworks$Works", name := "signedLitres", desc := "(LFilterWaterworks$Pipe;)I" } : Jvm.MethodName)) ∈ lw_all := lw_g (lw_at lw_m7 158 rfl) rfl
theorem q1666 : (Jvm.Cond.selects "FilterWaterworks$Works" ({ cls := "FilterWaterworks$Works", name := "signedLitres", desc := "(LFilterWaterworks$Pipe;)I" } : Jvm.MethodName) ({ cls := "FilterWaterworks$Works", name := "signedLitres", desc := "(LFilterWaterworks$Pipe;)I" } : Jvm.MethodName)) ∈ lw_all := lw_g (lw_at lw_m7 159 rfl) rfl
theorem q1667 : (Jvm.Cond.code ({ cls := "FilterWaterworks$Works", name := "signedLitres", desc := "(LFilterWaterworks$Pipe;)I" } : Jvm.MethodName) prog_14_method_15_code (2 : Nat) (Option.some Jvm.ClassFile.FieldType.int)) ∈ lw_all := lw_g (lw_at lw_m7 160 rfl) rfl
theorem q1668 : (Jvm.Cond.methodLink "FilterWaterworks$Works" (157 : Nat) ({ cls := "FilterWaterworks$Direction", name := "signed", desc := "(I)I" } : Jvm.MethodName)) ∈ lw_all := lw_g (lw_at lw_m7 161 rfl) rfl
theorem q1692 : (Jvm.Cond.instanceMethod ({ cls := "FilterWaterworks$Works", name := "pipeAt", desc := "(I)I" } : Jvm.MethodName)) ∈ lw_all := lw_g (lw_at lw_m7 185 rfl) rfl
theorem q1693 : (Jvm.Cond.selects "FilterWaterworks$Works" ({ cls := "FilterWaterworks$Works", name := "pipeAt", desc := "(I)I" } : Jvm.MethodName) ({ cls := "FilterWaterworks$Works", name := "pipeAt", desc := "(I)I" } : Jvm.MethodName)) ∈ lw_all := lw_g (lw_at lw_m7 186 rfl) rfl
theorem q1694 : (Jvm.Cond.code ({ cls := "FilterWaterworks$Works", name := "pipeAt", desc := "(I)I" } : Jvm.MethodName) prog_14_method_35_code (6 : Nat) (Option.some Jvm.ClassFile.FieldType.int)) ∈ lw_all := lw_g (lw_at lw_m7 187 rfl) rfl
theorem q1707 : (Jvm.Cond.instanceMethod ({ cls := "FilterWaterworks$Works", name := "areConnected", desc := "(II)Z" } : Jvm.MethodName)) ∈ lw_all := lw_g (lw_at lw_m7 200 rfl) rfl
theorem q1708 : (Jvm.Cond.selects "FilterWaterworks$Works" ({ cls := "FilterWaterworks$Works", name := "areConnected", desc := "(II)Z" } : Jvm.MethodName) ({ cls := "FilterWaterworks$Works", name := "areConnected", desc := "(II)Z" } : Jvm.MethodName)) ∈ lw_all := lw_g (lw_at lw_m7 201 rfl) rfl
theorem q1709 : (Jvm.Cond.code ({ cls := "FilterWaterworks$Works", name := "areConnected", desc := "(II)Z" } : Jvm.MethodName) prog_14_method_21_code (3 : Nat) (Option.some Jvm.ClassFile.FieldType.boolean)) ∈ lw_all := lw_g (lw_at lw_m7 202 rfl) rfl
theorem q1759 : (Jvm.Cond.instanceMethod ({ cls := "FilterWaterworks$Works", name := "minutesUntilStill", desc := "()I" } : Jvm.MethodName)) ∈ lw_all := lw_g (lw_at lw_m8 12 rfl) rfl
theorem q1760 : (Jvm.Cond.selects "FilterWaterworks$Works" ({ cls := "FilterWaterworks$Works", name := "minutesUntilStill", desc := "()I" } : Jvm.MethodName) ({ cls := "FilterWaterworks$Works", name := "minutesUntilStill", desc := "()I" } : Jvm.MethodName)) ∈ lw_all := lw_g (lw_at lw_m8 13 rfl) rfl
theorem q1761 : (Jvm.Cond.code ({ cls := "FilterWaterworks$Works", name := "minutesUntilStill", desc := "()I" } : Jvm.MethodName) prog_14_method_19_code (2 : Nat) (Option.some Jvm.ClassFile.FieldType.int)) ∈ lw_all := lw_g (lw_at lw_m8 14 rfl) rfl
theorem q1762 : (Jvm.Cond.methodLink "FilterWaterworks$Works" (176 : Nat) ({ cls := "FilterWaterworks$Works", name := "isStill", desc := "()Z" } : Jvm.MethodName)) ∈ lw_all := lw_g (lw_at lw_m8 15 rfl) rfl
theorem q1763 : (Jvm.Cond.instanceMethod ({ cls := "FilterWaterworks$Works", name := "isStill", desc := "()Z" } : Jvm.MethodName)) ∈ lw_all := lw_g (lw_at lw_m8 16 rfl) rfl
theorem q1764 : (Jvm.Cond.selects "FilterWaterworks$Works" ({ cls := "FilterWaterworks$Works", name := "isStill", desc := "()Z" } : Jvm.MethodName) ({ cls := "FilterWaterworks$Works", name := "isStill", desc := "()Z" } : Jvm.MethodName)) ∈ lw_all := lw_g (lw_at lw_m8 17 rfl) rfl
theorem q1765 : (Jvm.Cond.code ({ cls := "FilterWaterworks$Works", name := "isStill", desc := "()Z" } : Jvm.MethodName) prog_14_method_18_code (3 : Nat) (Option.some Jvm.ClassFile.FieldType.boolean)) ∈ lw_all := lw_g (lw_at lw_m8 18 rfl) rfl
theorem q2074 : (Jvm.Cond.selects "FilterWaterworks$Works" ({ cls := "java/lang/Object", name := "toString", desc := "()Ljava/lang/String;" } : Jvm.MethodName) ({ cls := "java/lang/Object", name := "toString", desc := "()Ljava/lang/String;" } : Jvm.MethodName)) ∈ lw_all := lw_g (lw_at lw_m9 87 rfl) rfl
theorem q2836 : (Jvm.Cond.castable "FilterWaterworks$Works" "java/lang/Object") ∈ lw_tbl := lw_at lw_m12 129 rfl
theorem in_X2 : ∀ w ∈ wsX20, w ∈ lw_all := lw_in wsX20 [174, 176, 178, 180, 182, 184] (by decide +kernel) (by decide +kernel)

