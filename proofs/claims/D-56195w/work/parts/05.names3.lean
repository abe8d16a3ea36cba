/-! FilterWaterworks$Tank -/
set_option maxRecDepth 100000
def RX4 : String := "FilterWaterworks$Tank"
def TX4 : u_T := fun k => match k with
  | 0 => ("FilterWaterworks$Tank", "capacity", "I", true)
  | 1 => ("FilterWaterworks$Tank", "content", "I", false)
  | _ => ("FilterWaterworks$Tank", "impurities", "I", false)
def tyX4 : Nat → FieldType := fun k => match k with
  | 0 => .int
  | 1 => .int
  | _ => .int
abbrev wsX40 : List Cond := u_ws RX4 TX4 3
theorem nmX4 : ∀ a, a < 3 → ∀ b, b < 3 → a ≠ b → (TX4 a).2.1 ≠ (TX4 b).2.1 := by decide +kernel
theorem tyX4_ok : ∀ k, k < 3 → parseFieldDescriptor (TX4 k).2.2.1 = some (tyX4 k) := by decide +kernel
abbrev cX4_mark : ByteArray := prog_13_method_9_code
def yX4_mark : MethodName := ⟨RX4, "mark", "()J"⟩
def dkwX4_mark_1 : List UInt8 := [97, 173]
abbrev dktX4_mark_1 : List UInt8 := dkwX4_mark_1 ++ []
def dkwX4_mark_0 : List UInt8 := [42, 180, 0, 16, 133, 20, 0, 28, 42, 180, 0, 12, 133, 105, 97, 20, 0, 30, 42, 180, 0, 19, 133, 105]
abbrev dktX4_mark_0 : List UInt8 := dkwX4_mark_0 ++ dktX4_mark_1
theorem dksX4_mark_0 : cX4_mark.data.toList.drop 0 = dktX4_mark_0 := by decide +kernel
theorem dksX4_mark_1 : cX4_mark.data.toList.drop 24 = dktX4_mark_1 := dk_seg dksX4_mark_0 24 rfl rfl
theorem dX4_mark_0 : decode cX4_mark 0 = .ok (.aload_n 0, 1) := dk_42 (dk_at dksX4_mark_0 0 rfl rfl)
theorem dX4_mark_1 : decode cX4_mark 1 = .ok (.getfield 16, 3) := dk_180 0 16 (dk_at dksX4_mark_0 1 rfl rfl)
theorem dX4_mark_4 : decode cX4_mark 4 = .ok (.i2l, 1) := dk_133 (dk_at dksX4_mark_0 4 rfl rfl)
theorem dX4_mark_5 : decode cX4_mark 5 = .ok (.ldc2_w 28, 3) := dk_20 0 28 (dk_at dksX4_mark_0 5 rfl rfl)
theorem dX4_mark_8 : decode cX4_mark 8 = .ok (.aload_n 0, 1) := dk_42 (dk_at dksX4_mark_0 8 rfl rfl)
theorem dX4_mark_9 : decode cX4_mark 9 = .ok (.getfield 12, 3) := dk_180 0 12 (dk_at dksX4_mark_0 9 rfl rfl)
theorem dX4_mark_12 : decode cX4_mark 12 = .ok (.i2l, 1) := dk_133 (dk_at dksX4_mark_0 12 rfl rfl)
theorem dX4_mark_13 : decode cX4_mark 13 = .ok (.lmul, 1) := dk_105 (dk_at dksX4_mark_0 13 rfl rfl)
theorem dX4_mark_14 : decode cX4_mark 14 = .ok (.ladd, 1) := dk_97 (dk_at dksX4_mark_0 14 rfl rfl)
theorem dX4_mark_15 : decode cX4_mark 15 = .ok (.ldc2_w 30, 3) := dk_20 0 30 (dk_at dksX4_mark_0 15 rfl rfl)
theorem dX4_mark_18 : decode cX4_mark 18 = .ok (.aload_n 0, 1) := dk_42 (dk_at dksX4_mark_0 18 rfl rfl)
theorem dX4_mark_19 : decode cX4_mark 19 = .ok (.getfield 19, 3) := dk_180 0 19 (dk_at dksX4_mark_0 19 rfl rfl)
theorem dX4_mark_22 : decode cX4_mark 22 = .ok (.i2l, 1) := dk_133 (dk_at dksX4_mark_0 22 rfl rfl)
theorem dX4_mark_23 : decode cX4_mark 23 = .ok (.lmul, 1) := dk_105 (dk_at dksX4_mark_0 23 rfl rfl)
theorem dX4_mark_24 : decode cX4_mark 24 = .ok (.ladd, 1) := dk_97 (dk_at dksX4_mark_1 0 rfl rfl)
theorem dX4_mark_25 : decode cX4_mark 25 = .ok (.lreturn, 1) := dk_173 (dk_at dksX4_mark_1 1 rfl rfl)
abbrev cX4_room : ByteArray := prog_13_method_4_code
def yX4_room : MethodName := ⟨RX4, "room", "()I"⟩
def dkwX4_room_0 : List UInt8 := [42, 180, 0, 12, 42, 180, 0, 16, 100, 172]
abbrev dktX4_room_0 : List UInt8 := dkwX4_room_0 ++ []
theorem dksX4_room_0 : cX4_room.data.toList.drop 0 = dktX4_room_0 := by decide +kernel
theorem dX4_room_0 : decode cX4_room 0 = .ok (.aload_n 0, 1) := dk_42 (dk_at dksX4_room_0 0 rfl rfl)
theorem dX4_room_1 : decode cX4_room 1 = .ok (.getfield 12, 3) := dk_180 0 12 (dk_at dksX4_room_0 1 rfl rfl)
theorem dX4_room_4 : decode cX4_room 4 = .ok (.aload_n 0, 1) := dk_42 (dk_at dksX4_room_0 4 rfl rfl)
theorem dX4_room_5 : decode cX4_room 5 = .ok (.getfield 16, 3) := dk_180 0 16 (dk_at dksX4_room_0 5 rfl rfl)
theorem dX4_room_8 : decode cX4_room 8 = .ok (.isub, 1) := dk_100 (dk_at dksX4_room_0 8 rfl rfl)
theorem dX4_room_9 : decode cX4_room 9 = .ok (.ireturn, 1) := dk_172 (dk_at dksX4_room_0 9 rfl rfl)
abbrev cX4_copy : ByteArray := prog_13_method_3_code
def yX4_copy : MethodName := ⟨RX4, "copy", "()LFilterWaterworks$Tank;"⟩
def dkwX4_copy_0 : List UInt8 := [187, 0, 2, 89, 42, 180, 0, 12, 42, 180, 0, 16, 42, 180, 0, 19, 183, 0, 1, 176]
abbrev dktX4_copy_0 : List UInt8 := dkwX4_copy_0 ++ []
theorem dksX4_copy_0 : cX4_copy.data.toList.drop 0 = dktX4_copy_0 := by decide +kernel
theorem dX4_copy_0 : decode cX4_copy 0 = .ok (.new 2, 3) := dk_187 0 2 (dk_at dksX4_copy_0 0 rfl rfl)
theorem dX4_copy_3 : decode cX4_copy 3 = .ok (.dup, 1) := dk_89 (dk_at dksX4_copy_0 3 rfl rfl)
theorem dX4_copy_4 : decode cX4_copy 4 = .ok (.aload_n 0, 1) := dk_42 (dk_at dksX4_copy_0 4 rfl rfl)
theorem dX4_copy_5 : decode cX4_copy 5 = .ok (.getfield 12, 3) := dk_180 0 12 (dk_at dksX4_copy_0 5 rfl rfl)
theorem dX4_copy_8 : decode cX4_copy 8 = .ok (.aload_n 0, 1) := dk_42 (dk_at dksX4_copy_0 8 rfl rfl)
theorem dX4_copy_9 : decode cX4_copy 9 = .ok (.getfield 16, 3) := dk_180 0 16 (dk_at dksX4_copy_0 9 rfl rfl)
theorem dX4_copy_12 : decode cX4_copy 12 = .ok (.aload_n 0, 1) := dk_42 (dk_at dksX4_copy_0 12 rfl rfl)
theorem dX4_copy_13 : decode cX4_copy 13 = .ok (.getfield 19, 3) := dk_180 0 19 (dk_at dksX4_copy_0 13 rfl rfl)
theorem dX4_copy_16 : decode cX4_copy 16 = .ok (.invokespecial 1, 3) := dk_183 0 1 (dk_at dksX4_copy_0 16 rfl rfl)
theorem dX4_copy_19 : decode cX4_copy 19 = .ok (.areturn, 1) := dk_176 (dk_at dksX4_copy_0 19 rfl rfl)
abbrev cX4_init : ByteArray := prog_13_method_2_code
def yX4_init : MethodName := ⟨RX4, "<init>", "(III)V"⟩
def dkwX4_init_0 : List UInt8 := [42, 183, 0, 7, 42, 27, 181, 0, 12, 42, 28, 181, 0, 16, 42, 29, 181, 0, 19, 177]
abbrev dktX4_init_0 : List UInt8 := dkwX4_init_0 ++ []
theorem dksX4_init_0 : cX4_init.data.toList.drop 0 = dktX4_init_0 := by decide +kernel
theorem dX4_init_0 : decode cX4_init 0 = .ok (.aload_n 0, 1) := dk_42 (dk_at dksX4_init_0 0 rfl rfl)
theorem dX4_init_1 : decode cX4_init 1 = .ok (.invokespecial 7, 3) := dk_183 0 7 (dk_at dksX4_init_0 1 rfl rfl)
theorem dX4_init_4 : decode cX4_init 4 = .ok (.aload_n 0, 1) := dk_42 (dk_at dksX4_init_0 4 rfl rfl)
theorem dX4_init_5 : decode cX4_init 5 = .ok (.iload_n 1, 1) := dk_27 (dk_at dksX4_init_0 5 rfl rfl)
theorem dX4_init_6 : decode cX4_init 6 = .ok (.putfield 12, 3) := dk_181 0 12 (dk_at dksX4_init_0 6 rfl rfl)
theorem dX4_init_9 : decode cX4_init 9 = .ok (.aload_n 0, 1) := dk_42 (dk_at dksX4_init_0 9 rfl rfl)
theorem dX4_init_10 : decode cX4_init 10 = .ok (.iload_n 2, 1) := dk_28 (dk_at dksX4_init_0 10 rfl rfl)
theorem dX4_init_11 : decode cX4_init 11 = .ok (.putfield 16, 3) := dk_181 0 16 (dk_at dksX4_init_0 11 rfl rfl)
theorem dX4_init_14 : decode cX4_init 14 = .ok (.aload_n 0, 1) := dk_42 (dk_at dksX4_init_0 14 rfl rfl)
theorem dX4_init_15 : decode cX4_init 15 = .ok (.iload_n 3, 1) := dk_29 (dk_at dksX4_init_0 15 rfl rfl)
theorem dX4_init_16 : decode cX4_init 16 = .ok (.putfield 19, 3) := dk_181 0 19 (dk_at dksX4_init_0 16 rfl rfl)
theorem dX4_init_19 : decode cX4_init 19 = .ok (.return_, 1) := dk_177 (dk_at dksX4_init_0 19 rfl rfl)
abbrev cX4_init_2 : ByteArray := prog_13_method_1_code
def yX4_init_2 : MethodName := ⟨RX4, "<init>", "(I)V"⟩
def dkwX4_init_2_0 : List UInt8 := [42, 27, 3, 3, 183, 0, 1, 177]
abbrev dktX4_init_2_0 : List UInt8 := dkwX4_init_2_0 ++ []
theorem dksX4_init_2_0 : cX4_init_2.data.toList.drop 0 = dktX4_init_2_0 := by decide +kernel
theorem dX4_init_2_0 : decode cX4_init_2 0 = .ok (.aload_n 0, 1) := dk_42 (dk_at dksX4_init_2_0 0 rfl rfl)
theorem dX4_init_2_1 : decode cX4_init_2 1 = .ok (.iload_n 1, 1) := dk_27 (dk_at dksX4_init_2_0 1 rfl rfl)
theorem dX4_init_2_2 : decode cX4_init_2 2 = .ok (.iconst 0, 1) := dk_3 (dk_at dksX4_init_2_0 2 rfl rfl)
theorem dX4_init_2_3 : decode cX4_init_2 3 = .ok (.iconst 0, 1) := dk_3 (dk_at dksX4_init_2_0 3 rfl rfl)
theorem dX4_init_2_4 : decode cX4_init_2 4 = .ok (.invokespecial 1, 3) := dk_183 0 1 (dk_at dksX4_init_2_0 4 rfl rfl)
theorem dX4_init_2_7 : decode cX4_init_2 7 = .ok (.return_, 1) := dk_177 (dk_at dksX4_init_2_0 7 rfl rfl)
abbrev cX4_fill : ByteArray := prog_13_method_5_code
def yX4_fill : MethodName := ⟨RX4, "fill", "(II)V"⟩
def dkwX4_fill_0 : List UInt8 := [42, 89, 180, 0, 16, 27, 96, 181, 0, 16, 42, 89, 180, 0, 19, 28, 128, 181, 0, 19, 177]
abbrev dktX4_fill_0 : List UInt8 := dkwX4_fill_0 ++ []
theorem dksX4_fill_0 : cX4_fill.data.toList.drop 0 = dktX4_fill_0 := by decide +kernel
theorem dX4_fill_0 : decode cX4_fill 0 = .ok (.aload_n 0, 1) := dk_42 (dk_at dksX4_fill_0 0 rfl rfl)
theorem dX4_fill_1 : decode cX4_fill 1 = .ok (.dup, 1) := dk_89 (dk_at dksX4_fill_0 1 rfl rfl)
theorem dX4_fill_2 : decode cX4_fill 2 = .ok (.getfield 16, 3) := dk_180 0 16 (dk_at dksX4_fill_0 2 rfl rfl)
theorem dX4_fill_5 : decode cX4_fill 5 = .ok (.iload_n 1, 1) := dk_27 (dk_at dksX4_fill_0 5 rfl rfl)
theorem dX4_fill_6 : decode cX4_fill 6 = .ok (.iadd, 1) := dk_96 (dk_at dksX4_fill_0 6 rfl rfl)
theorem dX4_fill_7 : decode cX4_fill 7 = .ok (.putfield 16, 3) := dk_181 0 16 (dk_at dksX4_fill_0 7 rfl rfl)
theorem dX4_fill_10 : decode cX4_fill 10 = .ok (.aload_n 0, 1) := dk_42 (dk_at dksX4_fill_0 10 rfl rfl)
theorem dX4_fill_11 : decode cX4_fill 11 = .ok (.dup, 1) := dk_89 (dk_at dksX4_fill_0 11 rfl rfl)
theorem dX4_fill_12 : decode cX4_fill 12 = .ok (.getfield 19, 3) := dk_180 0 19 (dk_at dksX4_fill_0 12 rfl rfl)
theorem dX4_fill_15 : decode cX4_fill 15 = .ok (.iload_n 2, 1) := dk_28 (dk_at dksX4_fill_0 15 rfl rfl)
theorem dX4_fill_16 : decode cX4_fill 16 = .ok (.ior, 1) := dk_128 (dk_at dksX4_fill_0 16 rfl rfl)
theorem dX4_fill_17 : decode cX4_fill 17 = .ok (.putfield 19, 3) := dk_181 0 19 (dk_at dksX4_fill_0 17 rfl rfl)
theorem dX4_fill_20 : decode cX4_fill 20 = .ok (.return_, 1) := dk_177 (dk_at dksX4_fill_0 20 rfl rfl)
abbrev cX4_drain : ByteArray := prog_13_method_6_code
def yX4_drain : MethodName := ⟨RX4, "drain", "(I)V"⟩
def dkwX4_drain_1 : List UInt8 := [180, 0, 19, 181, 0, 19, 177]
abbrev dktX4_drain_1 : List UInt8 := dkwX4_drain_1 ++ []
def dkwX4_drain_0 : List UInt8 := [42, 89, 180, 0, 16, 27, 100, 181, 0, 16, 42, 42, 180, 0, 16, 154, 0, 7, 3, 167, 0, 7, 42]
abbrev dktX4_drain_0 : List UInt8 := dkwX4_drain_0 ++ dktX4_drain_1
theorem dksX4_drain_0 : cX4_drain.data.toList.drop 0 = dktX4_drain_0 := by decide +kernel
theorem dksX4_drain_1 : cX4_drain.data.toList.drop 23 = dktX4_drain_1 := dk_seg dksX4_drain_0 23 rfl rfl
theorem dX4_drain_0 : decode cX4_drain 0 = .ok (.aload_n 0, 1) := dk_42 (dk_at dksX4_drain_0 0 rfl rfl)
theorem dX4_drain_1 : decode cX4_drain 1 = .ok (.dup, 1) := dk_89 (dk_at dksX4_drain_0 1 rfl rfl)
theorem dX4_drain_2 : decode cX4_drain 2 = .ok (.getfield 16, 3) := dk_180 0 16 (dk_at dksX4_drain_0 2 rfl rfl)
theorem dX4_drain_5 : decode cX4_drain 5 = .ok (.iload_n 1, 1) := dk_27 (dk_at dksX4_drain_0 5 rfl rfl)
theorem dX4_drain_6 : decode cX4_drain 6 = .ok (.isub, 1) := dk_100 (dk_at dksX4_drain_0 6 rfl rfl)
theorem dX4_drain_7 : decode cX4_drain 7 = .ok (.putfield 16, 3) := dk_181 0 16 (dk_at dksX4_drain_0 7 rfl rfl)
theorem dX4_drain_10 : decode cX4_drain 10 = .ok (.aload_n 0, 1) := dk_42 (dk_at dksX4_drain_0 10 rfl rfl)
theorem dX4_drain_11 : decode cX4_drain 11 = .ok (.aload_n 0, 1) := dk_42 (dk_at dksX4_drain_0 11 rfl rfl)
theorem dX4_drain_12 : decode cX4_drain 12 = .ok (.getfield 16, 3) := dk_180 0 16 (dk_at dksX4_drain_0 12 rfl rfl)
theorem dX4_drain_15 : decode cX4_drain 15 = .ok (.ifCond .ne 7, 3) := dk_154 0 7 (dk_at dksX4_drain_0 15 rfl rfl)
theorem dX4_drain_18 : decode cX4_drain 18 = .ok (.iconst 0, 1) := dk_3 (dk_at dksX4_drain_0 18 rfl rfl)
theorem dX4_drain_19 : decode cX4_drain 19 = .ok (.goto 7, 3) := dk_167 0 7 (dk_at dksX4_drain_0 19 rfl rfl)
theorem dX4_drain_22 : decode cX4_drain 22 = .ok (.aload_n 0, 1) := dk_42 (dk_at dksX4_drain_0 22 rfl rfl)
theorem dX4_drain_23 : decode cX4_drain 23 = .ok (.getfield 19, 3) := dk_180 0 19 (dk_at dksX4_drain_1 0 rfl rfl)
theorem dX4_drain_26 : decode cX4_drain 26 = .ok (.putfield 19, 3) := dk_181 0 19 (dk_at dksX4_drain_1 3 rfl rfl)
theorem dX4_drain_29 : decode cX4_drain 29 = .ok (.return_, 1) := dk_177 (dk_at dksX4_drain_1 6 rfl rfl)
abbrev cX4_isTiedWith : ByteArray := prog_13_method_8_code
def yX4_isTiedWith : MethodName := ⟨RX4, "isTiedWith", "(LFilterWaterworks$Tank;)Z"⟩
def dkwX4_isTiedWith_1 : List UInt8 := [180, 0, 19, 46, 160, 0, 7, 4, 167, 0, 4, 3, 172]
abbrev dktX4_isTiedWith_1 : List UInt8 := dkwX4_isTiedWith_1 ++ []
def dkwX4_isTiedWith_0 : List UInt8 := [42, 180, 0, 16, 43, 180, 0, 16, 160, 0, 26, 178, 0, 22, 42, 180, 0, 19, 46, 178, 0, 22, 43]
abbrev dktX4_isTiedWith_0 : List UInt8 := dkwX4_isTiedWith_0 ++ dktX4_isTiedWith_1
theorem dksX4_isTiedWith_0 : cX4_isTiedWith.data.toList.drop 0 = dktX4_isTiedWith_0 := by decide +kernel
theorem dksX4_isTiedWith_1 : cX4_isTiedWith.data.toList.drop 23 = dktX4_isTiedWith_1 := dk_seg dksX4_isTiedWith_0 23 rfl rfl
theorem dX4_isTiedWith_0 : decode cX4_isTiedWith 0 = .ok (.aload_n 0, 1) := dk_42 (dk_at dksX4_isTiedWith_0 0 rfl rfl)
theorem dX4_isTiedWith_1 : decode cX4_isTiedWith 1 = .ok (.getfield 16, 3) := dk_180 0 16 (dk_at dksX4_isTiedWith_0 1 rfl rfl)
theorem dX4_isTiedWith_4 : decode cX4_isTiedWith 4 = .ok (.aload_n 1, 1) := dk_43 (dk_at dksX4_isTiedWith_0 4 rfl rfl)
theorem dX4_isTiedWith_5 : decode cX4_isTiedWith 5 = .ok (.getfield 16, 3) := dk_180 0 16 (dk_at dksX4_isTiedWith_0 5 rfl rfl)
theorem dX4_isTiedWith_8 : decode cX4_isTiedWith 8 = .ok (.if_icmp .ne 26, 3) := dk_160 0 26 (dk_at dksX4_isTiedWith_0 8 rfl rfl)
theorem dX4_isTiedWith_11 : decode cX4_isTiedWith 11 = .ok (.getstatic 22, 3) := dk_178 0 22 (dk_at dksX4_isTiedWith_0 11 rfl rfl)
theorem dX4_isTiedWith_14 : decode cX4_isTiedWith 14 = .ok (.aload_n 0, 1) := dk_42 (dk_at dksX4_isTiedWith_0 14 rfl rfl)
theorem dX4_isTiedWith_15 : decode cX4_isTiedWith 15 = .ok (.getfield 19, 3) := dk_180 0 19 (dk_at dksX4_isTiedWith_0 15 rfl rfl)
theorem dX4_isTiedWith_18 : decode cX4_isTiedWith 18 = .ok (.iaload, 1) := dk_46 (dk_at dksX4_isTiedWith_0 18 rfl rfl)
theorem dX4_isTiedWith_19 : decode cX4_isTiedWith 19 = .ok (.getstatic 22, 3) := dk_178 0 22 (dk_at dksX4_isTiedWith_0 19 rfl rfl)
theorem dX4_isTiedWith_22 : decode cX4_isTiedWith 22 = .ok (.aload_n 1, 1) := dk_43 (dk_at dksX4_isTiedWith_0 22 rfl rfl)
theorem dX4_isTiedWith_23 : decode cX4_isTiedWith 23 = .ok (.getfield 19, 3) := dk_180 0 19 (dk_at dksX4_isTiedWith_1 0 rfl rfl)
theorem dX4_isTiedWith_26 : decode cX4_isTiedWith 26 = .ok (.iaload, 1) := dk_46 (dk_at dksX4_isTiedWith_1 3 rfl rfl)
theorem dX4_isTiedWith_27 : decode cX4_isTiedWith 27 = .ok (.if_icmp .ne 7, 3) := dk_160 0 7 (dk_at dksX4_isTiedWith_1 4 rfl rfl)
theorem dX4_isTiedWith_30 : decode cX4_isTiedWith 30 = .ok (.iconst 1, 1) := dk_4 (dk_at dksX4_isTiedWith_1 7 rfl rfl)
theorem dX4_isTiedWith_31 : decode cX4_isTiedWith 31 = .ok (.goto 4, 3) := dk_167 0 4 (dk_at dksX4_isTiedWith_1 8 rfl rfl)
theorem dX4_isTiedWith_34 : decode cX4_isTiedWith 34 = .ok (.iconst 0, 1) := dk_3 (dk_at dksX4_isTiedWith_1 11 rfl rfl)
theorem dX4_isTiedWith_35 : decode cX4_isTiedWith 35 = .ok (.ireturn, 1) := dk_172 (dk_at dksX4_isTiedWith_1 12 rfl rfl)
abbrev cX4_isAheadOf : ByteArray := prog_13_method_7_code
def yX4_isAheadOf : MethodName := ⟨RX4, "isAheadOf", "(LFilterWaterworks$Tank;)Z"⟩
def dkwX4_isAheadOf_1 : List UInt8 := [180, 0, 19, 46, 100, 62, 28, 157, 0, 11, 28, 154, 0, 11, 29, 158, 0, 7, 4, 167, 0, 4, 3, 172]
abbrev dktX4_isAheadOf_1 : List UInt8 := dkwX4_isAheadOf_1 ++ []
def dkwX4_isAheadOf_0 : List UInt8 := [42, 180, 0, 16, 43, 180, 0, 16, 100, 61, 178, 0, 22, 43, 180, 0, 19, 46, 178, 0, 22, 42]
abbrev dktX4_isAheadOf_0 : List UInt8 := dkwX4_isAheadOf_0 ++ dktX4_isAheadOf_1
theorem dksX4_isAheadOf_0 : cX4_isAheadOf.data.toList.drop 0 = dktX4_isAheadOf_0 := by decide +kernel
theorem dksX4_isAheadOf_1 : cX4_isAheadOf.data.toList.drop 22 = dktX4_isAheadOf_1 := dk_seg dksX4_isAheadOf_0 22 rfl rfl
theorem dX4_isAheadOf_0 : decode cX4_isAheadOf 0 = .ok (.aload_n 0, 1) := dk_42 (dk_at dksX4_isAheadOf_0 0 rfl rfl)
theorem dX4_isAheadOf_1 : decode cX4_isAheadOf 1 = .ok (.getfield 16, 3) := dk_180 0 16 (dk_at dksX4_isAheadOf_0 1 rfl rfl)
theorem dX4_isAheadOf_4 : decode cX4_isAheadOf 4 = .ok (.aload_n 1, 1) := dk_43 (dk_at dksX4_isAheadOf_0 4 rfl rfl)
theorem dX4_isAheadOf_5 : decode cX4_isAheadOf 5 = .ok (.getfield 16, 3) := dk_180 0 16 (dk_at dksX4_isAheadOf_0 5 rfl rfl)
theorem dX4_isAheadOf_8 : decode cX4_isAheadOf 8 = .ok (.isub, 1) := dk_100 (dk_at dksX4_isAheadOf_0 8 rfl rfl)
theorem dX4_isAheadOf_9 : decode cX4_isAheadOf 9 = .ok (.istore_n 2, 1) := dk_61 (dk_at dksX4_isAheadOf_0 9 rfl rfl)
theorem dX4_isAheadOf_10 : decode cX4_isAheadOf 10 = .ok (.getstatic 22, 3) := dk_178 0 22 (dk_at dksX4_isAheadOf_0 10 rfl rfl)
theorem dX4_isAheadOf_13 : decode cX4_isAheadOf 13 = .ok (.aload_n 1, 1) := dk_43 (dk_at dksX4_isAheadOf_0 13 rfl rfl)
theorem dX4_isAheadOf_14 : decode cX4_isAheadOf 14 = .ok (.getfield 19, 3) := dk_180 0 19 (dk_at dksX4_isAheadOf_0 14 rfl rfl)
theorem dX4_isAheadOf_17 : decode cX4_isAheadOf 17 = .ok (.iaload, 1) := dk_46 (dk_at dksX4_isAheadOf_0 17 rfl rfl)
theorem dX4_isAheadOf_18 : decode cX4_isAheadOf 18 = .ok (.getstatic 22, 3) := dk_178 0 22 (dk_at dksX4_isAheadOf_0 18 rfl rfl)
theorem dX4_isAheadOf_21 : decode cX4_isAheadOf 21 = .ok (.aload_n 0, 1) := dk_42 (dk_at dksX4_isAheadOf_0 21 rfl rfl)
theorem dX4_isAheadOf_22 : decode cX4_isAheadOf 22 = .ok (.getfield 19, 3) := dk_180 0 19 (dk_at dksX4_isAheadOf_1 0 rfl rfl)
theorem dX4_isAheadOf_25 : decode cX4_isAheadOf 25 = .ok (.iaload, 1) := dk_46 (dk_at dksX4_isAheadOf_1 3 rfl rfl)
theorem dX4_isAheadOf_26 : decode cX4_isAheadOf 26 = .ok (.isub, 1) := dk_100 (dk_at dksX4_isAheadOf_1 4 rfl rfl)
theorem dX4_isAheadOf_27 : decode cX4_isAheadOf 27 = .ok (.istore_n 3, 1) := dk_62 (dk_at dksX4_isAheadOf_1 5 rfl rfl)
theorem dX4_isAheadOf_28 : decode cX4_isAheadOf 28 = .ok (.iload_n 2, 1) := dk_28 (dk_at dksX4_isAheadOf_1 6 rfl rfl)
theorem dX4_isAheadOf_29 : decode cX4_isAheadOf 29 = .ok (.ifCond .gt 11, 3) := dk_157 0 11 (dk_at dksX4_isAheadOf_1 7 rfl rfl)
theorem dX4_isAheadOf_32 : decode cX4_isAheadOf 32 = .ok (.iload_n 2, 1) := dk_28 (dk_at dksX4_isAheadOf_1 10 rfl rfl)
theorem dX4_isAheadOf_33 : decode cX4_isAheadOf 33 = .ok (.ifCond .ne 11, 3) := dk_154 0 11 (dk_at dksX4_isAheadOf_1 11 rfl rfl)
theorem dX4_isAheadOf_36 : decode cX4_isAheadOf 36 = .ok (.iload_n 3, 1) := dk_29 (dk_at dksX4_isAheadOf_1 14 rfl rfl)
theorem dX4_isAheadOf_37 : decode cX4_isAheadOf 37 = .ok (.ifCond .le 7, 3) := dk_158 0 7 (dk_at dksX4_isAheadOf_1 15 rfl rfl)
theorem dX4_isAheadOf_40 : decode cX4_isAheadOf 40 = .ok (.iconst 1, 1) := dk_4 (dk_at dksX4_isAheadOf_1 18 rfl rfl)
theorem dX4_isAheadOf_41 : decode cX4_isAheadOf 41 = .ok (.goto 4, 3) := dk_167 0 4 (dk_at dksX4_isAheadOf_1 19 rfl rfl)
theorem dX4_isAheadOf_44 : decode cX4_isAheadOf 44 = .ok (.iconst 0, 1) := dk_3 (dk_at dksX4_isAheadOf_1 22 rfl rfl)
theorem dX4_isAheadOf_45 : decode cX4_isAheadOf 45 = .ok (.ireturn, 1) := dk_172 (dk_at dksX4_isAheadOf_1 23 rfl rfl)
abbrev cX4_toString : ByteArray := prog_13_method_10_code
def yX4_toString : MethodName := ⟨RX4, "toString", "()Ljava/lang/String;"⟩
def dkwX4_toString_3 : List UInt8 := [96, 146, 182, 0, 39, 87, 132, 2, 1, 167, 255, 225, 43, 182, 0, 49, 176]
abbrev dktX4_toString_3 : List UInt8 := dkwX4_toString_3 ++ []
def dkwX4_toString_2 : List UInt8 := [3, 61, 28, 16, 8, 162, 0, 31, 42, 180, 0, 19, 28, 122, 4, 126, 4, 160, 0, 13, 43, 16, 97, 28]
abbrev dktX4_toString_2 : List UInt8 := dkwX4_toString_2 ++ dktX4_toString_3
def dkwX4_toString_1 : List UInt8 := [180, 0, 12, 182, 0, 35, 42, 180, 0, 19, 154, 0, 8, 18, 42, 167, 0, 5, 18, 44, 182, 0, 46, 87]
abbrev dktX4_toString_1 : List UInt8 := dkwX4_toString_1 ++ dktX4_toString_2
def dkwX4_toString_0 : List UInt8 := [187, 0, 32, 89, 183, 0, 34, 76, 43, 42, 180, 0, 16, 182, 0, 35, 16, 47, 182, 0, 39, 42]
abbrev dktX4_toString_0 : List UInt8 := dkwX4_toString_0 ++ dktX4_toString_1
theorem dksX4_toString_0 : cX4_toString.data.toList.drop 0 = dktX4_toString_0 := by decide +kernel
theorem dksX4_toString_1 : cX4_toString.data.toList.drop 22 = dktX4_toString_1 := dk_seg dksX4_toString_0 22 rfl rfl
theorem dksX4_toString_2 : cX4_toString.data.toList.drop 46 = dktX4_toString_2 := dk_seg dksX4_toString_1 24 rfl rfl
theorem dksX4_toString_3 : cX4_toString.data.toList.drop 70 = dktX4_toString_3 := dk_seg dksX4_toString_2 24 rfl rfl
theorem dX4_toString_0 : decode cX4_toString 0 = .ok (.new 32, 3) := dk_187 0 32 (dk_at dksX4_toString_0 0 rfl rfl)
theorem dX4_toString_3 : decode cX4_toString 3 = .ok (.dup, 1) := dk_89 (dk_at dksX4_toString_0 3 rfl rfl)
theorem dX4_toString_4 : decode cX4_toString 4 = .ok (.invokespecial 34, 3) := dk_183 0 34 (dk_at dksX4_toString_0 4 rfl rfl)
theorem dX4_toString_7 : decode cX4_toString 7 = .ok (.astore_n 1, 1) := dk_76 (dk_at dksX4_toString_0 7 rfl rfl)
theorem dX4_toString_8 : decode cX4_toString 8 = .ok (.aload_n 1, 1) := dk_43 (dk_at dksX4_toString_0 8 rfl rfl)
theorem dX4_toString_9 : decode cX4_toString 9 = .ok (.aload_n 0, 1) := dk_42 (dk_at dksX4_toString_0 9 rfl rfl)
theorem dX4_toString_10 : decode cX4_toString 10 = .ok (.getfield 16, 3) := dk_180 0 16 (dk_at dksX4_toString_0 10 rfl rfl)
theorem dX4_toString_13 : decode cX4_toString 13 = .ok (.invokevirtual 35, 3) := dk_182 0 35 (dk_at dksX4_toString_0 13 rfl rfl)
theorem dX4_toString_16 : decode cX4_toString 16 = .ok (.bipush 47, 2) := dk_16 47 (dk_at dksX4_toString_0 16 rfl rfl)
theorem dX4_toString_18 : decode cX4_toString 18 = .ok (.invokevirtual 39, 3) := dk_182 0 39 (dk_at dksX4_toString_0 18 rfl rfl)
theorem dX4_toString_21 : decode cX4_toString 21 = .ok (.aload_n 0, 1) := dk_42 (dk_at dksX4_toString_0 21 rfl rfl)
theorem dX4_toString_22 : decode cX4_toString 22 = .ok (.getfield 12, 3) := dk_180 0 12 (dk_at dksX4_toString_1 0 rfl rfl)
theorem dX4_toString_25 : decode cX4_toString 25 = .ok (.invokevirtual 35, 3) := dk_182 0 35 (dk_at dksX4_toString_1 3 rfl rfl)
theorem dX4_toString_28 : decode cX4_toString 28 = .ok (.aload_n 0, 1) := dk_42 (dk_at dksX4_toString_1 6 rfl rfl)
theorem dX4_toString_29 : decode cX4_toString 29 = .ok (.getfield 19, 3) := dk_180 0 19 (dk_at dksX4_toString_1 7 rfl rfl)
theorem dX4_toString_32 : decode cX4_toString 32 = .ok (.ifCond .ne 8, 3) := dk_154 0 8 (dk_at dksX4_toString_1 10 rfl rfl)
theorem dX4_toString_35 : decode cX4_toString 35 = .ok (.ldc 42, 2) := dk_18 42 (dk_at dksX4_toString_1 13 rfl rfl)
theorem dX4_toString_37 : decode cX4_toString 37 = .ok (.goto 5, 3) := dk_167 0 5 (dk_at dksX4_toString_1 15 rfl rfl)
theorem dX4_toString_40 : decode cX4_toString 40 = .ok (.ldc 44, 2) := dk_18 44 (dk_at dksX4_toString_1 18 rfl rfl)
theorem dX4_toString_42 : decode cX4_toString 42 = .ok (.invokevirtual 46, 3) := dk_182 0 46 (dk_at dksX4_toString_1 20 rfl rfl)
theorem dX4_toString_45 : decode cX4_toString 45 = .ok (.pop, 1) := dk_87 (dk_at dksX4_toString_1 23 rfl rfl)
theorem dX4_toString_46 : decode cX4_toString 46 = .ok (.iconst 0, 1) := dk_3 (dk_at dksX4_toString_2 0 rfl rfl)
theorem dX4_toString_47 : decode cX4_toString 47 = .ok (.istore_n 2, 1) := dk_61 (dk_at dksX4_toString_2 1 rfl rfl)
theorem dX4_toString_48 : decode cX4_toString 48 = .ok (.iload_n 2, 1) := dk_28 (dk_at dksX4_toString_2 2 rfl rfl)
theorem dX4_toString_49 : decode cX4_toString 49 = .ok (.bipush 8, 2) := dk_16 8 (dk_at dksX4_toString_2 3 rfl rfl)
theorem dX4_toString_51 : decode cX4_toString 51 = .ok (.if_icmp .ge 31, 3) := dk_162 0 31 (dk_at dksX4_toString_2 5 rfl rfl)
theorem dX4_toString_54 : decode cX4_toString 54 = .ok (.aload_n 0, 1) := dk_42 (dk_at dksX4_toString_2 8 rfl rfl)
theorem dX4_toString_55 : decode cX4_toString 55 = .ok (.getfield 19, 3) := dk_180 0 19 (dk_at dksX4_toString_2 9 rfl rfl)
theorem dX4_toString_58 : decode cX4_toString 58 = .ok (.iload_n 2, 1) := dk_28 (dk_at dksX4_toString_2 12 rfl rfl)
theorem dX4_toString_59 : decode cX4_toString 59 = .ok (.ishr, 1) := dk_122 (dk_at dksX4_toString_2 13 rfl rfl)
theorem dX4_toString_60 : decode cX4_toString 60 = .ok (.iconst 1, 1) := dk_4 (dk_at dksX4_toString_2 14 rfl rfl)
theorem dX4_toString_61 : decode cX4_toString 61 = .ok (.iand, 1) := dk_126 (dk_at dksX4_toString_2 15 rfl rfl)
theorem dX4_toString_62 : decode cX4_toString 62 = .ok (.iconst 1, 1) := dk_4 (dk_at dksX4_toString_2 16 rfl rfl)
theorem dX4_toString_63 : decode cX4_toString 63 = .ok (.if_icmp .ne 13, 3) := dk_160 0 13 (dk_at dksX4_toString_2 17 rfl rfl)
theorem dX4_toString_66 : decode cX4_toString 66 = .ok (.aload_n 1, 1) := dk_43 (dk_at dksX4_toString_2 20 rfl rfl)
theorem dX4_toString_67 : decode cX4_toString 67 = .ok (.bipush 97, 2) := dk_16 97 (dk_at dksX4_toString_2 21 rfl rfl)
theorem dX4_toString_69 : decode cX4_toString 69 = .ok (.iload_n 2, 1) := dk_28 (dk_at dksX4_toString_2 23 rfl rfl)
theorem dX4_toString_70 : decode cX4_toString 70 = .ok (.iadd, 1) := dk_96 (dk_at dksX4_toString_3 0 rfl rfl)
theorem dX4_toString_71 : decode cX4_toString 71 = .ok (.i2c, 1) := dk_146 (dk_at dksX4_toString_3 1 rfl rfl)
theorem dX4_toString_72 : decode cX4_toString 72 = .ok (.invokevirtual 39, 3) := dk_182 0 39 (dk_at dksX4_toString_3 2 rfl rfl)
theorem dX4_toString_75 : decode cX4_toString 75 = .ok (.pop, 1) := dk_87 (dk_at dksX4_toString_3 5 rfl rfl)
theorem dX4_toString_76 : decode cX4_toString 76 = .ok (.iinc 2 1, 3) := dk_132 2 1 (dk_at dksX4_toString_3 6 rfl rfl)
theorem dX4_toString_79 : decode cX4_toString 79 = .ok (.goto (-31), 3) := dk_167 255 225 (dk_at dksX4_toString_3 9 rfl rfl)
theorem dX4_toString_82 : decode cX4_toString 82 = .ok (.aload_n 1, 1) := dk_43 (dk_at dksX4_toString_3 12 rfl rfl)
theorem dX4_toString_83 : decode cX4_toString 83 = .ok (.invokevirtual 49, 3) := dk_182 0 49 (dk_at dksX4_toString_3 13 rfl rfl)
theorem dX4_toString_86 : decode cX4_toString 86 = .ok (.areturn, 1) := dk_176 (dk_at dksX4_toString_3 16 rfl rfl)
theorem q94 : (Jvm.Cond.initialized "FilterWaterworks$Tank") ∈ lw_all := lw_g (lw_at lw_m1 27 rfl) rfl
theorem q809 : (Jvm.Cond.instanceMethod ({ cls := "FilterWaterworks$Tank", name := "mark", desc := "()J" } : Jvm.MethodName)) ∈ lw_all := lw_g (lw_at lw_m4 22 rfl) rfl
theorem q810 : (Jvm.Cond.selects "FilterWaterworks$Tank" ({ cls := "FilterWaterworks$Tank", name := "mark", desc := "()J" } : Jvm.MethodName) ({ cls := "FilterWaterworks$Tank", name := "mark", desc := "()J" } : Jvm.MethodName)) ∈ lw_all := lw_g (lw_at lw_m4 23 rfl) rfl
theorem q811 : (Jvm.Cond.code ({ cls := "FilterWaterworks$Tank", name := "mark", desc := "()J" } : Jvm.MethodName) prog_13_method_9_code (1 : Nat) (Option.some Jvm.ClassFile.FieldType.long)) ∈ lw_all := lw_g (lw_at lw_m4 24 rfl) rfl
theorem q812 : (Jvm.Cond.constantLong "FilterWaterworks$Tank" (28 : Nat) (1000 : Int64)) ∈ lw_all := lw_g (lw_at lw_m4 25 rfl) rfl
theorem q813 : (Jvm.Cond.constantLong "FilterWaterworks$Tank" (30 : Nat) (1000000 : Int64)) ∈ lw_all := lw_g (lw_at lw_m4 26 rfl) rfl
theorem q834 : (Jvm.Cond.instanceMethod ({ cls := "FilterWaterworks$Tank", name := "room", desc := "()I" } : Jvm.MethodName)) ∈ lw_all := lw_g (lw_at lw_m4 47 rfl) rfl
theorem q835 : (Jvm.Cond.selects "FilterWaterworks$Tank" ({ cls := "FilterWaterworks$Tank", name := "room", desc := "()I" } : Jvm.MethodName) ({ cls := "FilterWaterworks$Tank", name := "room", desc := "()I" } : Jvm.MethodName)) ∈ lw_all := lw_g (lw_at lw_m4 48 rfl) rfl
theorem q836 : (Jvm.Cond.code ({ cls := "FilterWaterworks$Tank", name := "room", desc := "()I" } : Jvm.MethodName) prog_13_method_4_code (1 : Nat) (Option.some Jvm.ClassFile.FieldType.int)) ∈ lw_all := lw_g (lw_at lw_m4 49 rfl) rfl
theorem q939 : (Jvm.Cond.instanceMethod ({ cls := "FilterWaterworks$Tank", name := "copy", desc := "()LFilterWaterworks$Tank;" } : Jvm.MethodName)) ∈ lw_all := lw_g (lw_at lw_m4 152 rfl) rfl
theorem q940 : (Jvm.Cond.selects "FilterWaterworks$Tank" ({ cls := "FilterWaterworks$Tank", name := "copy", desc := "()LFilterWaterworks$Tank;" } : Jvm.MethodName) ({ cls := "FilterWaterworks$Tank", name := "copy", desc := "()LFilterWaterworks$Tank;" } : Jvm.MethodName)) ∈ lw_all := lw_g (lw_at lw_m4 153 rfl) rfl
theorem q941 : (Jvm.Cond.code ({ cls := "FilterWaterworks$Tank", name := "copy", desc := "()LFilterWaterworks$Tank;" } : Jvm.MethodName) prog_13_method_3_code (1 : Nat) (Option.some (Jvm.ClassFile.FieldType.object "FilterWaterworks$Tank"))) ∈ lw_all := lw_g (lw_at lw_m4 154 rfl) rfl
theorem q942 : (Jvm.Cond.classLink "FilterWaterworks$Tank" (2 : Nat) "FilterWaterworks$Tank") ∈ lw_all := lw_g (lw_at lw_m4 155 rfl) rfl
theorem q943 : (Jvm.Cond.instantiable "FilterWaterworks$Tank" (3 : Nat)) ∈ lw_all := lw_g (lw_at lw_m4 156 rfl) rfl
theorem q944 : (Jvm.Cond.methodLink "FilterWaterworks$Tank" (1 : Nat) ({ cls := "FilterWaterworks$Tank", name := "<init>", desc := "(III)V" } : Jvm.MethodName)) ∈ lw_all := lw_g (lw_at lw_m4 157 rfl) rfl
theorem q945 : (Jvm.Cond.instanceMethod ({ cls := "FilterWaterworks$Tank", name := "<init>", desc := "(III)V" } : Jvm.MethodName)) ∈ lw_all := lw_g (lw_at lw_m4 158 rfl) rfl
theorem q946 : (Jvm.Cond.code ({ cls := "FilterWaterworks$Tank", name := "<init>", desc := "(III)V" } : Jvm.MethodName) prog_13_method_2_code (4 : Nat) (Option.none : Option Jvm.ClassFile.FieldType)) ∈ lw_all := lw_g (lw_at lw_m4 159 rfl) rfl
theorem q947 : (Jvm.Cond.methodLink "FilterWaterworks$Tank" (7 : Nat) ({ cls := "java/lang/Object", name := "<init>", desc := "()V" } : Jvm.MethodName)) ∈ lw_all := lw_g (lw_at lw_m4 160 rfl) rfl
theorem q948 : (Jvm.Cond.fieldLink "FilterWaterworks$Tank" (12 : Nat) "FilterWaterworks$Tank" "capacity" "I") ∈ lw_all := lw_g (lw_at lw_m4 161 rfl) rfl
theorem q950 : (Jvm.Cond.fieldLink "FilterWaterworks$Tank" (16 : Nat) "FilterWaterworks$Tank" "content" "I") ∈ lw_all := lw_g (lw_at lw_m4 163 rfl) rfl
theorem q953 : (Jvm.Cond.fieldLink "FilterWaterworks$Tank" (19 : Nat) "FilterWaterworks$Tank" "impurities" "I") ∈ lw_all := lw_g (lw_at lw_m4 166 rfl) rfl
theorem q956 : (Jvm.Cond.laysFinal "FilterWaterworks$Tank" "FilterWaterworks$Tank" "capacity" "I") ∈ lw_all := lw_g (lw_at lw_m4 169 rfl) rfl
theorem q957 : (Jvm.Cond.soleField "FilterWaterworks$Tank" "capacity") ∈ lw_all := lw_g (lw_at lw_m4 170 rfl) rfl
theorem q958 : (Jvm.Cond.lays "FilterWaterworks$Tank" "FilterWaterworks$Tank" "content" "I") ∈ lw_all := lw_g (lw_at lw_m4 171 rfl) rfl
theorem q959 : (Jvm.Cond.soleField "FilterWaterworks$Tank" "content") ∈ lw_all := lw_g (lw_at lw_m4 172 rfl) rfl
theorem q960 : (Jvm.Cond.lays "FilterWaterworks$Tank" "FilterWaterworks$Tank" "impurities" "I") ∈ lw_all := lw_g (lw_at lw_m4 173 rfl) rfl
theorem q961 : (Jvm.Cond.soleField "FilterWaterworks$Tank" "impurities") ∈ lw_all := lw_g (lw_at lw_m4 174 rfl) rfl
theorem q962 : (Jvm.Cond.superclass "FilterWaterworks$Tank" "java/lang/Object") ∈ lw_all := lw_g (lw_at lw_m4 175 rfl) rfl
theorem q1001 : (Jvm.Cond.selects "FilterWaterworks$Tank" ({ cls := "java/lang/Object", name := "getClass", desc := "()Ljava/lang/Class;" } : Jvm.MethodName) ({ cls := "java/lang/Object", name := "getClass", desc := "()Ljava/lang/Class;" } : Jvm.MethodName)) ∈ lw_all := lw_g (lw_at lw_m4 214 rfl) rfl
theorem q1241 : (Jvm.Cond.instanceMethod ({ cls := "FilterWaterworks$Tank", name := "<init>", desc := "(I)V" } : Jvm.MethodName)) ∈ lw_all := lw_g (lw_at lw_m5 214 rfl) rfl
theorem q1242 : (Jvm.Cond.code ({ cls := "FilterWaterworks$Tank", name := "<init>", desc := "(I)V" } : Jvm.MethodName) prog_13_method_1_code (2 : Nat) (Option.none : Option Jvm.ClassFile.FieldType)) ∈ lw_all := lw_g (lw_at lw_m5 215 rfl) rfl
theorem q1263 : (Jvm.Cond.instanceMethod ({ cls := "FilterWaterworks$Tank", name := "fill", desc := "(II)V" } : Jvm.MethodName)) ∈ lw_all := lw_g (lw_at lw_m5 236 rfl) rfl
theorem q1264 : (Jvm.Cond.selects "FilterWaterworks$Tank" ({ cls := "FilterWaterworks$Tank", name := "fill", desc := "(II)V" } : Jvm.MethodName) ({ cls := "FilterWaterworks$Tank", name := "fill", desc := "(II)V" } : Jvm.MethodName)) ∈ lw_all := lw_g (lw_at lw_m5 237 rfl) rfl
theorem q1265 : (Jvm.Cond.code ({ cls := "FilterWaterworks$Tank", name := "fill", desc := "(II)V" } : Jvm.MethodName) prog_13_method_5_code (3 : Nat) (Option.none : Option Jvm.ClassFile.FieldType)) ∈ lw_all := lw_g (lw_at lw_m5 238 rfl) rfl
theorem q1271 : (Jvm.Cond.instanceMethod ({ cls := "FilterWaterworks$Tank", name := "drain", desc := "(I)V" } : Jvm.MethodName)) ∈ lw_all := lw_g (lw_at lw_m6 4 rfl) rfl
theorem q1272 : (Jvm.Cond.selects "FilterWaterworks$Tank" ({ cls := "FilterWaterworks$Tank", name := "drain", desc := "(I)V" } : Jvm.MethodName) ({ cls := "FilterWaterworks$Tank", name := "drain", desc := "(I)V" } : Jvm.MethodName)) ∈ lw_all := lw_g (lw_at lw_m6 5 rfl) rfl
theorem q1273 : (Jvm.Cond.code ({ cls := "FilterWaterworks$Tank", name := "drain", desc := "(I)V" } : Jvm.MethodName) prog_13_method_6_code (2 : Nat) (Option.none : Option Jvm.ClassFile.FieldType)) ∈ lw_all := lw_g (lw_at lw_m6 6 rfl) rfl
theorem q1560 : (Jvm.Cond.instanceMethod ({ cls := "FilterWaterworks$Tank", name := "isTiedWith", desc := "(LFilterWaterworks$Tank;)Z" } : Jvm.MethodName)) ∈ lw_all := lw_g (lw_at lw_m7 53 rfl) rfl
theorem q1561 : (Jvm.Cond.selects "FilterWaterworks$Tank" ({ cls := "FilterWaterworks$Tank", name := "isTiedWith", desc := "(LFilterWaterworks$Tank;)Z" } : Jvm.MethodName) ({ cls := "FilterWaterworks$Tank", name := "isTiedWith", desc := "(LFilterWaterworks$Tank;)Z" } : Jvm.MethodName)) ∈ lw_all := lw_g (lw_at lw_m7 54 rfl) rfl
theorem q1562 : (Jvm.Cond.code ({ cls := "FilterWaterworks$Tank", name := "isTiedWith", desc := "(LFilterWaterworks$Tank;)Z" } : Jvm.MethodName) prog_13_method_8_code (2 : Nat) (Option.some Jvm.ClassFile.FieldType.boolean)) ∈ lw_all := lw_g (lw_at lw_m7 55 rfl) rfl
theorem q1563 : (Jvm.Cond.fieldLinkNest "FilterWaterworks$Tank" (22 : Nat) "FilterWaterworks" "COUNTS" "[I" "FilterWaterworks") ∈ lw_tbl := lw_at lw_m7 56 rfl
theorem q1565 : (Jvm.Cond.instanceMethod ({ cls := "FilterWaterworks$Tank", name := "isAheadOf", desc := "(LFilterWaterworks$Tank;)Z" } : Jvm.MethodName)) ∈ lw_all := lw_g (lw_at lw_m7 58 rfl) rfl
theorem q1566 : (Jvm.Cond.selects "FilterWaterworks$Tank" ({ cls := "FilterWaterworks$Tank", name := "isAheadOf", desc := "(LFilterWaterworks$Tank;)Z" } : Jvm.MethodName) ({ cls := "FilterWaterworks$Tank", name := "isAheadOf", desc := "(LFilterWaterworks$Tank;)Z" } : Jvm.MethodName)) ∈ lw_all := lw_g (lw_at lw_m7 59 rfl) rfl
theorem q1567 : (Jvm.Cond.code ({ cls := "FilterWaterworks$Tank", name := "isAheadOf", desc := "(LFilterWaterworks$Tank;)Z" } : Jvm.MethodName) prog_13_method_7_code (4 : Nat) (Option.some Jvm.ClassFile.FieldType.boolean)) ∈ lw_all := lw_g (lw_at lw_m7 60 rfl) rfl
theorem q1826 : (Jvm.Cond.instanceMethod ({ cls := "FilterWaterworks$Tank", name := "toString", desc := "()Ljava/lang/String;" } : Jvm.MethodName)) ∈ lw_all := lw_g (lw_at lw_m8 79 rfl) rfl
theorem q1827 : (Jvm.Cond.selects "FilterWaterworks$Tank" ({ cls := "FilterWaterworks$Tank", name := "toString", desc := "()Ljava/lang/String;" } : Jvm.MethodName) ({ cls := "FilterWaterworks$Tank", name := "toString", desc := "()Ljava/lang/String;" } : Jvm.MethodName)) ∈ lw_all := lw_g (lw_at lw_m8 80 rfl) rfl
theorem q1828 : (Jvm.Cond.code ({ cls := "FilterWaterworks$Tank", name := "toString", desc := "()Ljava/lang/String;" } : Jvm.MethodName) prog_13_method_10_code (3 : Nat) (Option.some (Jvm.ClassFile.FieldType.object "java/lang/String"))) ∈ lw_all := lw_g (lw_at lw_m8 81 rfl) rfl
theorem q1829 : (Jvm.Cond.classLink "FilterWaterworks$Tank" (32 : Nat) "java/lang/StringBuilder") ∈ lw_all := lw_g (lw_at lw_m8 82 rfl) rfl
theorem q1830 : (Jvm.Cond.methodLink "FilterWaterworks$Tank" (34 : Nat) ({ cls := "java/lang/StringBuilder", name := "<init>", desc := "()V" } : Jvm.MethodName)) ∈ lw_all := lw_g (lw_at lw_m8 83 rfl) rfl
theorem q1831 : (Jvm.Cond.methodLink "FilterWaterworks$Tank" (35 : Nat) ({ cls := "java/lang/StringBuilder", name := "append", desc := "(I)Ljava/lang/StringBuilder;" } : Jvm.MethodName)) ∈ lw_all := lw_g (lw_at lw_m8 84 rfl) rfl
theorem q1832 : (Jvm.Cond.methodLink "FilterWaterworks$Tank" (39 : Nat) ({ cls := "java/lang/StringBuilder", name := "append", desc := "(C)Ljava/lang/StringBuilder;" } : Jvm.MethodName)) ∈ lw_all := lw_g (lw_at lw_m8 85 rfl) rfl
theorem q1852 : (Jvm.Cond.stringRef "FilterWaterworks$Tank" (42 : Nat) "") ∈ lw_tbl := lw_at lw_m8 105 rfl
theorem q1853 : (Jvm.Cond.stringRef "FilterWaterworks$Tank" (44 : Nat) ":") ∈ lw_tbl := lw_at lw_m8 106 rfl
theorem q1854 : (Jvm.Cond.methodLink "FilterWaterworks$Tank" (46 : Nat) ({ cls := "java/lang/StringBuilder", name := "append", desc := "(Ljava/lang/String;)Ljava/lang/StringBuilder;" } : Jvm.MethodName)) ∈ lw_all := lw_g (lw_at lw_m8 107 rfl) rfl
theorem q1855 : (Jvm.Cond.methodLink "FilterWaterworks$Tank" (49 : Nat) ({ cls := "java/lang/StringBuilder", name := "toString", desc := "()Ljava/lang/String;" } : Jvm.MethodName)) ∈ lw_all := lw_g (lw_at lw_m8 108 rfl) rfl
theorem q2073 : (Jvm.Cond.selects "FilterWaterworks$Tank" ({ cls := "java/lang/Object", name := "toString", desc := "()Ljava/lang/String;" } : Jvm.MethodName) ({ cls := "FilterWaterworks$Tank", name := "toString", desc := "()Ljava/lang/String;" } : Jvm.MethodName)) ∈ lw_all := lw_g (lw_at lw_m9 86 rfl) rfl
theorem q2844 : (Jvm.Cond.castable "FilterWaterworks$Tank" "java/lang/Object") ∈ lw_tbl := lw_at lw_m12 137 rfl
theorem in_X4 : ∀ w ∈ wsX40, w ∈ lw_all := lw_in wsX40 [956, 958, 960] (by decide +kernel) (by decide +kernel)

/-! FilterWaterworks$Pipe -/
set_option maxRecDepth 100000
def RX5 : String := "FilterWaterworks$Pipe"
def TX5 : u_T := fun k => match k with
  | 0 => ("FilterWaterworks$Pipe", "first", "I", true)
  | 1 => ("FilterWaterworks$Pipe", "second", "I", true)
  | 2 => ("FilterWaterworks$Pipe", "mesh", "I", true)
  | 3 => ("FilterWaterworks$Pipe", "setting", "I", false)
  | 4 => ("FilterWaterworks$Pipe", "rate", "I", false)
  | 5 => ("FilterWaterworks$Pipe", "dirt", "I", false)
  | _ => ("FilterWaterworks$Pipe", "through", "I", false)
def tyX5 : Nat → FieldType := fun k => match k with
  | 0 => .int
  | 1 => .int
  | 2 => .int
  | 3 => .int
  | 4 => .int
  | 5 => .int
  | _ => .int
abbrev wsX50 : List Cond := u_ws RX5 TX5 7
theorem nmX5 : ∀ a, a < 7 → ∀ b, b < 7 → a ≠ b → (TX5 a).2.1 ≠ (TX5 b).2.1 := by decide +kernel
theorem tyX5_ok : ∀ k, k < 7 → parseFieldDescriptor (TX5 k).2.2.1 = some (tyX5 k) := by decide +kernel
abbrev cX5_isOpen : ByteArray := prog_10_method_3_code
def yX5_isOpen : MethodName := ⟨RX5, "isOpen", "()Z"⟩
def dkwX5_isOpen_0 : List UInt8 := [42, 180, 0, 24, 158, 0, 16, 42, 180, 0, 30, 16, 20, 162, 0, 7, 4, 167, 0, 4, 3, 172]
abbrev dktX5_isOpen_0 : List UInt8 := dkwX5_isOpen_0 ++ []
theorem dksX5_isOpen_0 : cX5_isOpen.data.toList.drop 0 = dktX5_isOpen_0 := by decide +kernel
theorem dX5_isOpen_0 : decode cX5_isOpen 0 = .ok (.aload_n 0, 1) := dk_42 (dk_at dksX5_isOpen_0 0 rfl rfl)
theorem dX5_isOpen_1 : decode cX5_isOpen 1 = .ok (.getfield 24, 3) := dk_180 0 24 (dk_at dksX5_isOpen_0 1 rfl rfl)
theorem dX5_isOpen_4 : decode cX5_isOpen 4 = .ok (.ifCond .le 16, 3) := dk_158 0 16 (dk_at dksX5_isOpen_0 4 rfl rfl)
theorem dX5_isOpen_7 : decode cX5_isOpen 7 = .ok (.aload_n 0, 1) := dk_42 (dk_at dksX5_isOpen_0 7 rfl rfl)
theorem dX5_isOpen_8 : decode cX5_isOpen 8 = .ok (.getfield 30, 3) := dk_180 0 30 (dk_at dksX5_isOpen_0 8 rfl rfl)
theorem dX5_isOpen_11 : decode cX5_isOpen 11 = .ok (.bipush 20, 2) := dk_16 20 (dk_at dksX5_isOpen_0 11 rfl rfl)
theorem dX5_isOpen_13 : decode cX5_isOpen 13 = .ok (.if_icmp .ge 7, 3) := dk_162 0 7 (dk_at dksX5_isOpen_0 13 rfl rfl)
theorem dX5_isOpen_16 : decode cX5_isOpen 16 = .ok (.iconst 1, 1) := dk_4 (dk_at dksX5_isOpen_0 16 rfl rfl)
theorem dX5_isOpen_17 : decode cX5_isOpen 17 = .ok (.goto 4, 3) := dk_167 0 4 (dk_at dksX5_isOpen_0 17 rfl rfl)
theorem dX5_isOpen_20 : decode cX5_isOpen 20 = .ok (.iconst 0, 1) := dk_3 (dk_at dksX5_isOpen_0 20 rfl rfl)
theorem dX5_isOpen_21 : decode cX5_isOpen 21 = .ok (.ireturn, 1) := dk_172 (dk_at dksX5_isOpen_0 21 rfl rfl)
abbrev cX5_touches : ByteArray := prog_10_method_4_code
def yX5_touches : MethodName := ⟨RX5, "touches", "(I)Z"⟩
def dkwX5_touches_0 : List UInt8 := [42, 180, 0, 9, 27, 159, 0, 11, 42, 180, 0, 15, 27, 160, 0, 7, 4, 167, 0, 4, 3, 172]
abbrev dktX5_touches_0 : List UInt8 := dkwX5_touches_0 ++ []
theorem dksX5_touches_0 : cX5_touches.data.toList.drop 0 = dktX5_touches_0 := by decide +kernel
theorem dX5_touches_0 : decode cX5_touches 0 = .ok (.aload_n 0, 1) := dk_42 (dk_at dksX5_touches_0 0 rfl rfl)
theorem dX5_touches_1 : decode cX5_touches 1 = .ok (.getfield 9, 3) := dk_180 0 9 (dk_at dksX5_touches_0 1 rfl rfl)
theorem dX5_touches_4 : decode cX5_touches 4 = .ok (.iload_n 1, 1) := dk_27 (dk_at dksX5_touches_0 4 rfl rfl)
theorem dX5_touches_5 : decode cX5_touches 5 = .ok (.if_icmp .eq 11, 3) := dk_159 0 11 (dk_at dksX5_touches_0 5 rfl rfl)
theorem dX5_touches_8 : decode cX5_touches 8 = .ok (.aload_n 0, 1) := dk_42 (dk_at dksX5_touches_0 8 rfl rfl)
theorem dX5_touches_9 : decode cX5_touches 9 = .ok (.getfield 15, 3) := dk_180 0 15 (dk_at dksX5_touches_0 9 rfl rfl)
theorem dX5_touches_12 : decode cX5_touches 12 = .ok (.iload_n 1, 1) := dk_27 (dk_at dksX5_touches_0 12 rfl rfl)
theorem dX5_touches_13 : decode cX5_touches 13 = .ok (.if_icmp .ne 7, 3) := dk_160 0 7 (dk_at dksX5_touches_0 13 rfl rfl)
theorem dX5_touches_16 : decode cX5_touches 16 = .ok (.iconst 1, 1) := dk_4 (dk_at dksX5_touches_0 16 rfl rfl)
theorem dX5_touches_17 : decode cX5_touches 17 = .ok (.goto 4, 3) := dk_167 0 4 (dk_at dksX5_touches_0 17 rfl rfl)
theorem dX5_touches_20 : decode cX5_touches 20 = .ok (.iconst 0, 1) := dk_3 (dk_at dksX5_touches_0 20 rfl rfl)
theorem dX5_touches_21 : decode cX5_touches 21 = .ok (.ireturn, 1) := dk_172 (dk_at dksX5_touches_0 21 rfl rfl)
abbrev cX5_otherEnd : ByteArray := prog_10_method_5_code
def yX5_otherEnd : MethodName := ⟨RX5, "otherEnd", "(I)I"⟩
def dkwX5_otherEnd_0 : List UInt8 := [42, 180, 0, 9, 27, 160, 0, 10, 42, 180, 0, 15, 167, 0, 7, 42, 180, 0, 9, 172]
abbrev dktX5_otherEnd_0 : List UInt8 := dkwX5_otherEnd_0 ++ []
theorem dksX5_otherEnd_0 : cX5_otherEnd.data.toList.drop 0 = dktX5_otherEnd_0 := by decide +kernel
theorem dX5_otherEnd_0 : decode cX5_otherEnd 0 = .ok (.aload_n 0, 1) := dk_42 (dk_at dksX5_otherEnd_0 0 rfl rfl)
theorem dX5_otherEnd_1 : decode cX5_otherEnd 1 = .ok (.getfield 9, 3) := dk_180 0 9 (dk_at dksX5_otherEnd_0 1 rfl rfl)
theorem dX5_otherEnd_4 : decode cX5_otherEnd 4 = .ok (.iload_n 1, 1) := dk_27 (dk_at dksX5_otherEnd_0 4 rfl rfl)
theorem dX5_otherEnd_5 : decode cX5_otherEnd 5 = .ok (.if_icmp .ne 10, 3) := dk_160 0 10 (dk_at dksX5_otherEnd_0 5 rfl rfl)
theorem dX5_otherEnd_8 : decode cX5_otherEnd 8 = .ok (.aload_n 0, 1) := dk_42 (dk_at dksX5_otherEnd_0 8 rfl rfl)
theorem dX5_otherEnd_9 : decode cX5_otherEnd 9 = .ok (.getfield 15, 3) := dk_180 0 15 (dk_at dksX5_otherEnd_0 9 rfl rfl)
theorem dX5_otherEnd_12 : decode cX5_otherEnd 12 = .ok (.goto 7, 3) := dk_167 0 7 (dk_at dksX5_otherEnd_0 12 rfl rfl)
theorem dX5_otherEnd_15 : decode cX5_otherEnd 15 = .ok (.aload_n 0, 1) := dk_42 (dk_at dksX5_otherEnd_0 15 rfl rfl)
theorem dX5_otherEnd_16 : decode cX5_otherEnd 16 = .ok (.getfield 9, 3) := dk_180 0 9 (dk_at dksX5_otherEnd_0 16 rfl rfl)
theorem dX5_otherEnd_19 : decode cX5_otherEnd 19 = .ok (.ireturn, 1) := dk_172 (dk_at dksX5_otherEnd_0 19 rfl rfl)
abbrev cX5_mark : ByteArray := prog_10_method_9_code
def yX5_mark : MethodName := ⟨RX5, "mark", "()J"⟩
def dkwX5_mark_1 : List UInt8 := [97, 20, 0, 58, 42, 180, 0, 18, 133, 105, 97, 173]
abbrev dktX5_mark_1 : List UInt8 := dkwX5_mark_1 ++ []
def dkwX5_mark_0 : List UInt8 := [42, 180, 0, 24, 133, 20, 0, 54, 42, 180, 0, 30, 133, 105, 97, 20, 0, 56, 42, 180, 0, 27, 133, 105]
abbrev dktX5_mark_0 : List UInt8 := dkwX5_mark_0 ++ dktX5_mark_1
theorem dksX5_mark_0 : cX5_mark.data.toList.drop 0 = dktX5_mark_0 := by decide +kernel
theorem dksX5_mark_1 : cX5_mark.data.toList.drop 24 = dktX5_mark_1 := dk_seg dksX5_mark_0 24 rfl rfl
theorem dX5_mark_0 : decode cX5_mark 0 = .ok (.aload_n 0, 1) := dk_42 (dk_at dksX5_mark_0 0 rfl rfl)
theorem dX5_mark_1 : decode cX5_mark 1 = .ok (.getfield 24, 3) := dk_180 0 24 (dk_at dksX5_mark_0 1 rfl rfl)
theorem dX5_mark_4 : decode cX5_mark 4 = .ok (.i2l, 1) := dk_133 (dk_at dksX5_mark_0 4 rfl rfl)
theorem dX5_mark_5 : decode cX5_mark 5 = .ok (.ldc2_w 54, 3) := dk_20 0 54 (dk_at dksX5_mark_0 5 rfl rfl)
theorem dX5_mark_8 : decode cX5_mark 8 = .ok (.aload_n 0, 1) := dk_42 (dk_at dksX5_mark_0 8 rfl rfl)
theorem dX5_mark_9 : decode cX5_mark 9 = .ok (.getfield 30, 3) := dk_180 0 30 (dk_at dksX5_mark_0 9 rfl rfl)
theorem dX5_mark_12 : decode cX5_mark 12 = .ok (.i2l, 1) := dk_133 (dk_at dksX5_mark_0 12 rfl rfl)
theorem dX5_mark_13 : decode cX5_mark 13 = .ok (.lmul, 1) := dk_105 (dk_at dksX5_mark_0 13 rfl rfl)
theorem dX5_mark_14 : decode cX5_mark 14 = .ok (.ladd, 1) := dk_97 (dk_at dksX5_mark_0 14 rfl rfl)
theorem dX5_mark_15 : decode cX5_mark 15 = .ok (.ldc2_w 56, 3) := dk_20 0 56 (dk_at dksX5_mark_0 15 rfl rfl)
theorem dX5_mark_18 : decode cX5_mark 18 = .ok (.aload_n 0, 1) := dk_42 (dk_at dksX5_mark_0 18 rfl rfl)
theorem dX5_mark_19 : decode cX5_mark 19 = .ok (.getfield 27, 3) := dk_180 0 27 (dk_at dksX5_mark_0 19 rfl rfl)
theorem dX5_mark_22 : decode cX5_mark 22 = .ok (.i2l, 1) := dk_133 (dk_at dksX5_mark_0 22 rfl rfl)
theorem dX5_mark_23 : decode cX5_mark 23 = .ok (.lmul, 1) := dk_105 (dk_at dksX5_mark_0 23 rfl rfl)
theorem dX5_mark_24 : decode cX5_mark 24 = .ok (.ladd, 1) := dk_97 (dk_at dksX5_mark_1 0 rfl rfl)
theorem dX5_mark_25 : decode cX5_mark 25 = .ok (.ldc2_w 58, 3) := dk_20 0 58 (dk_at dksX5_mark_1 1 rfl rfl)
theorem dX5_mark_28 : decode cX5_mark 28 = .ok (.aload_n 0, 1) := dk_42 (dk_at dksX5_mark_1 4 rfl rfl)
theorem dX5_mark_29 : decode cX5_mark 29 = .ok (.getfield 18, 3) := dk_180 0 18 (dk_at dksX5_mark_1 5 rfl rfl)
theorem dX5_mark_32 : decode cX5_mark 32 = .ok (.i2l, 1) := dk_133 (dk_at dksX5_mark_1 8 rfl rfl)
theorem dX5_mark_33 : decode cX5_mark 33 = .ok (.lmul, 1) := dk_105 (dk_at dksX5_mark_1 9 rfl rfl)
theorem dX5_mark_34 : decode cX5_mark 34 = .ok (.ladd, 1) := dk_97 (dk_at dksX5_mark_1 10 rfl rfl)
theorem dX5_mark_35 : decode cX5_mark 35 = .ok (.lreturn, 1) := dk_173 (dk_at dksX5_mark_1 11 rfl rfl)
abbrev cX5_leadsFrom : ByteArray := prog_10_method_6_code
def yX5_leadsFrom : MethodName := ⟨RX5, "leadsFrom", "(I)Z"⟩
def dkwX5_leadsFrom_0 : List UInt8 := [42, 182, 0, 36, 153, 0, 15, 42, 27, 182, 0, 40, 153, 0, 7, 4, 167, 0, 4, 3, 172]
abbrev dktX5_leadsFrom_0 : List UInt8 := dkwX5_leadsFrom_0 ++ []
theorem dksX5_leadsFrom_0 : cX5_leadsFrom.data.toList.drop 0 = dktX5_leadsFrom_0 := by decide +kernel
theorem dX5_leadsFrom_0 : decode cX5_leadsFrom 0 = .ok (.aload_n 0, 1) := dk_42 (dk_at dksX5_leadsFrom_0 0 rfl rfl)
theorem dX5_leadsFrom_1 : decode cX5_leadsFrom 1 = .ok (.invokevirtual 36, 3) := dk_182 0 36 (dk_at dksX5_leadsFrom_0 1 rfl rfl)
theorem dX5_leadsFrom_4 : decode cX5_leadsFrom 4 = .ok (.ifCond .eq 15, 3) := dk_153 0 15 (dk_at dksX5_leadsFrom_0 4 rfl rfl)
theorem dX5_leadsFrom_7 : decode cX5_leadsFrom 7 = .ok (.aload_n 0, 1) := dk_42 (dk_at dksX5_leadsFrom_0 7 rfl rfl)
theorem dX5_leadsFrom_8 : decode cX5_leadsFrom 8 = .ok (.iload_n 1, 1) := dk_27 (dk_at dksX5_leadsFrom_0 8 rfl rfl)
theorem dX5_leadsFrom_9 : decode cX5_leadsFrom 9 = .ok (.invokevirtual 40, 3) := dk_182 0 40 (dk_at dksX5_leadsFrom_0 9 rfl rfl)
theorem dX5_leadsFrom_12 : decode cX5_leadsFrom 12 = .ok (.ifCond .eq 7, 3) := dk_153 0 7 (dk_at dksX5_leadsFrom_0 12 rfl rfl)
theorem dX5_leadsFrom_15 : decode cX5_leadsFrom 15 = .ok (.iconst 1, 1) := dk_4 (dk_at dksX5_leadsFrom_0 15 rfl rfl)
theorem dX5_leadsFrom_16 : decode cX5_leadsFrom 16 = .ok (.goto 4, 3) := dk_167 0 4 (dk_at dksX5_leadsFrom_0 16 rfl rfl)
theorem dX5_leadsFrom_19 : decode cX5_leadsFrom 19 = .ok (.iconst 0, 1) := dk_3 (dk_at dksX5_leadsFrom_0 19 rfl rfl)
theorem dX5_leadsFrom_20 : decode cX5_leadsFrom 20 = .ok (.ireturn, 1) := dk_172 (dk_at dksX5_leadsFrom_0 20 rfl rfl)
abbrev cX5_cleaned : ByteArray := prog_10_method_7_code
def yX5_cleaned : MethodName := ⟨RX5, "cleaned", "(I)I"⟩
def dkwX5_cleaned_0 : List UInt8 := [27, 42, 180, 0, 18, 2, 130, 126, 172]
abbrev dktX5_cleaned_0 : List UInt8 := dkwX5_cleaned_0 ++ []
theorem dksX5_cleaned_0 : cX5_cleaned.data.toList.drop 0 = dktX5_cleaned_0 := by decide +kernel
theorem dX5_cleaned_0 : decode cX5_cleaned 0 = .ok (.iload_n 1, 1) := dk_27 (dk_at dksX5_cleaned_0 0 rfl rfl)
theorem dX5_cleaned_1 : decode cX5_cleaned 1 = .ok (.aload_n 0, 1) := dk_42 (dk_at dksX5_cleaned_0 1 rfl rfl)
theorem dX5_cleaned_2 : decode cX5_cleaned 2 = .ok (.getfield 18, 3) := dk_180 0 18 (dk_at dksX5_cleaned_0 2 rfl rfl)
theorem dX5_cleaned_5 : decode cX5_cleaned 5 = .ok (.iconst (-1), 1) := dk_2 (dk_at dksX5_cleaned_0 5 rfl rfl)
theorem dX5_cleaned_6 : decode cX5_cleaned 6 = .ok (.ixor, 1) := dk_130 (dk_at dksX5_cleaned_0 6 rfl rfl)
theorem dX5_cleaned_7 : decode cX5_cleaned 7 = .ok (.iand, 1) := dk_126 (dk_at dksX5_cleaned_0 7 rfl rfl)
theorem dX5_cleaned_8 : decode cX5_cleaned 8 = .ok (.ireturn, 1) := dk_172 (dk_at dksX5_cleaned_0 8 rfl rfl)
abbrev cX5_copy : ByteArray := prog_10_method_2_code
def yX5_copy : MethodName := ⟨RX5, "copy", "()LFilterWaterworks$Pipe;"⟩
def dkwX5_copy_2 : List UInt8 := [180, 0, 33, 181, 0, 33, 43, 176]
abbrev dktX5_copy_2 : List UInt8 := dkwX5_copy_2 ++ []
def dkwX5_copy_1 : List UInt8 := [180, 0, 24, 181, 0, 24, 43, 42, 180, 0, 27, 181, 0, 27, 43, 42, 180, 0, 30, 181, 0, 30, 43, 42]
abbrev dktX5_copy_1 : List UInt8 := dkwX5_copy_1 ++ dktX5_copy_2
def dkwX5_copy_0 : List UInt8 := [187, 0, 10, 89, 42, 180, 0, 9, 42, 180, 0, 15, 42, 180, 0, 18, 183, 0, 21, 76, 43, 42]
abbrev dktX5_copy_0 : List UInt8 := dkwX5_copy_0 ++ dktX5_copy_1
theorem dksX5_copy_0 : cX5_copy.data.toList.drop 0 = dktX5_copy_0 := by decide +kernel
theorem dksX5_copy_1 : cX5_copy.data.toList.drop 22 = dktX5_copy_1 := dk_seg dksX5_copy_0 22 rfl rfl
theorem dksX5_copy_2 : cX5_copy.data.toList.drop 46 = dktX5_copy_2 := dk_seg dksX5_copy_1 24 rfl rfl
theorem dX5_copy_0 : decode cX5_copy 0 = .ok (.new 10, 3) := dk_187 0 10 (dk_at dksX5_copy_0 0 rfl rfl)
theorem dX5_copy_3 : decode cX5_copy 3 = .ok (.dup, 1) := dk_89 (dk_at dksX5_copy_0 3 rfl rfl)
theorem dX5_copy_4 : decode cX5_copy 4 = .ok (.aload_n 0, 1) := dk_42 (dk_at dksX5_copy_0 4 rfl rfl)
theorem dX5_copy_5 : decode cX5_copy 5 = .ok (.getfield 9, 3) := dk_180 0 9 (dk_at dksX5_copy_0 5 rfl rfl)
theorem dX5_copy_8 : decode cX5_copy 8 = .ok (.aload_n 0, 1) := dk_42 (dk_at dksX5_copy_0 8 rfl rfl)
theorem dX5_copy_9 : decode cX5_copy 9 = .ok (.getfield 15, 3) := dk_180 0 15 (dk_at dksX5_copy_0 9 rfl rfl)
theorem dX5_copy_12 : decode cX5_copy 12 = .ok (.aload_n 0, 1) := dk_42 (dk_at dksX5_copy_0 12 rfl rfl)
theorem dX5_copy_13 : decode cX5_copy 13 = .ok (.getfield 18, 3) := dk_180 0 18 (dk_at dksX5_copy_0 13 rfl rfl)
theorem dX5_copy_16 : decode cX5_copy 16 = .ok (.invokespecial 21, 3) := dk_183 0 21 (dk_at dksX5_copy_0 16 rfl rfl)
theorem dX5_copy_19 : decode cX5_copy 19 = .ok (.astore_n 1, 1) := dk_76 (dk_at dksX5_copy_0 19 rfl rfl)
theorem dX5_copy_20 : decode cX5_copy 20 = .ok (.aload_n 1, 1) := dk_43 (dk_at dksX5_copy_0 20 rfl rfl)
theorem dX5_copy_21 : decode cX5_copy 21 = .ok (.aload_n 0, 1) := dk_42 (dk_at dksX5_copy_0 21 rfl rfl)
theorem dX5_copy_22 : decode cX5_copy 22 = .ok (.getfield 24, 3) := dk_180 0 24 (dk_at dksX5_copy_1 0 rfl rfl)
theorem dX5_copy_25 : decode cX5_copy 25 = .ok (.putfield 24, 3) := dk_181 0 24 (dk_at dksX5_copy_1 3 rfl rfl)
theorem dX5_copy_28 : decode cX5_copy 28 = .ok (.aload_n 1, 1) := dk_43 (dk_at dksX5_copy_1 6 rfl rfl)
theorem dX5_copy_29 : decode cX5_copy 29 = .ok (.aload_n 0, 1) := dk_42 (dk_at dksX5_copy_1 7 rfl rfl)
theorem dX5_copy_30 : decode cX5_copy 30 = .ok (.getfield 27, 3) := dk_180 0 27 (dk_at dksX5_copy_1 8 rfl rfl)
theorem dX5_copy_33 : decode cX5_copy 33 = .ok (.putfield 27, 3) := dk_181 0 27 (dk_at dksX5_copy_1 11 rfl rfl)
theorem dX5_copy_36 : decode cX5_copy 36 = .ok (.aload_n 1, 1) := dk_43 (dk_at dksX5_copy_1 14 rfl rfl)
theorem dX5_copy_37 : decode cX5_copy 37 = .ok (.aload_n 0, 1) := dk_42 (dk_at dksX5_copy_1 15 rfl rfl)
theorem dX5_copy_38 : decode cX5_copy 38 = .ok (.getfield 30, 3) := dk_180 0 30 (dk_at dksX5_copy_1 16 rfl rfl)
theorem dX5_copy_41 : decode cX5_copy 41 = .ok (.putfield 30, 3) := dk_181 0 30 (dk_at dksX5_copy_1 19 rfl rfl)
theorem dX5_copy_44 : decode cX5_copy 44 = .ok (.aload_n 1, 1) := dk_43 (dk_at dksX5_copy_1 22 rfl rfl)
theorem dX5_copy_45 : decode cX5_copy 45 = .ok (.aload_n 0, 1) := dk_42 (dk_at dksX5_copy_1 23 rfl rfl)
theorem dX5_copy_46 : decode cX5_copy 46 = .ok (.getfield 33, 3) := dk_180 0 33 (dk_at dksX5_copy_2 0 rfl rfl)
theorem dX5_copy_49 : decode cX5_copy 49 = .ok (.putfield 33, 3) := dk_181 0 33 (dk_at dksX5_copy_2 3 rfl rfl)
theorem dX5_copy_52 : decode cX5_copy 52 = .ok (.aload_n 1, 1) := dk_43 (dk_at dksX5_copy_2 6 rfl rfl)
theorem dX5_copy_53 : decode cX5_copy 53 = .ok (.areturn, 1) := dk_176 (dk_at dksX5_copy_2 7 rfl rfl)
abbrev cX5_init : ByteArray := prog_10_method_1_code
def yX5_init : MethodName := ⟨RX5, "<init>", "(III)V"⟩
def dkwX5_init_0 : List UInt8 := [42, 183, 0, 3, 42, 27, 181, 0, 9, 42, 28, 181, 0, 15, 42, 29, 181, 0, 18, 177]
abbrev dktX5_init_0 : List UInt8 := dkwX5_init_0 ++ []
theorem dksX5_init_0 : cX5_init.data.toList.drop 0 = dktX5_init_0 := by decide +kernel
theorem dX5_init_0 : decode cX5_init 0 = .ok (.aload_n 0, 1) := dk_42 (dk_at dksX5_init_0 0 rfl rfl)
theorem dX5_init_1 : decode cX5_init 1 = .ok (.invokespecial 3, 3) := dk_183 0 3 (dk_at dksX5_init_0 1 rfl rfl)
theorem dX5_init_4 : decode cX5_init 4 = .ok (.aload_n 0, 1) := dk_42 (dk_at dksX5_init_0 4 rfl rfl)
theorem dX5_init_5 : decode cX5_init 5 = .ok (.iload_n 1, 1) := dk_27 (dk_at dksX5_init_0 5 rfl rfl)
theorem dX5_init_6 : decode cX5_init 6 = .ok (.putfield 9, 3) := dk_181 0 9 (dk_at dksX5_init_0 6 rfl rfl)
theorem dX5_init_9 : decode cX5_init 9 = .ok (.aload_n 0, 1) := dk_42 (dk_at dksX5_init_0 9 rfl rfl)
theorem dX5_init_10 : decode cX5_init 10 = .ok (.iload_n 2, 1) := dk_28 (dk_at dksX5_init_0 10 rfl rfl)
theorem dX5_init_11 : decode cX5_init 11 = .ok (.putfield 15, 3) := dk_181 0 15 (dk_at dksX5_init_0 11 rfl rfl)
theorem dX5_init_14 : decode cX5_init 14 = .ok (.aload_n 0, 1) := dk_42 (dk_at dksX5_init_0 14 rfl rfl)
theorem dX5_init_15 : decode cX5_init 15 = .ok (.iload_n 3, 1) := dk_29 (dk_at dksX5_init_0 15 rfl rfl)
theorem dX5_init_16 : decode cX5_init 16 = .ok (.putfield 18, 3) := dk_181 0 18 (dk_at dksX5_init_0 16 rfl rfl)
theorem dX5_init_19 : decode cX5_init 19 = .ok (.return_, 1) := dk_177 (dk_at dksX5_init_0 19 rfl rfl)
abbrev cX5_soil : ByteArray := prog_10_method_8_code
def yX5_soil : MethodName := ⟨RX5, "soil", "(I)V"⟩
def dkwX5_soil_1 : List UInt8 := [177]
abbrev dktX5_soil_1 : List UInt8 := dkwX5_soil_1 ++ []
def dkwX5_soil_0 : List UInt8 := [42, 16, 20, 42, 180, 0, 30, 178, 0, 44, 27, 42, 180, 0, 18, 126, 46, 96, 184, 0, 48, 181, 0, 30]
abbrev dktX5_soil_0 : List UInt8 := dkwX5_soil_0 ++ dktX5_soil_1
theorem dksX5_soil_0 : cX5_soil.data.toList.drop 0 = dktX5_soil_0 := by decide +kernel
theorem dksX5_soil_1 : cX5_soil.data.toList.drop 24 = dktX5_soil_1 := dk_seg dksX5_soil_0 24 rfl rfl
theorem dX5_soil_0 : decode cX5_soil 0 = .ok (.aload_n 0, 1) := dk_42 (dk_at dksX5_soil_0 0 rfl rfl)
theorem dX5_soil_1 : decode cX5_soil 1 = .ok (.bipush 20, 2) := dk_16 20 (dk_at dksX5_soil_0 1 rfl rfl)
theorem dX5_soil_3 : decode cX5_soil 3 = .ok (.aload_n 0, 1) := dk_42 (dk_at dksX5_soil_0 3 rfl rfl)
theorem dX5_soil_4 : decode cX5_soil 4 = .ok (.getfield 30, 3) := dk_180 0 30 (dk_at dksX5_soil_0 4 rfl rfl)
theorem dX5_soil_7 : decode cX5_soil 7 = .ok (.getstatic 44, 3) := dk_178 0 44 (dk_at dksX5_soil_0 7 rfl rfl)
theorem dX5_soil_10 : decode cX5_soil 10 = .ok (.iload_n 1, 1) := dk_27 (dk_at dksX5_soil_0 10 rfl rfl)
theorem dX5_soil_11 : decode cX5_soil 11 = .ok (.aload_n 0, 1) := dk_42 (dk_at dksX5_soil_0 11 rfl rfl)
theorem dX5_soil_12 : decode cX5_soil 12 = .ok (.getfield 18, 3) := dk_180 0 18 (dk_at dksX5_soil_0 12 rfl rfl)
theorem dX5_soil_15 : decode cX5_soil 15 = .ok (.iand, 1) := dk_126 (dk_at dksX5_soil_0 15 rfl rfl)
theorem dX5_soil_16 : decode cX5_soil 16 = .ok (.iaload, 1) := dk_46 (dk_at dksX5_soil_0 16 rfl rfl)
theorem dX5_soil_17 : decode cX5_soil 17 = .ok (.iadd, 1) := dk_96 (dk_at dksX5_soil_0 17 rfl rfl)
theorem dX5_soil_18 : decode cX5_soil 18 = .ok (.invokestatic 48, 3) := dk_184 0 48 (dk_at dksX5_soil_0 18 rfl rfl)
theorem dX5_soil_21 : decode cX5_soil 21 = .ok (.putfield 30, 3) := dk_181 0 30 (dk_at dksX5_soil_0 21 rfl rfl)
theorem dX5_soil_24 : decode cX5_soil 24 = .ok (.return_, 1) := dk_177 (dk_at dksX5_soil_1 0 rfl rfl)
abbrev cX5_toString : ByteArray := prog_10_method_10_code
def yX5_toString : MethodName := ⟨RX5, "toString", "()Ljava/lang/String;"⟩
def dkwX5_toString_4 : List UInt8 := [182, 0, 63, 182, 0, 72, 182, 0, 69, 182, 0, 72, 176]
abbrev dktX5_toString_4 : List UInt8 := dkwX5_toString_4 ++ []
def dkwX5_toString_3 : List UInt8 := [154, 0, 8, 18, 80, 167, 0, 25, 187, 0, 60, 89, 183, 0, 62, 18, 82, 182, 0, 69, 42, 180, 0, 27]
abbrev dktX5_toString_3 : List UInt8 := dkwX5_toString_3 ++ dktX5_toString_4
def dkwX5_toString_2 : List UInt8 := [180, 0, 24, 182, 0, 63, 18, 78, 182, 0, 69, 42, 180, 0, 30, 182, 0, 63, 42, 180, 0, 27]
abbrev dktX5_toString_2 : List UInt8 := dkwX5_toString_2 ++ dktX5_toString_3
def dkwX5_toString_1 : List UInt8 := [182, 0, 63, 182, 0, 72, 76, 187, 0, 60, 89, 183, 0, 62, 43, 182, 0, 69, 18, 76, 182, 0, 69, 42]
abbrev dktX5_toString_1 : List UInt8 := dkwX5_toString_1 ++ dktX5_toString_2
def dkwX5_toString_0 : List UInt8 := [187, 0, 60, 89, 183, 0, 62, 42, 180, 0, 9, 182, 0, 63, 18, 67, 182, 0, 69, 42, 180, 0, 15]
abbrev dktX5_toString_0 : List UInt8 := dkwX5_toString_0 ++ dktX5_toString_1
theorem dksX5_toString_0 : cX5_toString.data.toList.drop 0 = dktX5_toString_0 := by decide +kernel
theorem dksX5_toString_1 : cX5_toString.data.toList.drop 23 = dktX5_toString_1 := dk_seg dksX5_toString_0 23 rfl rfl
theorem dksX5_toString_2 : cX5_toString.data.toList.drop 47 = dktX5_toString_2 := dk_seg dksX5_toString_1 24 rfl rfl
theorem dksX5_toString_3 : cX5_toString.data.toList.drop 69 = dktX5_toString_3 := dk_seg dksX5_toString_2 22 rfl rfl
theorem dksX5_toString_4 : cX5_toString.data.toList.drop 93 = dktX5_toString_4 := dk_seg dksX5_toString_3 24 rfl rfl
theorem dX5_toString_0 : decode cX5_toString 0 = .ok (.new 60, 3) := dk_187 0 60 (dk_at dksX5_toString_0 0 rfl rfl)
theorem dX5_toString_3 : decode cX5_toString 3 = .ok (.dup, 1) := dk_89 (dk_at dksX5_toString_0 3 rfl rfl)
theorem dX5_toString_4 : decode cX5_toString 4 = .ok (.invokespecial 62, 3) := dk_183 0 62 (dk_at dksX5_toString_0 4 rfl rfl)
theorem dX5_toString_7 : decode cX5_toString 7 = .ok (.aload_n 0, 1) := dk_42 (dk_at dksX5_toString_0 7 rfl rfl)
theorem dX5_toString_8 : decode cX5_toString 8 = .ok (.getfield 9, 3) := dk_180 0 9 (dk_at dksX5_toString_0 8 rfl rfl)
theorem dX5_toString_11 : decode cX5_toString 11 = .ok (.invokevirtual 63, 3) := dk_182 0 63 (dk_at dksX5_toString_0 11 rfl rfl)
theorem dX5_toString_14 : decode cX5_toString 14 = .ok (.ldc 67, 2) := dk_18 67 (dk_at dksX5_toString_0 14 rfl rfl)
theorem dX5_toString_16 : decode cX5_toString 16 = .ok (.invokevirtual 69, 3) := dk_182 0 69 (dk_at dksX5_toString_0 16 rfl rfl)
theorem dX5_toString_19 : decode cX5_toString 19 = .ok (.aload_n 0, 1) := dk_42 (dk_at dksX5_toString_0 19 rfl rfl)
theorem dX5_toString_20 : decode cX5_toString 20 = .ok (.getfield 15, 3) := dk_180 0 15 (dk_at dksX5_toString_0 20 rfl rfl)
theorem dX5_toString_23 : decode cX5_toString 23 = .ok (.invokevirtual 63, 3) := dk_182 0 63 (dk_at dksX5_toString_1 0 rfl rfl)
theorem dX5_toString_26 : decode cX5_toString 26 = .ok (.invokevirtual 72, 3) := dk_182 0 72 (dk_at dksX5_toString_1 3 rfl rfl)
theorem dX5_toString_29 : decode cX5_toString 29 = .ok (.astore_n 1, 1) := dk_76 (dk_at dksX5_toString_1 6 rfl rfl)
theorem dX5_toString_30 : decode cX5_toString 30 = .ok (.new 60, 3) := dk_187 0 60 (dk_at dksX5_toString_1 7 rfl rfl)
theorem dX5_toString_33 : decode cX5_toString 33 = .ok (.dup, 1) := dk_89 (dk_at dksX5_toString_1 10 rfl rfl)
theorem dX5_toString_34 : decode cX5_toString 34 = .ok (.invokespecial 62, 3) := dk_183 0 62 (dk_at dksX5_toString_1 11 rfl rfl)
theorem dX5_toString_37 : decode cX5_toString 37 = .ok (.aload_n 1, 1) := dk_43 (dk_at dksX5_toString_1 14 rfl rfl)
theorem dX5_toString_38 : decode cX5_toString 38 = .ok (.invokevirtual 69, 3) := dk_182 0 69 (dk_at dksX5_toString_1 15 rfl rfl)
theorem dX5_toString_41 : decode cX5_toString 41 = .ok (.ldc 76, 2) := dk_18 76 (dk_at dksX5_toString_1 18 rfl rfl)
theorem dX5_toString_43 : decode cX5_toString 43 = .ok (.invokevirtual 69, 3) := dk_182 0 69 (dk_at dksX5_toString_1 20 rfl rfl)
theorem dX5_toString_46 : decode cX5_toString 46 = .ok (.aload_n 0, 1) := dk_42 (dk_at dksX5_toString_1 23 rfl rfl)
theorem dX5_toString_47 : decode cX5_toString 47 = .ok (.getfield 24, 3) := dk_180 0 24 (dk_at dksX5_toString_2 0 rfl rfl)
theorem dX5_toString_50 : decode cX5_toString 50 = .ok (.invokevirtual 63, 3) := dk_182 0 63 (dk_at dksX5_toString_2 3 rfl rfl)
theorem dX5_toString_53 : decode cX5_toString 53 = .ok (.ldc 78, 2) := dk_18 78 (dk_at dksX5_toString_2 6 rfl rfl)
theorem dX5_toString_55 : decode cX5_toString 55 = .ok (.invokevirtual 69, 3) := dk_182 0 69 (dk_at dksX5_toString_2 8 rfl rfl)
theorem dX5_toString_58 : decode cX5_toString 58 = .ok (.aload_n 0, 1) := dk_42 (dk_at dksX5_toString_2 11 rfl rfl)
theorem dX5_toString_59 : decode cX5_toString 59 = .ok (.getfield 30, 3) := dk_180 0 30 (dk_at dksX5_toString_2 12 rfl rfl)
theorem dX5_toString_62 : decode cX5_toString 62 = .ok (.invokevirtual 63, 3) := dk_182 0 63 (dk_at dksX5_toString_2 15 rfl rfl)
theorem dX5_toString_65 : decode cX5_toString 65 = .ok (.aload_n 0, 1) := dk_42 (dk_at dksX5_toString_2 18 rfl rfl)
theorem dX5_toString_66 : decode cX5_toString 66 = .ok (.getfield 27, 3) := dk_180 0 27 (dk_at dksX5_toString_2 19 rfl rfl)
theorem dX5_toString_69 : decode cX5_toString 69 = .ok (.ifCond .ne 8, 3) := dk_154 0 8 (dk_at dksX5_toString_3 0 rfl rfl)
theorem dX5_toString_72 : decode cX5_toString 72 = .ok (.ldc 80, 2) := dk_18 80 (dk_at dksX5_toString_3 3 rfl rfl)
theorem dX5_toString_74 : decode cX5_toString 74 = .ok (.goto 25, 3) := dk_167 0 25 (dk_at dksX5_toString_3 5 rfl rfl)
theorem dX5_toString_77 : decode cX5_toString 77 = .ok (.new 60, 3) := dk_187 0 60 (dk_at dksX5_toString_3 8 rfl rfl)
theorem dX5_toString_80 : decode cX5_toString 80 = .ok (.dup, 1) := dk_89 (dk_at dksX5_toString_3 11 rfl rfl)
theorem dX5_toString_81 : decode cX5_toString 81 = .ok (.invokespecial 62, 3) := dk_183 0 62 (dk_at dksX5_toString_3 12 rfl rfl)
theorem dX5_toString_84 : decode cX5_toString 84 = .ok (.ldc 82, 2) := dk_18 82 (dk_at dksX5_toString_3 15 rfl rfl)
theorem dX5_toString_86 : decode cX5_toString 86 = .ok (.invokevirtual 69, 3) := dk_182 0 69 (dk_at dksX5_toString_3 17 rfl rfl)
theorem dX5_toString_89 : decode cX5_toString 89 = .ok (.aload_n 0, 1) := dk_42 (dk_at dksX5_toString_3 20 rfl rfl)
theorem dX5_toString_90 : decode cX5_toString 90 = .ok (.getfield 27, 3) := dk_180 0 27 (dk_at dksX5_toString_3 21 rfl rfl)
theorem dX5_toString_93 : decode cX5_toString 93 = .ok (.invokevirtual 63, 3) := dk_182 0 63 (dk_at dksX5_toString_4 0 rfl rfl)
theorem dX5_toString_96 : decode cX5_toString 96 = .ok (.invokevirtual 72, 3) := dk_182 0 72 (dk_at dksX5_toString_4 3 rfl rfl)
theorem dX5_toString_99 : decode cX5_toString 99 = .ok (.invokevirtual 69, 3) := dk_182 0 69 (dk_at dksX5_toString_4 6 rfl rfl)
theorem dX5_toString_102 : decode cX5_toString 102 = .ok (.invokevirtual 72, 3) := dk_182 0 72 (dk_at dksX5_toString_4 9 rfl rfl)
theorem dX5_toString_105 : decode cX5_toString 105 = .ok (.areturn, 1) := dk_176 (dk_at dksX5_toString_4 12 rfl rfl)
theorem q96 : (Jvm.Cond.initialized "FilterWaterworks$Pipe") ∈ lw_all := lw_g (lw_at lw_m1 29 rfl) rfl
theorem q672 : (Jvm.Cond.instanceMethod ({ cls := "FilterWaterworks$Pipe", name := "isOpen", desc := "()Z" } : Jvm.MethodName)) ∈ lw_all := lw_g (lw_at lw_m3 125 rfl) rfl
theorem q673 : (Jvm.Cond.selects "FilterWaterworks$Pipe" ({ cls := "FilterWaterworks$Pipe", name := "isOpen", desc := "()Z" } : Jvm.MethodName) ({ cls := "FilterWaterworks$Pipe", name := "isOpen", desc := "()Z" } : Jvm.MethodName)) ∈ lw_all := lw_g (lw_at lw_m3 126 rfl) rfl
theorem q674 : (Jvm.Cond.code ({ cls := "FilterWaterworks$Pipe", name := "isOpen", desc := "()Z" } : Jvm.MethodName) prog_10_method_3_code (1 : Nat) (Option.some Jvm.ClassFile.FieldType.boolean)) ∈ lw_all := lw_g (lw_at lw_m3 127 rfl) rfl
theorem q676 : (Jvm.Cond.instanceMethod ({ cls := "FilterWaterworks$Pipe", name := "touches", desc := "(I)Z" } : Jvm.MethodName)) ∈ lw_all := lw_g (lw_at lw_m3 129 rfl) rfl
theorem q677 : (Jvm.Cond.selects "FilterWaterworks$Pipe" ({ cls := "FilterWaterworks$Pipe", name := "touches", desc := "(I)Z" } : Jvm.MethodName) ({ cls := "FilterWaterworks$Pipe", name := "touches", desc := "(I)Z" } : Jvm.MethodName)) ∈ lw_all := lw_g (lw_at lw_m3 130 rfl) rfl
theorem q678 : (Jvm.Cond.code ({ cls := "FilterWaterworks$Pipe", name := "touches", desc := "(I)Z" } : Jvm.MethodName) prog_10_method_4_code (2 : Nat) (Option.some Jvm.ClassFile.FieldType.boolean)) ∈ lw_all := lw_g (lw_at lw_m3 131 rfl) rfl
theorem q680 : (Jvm.Cond.instanceMethod ({ cls := "FilterWaterworks$Pipe", name := "otherEnd", desc := "(I)I" } : Jvm.MethodName)) ∈ lw_all := lw_g (lw_at lw_m3 133 rfl) rfl
theorem q681 : (Jvm.Cond.selects "FilterWaterworks$Pipe" ({ cls := "FilterWaterworks$Pipe", name := "otherEnd", desc := "(I)I" } : Jvm.MethodName) ({ cls := "FilterWaterworks$Pipe", name := "otherEnd", desc := "(I)I" } : Jvm.MethodName)) ∈ lw_all := lw_g (lw_at lw_m3 134 rfl) rfl
theorem q682 : (Jvm.Cond.code ({ cls := "FilterWaterworks$Pipe", name := "otherEnd", desc := "(I)I" } : Jvm.MethodName) prog_10_method_5_code (2 : Nat) (Option.some Jvm.ClassFile.FieldType.int)) ∈ lw_all := lw_g (lw_at lw_m3 135 rfl) rfl
theorem q815 : (Jvm.Cond.instanceMethod ({ cls := "FilterWaterworks$Pipe", name := "mark", desc := "()J" } : Jvm.MethodName)) ∈ lw_all := lw_g (lw_at lw_m4 28 rfl) rfl
theorem q816 : (Jvm.Cond.selects "FilterWaterworks$Pipe" ({ cls := "FilterWaterworks$Pipe", name := "mark", desc := "()J" } : Jvm.MethodName) ({ cls := "FilterWaterworks$Pipe", name := "mark", desc := "()J" } : Jvm.MethodName)) ∈ lw_all := lw_g (lw_at lw_m4 29 rfl) rfl
theorem q817 : (Jvm.Cond.code ({ cls := "FilterWaterworks$Pipe", name := "mark", desc := "()J" } : Jvm.MethodName) prog_10_method_9_code (1 : Nat) (Option.some Jvm.ClassFile.FieldType.long)) ∈ lw_all := lw_g (lw_at lw_m4 30 rfl) rfl
theorem q818 : (Jvm.Cond.constantLong "FilterWaterworks$Pipe" (54 : Nat) (5 : Int64)) ∈ lw_all := lw_g (lw_at lw_m4 31 rfl) rfl
theorem q819 : (Jvm.Cond.constantLong "FilterWaterworks$Pipe" (56 : Nat) (1000 : Int64)) ∈ lw_all := lw_g (lw_at lw_m4 32 rfl) rfl
theorem q820 : (Jvm.Cond.constantLong "FilterWaterworks$Pipe" (58 : Nat) (10000 : Int64)) ∈ lw_all := lw_g (lw_at lw_m4 33 rfl) rfl
theorem q846 : (Jvm.Cond.instanceMethod ({ cls := "FilterWaterworks$Pipe", name := "leadsFrom", desc := "(I)Z" } : Jvm.MethodName)) ∈ lw_all := lw_g (lw_at lw_m4 59 rfl) rfl
theorem q847 : (Jvm.Cond.selects "FilterWaterworks$Pipe" ({ cls := "FilterWaterworks$Pipe", name := "leadsFrom", desc := "(I)Z" } : Jvm.MethodName) ({ cls := "FilterWaterworks$Pipe", name := "leadsFrom", desc := "(I)Z" } : Jvm.MethodName)) ∈ lw_all := lw_g (lw_at lw_m4 60 rfl) rfl
theorem q848 : (Jvm.Cond.code ({ cls := "FilterWaterworks$Pipe", name := "leadsFrom", desc := "(I)Z" } : Jvm.MethodName) prog_10_method_6_code (2 : Nat) (Option.some Jvm.ClassFile.FieldType.boolean)) ∈ lw_all := lw_g (lw_at lw_m4 61 rfl) rfl
theorem q849 : (Jvm.Cond.methodLink "FilterWaterworks$Pipe" (36 : Nat) ({ cls := "FilterWaterworks$Pipe", name := "isOpen", desc := "()Z" } : Jvm.MethodName)) ∈ lw_all := lw_g (lw_at lw_m4 62 rfl) rfl
theorem q850 : (Jvm.Cond.methodLink "FilterWaterworks$Pipe" (40 : Nat) ({ cls := "FilterWaterworks$Pipe", name := "touches", desc := "(I)Z" } : Jvm.MethodName)) ∈ lw_all := lw_g (lw_at lw_m4 63 rfl) rfl
theorem q891 : (Jvm.Cond.instanceMethod ({ cls := "FilterWaterworks$Pipe", name := "cleaned", desc := "(I)I" } : Jvm.MethodName)) ∈ lw_all := lw_g (lw_at lw_m4 104 rfl) rfl
theorem q892 : (Jvm.Cond.selects "FilterWaterworks$Pipe" ({ cls := "FilterWaterworks$Pipe", name := "cleaned", desc := "(I)I" } : Jvm.MethodName) ({ cls := "FilterWaterworks$Pipe", name := "cleaned", desc := "(I)I" } : Jvm.MethodName)) ∈ lw_all := lw_g (lw_at lw_m4 105 rfl) rfl
theorem q893 : (Jvm.Cond.code ({ cls := "FilterWaterworks$Pipe", name := "cleaned", desc := "(I)I" } : Jvm.MethodName) prog_10_method_7_code (2 : Nat) (Option.some Jvm.ClassFile.FieldType.int)) ∈ lw_all := lw_g (lw_at lw_m4 106 rfl) rfl
theorem q998 : (Jvm.Cond.selects "FilterWaterworks$Pipe" ({ cls := "java/lang/Object", name := "getClass", desc := "()Ljava/lang/Class;" } : Jvm.MethodName) ({ cls := "java/lang/Object", name := "getClass", desc := "()Ljava/lang/Class;" } : Jvm.MethodName)) ∈ lw_all := lw_g (lw_at lw_m4 211 rfl) rfl
theorem q1058 : (Jvm.Cond.instanceMethod ({ cls := "FilterWaterworks$Pipe", name := "copy", desc := "()LFilterWaterworks$Pipe;" } : Jvm.MethodName)) ∈ lw_all := lw_g (lw_at lw_m5 31 rfl) rfl
theorem q1059 : (Jvm.Cond.selects "FilterWaterworks$Pipe" ({ cls := "FilterWaterworks$Pipe", name := "copy", desc := "()LFilterWaterworks$Pipe;" } : Jvm.MethodName) ({ cls := "FilterWaterworks$Pipe", name := "copy", desc := "()LFilterWaterworks$Pipe;" } : Jvm.MethodName)) ∈ lw_all := lw_g (lw_at lw_m5 32 rfl) rfl
theorem q1060 : (Jvm.Cond.code ({ cls := "FilterWaterworks$Pipe", name := "copy", desc := "()LFilterWaterworks$Pipe;" } : Jvm.MethodName) prog_10_method_2_code (2 : Nat) (Option.some (Jvm.ClassFile.FieldType.object "FilterWaterworks$Pipe"))) ∈ lw_all := lw_g (lw_at lw_m5 33 rfl) rfl
theorem q1061 : (Jvm.Cond.classLink "FilterWaterworks$Pipe" (10 : Nat) "FilterWaterworks$Pipe") ∈ lw_all := lw_g (lw_at lw_m5 34 rfl) rfl
theorem q1062 : (Jvm.Cond.instantiable "FilterWaterworks$Pipe" (7 : Nat)) ∈ lw_all := lw_g (lw_at lw_m5 35 rfl) rfl
theorem q1063 : (Jvm.Cond.methodLink "FilterWaterworks$Pipe" (21 : Nat) ({ cls := "FilterWaterworks$Pipe", name := "<init>", desc := "(III)V" } : Jvm.MethodName)) ∈ lw_all := lw_g (lw_at lw_m5 36 rfl) rfl
theorem q1064 : (Jvm.Cond.instanceMethod ({ cls := "FilterWaterworks$Pipe", name := "<init>", desc := "(III)V" } : Jvm.MethodName)) ∈ lw_all := lw_g (lw_at lw_m5 37 rfl) rfl
theorem q1065 : (Jvm.Cond.code ({ cls := "FilterWaterworks$Pipe", name := "<init>", desc := "(III)V" } : Jvm.MethodName) prog_10_method_1_code (4 : Nat) (Option.none : Option Jvm.ClassFile.FieldType)) ∈ lw_all := lw_g (lw_at lw_m5 38 rfl) rfl
theorem q1066 : (Jvm.Cond.methodLink "FilterWaterworks$Pipe" (3 : Nat) ({ cls := "java/lang/Object", name := "<init>", desc := "()V" } : Jvm.MethodName)) ∈ lw_all := lw_g (lw_at lw_m5 39 rfl) rfl
theorem q1067 : (Jvm.Cond.fieldLink "FilterWaterworks$Pipe" (9 : Nat) "FilterWaterworks$Pipe" "first" "I") ∈ lw_all := lw_g (lw_at lw_m5 40 rfl) rfl
theorem q1071 : (Jvm.Cond.fieldLink "FilterWaterworks$Pipe" (15 : Nat) "FilterWaterworks$Pipe" "second" "I") ∈ lw_all := lw_g (lw_at lw_m5 44 rfl) rfl
theorem q1075 : (Jvm.Cond.fieldLink "FilterWaterworks$Pipe" (18 : Nat) "FilterWaterworks$Pipe" "mesh" "I") ∈ lw_all := lw_g (lw_at lw_m5 48 rfl) rfl
theorem q1077 : (Jvm.Cond.fieldLink "FilterWaterworks$Pipe" (24 : Nat) "FilterWaterworks$Pipe" "setting" "I") ∈ lw_all := lw_g (lw_at lw_m5 50 rfl) rfl
theorem q1081 : (Jvm.Cond.fieldLink "FilterWaterworks$Pipe" (27 : Nat) "FilterWaterworks$Pipe" "rate" "I") ∈ lw_all := lw_g (lw_at lw_m5 54 rfl) rfl
theorem q1084 : (Jvm.Cond.fieldLink "FilterWaterworks$Pipe" (30 : Nat) "FilterWaterworks$Pipe" "dirt" "I") ∈ lw_all := lw_g (lw_at lw_m5 57 rfl) rfl
theorem q1087 : (Jvm.Cond.fieldLink "FilterWaterworks$Pipe" (33 : Nat) "FilterWaterworks$Pipe" "through" "I") ∈ lw_all := lw_g (lw_at lw_m5 60 rfl) rfl
theorem q1090 : (Jvm.Cond.laysFinal "FilterWaterworks$Pipe" "FilterWaterworks$Pipe" "first" "I") ∈ lw_all := lw_g (lw_at lw_m5 63 rfl) rfl
theorem q1091 : (Jvm.Cond.soleField "FilterWaterworks$Pipe" "first") ∈ lw_all := lw_g (lw_at lw_m5 64 rfl) rfl
theorem q1092 : (Jvm.Cond.laysFinal "FilterWaterworks$Pipe" "FilterWaterworks$Pipe" "second" "I") ∈ lw_all := lw_g (lw_at lw_m5 65 rfl) rfl
theorem q1093 : (Jvm.Cond.soleField "FilterWaterworks$Pipe" "second") ∈ lw_all := lw_g (lw_at lw_m5 66 rfl) rfl
theorem q1094 : (Jvm.Cond.laysFinal "FilterWaterworks$Pipe" "FilterWaterworks$Pipe" "mesh" "I") ∈ lw_all := lw_g (lw_at lw_m5 67 rfl) rfl
theorem q1095 : (Jvm.Cond.soleField "FilterWaterworks$Pipe" "mesh") ∈ lw_all := lw_g (lw_at lw_m5 68 rfl) rfl
theorem q1096 : (Jvm.Cond.lays "FilterWaterworks$Pipe" "FilterWaterworks$Pipe" "setting" "I") ∈ lw_all := lw_g (lw_at lw_m5 69 rfl) rfl
theorem q1097 : (Jvm.Cond.soleField "FilterWaterworks$Pipe" "setting") ∈ lw_all := lw_g (lw_at lw_m5 70 rfl) rfl
theorem q1098 : (Jvm.Cond.lays "FilterWaterworks$Pipe" "FilterWaterworks$Pipe" "rate" "I") ∈ lw_all := lw_g (lw_at lw_m5 71 rfl) rfl
theorem q1099 : (Jvm.Cond.soleField "FilterWaterworks$Pipe" "rate") ∈ lw_all := lw_g (lw_at lw_m5 72 rfl) rfl
theorem q1100 : (Jvm.Cond.lays "FilterWaterworks$Pipe" "FilterWaterworks$Pipe" "dirt" "I") ∈ lw_all := lw_g (lw_at lw_m5 73 rfl) rfl
theorem q1101 : (Jvm.Cond.soleField "FilterWaterworks$Pipe" "dirt") ∈ lw_all := lw_g (lw_at lw_m5 74 rfl) rfl
theorem q1102 : (Jvm.Cond.lays "FilterWaterworks$Pipe" "FilterWaterworks$Pipe" "through" "I") ∈ lw_all := lw_g (lw_at lw_m5 75 rfl) rfl
theorem q1103 : (Jvm.Cond.soleField "FilterWaterworks$Pipe" "through") ∈ lw_all := lw_g (lw_at lw_m5 76 rfl) rfl
theorem q1104 : (Jvm.Cond.superclass "FilterWaterworks$Pipe" "java/lang/Object") ∈ lw_all := lw_g (lw_at lw_m5 77 rfl) rfl
theorem q1324 : (Jvm.Cond.instanceMethod ({ cls := "FilterWaterworks$Pipe", name := "soil", desc := "(I)V" } : Jvm.MethodName)) ∈ lw_all := lw_g (lw_at lw_m6 57 rfl) rfl
theorem q1325 : (Jvm.Cond.selects "FilterWaterworks$Pipe" ({ cls := "FilterWaterworks$Pipe", name := "soil", desc := "(I)V" } : Jvm.MethodName) ({ cls := "FilterWaterworks$Pipe", name := "soil", desc := "(I)V" } : Jvm.MethodName)) ∈ lw_all := lw_g (lw_at lw_m6 58 rfl) rfl
theorem q1326 : (Jvm.Cond.code ({ cls := "FilterWaterworks$Pipe", name := "soil", desc := "(I)V" } : Jvm.MethodName) prog_10_method_8_code (2 : Nat) (Option.none : Option Jvm.ClassFile.FieldType)) ∈ lw_all := lw_g (lw_at lw_m6 59 rfl) rfl
theorem q1327 : (Jvm.Cond.fieldLinkNest "FilterWaterworks$Pipe" (44 : Nat) "FilterWaterworks" "COUNTS" "[I" "FilterWaterworks") ∈ lw_tbl := lw_at lw_m6 60 rfl
theorem q1328 : (Jvm.Cond.methodLink "FilterWaterworks$Pipe" (48 : Nat) ({ cls := "java/lang/Math", name := "min", desc := "(II)I" } : Jvm.MethodName)) ∈ lw_all := lw_g (lw_at lw_m6 61 rfl) rfl
theorem q1871 : (Jvm.Cond.instanceMethod ({ cls := "FilterWaterworks$Pipe", name := "toString", desc := "()Ljava/lang/String;" } : Jvm.MethodName)) ∈ lw_all := lw_g (lw_at lw_m8 124 rfl) rfl
theorem q1872 : (Jvm.Cond.selects "FilterWaterworks$Pipe" ({ cls := "FilterWaterworks$Pipe", name := "toString", desc := "()Ljava/lang/String;" } : Jvm.MethodName) ({ cls := "FilterWaterworks$Pipe", name := "toString", desc := "()Ljava/lang/String;" } : Jvm.MethodName)) ∈ lw_all := lw_g (lw_at lw_m8 125 rfl) rfl
theorem q1873 : (Jvm.Cond.code ({ cls := "FilterWaterworks$Pipe", name := "toString", desc := "()Ljava/lang/String;" } : Jvm.MethodName) prog_10_method_10_code (2 : Nat) (Option.some (Jvm.ClassFile.FieldType.object "java/lang/String"))) ∈ lw_all := lw_g (lw_at lw_m8 126 rfl) rfl
theorem q1874 : (Jvm.Cond.classLink "FilterWaterworks$Pipe" (60 : Nat) "java/lang/StringBuilder") ∈ lw_all := lw_g (lw_at lw_m8 127 rfl) rfl
theorem q1875 : (Jvm.Cond.methodLink "FilterWaterworks$Pipe" (62 : Nat) ({ cls := "java/lang/StringBuilder", name := "<init>", desc := "()V" } : Jvm.MethodName)) ∈ lw_all := lw_g (lw_at lw_m8 128 rfl) rfl
theorem q1876 : (Jvm.Cond.methodLink "FilterWaterworks$Pipe" (63 : Nat) ({ cls := "java/lang/StringBuilder", name := "append", desc := "(I)Ljava/lang/StringBuilder;" } : Jvm.MethodName)) ∈ lw_all := lw_g (lw_at lw_m8 129 rfl) rfl
theorem q1877 : (Jvm.Cond.stringRef "FilterWaterworks$Pipe" (67 : Nat) "-") ∈ lw_tbl := lw_at lw_m8 130 rfl
theorem q1878 : (Jvm.Cond.methodLink "FilterWaterworks$Pipe" (69 : Nat) ({ cls := "java/lang/StringBuilder", name := "append", desc := "(Ljava/lang/String;)Ljava/lang/StringBuilder;" } : Jvm.MethodName)) ∈ lw_all := lw_g (lw_at lw_m8 131 rfl) rfl
theorem q1879 : (Jvm.Cond.methodLink "FilterWaterworks$Pipe" (72 : Nat) ({ cls := "java/lang/StringBuilder", name := "toString", desc := "()Ljava/lang/String;" } : Jvm.MethodName)) ∈ lw_all := lw_g (lw_at lw_m8 132 rfl) rfl
theorem q1880 : (Jvm.Cond.stringRef "FilterWaterworks$Pipe" (76 : Nat) "v") ∈ lw_tbl := lw_at lw_m8 133 rfl
theorem q1881 : (Jvm.Cond.stringRef "FilterWaterworks$Pipe" (78 : Nat) "d") ∈ lw_tbl := lw_at lw_m8 134 rfl
theorem q1882 : (Jvm.Cond.stringRef "FilterWaterworks$Pipe" (80 : Nat) "") ∈ lw_tbl := lw_at lw_m8 135 rfl
theorem q1883 : (Jvm.Cond.stringRef "FilterWaterworks$Pipe" (82 : Nat) "l") ∈ lw_tbl := lw_at lw_m8 136 rfl
theorem q2070 : (Jvm.Cond.selects "FilterWaterworks$Pipe" ({ cls := "java/lang/Object", name := "toString", desc := "()Ljava/lang/String;" } : Jvm.MethodName) ({ cls := "FilterWaterworks$Pipe", name := "toString", desc := "()Ljava/lang/String;" } : Jvm.MethodName)) ∈ lw_all := lw_g (lw_at lw_m9 83 rfl) rfl
theorem q2846 : (Jvm.Cond.castable "FilterWaterworks$Pipe" "java/lang/Object") ∈ lw_tbl := lw_at lw_m12 139 rfl
theorem in_X5 : ∀ w ∈ wsX50, w ∈ lw_all := lw_in wsX50 [1090, 1092, 1094, 1096, 1098, 1100, 1102] (by decide +kernel) (by decide +kernel)

/-! FilterWaterworks$Command -/
set_option maxRecDepth 100000
def RX6 : String := "FilterWaterworks$Command"
def TX6 : u_T := fun k => match k with
  | 0 => ("FilterWaterworks$Command", "word", "Ljava/lang/String;", true)
  | _ => ("FilterWaterworks$Command", "arguments", "[I", true)
def tyX6 : Nat → FieldType := fun k => match k with
  | 0 => .object "java/lang/String"
  | _ => .array .int
abbrev wsX60 : List Cond := u_ws RX6 TX6 2
theorem nmX6 : ∀ a, a < 2 → ∀ b, b < 2 → a ≠ b → (TX6 a).2.1 ≠ (TX6 b).2.1 := by decide +kernel
theorem tyX6_ok : ∀ k, k < 2 → parseFieldDescriptor (TX6 k).2.2.1 = some (tyX6 k) := by decide +kernel
abbrev cX6_init : ByteArray := prog_2_method_1_code
def yX6_init : MethodName := ⟨RX6, "<init>", "(Ljava/lang/String;[I)V"⟩
def dkwX6_init_0 : List UInt8 := [42, 183, 0, 1, 42, 43, 181, 0, 7, 42, 44, 181, 0, 13, 177]
abbrev dktX6_init_0 : List UInt8 := dkwX6_init_0 ++ []
theorem dksX6_init_0 : cX6_init.data.toList.drop 0 = dktX6_init_0 := by decide +kernel
theorem dX6_init_0 : decode cX6_init 0 = .ok (.aload_n 0, 1) := dk_42 (dk_at dksX6_init_0 0 rfl rfl)
theorem dX6_init_1 : decode cX6_init 1 = .ok (.invokespecial 1, 3) := dk_183 0 1 (dk_at dksX6_init_0 1 rfl rfl)
theorem dX6_init_4 : decode cX6_init 4 = .ok (.aload_n 0, 1) := dk_42 (dk_at dksX6_init_0 4 rfl rfl)
theorem dX6_init_5 : decode cX6_init 5 = .ok (.aload_n 1, 1) := dk_43 (dk_at dksX6_init_0 5 rfl rfl)
theorem dX6_init_6 : decode cX6_init 6 = .ok (.putfield 7, 3) := dk_181 0 7 (dk_at dksX6_init_0 6 rfl rfl)
theorem dX6_init_9 : decode cX6_init 9 = .ok (.aload_n 0, 1) := dk_42 (dk_at dksX6_init_0 9 rfl rfl)
theorem dX6_init_10 : decode cX6_init 10 = .ok (.aload_n 2, 1) := dk_44 (dk_at dksX6_init_0 10 rfl rfl)
theorem dX6_init_11 : decode cX6_init 11 = .ok (.putfield 13, 3) := dk_181 0 13 (dk_at dksX6_init_0 11 rfl rfl)
theorem dX6_init_14 : decode cX6_init 14 = .ok (.return_, 1) := dk_177 (dk_at dksX6_init_0 14 rfl rfl)
abbrev cX6_applyTo : ByteArray := prog_2_method_3_code
def yX6_applyTo : MethodName := ⟨RX6, "applyTo", "(LFilterWaterworks$Works;)I"⟩
def dkwX6_applyTo_12 : List UInt8 := [182, 0, 62, 172, 43, 42, 3, 182, 0, 41, 182, 0, 65, 172, 43, 42, 3, 182, 0, 41, 182, 0, 68, 172]
abbrev dktX6_applyTo_12 : List UInt8 := dkwX6_applyTo_12 ++ []
def dkwX6_applyTo_11 : List UInt8 := [182, 0, 41, 42, 4, 182, 0, 41, 182, 0, 59, 172, 43, 42, 3, 182, 0, 41, 42, 4, 182, 0, 41]
abbrev dktX6_applyTo_11 : List UInt8 := dkwX6_applyTo_11 ++ dktX6_applyTo_12
def dkwX6_applyTo_10 : List UInt8 := [182, 0, 54, 172, 43, 42, 3, 182, 0, 41, 42, 4, 182, 0, 41, 182, 0, 56, 172, 43, 42, 3]
abbrev dktX6_applyTo_10 : List UInt8 := dkwX6_applyTo_10 ++ dktX6_applyTo_11
def dkwX6_applyTo_9 : List UInt8 := [182, 0, 41, 182, 0, 50, 172, 43, 42, 3, 182, 0, 41, 42, 4, 182, 0, 41, 42, 5, 182, 0, 41]
abbrev dktX6_applyTo_9 : List UInt8 := dkwX6_applyTo_9 ++ dktX6_applyTo_10
def dkwX6_applyTo_8 : List UInt8 := [43, 42, 3, 182, 0, 41, 182, 0, 45, 172, 43, 42, 3, 182, 0, 41, 42, 4, 182, 0, 41, 42, 5]
abbrev dktX6_applyTo_8 : List UInt8 := dkwX6_applyTo_8 ++ dktX6_applyTo_9
def dkwX6_applyTo_7 : List UInt8 := [170, 0, 0, 0, 0, 0, 148, 0, 0, 0, 0, 0, 0, 0, 6, 0, 0, 0, 43, 0, 0, 0, 53, 0, 0, 0, 73, 0, 0, 0, 93, 0, 0, 0, 108, 0, 0, 0, 123, 0, 0, 0, 138]
abbrev dktX6_applyTo_7 : List UInt8 := dkwX6_applyTo_7 ++ dktX6_applyTo_8
def dkwX6_applyTo_6 : List UInt8 := [62, 29]
abbrev dktX6_applyTo_6 : List UInt8 := dkwX6_applyTo_6 ++ dktX6_applyTo_7
def dkwX6_applyTo_5 : List UInt8 := [18, 37, 182, 0, 25, 153, 0, 20, 8, 62, 167, 0, 15, 44, 18, 39, 182, 0, 25, 153, 0, 6, 16, 6]
abbrev dktX6_applyTo_5 : List UInt8 := dkwX6_applyTo_5 ++ dktX6_applyTo_6
def dkwX6_applyTo_4 : List UInt8 := [153, 0, 48, 6, 62, 167, 0, 43, 44, 18, 35, 182, 0, 25, 153, 0, 34, 7, 62, 167, 0, 29, 44]
abbrev dktX6_applyTo_4 : List UInt8 := dkwX6_applyTo_4 ++ dktX6_applyTo_5
def dkwX6_applyTo_3 : List UInt8 := [62, 167, 0, 71, 44, 18, 31, 182, 0, 25, 153, 0, 62, 5, 62, 167, 0, 57, 44, 18, 33, 182, 0, 25]
abbrev dktX6_applyTo_3 : List UInt8 := dkwX6_applyTo_3 ++ dktX6_applyTo_4
def dkwX6_applyTo_2 : List UInt8 := [44, 18, 23, 182, 0, 25, 153, 0, 90, 3, 62, 167, 0, 85, 44, 18, 29, 182, 0, 25, 153, 0, 76, 4]
abbrev dktX6_applyTo_2 : List UInt8 := dkwX6_applyTo_2 ++ dktX6_applyTo_3
def dkwX6_applyTo_1 : List UInt8 := [171, 0, 0, 0, 161, 0, 0, 0, 7, 0, 47, 45, 68, 0, 0, 0, 107, 0, 50, 159, 99, 0, 0, 0, 135, 0, 52, 129, 174, 0, 0, 0, 79, 0, 52, 152, 220, 0, 0, 0, 93, 0, 54, 52, 234, 0, 0, 0, 65, 5, 165, 182, 73, 0, 0, 0, 149, 6, 172, 145, 144, 0, 0, 0, 121]
abbrev dktX6_applyTo_1 : List UInt8 := dkwX6_applyTo_1 ++ dktX6_applyTo_2
def dkwX6_applyTo_0 : List UInt8 := [42, 180, 0, 7, 77, 2, 62, 44, 182, 0, 17]
abbrev dktX6_applyTo_0 : List UInt8 := dkwX6_applyTo_0 ++ dktX6_applyTo_1
theorem dksX6_applyTo_0 : cX6_applyTo.data.toList.drop 0 = dktX6_applyTo_0 := by decide +kernel
theorem dksX6_applyTo_1 : cX6_applyTo.data.toList.drop 11 = dktX6_applyTo_1 := dk_seg dksX6_applyTo_0 11 rfl rfl
theorem dksX6_applyTo_2 : cX6_applyTo.data.toList.drop 76 = dktX6_applyTo_2 := dk_seg dksX6_applyTo_1 65 rfl rfl
theorem dksX6_applyTo_3 : cX6_applyTo.data.toList.drop 100 = dktX6_applyTo_3 := dk_seg dksX6_applyTo_2 24 rfl rfl
theorem dksX6_applyTo_4 : cX6_applyTo.data.toList.drop 124 = dktX6_applyTo_4 := dk_seg dksX6_applyTo_3 24 rfl rfl
theorem dksX6_applyTo_5 : cX6_applyTo.data.toList.drop 147 = dktX6_applyTo_5 := dk_seg dksX6_applyTo_4 23 rfl rfl
theorem dksX6_applyTo_6 : cX6_applyTo.data.toList.drop 171 = dktX6_applyTo_6 := dk_seg dksX6_applyTo_5 24 rfl rfl
theorem dksX6_applyTo_7 : cX6_applyTo.data.toList.drop 173 = dktX6_applyTo_7 := dk_seg dksX6_applyTo_6 2 rfl rfl
theorem dksX6_applyTo_8 : cX6_applyTo.data.toList.drop 216 = dktX6_applyTo_8 := dk_seg dksX6_applyTo_7 43 rfl rfl
theorem dksX6_applyTo_9 : cX6_applyTo.data.toList.drop 239 = dktX6_applyTo_9 := dk_seg dksX6_applyTo_8 23 rfl rfl
theorem dksX6_applyTo_10 : cX6_applyTo.data.toList.drop 262 = dktX6_applyTo_10 := dk_seg dksX6_applyTo_9 23 rfl rfl
theorem dksX6_applyTo_11 : cX6_applyTo.data.toList.drop 284 = dktX6_applyTo_11 := dk_seg dksX6_applyTo_10 22 rfl rfl
theorem dksX6_applyTo_12 : cX6_applyTo.data.toList.drop 307 = dktX6_applyTo_12 := dk_seg dksX6_applyTo_11 23 rfl rfl
theorem dX6_applyTo_0 : decode cX6_applyTo 0 = .ok (.aload_n 0, 1) := dk_42 (dk_at dksX6_applyTo_0 0 rfl rfl)
theorem dX6_applyTo_1 : decode cX6_applyTo 1 = .ok (.getfield 7, 3) := dk_180 0 7 (dk_at dksX6_applyTo_0 1 rfl rfl)
theorem dX6_applyTo_4 : decode cX6_applyTo 4 = .ok (.astore_n 2, 1) := dk_77 (dk_at dksX6_applyTo_0 4 rfl rfl)
theorem dX6_applyTo_5 : decode cX6_applyTo 5 = .ok (.iconst (-1), 1) := dk_2 (dk_at dksX6_applyTo_0 5 rfl rfl)
theorem dX6_applyTo_6 : decode cX6_applyTo 6 = .ok (.istore_n 3, 1) := dk_62 (dk_at dksX6_applyTo_0 6 rfl rfl)
theorem dX6_applyTo_7 : decode cX6_applyTo 7 = .ok (.aload_n 2, 1) := dk_44 (dk_at dksX6_applyTo_0 7 rfl rfl)
theorem dX6_applyTo_8 : decode cX6_applyTo 8 = .ok (.invokevirtual 17, 3) := dk_182 0 17 (dk_at dksX6_applyTo_0 8 rfl rfl)
theorem dX6_applyTo_11 : decode cX6_applyTo 11 = .ok (.lookupswitch 161 #[(3091780, 107), (3317603, 135), (3441070, 79), (3447004, 93), (3552490, 65), (94746185, 149), (111972752, 121)], 65) := by decide +kernel
theorem dX6_applyTo_76 : decode cX6_applyTo 76 = .ok (.aload_n 2, 1) := dk_44 (dk_at dksX6_applyTo_2 0 rfl rfl)
theorem dX6_applyTo_77 : decode cX6_applyTo 77 = .ok (.ldc 23, 2) := dk_18 23 (dk_at dksX6_applyTo_2 1 rfl rfl)
theorem dX6_applyTo_79 : decode cX6_applyTo 79 = .ok (.invokevirtual 25, 3) := dk_182 0 25 (dk_at dksX6_applyTo_2 3 rfl rfl)
theorem dX6_applyTo_82 : decode cX6_applyTo 82 = .ok (.ifCond .eq 90, 3) := dk_153 0 90 (dk_at dksX6_applyTo_2 6 rfl rfl)
theorem dX6_applyTo_85 : decode cX6_applyTo 85 = .ok (.iconst 0, 1) := dk_3 (dk_at dksX6_applyTo_2 9 rfl rfl)
theorem dX6_applyTo_86 : decode cX6_applyTo 86 = .ok (.istore_n 3, 1) := dk_62 (dk_at dksX6_applyTo_2 10 rfl rfl)
theorem dX6_applyTo_87 : decode cX6_applyTo 87 = .ok (.goto 85, 3) := dk_167 0 85 (dk_at dksX6_applyTo_2 11 rfl rfl)
theorem dX6_applyTo_90 : decode cX6_applyTo 90 = .ok (.aload_n 2, 1) := dk_44 (dk_at dksX6_applyTo_2 14 rfl rfl)
theorem dX6_applyTo_91 : decode cX6_applyTo 91 = .ok (.ldc 29, 2) := dk_18 29 (dk_at dksX6_applyTo_2 15 rfl rfl)
theorem dX6_applyTo_93 : decode cX6_applyTo 93 = .ok (.invokevirtual 25, 3) := dk_182 0 25 (dk_at dksX6_applyTo_2 17 rfl rfl)
theorem dX6_applyTo_96 : decode cX6_applyTo 96 = .ok (.ifCond .eq 76, 3) := dk_153 0 76 (dk_at dksX6_applyTo_2 20 rfl rfl)
theorem dX6_applyTo_99 : decode cX6_applyTo 99 = .ok (.iconst 1, 1) := dk_4 (dk_at dksX6_applyTo_2 23 rfl rfl)
theorem dX6_applyTo_100 : decode cX6_applyTo 100 = .ok (.istore_n 3, 1) := dk_62 (dk_at dksX6_applyTo_3 0 rfl rfl)
theorem dX6_applyTo_101 : decode cX6_applyTo 101 = .ok (.goto 71, 3) := dk_167 0 71 (dk_at dksX6_applyTo_3 1 rfl rfl)
theorem dX6_applyTo_104 : decode cX6_applyTo 104 = .ok (.aload_n 2, 1) := dk_44 (dk_at dksX6_applyTo_3 4 rfl rfl)
theorem dX6_applyTo_105 : decode cX6_applyTo 105 = .ok (.ldc 31, 2) := dk_18 31 (dk_at dksX6_applyTo_3 5 rfl rfl)
theorem dX6_applyTo_107 : decode cX6_applyTo 107 = .ok (.invokevirtual 25, 3) := dk_182 0 25 (dk_at dksX6_applyTo_3 7 rfl rfl)
theorem dX6_applyTo_110 : decode cX6_applyTo 110 = .ok (.ifCond .eq 62, 3) := dk_153 0 62 (dk_at dksX6_applyTo_3 10 rfl rfl)
theorem dX6_applyTo_113 : decode cX6_applyTo 113 = .ok (.iconst 2, 1) := dk_5 (dk_at dksX6_applyTo_3 13 rfl rfl)
theorem dX6_applyTo_114 : decode cX6_applyTo 114 = .ok (.istore_n 3, 1) := dk_62 (dk_at dksX6_applyTo_3 14 rfl rfl)
theorem dX6_applyTo_115 : decode cX6_applyTo 115 = .ok (.goto 57, 3) := dk_167 0 57 (dk_at dksX6_applyTo_3 15 rfl rfl)
theorem dX6_applyTo_118 : decode cX6_applyTo 118 = .ok (.aload_n 2, 1) := dk_44 (dk_at dksX6_applyTo_3 18 rfl rfl)
theorem dX6_applyTo_119 : decode cX6_applyTo 119 = .ok (.ldc 33, 2) := dk_18 33 (dk_at dksX6_applyTo_3 19 rfl rfl)
theorem dX6_applyTo_121 : decode cX6_applyTo 121 = .ok (.invokevirtual 25, 3) := dk_182 0 25 (dk_at dksX6_applyTo_3 21 rfl rfl)
theorem dX6_applyTo_124 : decode cX6_applyTo 124 = .ok (.ifCond .eq 48, 3) := dk_153 0 48 (dk_at dksX6_applyTo_4 0 rfl rfl)
theorem dX6_applyTo_127 : decode cX6_applyTo 127 = .ok (.iconst 3, 1) := dk_6 (dk_at dksX6_applyTo_4 3 rfl rfl)
theorem dX6_applyTo_128 : decode cX6_applyTo 128 = .ok (.istore_n 3, 1) := dk_62 (dk_at dksX6_applyTo_4 4 rfl rfl)
theorem dX6_applyTo_129 : decode cX6_applyTo 129 = .ok (.goto 43, 3) := dk_167 0 43 (dk_at dksX6_applyTo_4 5 rfl rfl)
theorem dX6_applyTo_132 : decode cX6_applyTo 132 = .ok (.aload_n 2, 1) := dk_44 (dk_at dksX6_applyTo_4 8 rfl rfl)
theorem dX6_applyTo_133 : decode cX6_applyTo 133 = .ok (.ldc 35, 2) := dk_18 35 (dk_at dksX6_applyTo_4 9 rfl rfl)
theorem dX6_applyTo_135 : decode cX6_applyTo 135 = .ok (.invokevirtual 25, 3) := dk_182 0 25 (dk_at dksX6_applyTo_4 11 rfl rfl)
theorem dX6_applyTo_138 : decode cX6_applyTo 138 = .ok (.ifCond .eq 34, 3) := dk_153 0 34 (dk_at dksX6_applyTo_4 14 rfl rfl)
theorem dX6_applyTo_141 : decode cX6_applyTo 141 = .ok (.iconst 4, 1) := dk_7 (dk_at dksX6_applyTo_4 17 rfl rfl)
theorem dX6_applyTo_142 : decode cX6_applyTo 142 = .ok (.istore_n 3, 1) := dk_62 (dk_at dksX6_applyTo_4 18 rfl rfl)
theorem dX6_applyTo_143 : decode cX6_applyTo 143 = .ok (.goto 29, 3) := dk_167 0 29 (dk_at dksX6_applyTo_4 19 rfl rfl)
theorem dX6_applyTo_146 : decode cX6_applyTo 146 = .ok (.aload_n 2, 1) := dk_44 (dk_at dksX6_applyTo_4 22 rfl rfl)
theorem dX6_applyTo_147 : decode cX6_applyTo 147 = .ok (.ldc 37, 2) := dk_18 37 (dk_at dksX6_applyTo_5 0 rfl rfl)
theorem dX6_applyTo_149 : decode cX6_applyTo 149 = .ok (.invokevirtual 25, 3) := dk_182 0 25 (dk_at dksX6_applyTo_5 2 rfl rfl)
theorem dX6_applyTo_152 : decode cX6_applyTo 152 = .ok (.ifCond .eq 20, 3) := dk_153 0 20 (dk_at dksX6_applyTo_5 5 rfl rfl)
theorem dX6_applyTo_155 : decode cX6_applyTo 155 = .ok (.iconst 5, 1) := dk_8 (dk_at dksX6_applyTo_5 8 rfl rfl)
theorem dX6_applyTo_156 : decode cX6_applyTo 156 = .ok (.istore_n 3, 1) := dk_62 (dk_at dksX6_applyTo_5 9 rfl rfl)
theorem dX6_applyTo_157 : decode cX6_applyTo 157 = .ok (.goto 15, 3) := dk_167 0 15 (dk_at dksX6_applyTo_5 10 rfl rfl)
theorem dX6_applyTo_160 : decode cX6_applyTo 160 = .ok (.aload_n 2, 1) := dk_44 (dk_at dksX6_applyTo_5 13 rfl rfl)
theorem dX6_applyTo_161 : decode cX6_applyTo 161 = .ok (.ldc 39, 2) := dk_18 39 (dk_at dksX6_applyTo_5 14 rfl rfl)
theorem dX6_applyTo_163 : decode cX6_applyTo 163 = .ok (.invokevirtual 25, 3) := dk_182 0 25 (dk_at dksX6_applyTo_5 16 rfl rfl)
theorem dX6_applyTo_166 : decode cX6_applyTo 166 = .ok (.ifCond .eq 6, 3) := dk_153 0 6 (dk_at dksX6_applyTo_5 19 rfl rfl)
theorem dX6_applyTo_169 : decode cX6_applyTo 169 = .ok (.bipush 6, 2) := dk_16 6 (dk_at dksX6_applyTo_5 22 rfl rfl)
theorem dX6_applyTo_171 : decode cX6_applyTo 171 = .ok (.istore_n 3, 1) := dk_62 (dk_at dksX6_applyTo_6 0 rfl rfl)
theorem dX6_applyTo_172 : decode cX6_applyTo 172 = .ok (.iload_n 3, 1) := dk_29 (dk_at dksX6_applyTo_6 1 rfl rfl)
theorem dX6_applyTo_173 : decode cX6_applyTo 173 = .ok (.tableswitch 148 0 6 #[43, 53, 73, 93, 108, 123, 138], 43) := by decide +kernel
theorem dX6_applyTo_216 : decode cX6_applyTo 216 = .ok (.aload_n 1, 1) := dk_43 (dk_at dksX6_applyTo_8 0 rfl rfl)
theorem dX6_applyTo_217 : decode cX6_applyTo 217 = .ok (.aload_n 0, 1) := dk_42 (dk_at dksX6_applyTo_8 1 rfl rfl)
theorem dX6_applyTo_218 : decode cX6_applyTo 218 = .ok (.iconst 0, 1) := dk_3 (dk_at dksX6_applyTo_8 2 rfl rfl)
theorem dX6_applyTo_219 : decode cX6_applyTo 219 = .ok (.invokevirtual 41, 3) := dk_182 0 41 (dk_at dksX6_applyTo_8 3 rfl rfl)
theorem dX6_applyTo_222 : decode cX6_applyTo 222 = .ok (.invokevirtual 45, 3) := dk_182 0 45 (dk_at dksX6_applyTo_8 6 rfl rfl)
theorem dX6_applyTo_225 : decode cX6_applyTo 225 = .ok (.ireturn, 1) := dk_172 (dk_at dksX6_applyTo_8 9 rfl rfl)
theorem dX6_applyTo_226 : decode cX6_applyTo 226 = .ok (.aload_n 1, 1) := dk_43 (dk_at dksX6_applyTo_8 10 rfl rfl)
theorem dX6_applyTo_227 : decode cX6_applyTo 227 = .ok (.aload_n 0, 1) := dk_42 (dk_at dksX6_applyTo_8 11 rfl rfl)
theorem dX6_applyTo_228 : decode cX6_applyTo 228 = .ok (.iconst 0, 1) := dk_3 (dk_at dksX6_applyTo_8 12 rfl rfl)
theorem dX6_applyTo_229 : decode cX6_applyTo 229 = .ok (.invokevirtual 41, 3) := dk_182 0 41 (dk_at dksX6_applyTo_8 13 rfl rfl)
theorem dX6_applyTo_232 : decode cX6_applyTo 232 = .ok (.aload_n 0, 1) := dk_42 (dk_at dksX6_applyTo_8 16 rfl rfl)
theorem dX6_applyTo_233 : decode cX6_applyTo 233 = .ok (.iconst 1, 1) := dk_4 (dk_at dksX6_applyTo_8 17 rfl rfl)
theorem dX6_applyTo_234 : decode cX6_applyTo 234 = .ok (.invokevirtual 41, 3) := dk_182 0 41 (dk_at dksX6_applyTo_8 18 rfl rfl)
theorem dX6_applyTo_237 : decode cX6_applyTo 237 = .ok (.aload_n 0, 1) := dk_42 (dk_at dksX6_applyTo_8 21 rfl rfl)
theorem dX6_applyTo_238 : decode cX6_applyTo 238 = .ok (.iconst 2, 1) := dk_5 (dk_at dksX6_applyTo_8 22 rfl rfl)
theorem dX6_applyTo_239 : decode cX6_applyTo 239 = .ok (.invokevirtual 41, 3) := dk_182 0 41 (dk_at dksX6_applyTo_9 0 rfl rfl)
theorem dX6_applyTo_242 : decode cX6_applyTo 242 = .ok (.invokevirtual 50, 3) := dk_182 0 50 (dk_at dksX6_applyTo_9 3 rfl rfl)
theorem dX6_applyTo_245 : decode cX6_applyTo 245 = .ok (.ireturn, 1) := dk_172 (dk_at dksX6_applyTo_9 6 rfl rfl)
theorem dX6_applyTo_246 : decode cX6_applyTo 246 = .ok (.aload_n 1, 1) := dk_43 (dk_at dksX6_applyTo_9 7 rfl rfl)
theorem dX6_applyTo_247 : decode cX6_applyTo 247 = .ok (.aload_n 0, 1) := dk_42 (dk_at dksX6_applyTo_9 8 rfl rfl)
theorem dX6_applyTo_248 : decode cX6_applyTo 248 = .ok (.iconst 0, 1) := dk_3 (dk_at dksX6_applyTo_9 9 rfl rfl)
theorem dX6_applyTo_249 : decode cX6_applyTo 249 = .ok (.invokevirtual 41, 3) := dk_182 0 41 (dk_at dksX6_applyTo_9 10 rfl rfl)
theorem dX6_applyTo_252 : decode cX6_applyTo 252 = .ok (.aload_n 0, 1) := dk_42 (dk_at dksX6_applyTo_9 13 rfl rfl)
theorem dX6_applyTo_253 : decode cX6_applyTo 253 = .ok (.iconst 1, 1) := dk_4 (dk_at dksX6_applyTo_9 14 rfl rfl)
theorem dX6_applyTo_254 : decode cX6_applyTo 254 = .ok (.invokevirtual 41, 3) := dk_182 0 41 (dk_at dksX6_applyTo_9 15 rfl rfl)
theorem dX6_applyTo_257 : decode cX6_applyTo 257 = .ok (.aload_n 0, 1) := dk_42 (dk_at dksX6_applyTo_9 18 rfl rfl)
theorem dX6_applyTo_258 : decode cX6_applyTo 258 = .ok (.iconst 2, 1) := dk_5 (dk_at dksX6_applyTo_9 19 rfl rfl)
theorem dX6_applyTo_259 : decode cX6_applyTo 259 = .ok (.invokevirtual 41, 3) := dk_182 0 41 (dk_at dksX6_applyTo_9 20 rfl rfl)
theorem dX6_applyTo_262 : decode cX6_applyTo 262 = .ok (.invokevirtual 54, 3) := dk_182 0 54 (dk_at dksX6_applyTo_10 0 rfl rfl)
theorem dX6_applyTo_265 : decode cX6_applyTo 265 = .ok (.ireturn, 1) := dk_172 (dk_at dksX6_applyTo_10 3 rfl rfl)
theorem dX6_applyTo_266 : decode cX6_applyTo 266 = .ok (.aload_n 1, 1) := dk_43 (dk_at dksX6_applyTo_10 4 rfl rfl)
theorem dX6_applyTo_267 : decode cX6_applyTo 267 = .ok (.aload_n 0, 1) := dk_42 (dk_at dksX6_applyTo_10 5 rfl rfl)
theorem dX6_applyTo_268 : decode cX6_applyTo 268 = .ok (.iconst 0, 1) := dk_3 (dk_at dksX6_applyTo_10 6 rfl rfl)
theorem dX6_applyTo_269 : decode cX6_applyTo 269 = .ok (.invokevirtual 41, 3) := dk_182 0 41 (dk_at dksX6_applyTo_10 7 rfl rfl)
theorem dX6_applyTo_272 : decode cX6_applyTo 272 = .ok (.aload_n 0, 1) := dk_42 (dk_at dksX6_applyTo_10 10 rfl rfl)
theorem dX6_applyTo_273 : decode cX6_applyTo 273 = .ok (.iconst 1, 1) := dk_4 (dk_at dksX6_applyTo_10 11 rfl rfl)
theorem dX6_applyTo_274 : decode cX6_applyTo 274 = .ok (.invokevirtual 41, 3) := dk_182 0 41 (dk_at dksX6_applyTo_10 12 rfl rfl)
theorem dX6_applyTo_277 : decode cX6_applyTo 277 = .ok (.invokevirtual 56, 3) := dk_182 0 56 (dk_at dksX6_applyTo_10 15 rfl rfl)
theorem dX6_applyTo_280 : decode cX6_applyTo 280 = .ok (.ireturn, 1) := dk_172 (dk_at dksX6_applyTo_10 18 rfl rfl)
theorem dX6_applyTo_281 : decode cX6_applyTo 281 = .ok (.aload_n 1, 1) := dk_43 (dk_at dksX6_applyTo_10 19 rfl rfl)
theorem dX6_applyTo_282 : decode cX6_applyTo 282 = .ok (.aload_n 0, 1) := dk_42 (dk_at dksX6_applyTo_10 20 rfl rfl)
theorem dX6_applyTo_283 : decode cX6_applyTo 283 = .ok (.iconst 0, 1) := dk_3 (dk_at dksX6_applyTo_10 21 rfl rfl)
theorem dX6_applyTo_284 : decode cX6_applyTo 284 = .ok (.invokevirtual 41, 3) := dk_182 0 41 (dk_at dksX6_applyTo_11 0 rfl rfl)
theorem dX6_applyTo_287 : decode cX6_applyTo 287 = .ok (.aload_n 0, 1) := dk_42 (dk_at dksX6_applyTo_11 3 rfl rfl)
theorem dX6_applyTo_288 : decode cX6_applyTo 288 = .ok (.iconst 1, 1) := dk_4 (dk_at dksX6_applyTo_11 4 rfl rfl)
theorem dX6_applyTo_289 : decode cX6_applyTo 289 = .ok (.invokevirtual 41, 3) := dk_182 0 41 (dk_at dksX6_applyTo_11 5 rfl rfl)
theorem dX6_applyTo_292 : decode cX6_applyTo 292 = .ok (.invokevirtual 59, 3) := dk_182 0 59 (dk_at dksX6_applyTo_11 8 rfl rfl)
theorem dX6_applyTo_295 : decode cX6_applyTo 295 = .ok (.ireturn, 1) := dk_172 (dk_at dksX6_applyTo_11 11 rfl rfl)
theorem dX6_applyTo_296 : decode cX6_applyTo 296 = .ok (.aload_n 1, 1) := dk_43 (dk_at dksX6_applyTo_11 12 rfl rfl)
theorem dX6_applyTo_297 : decode cX6_applyTo 297 = .ok (.aload_n 0, 1) := dk_42 (dk_at dksX6_applyTo_11 13 rfl rfl)
theorem dX6_applyTo_298 : decode cX6_applyTo 298 = .ok (.iconst 0, 1) := dk_3 (dk_at dksX6_applyTo_11 14 rfl rfl)
theorem dX6_applyTo_299 : decode cX6_applyTo 299 = .ok (.invokevirtual 41, 3) := dk_182 0 41 (dk_at dksX6_applyTo_11 15 rfl rfl)
theorem dX6_applyTo_302 : decode cX6_applyTo 302 = .ok (.aload_n 0, 1) := dk_42 (dk_at dksX6_applyTo_11 18 rfl rfl)
theorem dX6_applyTo_303 : decode cX6_applyTo 303 = .ok (.iconst 1, 1) := dk_4 (dk_at dksX6_applyTo_11 19 rfl rfl)
theorem dX6_applyTo_304 : decode cX6_applyTo 304 = .ok (.invokevirtual 41, 3) := dk_182 0 41 (dk_at dksX6_applyTo_11 20 rfl rfl)
theorem dX6_applyTo_307 : decode cX6_applyTo 307 = .ok (.invokevirtual 62, 3) := dk_182 0 62 (dk_at dksX6_applyTo_12 0 rfl rfl)
theorem dX6_applyTo_310 : decode cX6_applyTo 310 = .ok (.ireturn, 1) := dk_172 (dk_at dksX6_applyTo_12 3 rfl rfl)
theorem dX6_applyTo_311 : decode cX6_applyTo 311 = .ok (.aload_n 1, 1) := dk_43 (dk_at dksX6_applyTo_12 4 rfl rfl)
theorem dX6_applyTo_312 : decode cX6_applyTo 312 = .ok (.aload_n 0, 1) := dk_42 (dk_at dksX6_applyTo_12 5 rfl rfl)
theorem dX6_applyTo_313 : decode cX6_applyTo 313 = .ok (.iconst 0, 1) := dk_3 (dk_at dksX6_applyTo_12 6 rfl rfl)
theorem dX6_applyTo_314 : decode cX6_applyTo 314 = .ok (.invokevirtual 41, 3) := dk_182 0 41 (dk_at dksX6_applyTo_12 7 rfl rfl)
theorem dX6_applyTo_317 : decode cX6_applyTo 317 = .ok (.invokevirtual 65, 3) := dk_182 0 65 (dk_at dksX6_applyTo_12 10 rfl rfl)
theorem dX6_applyTo_320 : decode cX6_applyTo 320 = .ok (.ireturn, 1) := dk_172 (dk_at dksX6_applyTo_12 13 rfl rfl)
theorem dX6_applyTo_321 : decode cX6_applyTo 321 = .ok (.aload_n 1, 1) := dk_43 (dk_at dksX6_applyTo_12 14 rfl rfl)
theorem dX6_applyTo_322 : decode cX6_applyTo 322 = .ok (.aload_n 0, 1) := dk_42 (dk_at dksX6_applyTo_12 15 rfl rfl)
theorem dX6_applyTo_323 : decode cX6_applyTo 323 = .ok (.iconst 0, 1) := dk_3 (dk_at dksX6_applyTo_12 16 rfl rfl)
theorem dX6_applyTo_324 : decode cX6_applyTo 324 = .ok (.invokevirtual 41, 3) := dk_182 0 41 (dk_at dksX6_applyTo_12 17 rfl rfl)
theorem dX6_applyTo_327 : decode cX6_applyTo 327 = .ok (.invokevirtual 68, 3) := dk_182 0 68 (dk_at dksX6_applyTo_12 20 rfl rfl)
theorem dX6_applyTo_330 : decode cX6_applyTo 330 = .ok (.ireturn, 1) := dk_172 (dk_at dksX6_applyTo_12 23 rfl rfl)
abbrev cX6_at : ByteArray := prog_2_method_2_code
def yX6_at : MethodName := ⟨RX6, "at", "(I)I"⟩
def dkwX6_at_0 : List UInt8 := [42, 180, 0, 13, 27, 46, 172]
abbrev dktX6_at_0 : List UInt8 := dkwX6_at_0 ++ []
theorem dksX6_at_0 : cX6_at.data.toList.drop 0 = dktX6_at_0 := by decide +kernel
theorem dX6_at_0 : decode cX6_at 0 = .ok (.aload_n 0, 1) := dk_42 (dk_at dksX6_at_0 0 rfl rfl)
theorem dX6_at_1 : decode cX6_at 1 = .ok (.getfield 13, 3) := dk_180 0 13 (dk_at dksX6_at_0 1 rfl rfl)
theorem dX6_at_4 : decode cX6_at 4 = .ok (.iload_n 1, 1) := dk_27 (dk_at dksX6_at_0 4 rfl rfl)
theorem dX6_at_5 : decode cX6_at 5 = .ok (.iaload, 1) := dk_46 (dk_at dksX6_at_0 5 rfl rfl)
theorem dX6_at_6 : decode cX6_at 6 = .ok (.ireturn, 1) := dk_172 (dk_at dksX6_at_0 6 rfl rfl)
theorem q97 : (Jvm.Cond.initialized "FilterWaterworks$Command") ∈ lw_all := lw_g (lw_at lw_m1 30 rfl) rfl
theorem q992 : (Jvm.Cond.selects "FilterWaterworks$Command" ({ cls := "java/lang/Object", name := "getClass", desc := "()Ljava/lang/Class;" } : Jvm.MethodName) ({ cls := "java/lang/Object", name := "getClass", desc := "()Ljava/lang/Class;" } : Jvm.MethodName)) ∈ lw_all := lw_g (lw_at lw_m4 205 rfl) rfl
theorem q1106 : (Jvm.Cond.instantiable "FilterWaterworks$Command" (2 : Nat)) ∈ lw_all := lw_g (lw_at lw_m5 79 rfl) rfl
theorem q1108 : (Jvm.Cond.instanceMethod ({ cls := "FilterWaterworks$Command", name := "<init>", desc := "(Ljava/lang/String;[I)V" } : Jvm.MethodName)) ∈ lw_all := lw_g (lw_at lw_m5 81 rfl) rfl
theorem q1109 : (Jvm.Cond.code ({ cls := "FilterWaterworks$Command", name := "<init>", desc := "(Ljava/lang/String;[I)V" } : Jvm.MethodName) prog_2_method_1_code (3 : Nat) (Option.none : Option Jvm.ClassFile.FieldType)) ∈ lw_all := lw_g (lw_at lw_m5 82 rfl) rfl
theorem q1110 : (Jvm.Cond.methodLink "FilterWaterworks$Command" (1 : Nat) ({ cls := "java/lang/Object", name := "<init>", desc := "()V" } : Jvm.MethodName)) ∈ lw_all := lw_g (lw_at lw_m5 83 rfl) rfl
theorem q1111 : (Jvm.Cond.fieldLink "FilterWaterworks$Command" (7 : Nat) "FilterWaterworks$Command" "word" "Ljava/lang/String;") ∈ lw_all := lw_g (lw_at lw_m5 84 rfl) rfl
theorem q1112 : (Jvm.Cond.fieldLink "FilterWaterworks$Command" (13 : Nat) "FilterWaterworks$Command" "arguments" "[I") ∈ lw_all := lw_g (lw_at lw_m5 85 rfl) rfl
theorem q1113 : (Jvm.Cond.laysFinal "FilterWaterworks$Command" "FilterWaterworks$Command" "word" "Ljava/lang/String;") ∈ lw_all := lw_g (lw_at lw_m5 86 rfl) rfl
theorem q1114 : (Jvm.Cond.soleField "FilterWaterworks$Command" "word") ∈ lw_all := lw_g (lw_at lw_m5 87 rfl) rfl
theorem q1115 : (Jvm.Cond.laysFinal "FilterWaterworks$Command" "FilterWaterworks$Command" "arguments" "[I") ∈ lw_all := lw_g (lw_at lw_m5 88 rfl) rfl
theorem q1116 : (Jvm.Cond.soleField "FilterWaterworks$Command" "arguments") ∈ lw_all := lw_g (lw_at lw_m5 89 rfl) rfl
theorem q1117 : (Jvm.Cond.superclass "FilterWaterworks$Command" "java/lang/Object") ∈ lw_all := lw_g (lw_at lw_m5 90 rfl) rfl
theorem q1119 : (Jvm.Cond.instanceMethod ({ cls := "FilterWaterworks$Command", name := "applyTo", desc := "(LFilterWaterworks$Works;)I" } : Jvm.MethodName)) ∈ lw_all := lw_g (lw_at lw_m5 92 rfl) rfl
theorem q1120 : (Jvm.Cond.selects "FilterWaterworks$Command" ({ cls := "FilterWaterworks$Command", name := "applyTo", desc := "(LFilterWaterworks$Works;)I" } : Jvm.MethodName) ({ cls := "FilterWaterworks$Command", name := "applyTo", desc := "(LFilterWaterworks$Works;)I" } : Jvm.MethodName)) ∈ lw_all := lw_g (lw_at lw_m5 93 rfl) rfl
theorem q1121 : (Jvm.Cond.code ({ cls := "FilterWaterworks$Command", name := "applyTo", desc := "(LFilterWaterworks$Works;)I" } : Jvm.MethodName) prog_2_method_3_code (4 : Nat) (Option.some Jvm.ClassFile.FieldType.int)) ∈ lw_all := lw_g (lw_at lw_m5 94 rfl) rfl
theorem q1122 : (Jvm.Cond.methodLink "FilterWaterworks$Command" (17 : Nat) ({ cls := "java/lang/String", name := "hashCode", desc := "()I" } : Jvm.MethodName)) ∈ lw_all := lw_g (lw_at lw_m5 95 rfl) rfl
theorem q1183 : (Jvm.Cond.stringRef "FilterWaterworks$Command" (23 : Nat) "tank") ∈ lw_tbl := lw_at lw_m5 156 rfl
theorem q1184 : (Jvm.Cond.methodLink "FilterWaterworks$Command" (25 : Nat) ({ cls := "java/lang/String", name := "equals", desc := "(Ljava/lang/Object;)Z" } : Jvm.MethodName)) ∈ lw_all := lw_g (lw_at lw_m5 157 rfl) rfl
theorem q1192 : (Jvm.Cond.stringRef "FilterWaterworks$Command" (29 : Nat) "pipe") ∈ lw_tbl := lw_at lw_m5 165 rfl
theorem q1193 : (Jvm.Cond.stringRef "FilterWaterworks$Command" (31 : Nat) "pour") ∈ lw_tbl := lw_at lw_m5 166 rfl
theorem q1194 : (Jvm.Cond.stringRef "FilterWaterworks$Command" (33 : Nat) "draw") ∈ lw_tbl := lw_at lw_m5 167 rfl
theorem q1195 : (Jvm.Cond.stringRef "FilterWaterworks$Command" (35 : Nat) "valve") ∈ lw_tbl := lw_at lw_m5 168 rfl
theorem q1196 : (Jvm.Cond.stringRef "FilterWaterworks$Command" (37 : Nat) "leak") ∈ lw_tbl := lw_at lw_m5 169 rfl
theorem q1197 : (Jvm.Cond.stringRef "FilterWaterworks$Command" (39 : Nat) "clean") ∈ lw_tbl := lw_at lw_m5 170 rfl
theorem q1198 : (Jvm.Cond.methodLink "FilterWaterworks$Command" (41 : Nat) ({ cls := "FilterWaterworks$Command", name := "at", desc := "(I)I" } : Jvm.MethodName)) ∈ lw_all := lw_g (lw_at lw_m5 171 rfl) rfl
theorem q1199 : (Jvm.Cond.privateMethod ({ cls := "FilterWaterworks$Command", name := "at", desc := "(I)I" } : Jvm.MethodName)) ∈ lw_tbl := lw_at lw_m5 172 rfl
theorem q1200 : (Jvm.Cond.instanceMethod ({ cls := "FilterWaterworks$Command", name := "at", desc := "(I)I" } : Jvm.MethodName)) ∈ lw_all := lw_g (lw_at lw_m5 173 rfl) rfl
theorem q1201 : (Jvm.Cond.code ({ cls := "FilterWaterworks$Command", name := "at", desc := "(I)I" } : Jvm.MethodName) prog_2_method_2_code (2 : Nat) (Option.some Jvm.ClassFile.FieldType.int)) ∈ lw_all := lw_g (lw_at lw_m5 174 rfl) rfl
theorem q1202 : (Jvm.Cond.methodLink "FilterWaterworks$Command" (45 : Nat) ({ cls := "FilterWaterworks$Works", name := "addTank", desc := "(I)I" } : Jvm.MethodName)) ∈ lw_all := lw_g (lw_at lw_m5 175 rfl) rfl
theorem q1243 : (Jvm.Cond.methodLink "FilterWaterworks$Command" (50 : Nat) ({ cls := "FilterWaterworks$Works", name := "addPipe", desc := "(III)I" } : Jvm.MethodName)) ∈ lw_all := lw_g (lw_at lw_m5 216 rfl) rfl
theorem q1257 : (Jvm.Cond.methodLink "FilterWaterworks$Command" (54 : Nat) ({ cls := "FilterWaterworks$Works", name := "pour", desc := "(III)I" } : Jvm.MethodName)) ∈ lw_all := lw_g (lw_at lw_m5 230 rfl) rfl
theorem q1266 : (Jvm.Cond.methodLink "FilterWaterworks$Command" (56 : Nat) ({ cls := "FilterWaterworks$Works", name := "draw", desc := "(II)I" } : Jvm.MethodName)) ∈ lw_all := lw_g (lw_at lw_m5 239 rfl) rfl
theorem q1274 : (Jvm.Cond.methodLink "FilterWaterworks$Command" (59 : Nat) ({ cls := "FilterWaterworks$Works", name := "setValve", desc := "(II)I" } : Jvm.MethodName)) ∈ lw_all := lw_g (lw_at lw_m6 7 rfl) rfl
theorem q1282 : (Jvm.Cond.methodLink "FilterWaterworks$Command" (62 : Nat) ({ cls := "FilterWaterworks$Works", name := "setLeak", desc := "(II)I" } : Jvm.MethodName)) ∈ lw_all := lw_g (lw_at lw_m6 15 rfl) rfl
theorem q1286 : (Jvm.Cond.methodLink "FilterWaterworks$Command" (65 : Nat) ({ cls := "FilterWaterworks$Works", name := "cleanFilter", desc := "(I)I" } : Jvm.MethodName)) ∈ lw_all := lw_g (lw_at lw_m6 19 rfl) rfl
theorem q1290 : (Jvm.Cond.methodLink "FilterWaterworks$Command" (68 : Nat) ({ cls := "FilterWaterworks$Works", name := "advance", desc := "(I)I" } : Jvm.MethodName)) ∈ lw_all := lw_g (lw_at lw_m6 23 rfl) rfl
theorem q2024 : (Jvm.Cond.selects "FilterWaterworks$Command" ({ cls := "java/lang/Object", name := "toString", desc := "()Ljava/lang/String;" } : Jvm.MethodName) ({ cls := "java/lang/Object", name := "toString", desc := "()Ljava/lang/String;" } : Jvm.MethodName)) ∈ lw_all := lw_g (lw_at lw_m9 37 rfl) rfl
theorem q2847 : (Jvm.Cond.castable "FilterWaterworks$Command" "java/lang/Object") ∈ lw_tbl := lw_at lw_m12 140 rfl
theorem in_X6 : ∀ w ∈ wsX60, w ∈ lw_all := lw_in wsX60 [1113, 1115] (by decide +kernel) (by decide +kernel)

/-! FilterWaterworks$Failure -/
set_option maxRecDepth 100000
def RX7 : String := "FilterWaterworks$Failure"
abbrev cX7_init : ByteArray := prog_8_method_1_code
def yX7_init : MethodName := ⟨RX7, "<init>", "(LFilterWaterworks$Failure;)V"⟩
def dkwX7_init_0 : List UInt8 := [42, 1, 43, 183, 0, 1, 177]
abbrev dktX7_init_0 : List UInt8 := dkwX7_init_0 ++ []
theorem dksX7_init_0 : cX7_init.data.toList.drop 0 = dktX7_init_0 := by decide +kernel
theorem dX7_init_0 : decode cX7_init 0 = .ok (.aload_n 0, 1) := dk_42 (dk_at dksX7_init_0 0 rfl rfl)
theorem dX7_init_1 : decode cX7_init 1 = .ok (.aconst_null, 1) := dk_1 (dk_at dksX7_init_0 1 rfl rfl)
theorem dX7_init_2 : decode cX7_init 2 = .ok (.aload_n 1, 1) := dk_43 (dk_at dksX7_init_0 2 rfl rfl)
theorem dX7_init_3 : decode cX7_init 3 = .ok (.invokespecial 1, 3) := dk_183 0 1 (dk_at dksX7_init_0 3 rfl rfl)
theorem dX7_init_6 : decode cX7_init 6 = .ok (.return_, 1) := dk_177 (dk_at dksX7_init_0 6 rfl rfl)
theorem q98 : (Jvm.Cond.initialized "FilterWaterworks$Failure") ∈ lw_all := lw_g (lw_at lw_m1 31 rfl) rfl
theorem q1226 : (Jvm.Cond.instanceMethod ({ cls := "FilterWaterworks$Failure", name := "<init>", desc := "(LFilterWaterworks$Failure;)V" } : Jvm.MethodName)) ∈ lw_all := lw_g (lw_at lw_m5 199 rfl) rfl
theorem q1227 : (Jvm.Cond.code ({ cls := "FilterWaterworks$Failure", name := "<init>", desc := "(LFilterWaterworks$Failure;)V" } : Jvm.MethodName) prog_8_method_1_code (2 : Nat) (Option.none : Option Jvm.ClassFile.FieldType)) ∈ lw_all := lw_g (lw_at lw_m5 200 rfl) rfl
theorem q1228 : (Jvm.Cond.methodLink "FilterWaterworks$Failure" (1 : Nat) ({ cls := "java/lang/Exception", name := "<init>", desc := "(Ljava/lang/String;Ljava/lang/Throwable;)V" } : Jvm.MethodName)) ∈ lw_all := lw_g (lw_at lw_m5 201 rfl) rfl
theorem q1368 : (Jvm.Cond.declares ({ cls := "FilterWaterworks$Failure", name := "asPublicException", desc := "()Ljava/lang/RuntimeException;" } : Jvm.MethodName)) ∈ lw_tbl := lw_at lw_m6 101 rfl
theorem q1369 : (Jvm.Cond.sameMethod "FilterWaterworks$Failure" "FilterWaterworks$Failure" "asPublicException" "()Ljava/lang/RuntimeException;") ∈ lw_all := lw_g (lw_at lw_m6 102 rfl) rfl

/-! FilterWaterworks$ConditionFailure -/
set_option maxRecDepth 100000
def RX8 : String := "FilterWaterworks$ConditionFailure"
def TX8 : u_T := fun k => match k with
  | 0 => ("java/lang/Throwable", "cause", "Ljava/lang/Throwable;", false)
  | 1 => ("java/lang/Throwable", "stackTrace", "[Ljava/lang/StackTraceElement;", false)
  | 2 => ("java/lang/Throwable", "suppressedExceptions", "Ljava/util/List;", false)
  | 3 => ("java/lang/Throwable", "detailMessage", "Ljava/lang/String;", false)
  | 4 => ("java/lang/Throwable", "backtrace", "Ljava/lang/Object;", false)
  | 5 => ("java/lang/Throwable", "depth", "I", false)
  | _ => ("FilterWaterworks$ConditionFailure", "kind", "Ljava/lang/String;", true)
def tyX8 : Nat → FieldType := fun k => match k with
  | 0 => .object "java/lang/Throwable"
  | 1 => .array (.object "java/lang/StackTraceElement")
  | 2 => .object "java/util/List"
  | 3 => .object "java/lang/String"
  | 4 => .object "java/lang/Object"
  | 5 => .int
  | _ => .object "java/lang/String"
abbrev wsX80 : List Cond := u_ws RX8 TX8 7
theorem nmX8 : ∀ a, a < 7 → ∀ b, b < 7 → a ≠ b → (TX8 a).2.1 ≠ (TX8 b).2.1 := by decide +kernel
theorem tyX8_ok : ∀ k, k < 7 → parseFieldDescriptor (TX8 k).2.2.1 = some (tyX8 k) := by decide +kernel
abbrev cX8_init : ByteArray := prog_4_method_1_code
def yX8_init : MethodName := ⟨RX8, "<init>", "(Ljava/lang/String;)V"⟩
def dkwX8_init_0 : List UInt8 := [42, 1, 183, 0, 1, 42, 43, 181, 0, 7, 177]
abbrev dktX8_init_0 : List UInt8 := dkwX8_init_0 ++ []
theorem dksX8_init_0 : cX8_init.data.toList.drop 0 = dktX8_init_0 := by decide +kernel
theorem dX8_init_0 : decode cX8_init 0 = .ok (.aload_n 0, 1) := dk_42 (dk_at dksX8_init_0 0 rfl rfl)
theorem dX8_init_1 : decode cX8_init 1 = .ok (.aconst_null, 1) := dk_1 (dk_at dksX8_init_0 1 rfl rfl)
theorem dX8_init_2 : decode cX8_init 2 = .ok (.invokespecial 1, 3) := dk_183 0 1 (dk_at dksX8_init_0 2 rfl rfl)
theorem dX8_init_5 : decode cX8_init 5 = .ok (.aload_n 0, 1) := dk_42 (dk_at dksX8_init_0 5 rfl rfl)
theorem dX8_init_6 : decode cX8_init 6 = .ok (.aload_n 1, 1) := dk_43 (dk_at dksX8_init_0 6 rfl rfl)
theorem dX8_init_7 : decode cX8_init 7 = .ok (.putfield 7, 3) := dk_181 0 7 (dk_at dksX8_init_0 7 rfl rfl)
theorem dX8_init_10 : decode cX8_init 10 = .ok (.return_, 1) := dk_177 (dk_at dksX8_init_0 10 rfl rfl)
abbrev cX8_asPublicException : ByteArray := prog_4_method_2_code
def yX8_asPublicException : MethodName := ⟨RX8, "asPublicException", "()Ljava/lang/RuntimeException;"⟩
def dkwX8_asPublicException_6 : List UInt8 := [187, 0, 40, 89, 183, 0, 42, 176]
abbrev dktX8_asPublicException_6 : List UInt8 := dkwX8_asPublicException_6 ++ []
def dkwX8_asPublicException_5 : List UInt8 := [187, 0, 29, 89, 183, 0, 31, 176, 187, 0, 34, 89, 183, 0, 36, 176, 187, 0, 37, 89, 183, 0, 39, 176]
abbrev dktX8_asPublicException_5 : List UInt8 := dkwX8_asPublicException_5 ++ dktX8_asPublicException_6
def dkwX8_asPublicException_4 : List UInt8 := [170, 0, 0, 0, 0, 0, 0, 52, 0, 0, 0, 0, 0, 0, 0, 2, 0, 0, 0, 28, 0, 0, 0, 36, 0, 0, 0, 44]
abbrev dktX8_asPublicException_4 : List UInt8 := dkwX8_asPublicException_4 ++ dktX8_asPublicException_5
def dkwX8_asPublicException_3 : List UInt8 := [61, 167, 0, 14, 43, 18, 27, 182, 0, 21, 153, 0, 5, 5, 61, 28]
abbrev dktX8_asPublicException_3 : List UInt8 := dkwX8_asPublicException_3 ++ dktX8_asPublicException_4
def dkwX8_asPublicException_2 : List UInt8 := [43, 18, 19, 182, 0, 21, 153, 0, 33, 3, 61, 167, 0, 28, 43, 18, 25, 182, 0, 21, 153, 0, 19, 4]
abbrev dktX8_asPublicException_2 : List UInt8 := dkwX8_asPublicException_2 ++ dktX8_asPublicException_3
def dkwX8_asPublicException_1 : List UInt8 := [171, 0, 0, 0, 72, 0, 0, 0, 3, 161, 63, 94, 189, 0, 0, 0, 47, 5, 251, 40, 210, 0, 0, 0, 33, 6, 138, 196, 145, 0, 0, 0, 61]
abbrev dktX8_asPublicException_1 : List UInt8 := dkwX8_asPublicException_1 ++ dktX8_asPublicException_2
def dkwX8_asPublicException_0 : List UInt8 := [42, 180, 0, 7, 76, 2, 61, 43, 182, 0, 13]
abbrev dktX8_asPublicException_0 : List UInt8 := dkwX8_asPublicException_0 ++ dktX8_asPublicException_1
theorem dksX8_asPublicException_0 : cX8_asPublicException.data.toList.drop 0 = dktX8_asPublicException_0 := by decide +kernel
theorem dksX8_asPublicException_1 : cX8_asPublicException.data.toList.drop 11 = dktX8_asPublicException_1 := dk_seg dksX8_asPublicException_0 11 rfl rfl
theorem dksX8_asPublicException_2 : cX8_asPublicException.data.toList.drop 44 = dktX8_asPublicException_2 := dk_seg dksX8_asPublicException_1 33 rfl rfl
theorem dksX8_asPublicException_3 : cX8_asPublicException.data.toList.drop 68 = dktX8_asPublicException_3 := dk_seg dksX8_asPublicException_2 24 rfl rfl
theorem dksX8_asPublicException_4 : cX8_asPublicException.data.toList.drop 84 = dktX8_asPublicException_4 := dk_seg dksX8_asPublicException_3 16 rfl rfl
theorem dksX8_asPublicException_5 : cX8_asPublicException.data.toList.drop 112 = dktX8_asPublicException_5 := dk_seg dksX8_asPublicException_4 28 rfl rfl
theorem dksX8_asPublicException_6 : cX8_asPublicException.data.toList.drop 136 = dktX8_asPublicException_6 := dk_seg dksX8_asPublicException_5 24 rfl rfl
theorem dX8_asPublicException_0 : decode cX8_asPublicException 0 = .ok (.aload_n 0, 1) := dk_42 (dk_at dksX8_asPublicException_0 0 rfl rfl)
theorem dX8_asPublicException_1 : decode cX8_asPublicException 1 = .ok (.getfield 7, 3) := dk_180 0 7 (dk_at dksX8_asPublicException_0 1 rfl rfl)
theorem dX8_asPublicException_4 : decode cX8_asPublicException 4 = .ok (.astore_n 1, 1) := dk_76 (dk_at dksX8_asPublicException_0 4 rfl rfl)
theorem dX8_asPublicException_5 : decode cX8_asPublicException 5 = .ok (.iconst (-1), 1) := dk_2 (dk_at dksX8_asPublicException_0 5 rfl rfl)
theorem dX8_asPublicException_6 : decode cX8_asPublicException 6 = .ok (.istore_n 2, 1) := dk_61 (dk_at dksX8_asPublicException_0 6 rfl rfl)
theorem dX8_asPublicException_7 : decode cX8_asPublicException 7 = .ok (.aload_n 1, 1) := dk_43 (dk_at dksX8_asPublicException_0 7 rfl rfl)
theorem dX8_asPublicException_8 : decode cX8_asPublicException 8 = .ok (.invokevirtual 13, 3) := dk_182 0 13 (dk_at dksX8_asPublicException_0 8 rfl rfl)
theorem dX8_asPublicException_11 : decode cX8_asPublicException 11 = .ok (.lookupswitch 72 #[(-1589682499, 47), (100346066, 33), (109757585, 61)], 33) := by decide +kernel
theorem dX8_asPublicException_44 : decode cX8_asPublicException 44 = .ok (.aload_n 1, 1) := dk_43 (dk_at dksX8_asPublicException_2 0 rfl rfl)
theorem dX8_asPublicException_45 : decode cX8_asPublicException 45 = .ok (.ldc 19, 2) := dk_18 19 (dk_at dksX8_asPublicException_2 1 rfl rfl)
theorem dX8_asPublicException_47 : decode cX8_asPublicException 47 = .ok (.invokevirtual 21, 3) := dk_182 0 21 (dk_at dksX8_asPublicException_2 3 rfl rfl)
theorem dX8_asPublicException_50 : decode cX8_asPublicException 50 = .ok (.ifCond .eq 33, 3) := dk_153 0 33 (dk_at dksX8_asPublicException_2 6 rfl rfl)
theorem dX8_asPublicException_53 : decode cX8_asPublicException 53 = .ok (.iconst 0, 1) := dk_3 (dk_at dksX8_asPublicException_2 9 rfl rfl)
theorem dX8_asPublicException_54 : decode cX8_asPublicException 54 = .ok (.istore_n 2, 1) := dk_61 (dk_at dksX8_asPublicException_2 10 rfl rfl)
theorem dX8_asPublicException_55 : decode cX8_asPublicException 55 = .ok (.goto 28, 3) := dk_167 0 28 (dk_at dksX8_asPublicException_2 11 rfl rfl)
theorem dX8_asPublicException_58 : decode cX8_asPublicException 58 = .ok (.aload_n 1, 1) := dk_43 (dk_at dksX8_asPublicException_2 14 rfl rfl)
theorem dX8_asPublicException_59 : decode cX8_asPublicException 59 = .ok (.ldc 25, 2) := dk_18 25 (dk_at dksX8_asPublicException_2 15 rfl rfl)
theorem dX8_asPublicException_61 : decode cX8_asPublicException 61 = .ok (.invokevirtual 21, 3) := dk_182 0 21 (dk_at dksX8_asPublicException_2 17 rfl rfl)
theorem dX8_asPublicException_64 : decode cX8_asPublicException 64 = .ok (.ifCond .eq 19, 3) := dk_153 0 19 (dk_at dksX8_asPublicException_2 20 rfl rfl)
theorem dX8_asPublicException_67 : decode cX8_asPublicException 67 = .ok (.iconst 1, 1) := dk_4 (dk_at dksX8_asPublicException_2 23 rfl rfl)
theorem dX8_asPublicException_68 : decode cX8_asPublicException 68 = .ok (.istore_n 2, 1) := dk_61 (dk_at dksX8_asPublicException_3 0 rfl rfl)
theorem dX8_asPublicException_69 : decode cX8_asPublicException 69 = .ok (.goto 14, 3) := dk_167 0 14 (dk_at dksX8_asPublicException_3 1 rfl rfl)
theorem dX8_asPublicException_72 : decode cX8_asPublicException 72 = .ok (.aload_n 1, 1) := dk_43 (dk_at dksX8_asPublicException_3 4 rfl rfl)
theorem dX8_asPublicException_73 : decode cX8_asPublicException 73 = .ok (.ldc 27, 2) := dk_18 27 (dk_at dksX8_asPublicException_3 5 rfl rfl)
theorem dX8_asPublicException_75 : decode cX8_asPublicException 75 = .ok (.invokevirtual 21, 3) := dk_182 0 21 (dk_at dksX8_asPublicException_3 7 rfl rfl)
theorem dX8_asPublicException_78 : decode cX8_asPublicException 78 = .ok (.ifCond .eq 5, 3) := dk_153 0 5 (dk_at dksX8_asPublicException_3 10 rfl rfl)
theorem dX8_asPublicException_81 : decode cX8_asPublicException 81 = .ok (.iconst 2, 1) := dk_5 (dk_at dksX8_asPublicException_3 13 rfl rfl)
theorem dX8_asPublicException_82 : decode cX8_asPublicException 82 = .ok (.istore_n 2, 1) := dk_61 (dk_at dksX8_asPublicException_3 14 rfl rfl)
theorem dX8_asPublicException_83 : decode cX8_asPublicException 83 = .ok (.iload_n 2, 1) := dk_28 (dk_at dksX8_asPublicException_3 15 rfl rfl)
theorem dX8_asPublicException_84 : decode cX8_asPublicException 84 = .ok (.tableswitch 52 0 2 #[28, 36, 44], 28) := by decide +kernel
theorem dX8_asPublicException_112 : decode cX8_asPublicException 112 = .ok (.new 29, 3) := dk_187 0 29 (dk_at dksX8_asPublicException_5 0 rfl rfl)
theorem dX8_asPublicException_115 : decode cX8_asPublicException 115 = .ok (.dup, 1) := dk_89 (dk_at dksX8_asPublicException_5 3 rfl rfl)
theorem dX8_asPublicException_116 : decode cX8_asPublicException 116 = .ok (.invokespecial 31, 3) := dk_183 0 31 (dk_at dksX8_asPublicException_5 4 rfl rfl)
theorem dX8_asPublicException_119 : decode cX8_asPublicException 119 = .ok (.areturn, 1) := dk_176 (dk_at dksX8_asPublicException_5 7 rfl rfl)
theorem dX8_asPublicException_120 : decode cX8_asPublicException 120 = .ok (.new 34, 3) := dk_187 0 34 (dk_at dksX8_asPublicException_5 8 rfl rfl)
theorem dX8_asPublicException_123 : decode cX8_asPublicException 123 = .ok (.dup, 1) := dk_89 (dk_at dksX8_asPublicException_5 11 rfl rfl)
theorem dX8_asPublicException_124 : decode cX8_asPublicException 124 = .ok (.invokespecial 36, 3) := dk_183 0 36 (dk_at dksX8_asPublicException_5 12 rfl rfl)
theorem dX8_asPublicException_127 : decode cX8_asPublicException 127 = .ok (.areturn, 1) := dk_176 (dk_at dksX8_asPublicException_5 15 rfl rfl)
theorem dX8_asPublicException_128 : decode cX8_asPublicException 128 = .ok (.new 37, 3) := dk_187 0 37 (dk_at dksX8_asPublicException_5 16 rfl rfl)
theorem dX8_asPublicException_131 : decode cX8_asPublicException 131 = .ok (.dup, 1) := dk_89 (dk_at dksX8_asPublicException_5 19 rfl rfl)
theorem dX8_asPublicException_132 : decode cX8_asPublicException 132 = .ok (.invokespecial 39, 3) := dk_183 0 39 (dk_at dksX8_asPublicException_5 20 rfl rfl)
theorem dX8_asPublicException_135 : decode cX8_asPublicException 135 = .ok (.areturn, 1) := dk_176 (dk_at dksX8_asPublicException_5 23 rfl rfl)
theorem dX8_asPublicException_136 : decode cX8_asPublicException 136 = .ok (.new 40, 3) := dk_187 0 40 (dk_at dksX8_asPublicException_6 0 rfl rfl)
theorem dX8_asPublicException_139 : decode cX8_asPublicException 139 = .ok (.dup, 1) := dk_89 (dk_at dksX8_asPublicException_6 3 rfl rfl)
theorem dX8_asPublicException_140 : decode cX8_asPublicException 140 = .ok (.invokespecial 42, 3) := dk_183 0 42 (dk_at dksX8_asPublicException_6 4 rfl rfl)
theorem dX8_asPublicException_143 : decode cX8_asPublicException 143 = .ok (.areturn, 1) := dk_176 (dk_at dksX8_asPublicException_6 7 rfl rfl)
theorem q99 : (Jvm.Cond.initialized "FilterWaterworks$ConditionFailure") ∈ lw_all := lw_g (lw_at lw_m1 32 rfl) rfl
theorem q390 : (Jvm.Cond.selects "FilterWaterworks$ConditionFailure" ({ cls := "java/lang/Throwable", name := "fillInStackTrace", desc := "()Ljava/lang/Throwable;" } : Jvm.MethodName) ({ cls := "java/lang/Throwable", name := "fillInStackTrace", desc := "()Ljava/lang/Throwable;" } : Jvm.MethodName)) ∈ lw_all := lw_g (lw_at lw_m2 83 rfl) rfl
theorem q994 : (Jvm.Cond.selects "FilterWaterworks$ConditionFailure" ({ cls := "java/lang/Object", name := "getClass", desc := "()Ljava/lang/Class;" } : Jvm.MethodName) ({ cls := "java/lang/Object", name := "getClass", desc := "()Ljava/lang/Class;" } : Jvm.MethodName)) ∈ lw_all := lw_g (lw_at lw_m4 207 rfl) rfl
theorem q1214 : (Jvm.Cond.instantiable "FilterWaterworks$ConditionFailure" (7 : Nat)) ∈ lw_all := lw_g (lw_at lw_m5 187 rfl) rfl
theorem q1215 : (Jvm.Cond.castable "FilterWaterworks$ConditionFailure" "FilterWaterworks$ConditionFailure") ∈ lw_tbl := lw_at lw_m5 188 rfl
theorem q1216 : (Jvm.Cond.selects "FilterWaterworks$ConditionFailure" ({ cls := "java/lang/Throwable", name := "fillInStackTrace", desc := "(I)Ljava/lang/Throwable;" } : Jvm.MethodName) ({ cls := "java/lang/Throwable", name := "fillInStackTrace", desc := "(I)Ljava/lang/Throwable;" } : Jvm.MethodName)) ∈ lw_all := lw_g (lw_at lw_m5 189 rfl) rfl
theorem q1217 : (Jvm.Cond.lays "FilterWaterworks$ConditionFailure" "java/lang/Throwable" "cause" "Ljava/lang/Throwable;") ∈ lw_all := lw_g (lw_at lw_m5 190 rfl) rfl
theorem q1218 : (Jvm.Cond.lays "FilterWaterworks$ConditionFailure" "java/lang/Throwable" "stackTrace" "[Ljava/lang/StackTraceElement;") ∈ lw_all := lw_g (lw_at lw_m5 191 rfl) rfl
theorem q1219 : (Jvm.Cond.lays "FilterWaterworks$ConditionFailure" "java/lang/Throwable" "suppressedExceptions" "Ljava/util/List;") ∈ lw_all := lw_g (lw_at lw_m5 192 rfl) rfl
theorem q1220 : (Jvm.Cond.lays "FilterWaterworks$ConditionFailure" "java/lang/Throwable" "detailMessage" "Ljava/lang/String;") ∈ lw_all := lw_g (lw_at lw_m5 193 rfl) rfl
theorem q1221 : (Jvm.Cond.lays "FilterWaterworks$ConditionFailure" "java/lang/Throwable" "backtrace" "Ljava/lang/Object;") ∈ lw_all := lw_g (lw_at lw_m5 194 rfl) rfl
theorem q1223 : (Jvm.Cond.instanceMethod ({ cls := "FilterWaterworks$ConditionFailure", name := "<init>", desc := "(Ljava/lang/String;)V" } : Jvm.MethodName)) ∈ lw_all := lw_g (lw_at lw_m5 196 rfl) rfl
theorem q1224 : (Jvm.Cond.code ({ cls := "FilterWaterworks$ConditionFailure", name := "<init>", desc := "(Ljava/lang/String;)V" } : Jvm.MethodName) prog_4_method_1_code (2 : Nat) (Option.none : Option Jvm.ClassFile.FieldType)) ∈ lw_all := lw_g (lw_at lw_m5 197 rfl) rfl
theorem q1225 : (Jvm.Cond.methodLink "FilterWaterworks$ConditionFailure" (1 : Nat) ({ cls := "FilterWaterworks$Failure", name := "<init>", desc := "(LFilterWaterworks$Failure;)V" } : Jvm.MethodName)) ∈ lw_all := lw_g (lw_at lw_m5 198 rfl) rfl
theorem q1234 : (Jvm.Cond.fieldLink "FilterWaterworks$ConditionFailure" (7 : Nat) "FilterWaterworks$ConditionFailure" "kind" "Ljava/lang/String;") ∈ lw_all := lw_g (lw_at lw_m5 207 rfl) rfl
theorem q1235 : (Jvm.Cond.laysFinal "FilterWaterworks$ConditionFailure" "FilterWaterworks$ConditionFailure" "kind" "Ljava/lang/String;") ∈ lw_all := lw_g (lw_at lw_m5 208 rfl) rfl
theorem q1236 : (Jvm.Cond.soleField "FilterWaterworks$ConditionFailure" "kind") ∈ lw_all := lw_g (lw_at lw_m5 209 rfl) rfl
theorem q1237 : (Jvm.Cond.lays "FilterWaterworks$ConditionFailure" "java/lang/Throwable" "depth" "I") ∈ lw_all := lw_g (lw_at lw_m5 210 rfl) rfl
theorem q1238 : (Jvm.Cond.superclass "FilterWaterworks$ConditionFailure" "FilterWaterworks$Failure") ∈ lw_all := lw_g (lw_at lw_m5 211 rfl) rfl
theorem q1388 : (Jvm.Cond.selects "FilterWaterworks$ConditionFailure" ({ cls := "FilterWaterworks$Failure", name := "asPublicException", desc := "()Ljava/lang/RuntimeException;" } : Jvm.MethodName) ({ cls := "FilterWaterworks$ConditionFailure", name := "asPublicException", desc := "()Ljava/lang/RuntimeException;" } : Jvm.MethodName)) ∈ lw_all := lw_g (lw_at lw_m6 121 rfl) rfl
theorem q1389 : (Jvm.Cond.instanceMethod ({ cls := "FilterWaterworks$ConditionFailure", name := "asPublicException", desc := "()Ljava/lang/RuntimeException;" } : Jvm.MethodName)) ∈ lw_all := lw_g (lw_at lw_m6 122 rfl) rfl
theorem q1390 : (Jvm.Cond.code ({ cls := "FilterWaterworks$ConditionFailure", name := "asPublicException", desc := "()Ljava/lang/RuntimeException;" } : Jvm.MethodName) prog_4_method_2_code (3 : Nat) (Option.some (Jvm.ClassFile.FieldType.object "java/lang/RuntimeException"))) ∈ lw_all := lw_g (lw_at lw_m6 123 rfl) rfl
theorem q1391 : (Jvm.Cond.methodLink "FilterWaterworks$ConditionFailure" (13 : Nat) ({ cls := "java/lang/String", name := "hashCode", desc := "()I" } : Jvm.MethodName)) ∈ lw_all := lw_g (lw_at lw_m6 124 rfl) rfl
theorem q1392 : (Jvm.Cond.stringRef "FilterWaterworks$ConditionFailure" (19 : Nat) "index") ∈ lw_tbl := lw_at lw_m6 125 rfl
theorem q1393 : (Jvm.Cond.methodLink "FilterWaterworks$ConditionFailure" (21 : Nat) ({ cls := "java/lang/String", name := "equals", desc := "(Ljava/lang/Object;)Z" } : Jvm.MethodName)) ∈ lw_all := lw_g (lw_at lw_m6 126 rfl) rfl
theorem q1394 : (Jvm.Cond.stringRef "FilterWaterworks$ConditionFailure" (25 : Nat) "argument") ∈ lw_tbl := lw_at lw_m6 127 rfl
theorem q1395 : (Jvm.Cond.stringRef "FilterWaterworks$ConditionFailure" (27 : Nat) "state") ∈ lw_tbl := lw_at lw_m6 128 rfl
theorem q1396 : (Jvm.Cond.classLink "FilterWaterworks$ConditionFailure" (29 : Nat) "java/lang/IndexOutOfBoundsException") ∈ lw_all := lw_g (lw_at lw_m6 129 rfl) rfl
theorem q1397 : (Jvm.Cond.methodLink "FilterWaterworks$ConditionFailure" (31 : Nat) ({ cls := "java/lang/IndexOutOfBoundsException", name := "<init>", desc := "()V" } : Jvm.MethodName)) ∈ lw_all := lw_g (lw_at lw_m6 130 rfl) rfl
theorem q1401 : (Jvm.Cond.classLink "FilterWaterworks$ConditionFailure" (34 : Nat) "java/lang/IllegalArgumentException") ∈ lw_all := lw_g (lw_at lw_m6 134 rfl) rfl
theorem q1402 : (Jvm.Cond.methodLink "FilterWaterworks$ConditionFailure" (36 : Nat) ({ cls := "java/lang/IllegalArgumentException", name := "<init>", desc := "()V" } : Jvm.MethodName)) ∈ lw_all := lw_g (lw_at lw_m6 135 rfl) rfl
theorem q1406 : (Jvm.Cond.classLink "FilterWaterworks$ConditionFailure" (37 : Nat) "java/lang/IllegalStateException") ∈ lw_all := lw_g (lw_at lw_m6 139 rfl) rfl
theorem q1407 : (Jvm.Cond.methodLink "FilterWaterworks$ConditionFailure" (39 : Nat) ({ cls := "java/lang/IllegalStateException", name := "<init>", desc := "()V" } : Jvm.MethodName)) ∈ lw_all := lw_g (lw_at lw_m6 140 rfl) rfl
theorem q1408 : (Jvm.Cond.classLink "FilterWaterworks$ConditionFailure" (40 : Nat) "java/lang/UnsupportedOperationException") ∈ lw_all := lw_g (lw_at lw_m6 141 rfl) rfl
theorem q1417 : (Jvm.Cond.methodLink "FilterWaterworks$ConditionFailure" (42 : Nat) ({ cls := "java/lang/UnsupportedOperationException", name := "<init>", desc := "()V" } : Jvm.MethodName)) ∈ lw_all := lw_g (lw_at lw_m6 150 rfl) rfl
theorem q2033 : (Jvm.Cond.selects "FilterWaterworks$ConditionFailure" ({ cls := "java/lang/Throwable", name := "getLocalizedMessage", desc := "()Ljava/lang/String;" } : Jvm.MethodName) ({ cls := "java/lang/Throwable", name := "getLocalizedMessage", desc := "()Ljava/lang/String;" } : Jvm.MethodName)) ∈ lw_all := lw_g (lw_at lw_m9 46 rfl) rfl
theorem q2048 : (Jvm.Cond.selects "FilterWaterworks$ConditionFailure" ({ cls := "java/lang/Throwable", name := "getMessage", desc := "()Ljava/lang/String;" } : Jvm.MethodName) ({ cls := "java/lang/Throwable", name := "getMessage", desc := "()Ljava/lang/String;" } : Jvm.MethodName)) ∈ lw_all := lw_g (lw_at lw_m9 61 rfl) rfl
theorem q2064 : (Jvm.Cond.selects "FilterWaterworks$ConditionFailure" ({ cls := "java/lang/Object", name := "toString", desc := "()Ljava/lang/String;" } : Jvm.MethodName) ({ cls := "java/lang/Throwable", name := "toString", desc := "()Ljava/lang/String;" } : Jvm.MethodName)) ∈ lw_all := lw_g (lw_at lw_m9 77 rfl) rfl
theorem q2831 : (Jvm.Cond.castable "FilterWaterworks$ConditionFailure" "FilterWaterworks$Failure") ∈ lw_tbl := lw_at lw_m12 124 rfl
theorem q2849 : (Jvm.Cond.castable "FilterWaterworks$ConditionFailure" "java/lang/Object") ∈ lw_tbl := lw_at lw_m12 142 rfl
theorem in_X8 : ∀ w ∈ wsX80, w ∈ lw_all := lw_in wsX80 [1217, 1218, 1219, 1220, 1221, 1237, 1235] (by decide +kernel) (by decide +kernel)

/-! FilterWaterworks$Works$Walk -/
set_option maxRecDepth 100000
def RX9 : String := "FilterWaterworks$Works$Walk"
def TX9 : u_T := fun k => match k with
  | 0 => ("FilterWaterworks$Works$Walk", "isReached", "[Z", true)
  | 1 => ("FilterWaterworks$Works$Walk", "setting", "I", true)
  | 2 => ("FilterWaterworks$Works$Walk", "closed", "I", true)
  | _ => ("FilterWaterworks$Works$Walk", "this$0", "LFilterWaterworks$Works;", true)
def tyX9 : Nat → FieldType := fun k => match k with
  | 0 => .array .boolean
  | 1 => .int
  | 2 => .int
  | _ => .object "FilterWaterworks$Works"
abbrev wsX90 : List Cond := u_ws RX9 TX9 4
theorem nmX9 : ∀ a, a < 4 → ∀ b, b < 4 → a ≠ b → (TX9 a).2.1 ≠ (TX9 b).2.1 := by decide +kernel
theorem tyX9_ok : ∀ k, k < 4 → parseFieldDescriptor (TX9 k).2.2.1 = some (tyX9 k) := by decide +kernel
abbrev cX9_init : ByteArray := prog_16_method_1_code
def yX9_init : MethodName := ⟨RX9, "<init>", "(LFilterWaterworks$Works;II)V"⟩
def dkwX9_init_1 : List UInt8 := [181, 0, 23, 177]
abbrev dktX9_init_1 : List UInt8 := dkwX9_init_1 ++ []
def dkwX9_init_0 : List UInt8 := [42, 43, 181, 0, 3, 42, 183, 0, 9, 42, 16, 8, 188, 4, 181, 0, 15, 42, 28, 181, 0, 19, 42, 29]
abbrev dktX9_init_0 : List UInt8 := dkwX9_init_0 ++ dktX9_init_1
theorem dksX9_init_0 : cX9_init.data.toList.drop 0 = dktX9_init_0 := by decide +kernel
theorem dksX9_init_1 : cX9_init.data.toList.drop 24 = dktX9_init_1 := dk_seg dksX9_init_0 24 rfl rfl
theorem dX9_init_0 : decode cX9_init 0 = .ok (.aload_n 0, 1) := dk_42 (dk_at dksX9_init_0 0 rfl rfl)
theorem dX9_init_1 : decode cX9_init 1 = .ok (.aload_n 1, 1) := dk_43 (dk_at dksX9_init_0 1 rfl rfl)
theorem dX9_init_2 : decode cX9_init 2 = .ok (.putfield 3, 3) := dk_181 0 3 (dk_at dksX9_init_0 2 rfl rfl)
theorem dX9_init_5 : decode cX9_init 5 = .ok (.aload_n 0, 1) := dk_42 (dk_at dksX9_init_0 5 rfl rfl)
theorem dX9_init_6 : decode cX9_init 6 = .ok (.invokespecial 9, 3) := dk_183 0 9 (dk_at dksX9_init_0 6 rfl rfl)
theorem dX9_init_9 : decode cX9_init 9 = .ok (.aload_n 0, 1) := dk_42 (dk_at dksX9_init_0 9 rfl rfl)
theorem dX9_init_10 : decode cX9_init 10 = .ok (.bipush 8, 2) := dk_16 8 (dk_at dksX9_init_0 10 rfl rfl)
theorem dX9_init_12 : decode cX9_init 12 = .ok (.newarray .boolean, 2) := dk_188_4 (dk_at dksX9_init_0 12 rfl rfl)
theorem dX9_init_14 : decode cX9_init 14 = .ok (.putfield 15, 3) := dk_181 0 15 (dk_at dksX9_init_0 14 rfl rfl)
theorem dX9_init_17 : decode cX9_init 17 = .ok (.aload_n 0, 1) := dk_42 (dk_at dksX9_init_0 17 rfl rfl)
theorem dX9_init_18 : decode cX9_init 18 = .ok (.iload_n 2, 1) := dk_28 (dk_at dksX9_init_0 18 rfl rfl)
theorem dX9_init_19 : decode cX9_init 19 = .ok (.putfield 19, 3) := dk_181 0 19 (dk_at dksX9_init_0 19 rfl rfl)
theorem dX9_init_22 : decode cX9_init 22 = .ok (.aload_n 0, 1) := dk_42 (dk_at dksX9_init_0 22 rfl rfl)
theorem dX9_init_23 : decode cX9_init 23 = .ok (.iload_n 3, 1) := dk_29 (dk_at dksX9_init_0 23 rfl rfl)
theorem dX9_init_24 : decode cX9_init 24 = .ok (.putfield 23, 3) := dk_181 0 23 (dk_at dksX9_init_1 0 rfl rfl)
theorem dX9_init_27 : decode cX9_init 27 = .ok (.return_, 1) := dk_177 (dk_at dksX9_init_1 3 rfl rfl)
abbrev cX9_from : ByteArray := prog_16_method_2_code
def yX9_from : MethodName := ⟨RX9, "from", "(I)V"⟩
def dkwX9_from_5 : List UInt8 := [177]
abbrev dktX9_from_5 : List UInt8 := dkwX9_from_5 ++ []
def dkwX9_from_4 : List UInt8 := [45, 27, 182, 0, 53, 51, 154, 0, 12, 42, 45, 27, 182, 0, 53, 182, 0, 57, 132, 2, 1, 167, 255, 152]
abbrev dktX9_from_4 : List UInt8 := dkwX9_from_4 ++ dktX9_from_5
def dkwX9_from_3 : List UInt8 := [4, 167, 0, 4, 3, 54, 4, 21, 4, 153, 0, 33, 45, 27, 182, 0, 49, 153, 0, 25, 42, 180, 0, 15]
abbrev dktX9_from_3 : List UInt8 := dkwX9_from_3 ++ dktX9_from_4
def dkwX9_from_2 : List UInt8 := [180, 0, 23, 159, 0, 25, 45, 182, 0, 44, 153, 0, 18, 45, 180, 0, 48, 42, 180, 0, 19, 161, 0, 7]
abbrev dktX9_from_2 : List UInt8 := dkwX9_from_2 ++ dktX9_from_3
def dkwX9_from_1 : List UInt8 := [162, 0, 94, 42, 180, 0, 3, 180, 0, 26, 28, 185, 0, 38, 2, 0, 192, 0, 42, 78, 28, 42]
abbrev dktX9_from_1 : List UInt8 := dkwX9_from_1 ++ dktX9_from_2
def dkwX9_from_0 : List UInt8 := [42, 180, 0, 15, 27, 4, 84, 3, 61, 28, 42, 180, 0, 3, 180, 0, 26, 185, 0, 32, 1, 0]
abbrev dktX9_from_0 : List UInt8 := dkwX9_from_0 ++ dktX9_from_1
theorem dksX9_from_0 : cX9_from.data.toList.drop 0 = dktX9_from_0 := by decide +kernel
theorem dksX9_from_1 : cX9_from.data.toList.drop 22 = dktX9_from_1 := dk_seg dksX9_from_0 22 rfl rfl
theorem dksX9_from_2 : cX9_from.data.toList.drop 44 = dktX9_from_2 := dk_seg dksX9_from_1 22 rfl rfl
theorem dksX9_from_3 : cX9_from.data.toList.drop 68 = dktX9_from_3 := dk_seg dksX9_from_2 24 rfl rfl
theorem dksX9_from_4 : cX9_from.data.toList.drop 92 = dktX9_from_4 := dk_seg dksX9_from_3 24 rfl rfl
theorem dksX9_from_5 : cX9_from.data.toList.drop 116 = dktX9_from_5 := dk_seg dksX9_from_4 24 rfl rfl
theorem dX9_from_0 : decode cX9_from 0 = .ok (.aload_n 0, 1) := dk_42 (dk_at dksX9_from_0 0 rfl rfl)
theorem dX9_from_1 : decode cX9_from 1 = .ok (.getfield 15, 3) := dk_180 0 15 (dk_at dksX9_from_0 1 rfl rfl)
theorem dX9_from_4 : decode cX9_from 4 = .ok (.iload_n 1, 1) := dk_27 (dk_at dksX9_from_0 4 rfl rfl)
theorem dX9_from_5 : decode cX9_from 5 = .ok (.iconst 1, 1) := dk_4 (dk_at dksX9_from_0 5 rfl rfl)
theorem dX9_from_6 : decode cX9_from 6 = .ok (.bastore, 1) := dk_84 (dk_at dksX9_from_0 6 rfl rfl)
theorem dX9_from_7 : decode cX9_from 7 = .ok (.iconst 0, 1) := dk_3 (dk_at dksX9_from_0 7 rfl rfl)
theorem dX9_from_8 : decode cX9_from 8 = .ok (.istore_n 2, 1) := dk_61 (dk_at dksX9_from_0 8 rfl rfl)
theorem dX9_from_9 : decode cX9_from 9 = .ok (.iload_n 2, 1) := dk_28 (dk_at dksX9_from_0 9 rfl rfl)
theorem dX9_from_10 : decode cX9_from 10 = .ok (.aload_n 0, 1) := dk_42 (dk_at dksX9_from_0 10 rfl rfl)
theorem dX9_from_11 : decode cX9_from 11 = .ok (.getfield 3, 3) := dk_180 0 3 (dk_at dksX9_from_0 11 rfl rfl)
theorem dX9_from_14 : decode cX9_from 14 = .ok (.getfield 26, 3) := dk_180 0 26 (dk_at dksX9_from_0 14 rfl rfl)
theorem dX9_from_17 : decode cX9_from 17 = .ok (.invokeinterface 32 1, 5) := by decide +kernel
theorem dX9_from_22 : decode cX9_from 22 = .ok (.if_icmp .ge 94, 3) := dk_162 0 94 (dk_at dksX9_from_1 0 rfl rfl)
theorem dX9_from_25 : decode cX9_from 25 = .ok (.aload_n 0, 1) := dk_42 (dk_at dksX9_from_1 3 rfl rfl)
theorem dX9_from_26 : decode cX9_from 26 = .ok (.getfield 3, 3) := dk_180 0 3 (dk_at dksX9_from_1 4 rfl rfl)
theorem dX9_from_29 : decode cX9_from 29 = .ok (.getfield 26, 3) := dk_180 0 26 (dk_at dksX9_from_1 7 rfl rfl)
theorem dX9_from_32 : decode cX9_from 32 = .ok (.iload_n 2, 1) := dk_28 (dk_at dksX9_from_1 10 rfl rfl)
theorem dX9_from_33 : decode cX9_from 33 = .ok (.invokeinterface 38 2, 5) := by decide +kernel
theorem dX9_from_38 : decode cX9_from 38 = .ok (.checkcast 42, 3) := dk_192 0 42 (dk_at dksX9_from_1 16 rfl rfl)
theorem dX9_from_41 : decode cX9_from 41 = .ok (.astore_n 3, 1) := dk_78 (dk_at dksX9_from_1 19 rfl rfl)
theorem dX9_from_42 : decode cX9_from 42 = .ok (.iload_n 2, 1) := dk_28 (dk_at dksX9_from_1 20 rfl rfl)
theorem dX9_from_43 : decode cX9_from 43 = .ok (.aload_n 0, 1) := dk_42 (dk_at dksX9_from_1 21 rfl rfl)
theorem dX9_from_44 : decode cX9_from 44 = .ok (.getfield 23, 3) := dk_180 0 23 (dk_at dksX9_from_2 0 rfl rfl)
theorem dX9_from_47 : decode cX9_from 47 = .ok (.if_icmp .eq 25, 3) := dk_159 0 25 (dk_at dksX9_from_2 3 rfl rfl)
theorem dX9_from_50 : decode cX9_from 50 = .ok (.aload_n 3, 1) := dk_45 (dk_at dksX9_from_2 6 rfl rfl)
theorem dX9_from_51 : decode cX9_from 51 = .ok (.invokevirtual 44, 3) := dk_182 0 44 (dk_at dksX9_from_2 7 rfl rfl)
theorem dX9_from_54 : decode cX9_from 54 = .ok (.ifCond .eq 18, 3) := dk_153 0 18 (dk_at dksX9_from_2 10 rfl rfl)
theorem dX9_from_57 : decode cX9_from 57 = .ok (.aload_n 3, 1) := dk_45 (dk_at dksX9_from_2 13 rfl rfl)
theorem dX9_from_58 : decode cX9_from 58 = .ok (.getfield 48, 3) := dk_180 0 48 (dk_at dksX9_from_2 14 rfl rfl)
theorem dX9_from_61 : decode cX9_from 61 = .ok (.aload_n 0, 1) := dk_42 (dk_at dksX9_from_2 17 rfl rfl)
theorem dX9_from_62 : decode cX9_from 62 = .ok (.getfield 19, 3) := dk_180 0 19 (dk_at dksX9_from_2 18 rfl rfl)
theorem dX9_from_65 : decode cX9_from 65 = .ok (.if_icmp .lt 7, 3) := dk_161 0 7 (dk_at dksX9_from_2 21 rfl rfl)
theorem dX9_from_68 : decode cX9_from 68 = .ok (.iconst 1, 1) := dk_4 (dk_at dksX9_from_3 0 rfl rfl)
theorem dX9_from_69 : decode cX9_from 69 = .ok (.goto 4, 3) := dk_167 0 4 (dk_at dksX9_from_3 1 rfl rfl)
theorem dX9_from_72 : decode cX9_from 72 = .ok (.iconst 0, 1) := dk_3 (dk_at dksX9_from_3 4 rfl rfl)
theorem dX9_from_73 : decode cX9_from 73 = .ok (.istore 4, 2) := dk_54 4 (dk_at dksX9_from_3 5 rfl rfl)
theorem dX9_from_75 : decode cX9_from 75 = .ok (.iload 4, 2) := dk_21 4 (dk_at dksX9_from_3 7 rfl rfl)
theorem dX9_from_77 : decode cX9_from 77 = .ok (.ifCond .eq 33, 3) := dk_153 0 33 (dk_at dksX9_from_3 9 rfl rfl)
theorem dX9_from_80 : decode cX9_from 80 = .ok (.aload_n 3, 1) := dk_45 (dk_at dksX9_from_3 12 rfl rfl)
theorem dX9_from_81 : decode cX9_from 81 = .ok (.iload_n 1, 1) := dk_27 (dk_at dksX9_from_3 13 rfl rfl)
theorem dX9_from_82 : decode cX9_from 82 = .ok (.invokevirtual 49, 3) := dk_182 0 49 (dk_at dksX9_from_3 14 rfl rfl)
theorem dX9_from_85 : decode cX9_from 85 = .ok (.ifCond .eq 25, 3) := dk_153 0 25 (dk_at dksX9_from_3 17 rfl rfl)
theorem dX9_from_88 : decode cX9_from 88 = .ok (.aload_n 0, 1) := dk_42 (dk_at dksX9_from_3 20 rfl rfl)
theorem dX9_from_89 : decode cX9_from 89 = .ok (.getfield 15, 3) := dk_180 0 15 (dk_at dksX9_from_3 21 rfl rfl)
theorem dX9_from_92 : decode cX9_from 92 = .ok (.aload_n 3, 1) := dk_45 (dk_at dksX9_from_4 0 rfl rfl)
theorem dX9_from_93 : decode cX9_from 93 = .ok (.iload_n 1, 1) := dk_27 (dk_at dksX9_from_4 1 rfl rfl)
theorem dX9_from_94 : decode cX9_from 94 = .ok (.invokevirtual 53, 3) := dk_182 0 53 (dk_at dksX9_from_4 2 rfl rfl)
theorem dX9_from_97 : decode cX9_from 97 = .ok (.baload, 1) := dk_51 (dk_at dksX9_from_4 5 rfl rfl)
theorem dX9_from_98 : decode cX9_from 98 = .ok (.ifCond .ne 12, 3) := dk_154 0 12 (dk_at dksX9_from_4 6 rfl rfl)
theorem dX9_from_101 : decode cX9_from 101 = .ok (.aload_n 0, 1) := dk_42 (dk_at dksX9_from_4 9 rfl rfl)
theorem dX9_from_102 : decode cX9_from 102 = .ok (.aload_n 3, 1) := dk_45 (dk_at dksX9_from_4 10 rfl rfl)
theorem dX9_from_103 : decode cX9_from 103 = .ok (.iload_n 1, 1) := dk_27 (dk_at dksX9_from_4 11 rfl rfl)
theorem dX9_from_104 : decode cX9_from 104 = .ok (.invokevirtual 53, 3) := dk_182 0 53 (dk_at dksX9_from_4 12 rfl rfl)
theorem dX9_from_107 : decode cX9_from 107 = .ok (.invokevirtual 57, 3) := dk_182 0 57 (dk_at dksX9_from_4 15 rfl rfl)
theorem dX9_from_110 : decode cX9_from 110 = .ok (.iinc 2 1, 3) := dk_132 2 1 (dk_at dksX9_from_4 18 rfl rfl)
theorem dX9_from_113 : decode cX9_from 113 = .ok (.goto (-104), 3) := dk_167 255 152 (dk_at dksX9_from_4 21 rfl rfl)
theorem dX9_from_116 : decode cX9_from 116 = .ok (.return_, 1) := dk_177 (dk_at dksX9_from_5 0 rfl rfl)
theorem q107 : (Jvm.Cond.initialized "FilterWaterworks$Works$Walk") ∈ lw_all := lw_g (lw_at lw_m1 40 rfl) rfl
theorem q163 : (Jvm.Cond.fieldLinkNest "FilterWaterworks$Works$Walk" (26 : Nat) "FilterWaterworks$Works" "pipes" "Ljava/util/List;" "FilterWaterworks") ∈ lw_tbl := lw_at lw_m1 96 rfl
theorem q296 : (Jvm.Cond.instantiable "FilterWaterworks$Works$Walk" (4 : Nat)) ∈ lw_all := lw_g (lw_at lw_m1 229 rfl) rfl
theorem q298 : (Jvm.Cond.instanceMethod ({ cls := "FilterWaterworks$Works$Walk", name := "<init>", desc := "(LFilterWaterworks$Works;II)V" } : Jvm.MethodName)) ∈ lw_all := lw_g (lw_at lw_m1 231 rfl) rfl
theorem q299 : (Jvm.Cond.code ({ cls := "FilterWaterworks$Works$Walk", name := "<init>", desc := "(LFilterWaterworks$Works;II)V" } : Jvm.MethodName) prog_16_method_1_code (4 : Nat) (Option.none : Option Jvm.ClassFile.FieldType)) ∈ lw_all := lw_g (lw_at lw_m1 232 rfl) rfl
theorem q300 : (Jvm.Cond.methodLink "FilterWaterworks$Works$Walk" (9 : Nat) ({ cls := "java/lang/Object", name := "<init>", desc := "()V" } : Jvm.MethodName)) ∈ lw_all := lw_g (lw_at lw_m1 233 rfl) rfl
theorem q301 : (Jvm.Cond.fieldLink "FilterWaterworks$Works$Walk" (15 : Nat) "FilterWaterworks$Works$Walk" "isReached" "[Z") ∈ lw_all := lw_g (lw_at lw_m1 234 rfl) rfl
theorem q303 : (Jvm.Cond.fieldLink "FilterWaterworks$Works$Walk" (19 : Nat) "FilterWaterworks$Works$Walk" "setting" "I") ∈ lw_all := lw_g (lw_at lw_m1 236 rfl) rfl
theorem q304 : (Jvm.Cond.fieldLink "FilterWaterworks$Works$Walk" (23 : Nat) "FilterWaterworks$Works$Walk" "closed" "I") ∈ lw_all := lw_g (lw_at lw_m1 237 rfl) rfl
theorem q305 : (Jvm.Cond.fieldLink "FilterWaterworks$Works$Walk" (3 : Nat) "FilterWaterworks$Works$Walk" "this$0" "LFilterWaterworks$Works;") ∈ lw_all := lw_g (lw_at lw_m1 238 rfl) rfl
theorem q306 : (Jvm.Cond.laysFinal "FilterWaterworks$Works$Walk" "FilterWaterworks$Works$Walk" "isReached" "[Z") ∈ lw_all := lw_g (lw_at lw_m1 239 rfl) rfl
theorem q307 : (Jvm.Cond.soleField "FilterWaterworks$Works$Walk" "isReached") ∈ lw_all := lw_g (lw_at lw_m2 0 rfl) rfl
theorem q308 : (Jvm.Cond.laysFinal "FilterWaterworks$Works$Walk" "FilterWaterworks$Works$Walk" "setting" "I") ∈ lw_all := lw_g (lw_at lw_m2 1 rfl) rfl
theorem q309 : (Jvm.Cond.soleField "FilterWaterworks$Works$Walk" "setting") ∈ lw_all := lw_g (lw_at lw_m2 2 rfl) rfl
theorem q310 : (Jvm.Cond.laysFinal "FilterWaterworks$Works$Walk" "FilterWaterworks$Works$Walk" "closed" "I") ∈ lw_all := lw_g (lw_at lw_m2 3 rfl) rfl
theorem q311 : (Jvm.Cond.soleField "FilterWaterworks$Works$Walk" "closed") ∈ lw_all := lw_g (lw_at lw_m2 4 rfl) rfl
theorem q312 : (Jvm.Cond.laysFinal "FilterWaterworks$Works$Walk" "FilterWaterworks$Works$Walk" "this$0" "LFilterWaterworks$Works;") ∈ lw_all := lw_g (lw_at lw_m2 5 rfl) rfl
theorem q313 : (Jvm.Cond.soleField "FilterWaterworks$Works$Walk" "this$0") ∈ lw_all := lw_g (lw_at lw_m2 6 rfl) rfl
theorem q314 : (Jvm.Cond.superclass "FilterWaterworks$Works$Walk" "java/lang/Object") ∈ lw_all := lw_g (lw_at lw_m2 7 rfl) rfl
theorem q319 : (Jvm.Cond.instanceMethod ({ cls := "FilterWaterworks$Works$Walk", name := "from", desc := "(I)V" } : Jvm.MethodName)) ∈ lw_all := lw_g (lw_at lw_m2 12 rfl) rfl
theorem q320 : (Jvm.Cond.selects "FilterWaterworks$Works$Walk" ({ cls := "FilterWaterworks$Works$Walk", name := "from", desc := "(I)V" } : Jvm.MethodName) ({ cls := "FilterWaterworks$Works$Walk", name := "from", desc := "(I)V" } : Jvm.MethodName)) ∈ lw_all := lw_g (lw_at lw_m2 13 rfl) rfl
theorem q321 : (Jvm.Cond.code ({ cls := "FilterWaterworks$Works$Walk", name := "from", desc := "(I)V" } : Jvm.MethodName) prog_16_method_2_code (5 : Nat) (Option.none : Option Jvm.ClassFile.FieldType)) ∈ lw_all := lw_g (lw_at lw_m2 14 rfl) rfl
theorem q322 : (Jvm.Cond.interfaceEntry "FilterWaterworks$Works$Walk" (32 : Nat)) ∈ lw_tbl := lw_at lw_m2 15 rfl
theorem q323 : (Jvm.Cond.methodLink "FilterWaterworks$Works$Walk" (32 : Nat) ({ cls := "java/util/List", name := "size", desc := "()I" } : Jvm.MethodName)) ∈ lw_all := lw_g (lw_at lw_m2 16 rfl) rfl
theorem q324 : (Jvm.Cond.interfaceEntry "FilterWaterworks$Works$Walk" (38 : Nat)) ∈ lw_tbl := lw_at lw_m2 17 rfl
theorem q325 : (Jvm.Cond.methodLink "FilterWaterworks$Works$Walk" (38 : Nat) ({ cls := "java/util/List", name := "get", desc := "(I)Ljava/lang/Object;" } : Jvm.MethodName)) ∈ lw_all := lw_g (lw_at lw_m2 18 rfl) rfl
theorem q670 : (Jvm.Cond.classLink "FilterWaterworks$Works$Walk" (42 : Nat) "FilterWaterworks$Pipe") ∈ lw_all := lw_g (lw_at lw_m3 123 rfl) rfl
theorem q671 : (Jvm.Cond.methodLink "FilterWaterworks$Works$Walk" (44 : Nat) ({ cls := "FilterWaterworks$Pipe", name := "isOpen", desc := "()Z" } : Jvm.MethodName)) ∈ lw_all := lw_g (lw_at lw_m3 124 rfl) rfl
theorem q675 : (Jvm.Cond.methodLink "FilterWaterworks$Works$Walk" (49 : Nat) ({ cls := "FilterWaterworks$Pipe", name := "touches", desc := "(I)Z" } : Jvm.MethodName)) ∈ lw_all := lw_g (lw_at lw_m3 128 rfl) rfl
theorem q679 : (Jvm.Cond.methodLink "FilterWaterworks$Works$Walk" (53 : Nat) ({ cls := "FilterWaterworks$Pipe", name := "otherEnd", desc := "(I)I" } : Jvm.MethodName)) ∈ lw_all := lw_g (lw_at lw_m3 132 rfl) rfl
theorem q683 : (Jvm.Cond.methodLink "FilterWaterworks$Works$Walk" (57 : Nat) ({ cls := "FilterWaterworks$Works$Walk", name := "from", desc := "(I)V" } : Jvm.MethodName)) ∈ lw_all := lw_g (lw_at lw_m3 136 rfl) rfl
theorem q1004 : (Jvm.Cond.selects "FilterWaterworks$Works$Walk" ({ cls := "java/lang/Object", name := "getClass", desc := "()Ljava/lang/Class;" } : Jvm.MethodName) ({ cls := "java/lang/Object", name := "getClass", desc := "()Ljava/lang/Class;" } : Jvm.MethodName)) ∈ lw_all := lw_g (lw_at lw_m4 217 rfl) rfl
theorem q1078 : (Jvm.Cond.fieldLinkNest "FilterWaterworks$Works$Walk" (48 : Nat) "FilterWaterworks$Pipe" "setting" "I" "FilterWaterworks") ∈ lw_tbl := lw_at lw_m5 51 rfl
theorem q2076 : (Jvm.Cond.selects "FilterWaterworks$Works$Walk" ({ cls := "java/lang/Object", name := "toString", desc := "()Ljava/lang/String;" } : Jvm.MethodName) ({ cls := "java/lang/Object", name := "toString", desc := "()Ljava/lang/String;" } : Jvm.MethodName)) ∈ lw_all := lw_g (lw_at lw_m9 89 rfl) rfl
theorem q2856 : (Jvm.Cond.castable "FilterWaterworks$Works$Walk" "java/lang/Object") ∈ lw_tbl := lw_at lw_m12 149 rfl
theorem in_X9 : ∀ w ∈ wsX90, w ∈ lw_all := lw_in wsX90 [306, 308, 310, 312] (by decide +kernel) (by decide +kernel)

/-! FilterWaterworks$Works$Numbering -/
set_option maxRecDepth 100000
def RX10 : String := "FilterWaterworks$Works$Numbering"
def TX10 : u_T := fun k => match k with
  | 0 => ("FilterWaterworks$Works$Numbering", "numbers", "[I", true)
  | 1 => ("FilterWaterworks$Works$Numbering", "lowest", "[I", true)
  | 2 => ("FilterWaterworks$Works$Numbering", "next", "I", false)
  | 3 => ("FilterWaterworks$Works$Numbering", "bridges", "I", false)
  | _ => ("FilterWaterworks$Works$Numbering", "this$0", "LFilterWaterworks$Works;", true)
def tyX10 : Nat → FieldType := fun k => match k with
  | 0 => .array .int
  | 1 => .array .int
  | 2 => .int
  | 3 => .int
  | _ => .object "FilterWaterworks$Works"
abbrev wsX100 : List Cond := u_ws RX10 TX10 5
theorem nmX10 : ∀ a, a < 5 → ∀ b, b < 5 → a ≠ b → (TX10 a).2.1 ≠ (TX10 b).2.1 := by decide +kernel
theorem tyX10_ok : ∀ k, k < 5 → parseFieldDescriptor (TX10 k).2.2.1 = some (tyX10 k) := by decide +kernel
abbrev cX10_init : ByteArray := prog_15_method_1_code
def yX10_init : MethodName := ⟨RX10, "<init>", "(LFilterWaterworks$Works;)V"⟩
def dkwX10_init_2 : List UInt8 := [181, 0, 32, 177]
abbrev dktX10_init_2 : List UInt8 := dkwX10_init_2 ++ []
def dkwX10_init_1 : List UInt8 := [181, 0, 25, 42, 42, 180, 0, 1, 180, 0, 13, 185, 0, 19, 1, 0, 188, 10, 181, 0, 29, 42, 4]
abbrev dktX10_init_1 : List UInt8 := dkwX10_init_1 ++ dktX10_init_2
def dkwX10_init_0 : List UInt8 := [42, 43, 181, 0, 1, 42, 183, 0, 7, 42, 42, 180, 0, 1, 180, 0, 13, 185, 0, 19, 1, 0, 188, 10]
abbrev dktX10_init_0 : List UInt8 := dkwX10_init_0 ++ dktX10_init_1
theorem dksX10_init_0 : cX10_init.data.toList.drop 0 = dktX10_init_0 := by decide +kernel
theorem dksX10_init_1 : cX10_init.data.toList.drop 24 = dktX10_init_1 := dk_seg dksX10_init_0 24 rfl rfl
theorem dksX10_init_2 : cX10_init.data.toList.drop 47 = dktX10_init_2 := dk_seg dksX10_init_1 23 rfl rfl
theorem dX10_init_0 : decode cX10_init 0 = .ok (.aload_n 0, 1) := dk_42 (dk_at dksX10_init_0 0 rfl rfl)
theorem dX10_init_1 : decode cX10_init 1 = .ok (.aload_n 1, 1) := dk_43 (dk_at dksX10_init_0 1 rfl rfl)
theorem dX10_init_2 : decode cX10_init 2 = .ok (.putfield 1, 3) := dk_181 0 1 (dk_at dksX10_init_0 2 rfl rfl)
theorem dX10_init_5 : decode cX10_init 5 = .ok (.aload_n 0, 1) := dk_42 (dk_at dksX10_init_0 5 rfl rfl)
theorem dX10_init_6 : decode cX10_init 6 = .ok (.invokespecial 7, 3) := dk_183 0 7 (dk_at dksX10_init_0 6 rfl rfl)
theorem dX10_init_9 : decode cX10_init 9 = .ok (.aload_n 0, 1) := dk_42 (dk_at dksX10_init_0 9 rfl rfl)
theorem dX10_init_10 : decode cX10_init 10 = .ok (.aload_n 0, 1) := dk_42 (dk_at dksX10_init_0 10 rfl rfl)
theorem dX10_init_11 : decode cX10_init 11 = .ok (.getfield 1, 3) := dk_180 0 1 (dk_at dksX10_init_0 11 rfl rfl)
theorem dX10_init_14 : decode cX10_init 14 = .ok (.getfield 13, 3) := dk_180 0 13 (dk_at dksX10_init_0 14 rfl rfl)
theorem dX10_init_17 : decode cX10_init 17 = .ok (.invokeinterface 19 1, 5) := by decide +kernel
theorem dX10_init_22 : decode cX10_init 22 = .ok (.newarray .int, 2) := dk_188_10 (dk_at dksX10_init_0 22 rfl rfl)
theorem dX10_init_24 : decode cX10_init 24 = .ok (.putfield 25, 3) := dk_181 0 25 (dk_at dksX10_init_1 0 rfl rfl)
theorem dX10_init_27 : decode cX10_init 27 = .ok (.aload_n 0, 1) := dk_42 (dk_at dksX10_init_1 3 rfl rfl)
theorem dX10_init_28 : decode cX10_init 28 = .ok (.aload_n 0, 1) := dk_42 (dk_at dksX10_init_1 4 rfl rfl)
theorem dX10_init_29 : decode cX10_init 29 = .ok (.getfield 1, 3) := dk_180 0 1 (dk_at dksX10_init_1 5 rfl rfl)
theorem dX10_init_32 : decode cX10_init 32 = .ok (.getfield 13, 3) := dk_180 0 13 (dk_at dksX10_init_1 8 rfl rfl)
theorem dX10_init_35 : decode cX10_init 35 = .ok (.invokeinterface 19 1, 5) := by decide +kernel
theorem dX10_init_40 : decode cX10_init 40 = .ok (.newarray .int, 2) := dk_188_10 (dk_at dksX10_init_1 16 rfl rfl)
theorem dX10_init_42 : decode cX10_init 42 = .ok (.putfield 29, 3) := dk_181 0 29 (dk_at dksX10_init_1 18 rfl rfl)
theorem dX10_init_45 : decode cX10_init 45 = .ok (.aload_n 0, 1) := dk_42 (dk_at dksX10_init_1 21 rfl rfl)
theorem dX10_init_46 : decode cX10_init 46 = .ok (.iconst 1, 1) := dk_4 (dk_at dksX10_init_1 22 rfl rfl)
theorem dX10_init_47 : decode cX10_init 47 = .ok (.putfield 32, 3) := dk_181 0 32 (dk_at dksX10_init_2 0 rfl rfl)
theorem dX10_init_50 : decode cX10_init 50 = .ok (.return_, 1) := dk_177 (dk_at dksX10_init_2 3 rfl rfl)
abbrev cX10_visit : ByteArray := prog_15_method_2_code
def yX10_visit : MethodName := ⟨RX10, "visit", "(II)V"⟩
def dkwX10_visit_4 : List UInt8 := [182, 0, 49, 153, 0, 9, 42, 27, 29, 182, 0, 53, 132, 3, 1, 167, 255, 181, 177]
abbrev dktX10_visit_4 : List UInt8 := dkwX10_visit_4 ++ []
def dkwX10_visit_3 : List UInt8 := [182, 0, 45, 153, 0, 32, 42, 180, 0, 1, 180, 0, 36, 29, 185, 0, 39, 2, 0, 192, 0, 43, 27]
abbrev dktX10_visit_3 : List UInt8 := dkwX10_visit_3 ++ dktX10_visit_4
def dkwX10_visit_2 : List UInt8 := [162, 0, 65, 29, 28, 159, 0, 54, 42, 180, 0, 1, 180, 0, 36, 29, 185, 0, 39, 2, 0, 192, 0, 43]
abbrev dktX10_visit_2 : List UInt8 := dkwX10_visit_2 ++ dktX10_visit_3
def dkwX10_visit_1 : List UInt8 := [180, 0, 32, 4, 96, 181, 0, 32, 3, 62, 29, 42, 180, 0, 1, 180, 0, 36, 185, 0, 19, 1, 0]
abbrev dktX10_visit_1 : List UInt8 := dkwX10_visit_1 ++ dktX10_visit_2
def dkwX10_visit_0 : List UInt8 := [42, 180, 0, 25, 27, 42, 180, 0, 32, 79, 42, 180, 0, 29, 27, 42, 180, 0, 32, 79, 42, 89]
abbrev dktX10_visit_0 : List UInt8 := dkwX10_visit_0 ++ dktX10_visit_1
theorem dksX10_visit_0 : cX10_visit.data.toList.drop 0 = dktX10_visit_0 := by decide +kernel
theorem dksX10_visit_1 : cX10_visit.data.toList.drop 22 = dktX10_visit_1 := dk_seg dksX10_visit_0 22 rfl rfl
theorem dksX10_visit_2 : cX10_visit.data.toList.drop 45 = dktX10_visit_2 := dk_seg dksX10_visit_1 23 rfl rfl
theorem dksX10_visit_3 : cX10_visit.data.toList.drop 69 = dktX10_visit_3 := dk_seg dksX10_visit_2 24 rfl rfl
theorem dksX10_visit_4 : cX10_visit.data.toList.drop 92 = dktX10_visit_4 := dk_seg dksX10_visit_3 23 rfl rfl
theorem dX10_visit_0 : decode cX10_visit 0 = .ok (.aload_n 0, 1) := dk_42 (dk_at dksX10_visit_0 0 rfl rfl)
theorem dX10_visit_1 : decode cX10_visit 1 = .ok (.getfield 25, 3) := dk_180 0 25 (dk_at dksX10_visit_0 1 rfl rfl)
theorem dX10_visit_4 : decode cX10_visit 4 = .ok (.iload_n 1, 1) := dk_27 (dk_at dksX10_visit_0 4 rfl rfl)
theorem dX10_visit_5 : decode cX10_visit 5 = .ok (.aload_n 0, 1) := dk_42 (dk_at dksX10_visit_0 5 rfl rfl)
theorem dX10_visit_6 : decode cX10_visit 6 = .ok (.getfield 32, 3) := dk_180 0 32 (dk_at dksX10_visit_0 6 rfl rfl)
theorem dX10_visit_9 : decode cX10_visit 9 = .ok (.iastore, 1) := dk_79 (dk_at dksX10_visit_0 9 rfl rfl)
theorem dX10_visit_10 : decode cX10_visit 10 = .ok (.aload_n 0, 1) := dk_42 (dk_at dksX10_visit_0 10 rfl rfl)
theorem dX10_visit_11 : decode cX10_visit 11 = .ok (.getfield 29, 3) := dk_180 0 29 (dk_at dksX10_visit_0 11 rfl rfl)
theorem dX10_visit_14 : decode cX10_visit 14 = .ok (.iload_n 1, 1) := dk_27 (dk_at dksX10_visit_0 14 rfl rfl)
theorem dX10_visit_15 : decode cX10_visit 15 = .ok (.aload_n 0, 1) := dk_42 (dk_at dksX10_visit_0 15 rfl rfl)
theorem dX10_visit_16 : decode cX10_visit 16 = .ok (.getfield 32, 3) := dk_180 0 32 (dk_at dksX10_visit_0 16 rfl rfl)
theorem dX10_visit_19 : decode cX10_visit 19 = .ok (.iastore, 1) := dk_79 (dk_at dksX10_visit_0 19 rfl rfl)
theorem dX10_visit_20 : decode cX10_visit 20 = .ok (.aload_n 0, 1) := dk_42 (dk_at dksX10_visit_0 20 rfl rfl)
theorem dX10_visit_21 : decode cX10_visit 21 = .ok (.dup, 1) := dk_89 (dk_at dksX10_visit_0 21 rfl rfl)
theorem dX10_visit_22 : decode cX10_visit 22 = .ok (.getfield 32, 3) := dk_180 0 32 (dk_at dksX10_visit_1 0 rfl rfl)
theorem dX10_visit_25 : decode cX10_visit 25 = .ok (.iconst 1, 1) := dk_4 (dk_at dksX10_visit_1 3 rfl rfl)
theorem dX10_visit_26 : decode cX10_visit 26 = .ok (.iadd, 1) := dk_96 (dk_at dksX10_visit_1 4 rfl rfl)
theorem dX10_visit_27 : decode cX10_visit 27 = .ok (.putfield 32, 3) := dk_181 0 32 (dk_at dksX10_visit_1 5 rfl rfl)
theorem dX10_visit_30 : decode cX10_visit 30 = .ok (.iconst 0, 1) := dk_3 (dk_at dksX10_visit_1 8 rfl rfl)
theorem dX10_visit_31 : decode cX10_visit 31 = .ok (.istore_n 3, 1) := dk_62 (dk_at dksX10_visit_1 9 rfl rfl)
theorem dX10_visit_32 : decode cX10_visit 32 = .ok (.iload_n 3, 1) := dk_29 (dk_at dksX10_visit_1 10 rfl rfl)
theorem dX10_visit_33 : decode cX10_visit 33 = .ok (.aload_n 0, 1) := dk_42 (dk_at dksX10_visit_1 11 rfl rfl)
theorem dX10_visit_34 : decode cX10_visit 34 = .ok (.getfield 1, 3) := dk_180 0 1 (dk_at dksX10_visit_1 12 rfl rfl)
theorem dX10_visit_37 : decode cX10_visit 37 = .ok (.getfield 36, 3) := dk_180 0 36 (dk_at dksX10_visit_1 15 rfl rfl)
theorem dX10_visit_40 : decode cX10_visit 40 = .ok (.invokeinterface 19 1, 5) := by decide +kernel
theorem dX10_visit_45 : decode cX10_visit 45 = .ok (.if_icmp .ge 65, 3) := dk_162 0 65 (dk_at dksX10_visit_2 0 rfl rfl)
theorem dX10_visit_48 : decode cX10_visit 48 = .ok (.iload_n 3, 1) := dk_29 (dk_at dksX10_visit_2 3 rfl rfl)
theorem dX10_visit_49 : decode cX10_visit 49 = .ok (.iload_n 2, 1) := dk_28 (dk_at dksX10_visit_2 4 rfl rfl)
theorem dX10_visit_50 : decode cX10_visit 50 = .ok (.if_icmp .eq 54, 3) := dk_159 0 54 (dk_at dksX10_visit_2 5 rfl rfl)
theorem dX10_visit_53 : decode cX10_visit 53 = .ok (.aload_n 0, 1) := dk_42 (dk_at dksX10_visit_2 8 rfl rfl)
theorem dX10_visit_54 : decode cX10_visit 54 = .ok (.getfield 1, 3) := dk_180 0 1 (dk_at dksX10_visit_2 9 rfl rfl)
theorem dX10_visit_57 : decode cX10_visit 57 = .ok (.getfield 36, 3) := dk_180 0 36 (dk_at dksX10_visit_2 12 rfl rfl)
theorem dX10_visit_60 : decode cX10_visit 60 = .ok (.iload_n 3, 1) := dk_29 (dk_at dksX10_visit_2 15 rfl rfl)
theorem dX10_visit_61 : decode cX10_visit 61 = .ok (.invokeinterface 39 2, 5) := by decide +kernel
theorem dX10_visit_66 : decode cX10_visit 66 = .ok (.checkcast 43, 3) := dk_192 0 43 (dk_at dksX10_visit_2 21 rfl rfl)
theorem dX10_visit_69 : decode cX10_visit 69 = .ok (.invokevirtual 45, 3) := dk_182 0 45 (dk_at dksX10_visit_3 0 rfl rfl)
theorem dX10_visit_72 : decode cX10_visit 72 = .ok (.ifCond .eq 32, 3) := dk_153 0 32 (dk_at dksX10_visit_3 3 rfl rfl)
theorem dX10_visit_75 : decode cX10_visit 75 = .ok (.aload_n 0, 1) := dk_42 (dk_at dksX10_visit_3 6 rfl rfl)
theorem dX10_visit_76 : decode cX10_visit 76 = .ok (.getfield 1, 3) := dk_180 0 1 (dk_at dksX10_visit_3 7 rfl rfl)
theorem dX10_visit_79 : decode cX10_visit 79 = .ok (.getfield 36, 3) := dk_180 0 36 (dk_at dksX10_visit_3 10 rfl rfl)
theorem dX10_visit_82 : decode cX10_visit 82 = .ok (.iload_n 3, 1) := dk_29 (dk_at dksX10_visit_3 13 rfl rfl)
theorem dX10_visit_83 : decode cX10_visit 83 = .ok (.invokeinterface 39 2, 5) := by decide +kernel
theorem dX10_visit_88 : decode cX10_visit 88 = .ok (.checkcast 43, 3) := dk_192 0 43 (dk_at dksX10_visit_3 19 rfl rfl)
theorem dX10_visit_91 : decode cX10_visit 91 = .ok (.iload_n 1, 1) := dk_27 (dk_at dksX10_visit_3 22 rfl rfl)
theorem dX10_visit_92 : decode cX10_visit 92 = .ok (.invokevirtual 49, 3) := dk_182 0 49 (dk_at dksX10_visit_4 0 rfl rfl)
theorem dX10_visit_95 : decode cX10_visit 95 = .ok (.ifCond .eq 9, 3) := dk_153 0 9 (dk_at dksX10_visit_4 3 rfl rfl)
theorem dX10_visit_98 : decode cX10_visit 98 = .ok (.aload_n 0, 1) := dk_42 (dk_at dksX10_visit_4 6 rfl rfl)
theorem dX10_visit_99 : decode cX10_visit 99 = .ok (.iload_n 1, 1) := dk_27 (dk_at dksX10_visit_4 7 rfl rfl)
theorem dX10_visit_100 : decode cX10_visit 100 = .ok (.iload_n 3, 1) := dk_29 (dk_at dksX10_visit_4 8 rfl rfl)
theorem dX10_visit_101 : decode cX10_visit 101 = .ok (.invokevirtual 53, 3) := dk_182 0 53 (dk_at dksX10_visit_4 9 rfl rfl)
theorem dX10_visit_104 : decode cX10_visit 104 = .ok (.iinc 3 1, 3) := dk_132 3 1 (dk_at dksX10_visit_4 12 rfl rfl)
theorem dX10_visit_107 : decode cX10_visit 107 = .ok (.goto (-75), 3) := dk_167 255 181 (dk_at dksX10_visit_4 15 rfl rfl)
theorem dX10_visit_110 : decode cX10_visit 110 = .ok (.return_, 1) := dk_177 (dk_at dksX10_visit_4 18 rfl rfl)
abbrev cX10_follow : ByteArray := prog_15_method_3_code
def yX10_follow : MethodName := ⟨RX10, "follow", "(II)V"⟩
def dkwX10_follow_4 : List UInt8 := [180, 0, 25, 27, 46, 164, 0, 7, 4, 167, 0, 4, 3, 96, 181, 0, 70, 177]
abbrev dktX10_follow_4 : List UInt8 := dkwX10_follow_4 ++ []
def dkwX10_follow_3 : List UInt8 := [46, 42, 180, 0, 29, 29, 46, 184, 0, 61, 79, 42, 89, 180, 0, 70, 42, 180, 0, 29, 29, 46, 42]
abbrev dktX10_follow_3 : List UInt8 := dkwX10_follow_3 ++ dktX10_follow_4
def dkwX10_follow_2 : List UInt8 := [46, 184, 0, 61, 79, 167, 0, 59, 42, 29, 28, 182, 0, 67, 42, 180, 0, 29, 27, 42, 180, 0, 29, 27]
abbrev dktX10_follow_2 : List UInt8 := dkwX10_follow_2 ++ dktX10_follow_3
def dkwX10_follow_1 : List UInt8 := [180, 0, 25, 29, 46, 158, 0, 27, 42, 180, 0, 29, 27, 42, 180, 0, 29, 27, 46, 42, 180, 0, 25, 29]
abbrev dktX10_follow_1 : List UInt8 := dkwX10_follow_1 ++ dktX10_follow_2
def dkwX10_follow_0 : List UInt8 := [42, 180, 0, 1, 180, 0, 36, 28, 185, 0, 39, 2, 0, 192, 0, 43, 27, 182, 0, 57, 62, 42]
abbrev dktX10_follow_0 : List UInt8 := dkwX10_follow_0 ++ dktX10_follow_1
theorem dksX10_follow_0 : cX10_follow.data.toList.drop 0 = dktX10_follow_0 := by decide +kernel
theorem dksX10_follow_1 : cX10_follow.data.toList.drop 22 = dktX10_follow_1 := dk_seg dksX10_follow_0 22 rfl rfl
theorem dksX10_follow_2 : cX10_follow.data.toList.drop 46 = dktX10_follow_2 := dk_seg dksX10_follow_1 24 rfl rfl
theorem dksX10_follow_3 : cX10_follow.data.toList.drop 70 = dktX10_follow_3 := dk_seg dksX10_follow_2 24 rfl rfl
theorem dksX10_follow_4 : cX10_follow.data.toList.drop 93 = dktX10_follow_4 := dk_seg dksX10_follow_3 23 rfl rfl
theorem dX10_follow_0 : decode cX10_follow 0 = .ok (.aload_n 0, 1) := dk_42 (dk_at dksX10_follow_0 0 rfl rfl)
theorem dX10_follow_1 : decode cX10_follow 1 = .ok (.getfield 1, 3) := dk_180 0 1 (dk_at dksX10_follow_0 1 rfl rfl)
theorem dX10_follow_4 : decode cX10_follow 4 = .ok (.getfield 36, 3) := dk_180 0 36 (dk_at dksX10_follow_0 4 rfl rfl)
theorem dX10_follow_7 : decode cX10_follow 7 = .ok (.iload_n 2, 1) := dk_28 (dk_at dksX10_follow_0 7 rfl rfl)
theorem dX10_follow_8 : decode cX10_follow 8 = .ok (.invokeinterface 39 2, 5) := by decide +kernel
theorem dX10_follow_13 : decode cX10_follow 13 = .ok (.checkcast 43, 3) := dk_192 0 43 (dk_at dksX10_follow_0 13 rfl rfl)
theorem dX10_follow_16 : decode cX10_follow 16 = .ok (.iload_n 1, 1) := dk_27 (dk_at dksX10_follow_0 16 rfl rfl)
theorem dX10_follow_17 : decode cX10_follow 17 = .ok (.invokevirtual 57, 3) := dk_182 0 57 (dk_at dksX10_follow_0 17 rfl rfl)
theorem dX10_follow_20 : decode cX10_follow 20 = .ok (.istore_n 3, 1) := dk_62 (dk_at dksX10_follow_0 20 rfl rfl)
theorem dX10_follow_21 : decode cX10_follow 21 = .ok (.aload_n 0, 1) := dk_42 (dk_at dksX10_follow_0 21 rfl rfl)
theorem dX10_follow_22 : decode cX10_follow 22 = .ok (.getfield 25, 3) := dk_180 0 25 (dk_at dksX10_follow_1 0 rfl rfl)
theorem dX10_follow_25 : decode cX10_follow 25 = .ok (.iload_n 3, 1) := dk_29 (dk_at dksX10_follow_1 3 rfl rfl)
theorem dX10_follow_26 : decode cX10_follow 26 = .ok (.iaload, 1) := dk_46 (dk_at dksX10_follow_1 4 rfl rfl)
theorem dX10_follow_27 : decode cX10_follow 27 = .ok (.ifCond .le 27, 3) := dk_158 0 27 (dk_at dksX10_follow_1 5 rfl rfl)
theorem dX10_follow_30 : decode cX10_follow 30 = .ok (.aload_n 0, 1) := dk_42 (dk_at dksX10_follow_1 8 rfl rfl)
theorem dX10_follow_31 : decode cX10_follow 31 = .ok (.getfield 29, 3) := dk_180 0 29 (dk_at dksX10_follow_1 9 rfl rfl)
theorem dX10_follow_34 : decode cX10_follow 34 = .ok (.iload_n 1, 1) := dk_27 (dk_at dksX10_follow_1 12 rfl rfl)
theorem dX10_follow_35 : decode cX10_follow 35 = .ok (.aload_n 0, 1) := dk_42 (dk_at dksX10_follow_1 13 rfl rfl)
theorem dX10_follow_36 : decode cX10_follow 36 = .ok (.getfield 29, 3) := dk_180 0 29 (dk_at dksX10_follow_1 14 rfl rfl)
theorem dX10_follow_39 : decode cX10_follow 39 = .ok (.iload_n 1, 1) := dk_27 (dk_at dksX10_follow_1 17 rfl rfl)
theorem dX10_follow_40 : decode cX10_follow 40 = .ok (.iaload, 1) := dk_46 (dk_at dksX10_follow_1 18 rfl rfl)
theorem dX10_follow_41 : decode cX10_follow 41 = .ok (.aload_n 0, 1) := dk_42 (dk_at dksX10_follow_1 19 rfl rfl)
theorem dX10_follow_42 : decode cX10_follow 42 = .ok (.getfield 25, 3) := dk_180 0 25 (dk_at dksX10_follow_1 20 rfl rfl)
theorem dX10_follow_45 : decode cX10_follow 45 = .ok (.iload_n 3, 1) := dk_29 (dk_at dksX10_follow_1 23 rfl rfl)
theorem dX10_follow_46 : decode cX10_follow 46 = .ok (.iaload, 1) := dk_46 (dk_at dksX10_follow_2 0 rfl rfl)
theorem dX10_follow_47 : decode cX10_follow 47 = .ok (.invokestatic 61, 3) := dk_184 0 61 (dk_at dksX10_follow_2 1 rfl rfl)
theorem dX10_follow_50 : decode cX10_follow 50 = .ok (.iastore, 1) := dk_79 (dk_at dksX10_follow_2 4 rfl rfl)
theorem dX10_follow_51 : decode cX10_follow 51 = .ok (.goto 59, 3) := dk_167 0 59 (dk_at dksX10_follow_2 5 rfl rfl)
theorem dX10_follow_54 : decode cX10_follow 54 = .ok (.aload_n 0, 1) := dk_42 (dk_at dksX10_follow_2 8 rfl rfl)
theorem dX10_follow_55 : decode cX10_follow 55 = .ok (.iload_n 3, 1) := dk_29 (dk_at dksX10_follow_2 9 rfl rfl)
theorem dX10_follow_56 : decode cX10_follow 56 = .ok (.iload_n 2, 1) := dk_28 (dk_at dksX10_follow_2 10 rfl rfl)
theorem dX10_follow_57 : decode cX10_follow 57 = .ok (.invokevirtual 67, 3) := dk_182 0 67 (dk_at dksX10_follow_2 11 rfl rfl)
theorem dX10_follow_60 : decode cX10_follow 60 = .ok (.aload_n 0, 1) := dk_42 (dk_at dksX10_follow_2 14 rfl rfl)
theorem dX10_follow_61 : decode cX10_follow 61 = .ok (.getfield 29, 3) := dk_180 0 29 (dk_at dksX10_follow_2 15 rfl rfl)
theorem dX10_follow_64 : decode cX10_follow 64 = .ok (.iload_n 1, 1) := dk_27 (dk_at dksX10_follow_2 18 rfl rfl)
theorem dX10_follow_65 : decode cX10_follow 65 = .ok (.aload_n 0, 1) := dk_42 (dk_at dksX10_follow_2 19 rfl rfl)
theorem dX10_follow_66 : decode cX10_follow 66 = .ok (.getfield 29, 3) := dk_180 0 29 (dk_at dksX10_follow_2 20 rfl rfl)
theorem dX10_follow_69 : decode cX10_follow 69 = .ok (.iload_n 1, 1) := dk_27 (dk_at dksX10_follow_2 23 rfl rfl)
theorem dX10_follow_70 : decode cX10_follow 70 = .ok (.iaload, 1) := dk_46 (dk_at dksX10_follow_3 0 rfl rfl)
theorem dX10_follow_71 : decode cX10_follow 71 = .ok (.aload_n 0, 1) := dk_42 (dk_at dksX10_follow_3 1 rfl rfl)
theorem dX10_follow_72 : decode cX10_follow 72 = .ok (.getfield 29, 3) := dk_180 0 29 (dk_at dksX10_follow_3 2 rfl rfl)
theorem dX10_follow_75 : decode cX10_follow 75 = .ok (.iload_n 3, 1) := dk_29 (dk_at dksX10_follow_3 5 rfl rfl)
theorem dX10_follow_76 : decode cX10_follow 76 = .ok (.iaload, 1) := dk_46 (dk_at dksX10_follow_3 6 rfl rfl)
theorem dX10_follow_77 : decode cX10_follow 77 = .ok (.invokestatic 61, 3) := dk_184 0 61 (dk_at dksX10_follow_3 7 rfl rfl)
theorem dX10_follow_80 : decode cX10_follow 80 = .ok (.iastore, 1) := dk_79 (dk_at dksX10_follow_3 10 rfl rfl)
theorem dX10_follow_81 : decode cX10_follow 81 = .ok (.aload_n 0, 1) := dk_42 (dk_at dksX10_follow_3 11 rfl rfl)
theorem dX10_follow_82 : decode cX10_follow 82 = .ok (.dup, 1) := dk_89 (dk_at dksX10_follow_3 12 rfl rfl)
theorem dX10_follow_83 : decode cX10_follow 83 = .ok (.getfield 70, 3) := dk_180 0 70 (dk_at dksX10_follow_3 13 rfl rfl)
theorem dX10_follow_86 : decode cX10_follow 86 = .ok (.aload_n 0, 1) := dk_42 (dk_at dksX10_follow_3 16 rfl rfl)
theorem dX10_follow_87 : decode cX10_follow 87 = .ok (.getfield 29, 3) := dk_180 0 29 (dk_at dksX10_follow_3 17 rfl rfl)
theorem dX10_follow_90 : decode cX10_follow 90 = .ok (.iload_n 3, 1) := dk_29 (dk_at dksX10_follow_3 20 rfl rfl)
theorem dX10_follow_91 : decode cX10_follow 91 = .ok (.iaload, 1) := dk_46 (dk_at dksX10_follow_3 21 rfl rfl)
theorem dX10_follow_92 : decode cX10_follow 92 = .ok (.aload_n 0, 1) := dk_42 (dk_at dksX10_follow_3 22 rfl rfl)
theorem dX10_follow_93 : decode cX10_follow 93 = .ok (.getfield 25, 3) := dk_180 0 25 (dk_at dksX10_follow_4 0 rfl rfl)
theorem dX10_follow_96 : decode cX10_follow 96 = .ok (.iload_n 1, 1) := dk_27 (dk_at dksX10_follow_4 3 rfl rfl)
theorem dX10_follow_97 : decode cX10_follow 97 = .ok (.iaload, 1) := dk_46 (dk_at dksX10_follow_4 4 rfl rfl)
theorem dX10_follow_98 : decode cX10_follow 98 = .ok (.if_icmp .le 7, 3) := dk_164 0 7 (dk_at dksX10_follow_4 5 rfl rfl)
theorem dX10_follow_101 : decode cX10_follow 101 = .ok (.iconst 1, 1) := dk_4 (dk_at dksX10_follow_4 8 rfl rfl)
theorem dX10_follow_102 : decode cX10_follow 102 = .ok (.goto 4, 3) := dk_167 0 4 (dk_at dksX10_follow_4 9 rfl rfl)
theorem dX10_follow_105 : decode cX10_follow 105 = .ok (.iconst 0, 1) := dk_3 (dk_at dksX10_follow_4 12 rfl rfl)
theorem dX10_follow_106 : decode cX10_follow 106 = .ok (.iadd, 1) := dk_96 (dk_at dksX10_follow_4 13 rfl rfl)
theorem dX10_follow_107 : decode cX10_follow 107 = .ok (.putfield 70, 3) := dk_181 0 70 (dk_at dksX10_follow_4 14 rfl rfl)
theorem dX10_follow_110 : decode cX10_follow 110 = .ok (.return_, 1) := dk_177 (dk_at dksX10_follow_4 17 rfl rfl)
theorem q108 : (Jvm.Cond.initialized "FilterWaterworks$Works$Numbering") ∈ lw_all := lw_g (lw_at lw_m1 41 rfl) rfl
theorem q160 : (Jvm.Cond.fieldLinkNest "FilterWaterworks$Works$Numbering" (13 : Nat) "FilterWaterworks$Works" "tanks" "Ljava/util/List;" "FilterWaterworks") ∈ lw_tbl := lw_at lw_m1 93 rfl
theorem q164 : (Jvm.Cond.fieldLinkNest "FilterWaterworks$Works$Numbering" (36 : Nat) "FilterWaterworks$Works" "pipes" "Ljava/util/List;" "FilterWaterworks") ∈ lw_tbl := lw_at lw_m1 97 rfl
theorem q709 : (Jvm.Cond.instantiable "FilterWaterworks$Works$Numbering" (5 : Nat)) ∈ lw_all := lw_g (lw_at lw_m3 162 rfl) rfl
theorem q711 : (Jvm.Cond.instanceMethod ({ cls := "FilterWaterworks$Works$Numbering", name := "<init>", desc := "(LFilterWaterworks$Works;)V" } : Jvm.MethodName)) ∈ lw_all := lw_g (lw_at lw_m3 164 rfl) rfl
theorem q712 : (Jvm.Cond.code ({ cls := "FilterWaterworks$Works$Numbering", name := "<init>", desc := "(LFilterWaterworks$Works;)V" } : Jvm.MethodName) prog_15_method_1_code (2 : Nat) (Option.none : Option Jvm.ClassFile.FieldType)) ∈ lw_all := lw_g (lw_at lw_m3 165 rfl) rfl
theorem q713 : (Jvm.Cond.methodLink "FilterWaterworks$Works$Numbering" (7 : Nat) ({ cls := "java/lang/Object", name := "<init>", desc := "()V" } : Jvm.MethodName)) ∈ lw_all := lw_g (lw_at lw_m3 166 rfl) rfl
theorem q714 : (Jvm.Cond.interfaceEntry "FilterWaterworks$Works$Numbering" (19 : Nat)) ∈ lw_tbl := lw_at lw_m3 167 rfl
theorem q715 : (Jvm.Cond.methodLink "FilterWaterworks$Works$Numbering" (19 : Nat) ({ cls := "java/util/List", name := "size", desc := "()I" } : Jvm.MethodName)) ∈ lw_all := lw_g (lw_at lw_m3 168 rfl) rfl
theorem q716 : (Jvm.Cond.fieldLink "FilterWaterworks$Works$Numbering" (25 : Nat) "FilterWaterworks$Works$Numbering" "numbers" "[I") ∈ lw_all := lw_g (lw_at lw_m3 169 rfl) rfl
theorem q718 : (Jvm.Cond.fieldLink "FilterWaterworks$Works$Numbering" (29 : Nat) "FilterWaterworks$Works$Numbering" "lowest" "[I") ∈ lw_all := lw_g (lw_at lw_m3 171 rfl) rfl
theorem q719 : (Jvm.Cond.fieldLink "FilterWaterworks$Works$Numbering" (32 : Nat) "FilterWaterworks$Works$Numbering" "next" "I") ∈ lw_all := lw_g (lw_at lw_m3 172 rfl) rfl
theorem q720 : (Jvm.Cond.fieldLink "FilterWaterworks$Works$Numbering" (70 : Nat) "FilterWaterworks$Works$Numbering" "bridges" "I") ∈ lw_all := lw_g (lw_at lw_m3 173 rfl) rfl
theorem q722 : (Jvm.Cond.fieldLink "FilterWaterworks$Works$Numbering" (1 : Nat) "FilterWaterworks$Works$Numbering" "this$0" "LFilterWaterworks$Works;") ∈ lw_all := lw_g (lw_at lw_m3 175 rfl) rfl
theorem q723 : (Jvm.Cond.laysFinal "FilterWaterworks$Works$Numbering" "FilterWaterworks$Works$Numbering" "numbers" "[I") ∈ lw_all := lw_g (lw_at lw_m3 176 rfl) rfl
theorem q724 : (Jvm.Cond.soleField "FilterWaterworks$Works$Numbering" "numbers") ∈ lw_all := lw_g (lw_at lw_m3 177 rfl) rfl
theorem q725 : (Jvm.Cond.laysFinal "FilterWaterworks$Works$Numbering" "FilterWaterworks$Works$Numbering" "lowest" "[I") ∈ lw_all := lw_g (lw_at lw_m3 178 rfl) rfl
theorem q726 : (Jvm.Cond.soleField "FilterWaterworks$Works$Numbering" "lowest") ∈ lw_all := lw_g (lw_at lw_m3 179 rfl) rfl
theorem q727 : (Jvm.Cond.lays "FilterWaterworks$Works$Numbering" "FilterWaterworks$Works$Numbering" "next" "I") ∈ lw_all := lw_g (lw_at lw_m3 180 rfl) rfl
theorem q728 : (Jvm.Cond.soleField "FilterWaterworks$Works$Numbering" "next") ∈ lw_all := lw_g (lw_at lw_m3 181 rfl) rfl
theorem q729 : (Jvm.Cond.lays "FilterWaterworks$Works$Numbering" "FilterWaterworks$Works$Numbering" "bridges" "I") ∈ lw_all := lw_g (lw_at lw_m3 182 rfl) rfl
theorem q730 : (Jvm.Cond.soleField "FilterWaterworks$Works$Numbering" "bridges") ∈ lw_all := lw_g (lw_at lw_m3 183 rfl) rfl
theorem q731 : (Jvm.Cond.laysFinal "FilterWaterworks$Works$Numbering" "FilterWaterworks$Works$Numbering" "this$0" "LFilterWaterworks$Works;") ∈ lw_all := lw_g (lw_at lw_m3 184 rfl) rfl
theorem q732 : (Jvm.Cond.soleField "FilterWaterworks$Works$Numbering" "this$0") ∈ lw_all := lw_g (lw_at lw_m3 185 rfl) rfl
theorem q733 : (Jvm.Cond.superclass "FilterWaterworks$Works$Numbering" "java/lang/Object") ∈ lw_all := lw_g (lw_at lw_m3 186 rfl) rfl
theorem q735 : (Jvm.Cond.instanceMethod ({ cls := "FilterWaterworks$Works$Numbering", name := "visit", desc := "(II)V" } : Jvm.MethodName)) ∈ lw_all := lw_g (lw_at lw_m3 188 rfl) rfl
theorem q736 : (Jvm.Cond.selects "FilterWaterworks$Works$Numbering" ({ cls := "FilterWaterworks$Works$Numbering", name := "visit", desc := "(II)V" } : Jvm.MethodName) ({ cls := "FilterWaterworks$Works$Numbering", name := "visit", desc := "(II)V" } : Jvm.MethodName)) ∈ lw_all := lw_g (lw_at lw_m3 189 rfl) rfl
theorem q737 : (Jvm.Cond.code ({ cls := "FilterWaterworks$Works$Numbering", name := "visit", desc := "(II)V" } : Jvm.MethodName) prog_15_method_2_code (4 : Nat) (Option.none : Option Jvm.ClassFile.FieldType)) ∈ lw_all := lw_g (lw_at lw_m3 190 rfl) rfl
theorem q738 : (Jvm.Cond.interfaceEntry "FilterWaterworks$Works$Numbering" (39 : Nat)) ∈ lw_tbl := lw_at lw_m3 191 rfl
theorem q739 : (Jvm.Cond.methodLink "FilterWaterworks$Works$Numbering" (39 : Nat) ({ cls := "java/util/List", name := "get", desc := "(I)Ljava/lang/Object;" } : Jvm.MethodName)) ∈ lw_all := lw_g (lw_at lw_m3 192 rfl) rfl
theorem q740 : (Jvm.Cond.classLink "FilterWaterworks$Works$Numbering" (43 : Nat) "FilterWaterworks$Pipe") ∈ lw_all := lw_g (lw_at lw_m3 193 rfl) rfl
theorem q741 : (Jvm.Cond.methodLink "FilterWaterworks$Works$Numbering" (45 : Nat) ({ cls := "FilterWaterworks$Pipe", name := "isOpen", desc := "()Z" } : Jvm.MethodName)) ∈ lw_all := lw_g (lw_at lw_m3 194 rfl) rfl
theorem q742 : (Jvm.Cond.methodLink "FilterWaterworks$Works$Numbering" (49 : Nat) ({ cls := "FilterWaterworks$Pipe", name := "touches", desc := "(I)Z" } : Jvm.MethodName)) ∈ lw_all := lw_g (lw_at lw_m3 195 rfl) rfl
theorem q743 : (Jvm.Cond.methodLink "FilterWaterworks$Works$Numbering" (53 : Nat) ({ cls := "FilterWaterworks$Works$Numbering", name := "follow", desc := "(II)V" } : Jvm.MethodName)) ∈ lw_all := lw_g (lw_at lw_m3 196 rfl) rfl
theorem q744 : (Jvm.Cond.privateMethod ({ cls := "FilterWaterworks$Works$Numbering", name := "follow", desc := "(II)V" } : Jvm.MethodName)) ∈ lw_tbl := lw_at lw_m3 197 rfl
theorem q745 : (Jvm.Cond.instanceMethod ({ cls := "FilterWaterworks$Works$Numbering", name := "follow", desc := "(II)V" } : Jvm.MethodName)) ∈ lw_all := lw_g (lw_at lw_m3 198 rfl) rfl
theorem q746 : (Jvm.Cond.code ({ cls := "FilterWaterworks$Works$Numbering", name := "follow", desc := "(II)V" } : Jvm.MethodName) prog_15_method_3_code (4 : Nat) (Option.none : Option Jvm.ClassFile.FieldType)) ∈ lw_all := lw_g (lw_at lw_m3 199 rfl) rfl
theorem q747 : (Jvm.Cond.methodLink "FilterWaterworks$Works$Numbering" (57 : Nat) ({ cls := "FilterWaterworks$Pipe", name := "otherEnd", desc := "(I)I" } : Jvm.MethodName)) ∈ lw_all := lw_g (lw_at lw_m3 200 rfl) rfl
theorem q748 : (Jvm.Cond.methodLink "FilterWaterworks$Works$Numbering" (61 : Nat) ({ cls := "java/lang/Math", name := "min", desc := "(II)I" } : Jvm.MethodName)) ∈ lw_all := lw_g (lw_at lw_m3 201 rfl) rfl
theorem q749 : (Jvm.Cond.methodLink "FilterWaterworks$Works$Numbering" (67 : Nat) ({ cls := "FilterWaterworks$Works$Numbering", name := "visit", desc := "(II)V" } : Jvm.MethodName)) ∈ lw_all := lw_g (lw_at lw_m3 202 rfl) rfl
theorem q1003 : (Jvm.Cond.selects "FilterWaterworks$Works$Numbering" ({ cls := "java/lang/Object", name := "getClass", desc := "()Ljava/lang/Class;" } : Jvm.MethodName) ({ cls := "java/lang/Object", name := "getClass", desc := "()Ljava/lang/Class;" } : Jvm.MethodName)) ∈ lw_all := lw_g (lw_at lw_m4 216 rfl) rfl
theorem q2075 : (Jvm.Cond.selects "FilterWaterworks$Works$Numbering" ({ cls := "java/lang/Object", name := "toString", desc := "()Ljava/lang/String;" } : Jvm.MethodName) ({ cls := "java/lang/Object", name := "toString", desc := "()Ljava/lang/String;" } : Jvm.MethodName)) ∈ lw_all := lw_g (lw_at lw_m9 88 rfl) rfl
theorem q2857 : (Jvm.Cond.castable "FilterWaterworks$Works$Numbering" "java/lang/Object") ∈ lw_tbl := lw_at lw_m12 150 rfl
theorem in_X10 : ∀ w ∈ wsX100, w ∈ lw_all := lw_in wsX100 [723, 725, 727, 729, 731] (by decide +kernel) (by decide +kernel)

/-! FilterWaterworks$Reach -/
set_option maxRecDepth 100000
def RX11 : String := "FilterWaterworks$Reach"
def TX11 : u_T := fun k => match k with
  | 0 => ("FilterWaterworks$Reach", "start", "I", true)
  | _ => ("FilterWaterworks$Reach", "bits", "[J", true)
def tyX11 : Nat → FieldType := fun k => match k with
  | 0 => .int
  | _ => .array .long
abbrev wsX110 : List Cond := u_ws RX11 TX11 2
theorem nmX11 : ∀ a, a < 2 → ∀ b, b < 2 → a ≠ b → (TX11 a).2.1 ≠ (TX11 b).2.1 := by decide +kernel
theorem tyX11_ok : ∀ k, k < 2 → parseFieldDescriptor (TX11 k).2.2.1 = some (tyX11 k) := by decide +kernel
abbrev cX11_init : ByteArray := prog_11_method_1_code
def yX11_init : MethodName := ⟨RX11, "<init>", "(II)V"⟩
def dkwX11_init_0 : List UInt8 := [42, 183, 0, 5, 42, 28, 181, 0, 11, 42, 7, 27, 104, 188, 11, 181, 0, 17, 177]
abbrev dktX11_init_0 : List UInt8 := dkwX11_init_0 ++ []
theorem dksX11_init_0 : cX11_init.data.toList.drop 0 = dktX11_init_0 := by decide +kernel
theorem dX11_init_0 : decode cX11_init 0 = .ok (.aload_n 0, 1) := dk_42 (dk_at dksX11_init_0 0 rfl rfl)
theorem dX11_init_1 : decode cX11_init 1 = .ok (.invokespecial 5, 3) := dk_183 0 5 (dk_at dksX11_init_0 1 rfl rfl)
theorem dX11_init_4 : decode cX11_init 4 = .ok (.aload_n 0, 1) := dk_42 (dk_at dksX11_init_0 4 rfl rfl)
theorem dX11_init_5 : decode cX11_init 5 = .ok (.iload_n 2, 1) := dk_28 (dk_at dksX11_init_0 5 rfl rfl)
theorem dX11_init_6 : decode cX11_init 6 = .ok (.putfield 11, 3) := dk_181 0 11 (dk_at dksX11_init_0 6 rfl rfl)
theorem dX11_init_9 : decode cX11_init 9 = .ok (.aload_n 0, 1) := dk_42 (dk_at dksX11_init_0 9 rfl rfl)
theorem dX11_init_10 : decode cX11_init 10 = .ok (.iconst 4, 1) := dk_7 (dk_at dksX11_init_0 10 rfl rfl)
theorem dX11_init_11 : decode cX11_init 11 = .ok (.iload_n 1, 1) := dk_27 (dk_at dksX11_init_0 11 rfl rfl)
theorem dX11_init_12 : decode cX11_init 12 = .ok (.imul, 1) := dk_104 (dk_at dksX11_init_0 12 rfl rfl)
theorem dX11_init_13 : decode cX11_init 13 = .ok (.newarray .long, 2) := dk_188_11 (dk_at dksX11_init_0 13 rfl rfl)
theorem dX11_init_15 : decode cX11_init 15 = .ok (.putfield 17, 3) := dk_181 0 17 (dk_at dksX11_init_0 15 rfl rfl)
theorem dX11_init_18 : decode cX11_init 18 = .ok (.return_, 1) := dk_177 (dk_at dksX11_init_0 18 rfl rfl)
abbrev cX11_states : ByteArray := prog_11_method_2_code
def yX11_states : MethodName := ⟨RX11, "states", "()I"⟩
def dkwX11_states_0 : List UInt8 := [42, 180, 0, 17, 190, 7, 108, 178, 0, 21, 42, 180, 0, 11, 46, 120, 172]
abbrev dktX11_states_0 : List UInt8 := dkwX11_states_0 ++ []
theorem dksX11_states_0 : cX11_states.data.toList.drop 0 = dktX11_states_0 := by decide +kernel
theorem dX11_states_0 : decode cX11_states 0 = .ok (.aload_n 0, 1) := dk_42 (dk_at dksX11_states_0 0 rfl rfl)
theorem dX11_states_1 : decode cX11_states 1 = .ok (.getfield 17, 3) := dk_180 0 17 (dk_at dksX11_states_0 1 rfl rfl)
theorem dX11_states_4 : decode cX11_states 4 = .ok (.arraylength, 1) := dk_190 (dk_at dksX11_states_0 4 rfl rfl)
theorem dX11_states_5 : decode cX11_states 5 = .ok (.iconst 4, 1) := dk_7 (dk_at dksX11_states_0 5 rfl rfl)
theorem dX11_states_6 : decode cX11_states 6 = .ok (.idiv, 1) := dk_108 (dk_at dksX11_states_0 6 rfl rfl)
theorem dX11_states_7 : decode cX11_states 7 = .ok (.getstatic 21, 3) := dk_178 0 21 (dk_at dksX11_states_0 7 rfl rfl)
theorem dX11_states_10 : decode cX11_states 10 = .ok (.aload_n 0, 1) := dk_42 (dk_at dksX11_states_0 10 rfl rfl)
theorem dX11_states_11 : decode cX11_states 11 = .ok (.getfield 11, 3) := dk_180 0 11 (dk_at dksX11_states_0 11 rfl rfl)
theorem dX11_states_14 : decode cX11_states 14 = .ok (.iaload, 1) := dk_46 (dk_at dksX11_states_0 14 rfl rfl)
theorem dX11_states_15 : decode cX11_states 15 = .ok (.ishl, 1) := dk_120 (dk_at dksX11_states_0 15 rfl rfl)
theorem dX11_states_16 : decode cX11_states 16 = .ok (.ireturn, 1) := dk_172 (dk_at dksX11_states_0 16 rfl rfl)
abbrev cX11_add : ByteArray := prog_11_method_4_code
def yX11_add : MethodName := ⟨RX11, "add", "(II)Z"⟩
def dkwX11_add_1 : List UInt8 := [16, 64, 108, 96, 92, 47, 10, 28, 121, 129, 80, 29, 172]
abbrev dktX11_add_1 : List UInt8 := dkwX11_add_1 ++ []
def dkwX11_add_0 : List UInt8 := [42, 27, 28, 182, 0, 25, 154, 0, 7, 4, 167, 0, 4, 3, 62, 42, 180, 0, 17, 7, 27, 104, 28]
abbrev dktX11_add_0 : List UInt8 := dkwX11_add_0 ++ dktX11_add_1
theorem dksX11_add_0 : cX11_add.data.toList.drop 0 = dktX11_add_0 := by decide +kernel
theorem dksX11_add_1 : cX11_add.data.toList.drop 23 = dktX11_add_1 := dk_seg dksX11_add_0 23 rfl rfl
theorem dX11_add_0 : decode cX11_add 0 = .ok (.aload_n 0, 1) := dk_42 (dk_at dksX11_add_0 0 rfl rfl)
theorem dX11_add_1 : decode cX11_add 1 = .ok (.iload_n 1, 1) := dk_27 (dk_at dksX11_add_0 1 rfl rfl)
theorem dX11_add_2 : decode cX11_add 2 = .ok (.iload_n 2, 1) := dk_28 (dk_at dksX11_add_0 2 rfl rfl)
theorem dX11_add_3 : decode cX11_add 3 = .ok (.invokevirtual 25, 3) := dk_182 0 25 (dk_at dksX11_add_0 3 rfl rfl)
theorem dX11_add_6 : decode cX11_add 6 = .ok (.ifCond .ne 7, 3) := dk_154 0 7 (dk_at dksX11_add_0 6 rfl rfl)
theorem dX11_add_9 : decode cX11_add 9 = .ok (.iconst 1, 1) := dk_4 (dk_at dksX11_add_0 9 rfl rfl)
theorem dX11_add_10 : decode cX11_add 10 = .ok (.goto 4, 3) := dk_167 0 4 (dk_at dksX11_add_0 10 rfl rfl)
theorem dX11_add_13 : decode cX11_add 13 = .ok (.iconst 0, 1) := dk_3 (dk_at dksX11_add_0 13 rfl rfl)
theorem dX11_add_14 : decode cX11_add 14 = .ok (.istore_n 3, 1) := dk_62 (dk_at dksX11_add_0 14 rfl rfl)
theorem dX11_add_15 : decode cX11_add 15 = .ok (.aload_n 0, 1) := dk_42 (dk_at dksX11_add_0 15 rfl rfl)
theorem dX11_add_16 : decode cX11_add 16 = .ok (.getfield 17, 3) := dk_180 0 17 (dk_at dksX11_add_0 16 rfl rfl)
theorem dX11_add_19 : decode cX11_add 19 = .ok (.iconst 4, 1) := dk_7 (dk_at dksX11_add_0 19 rfl rfl)
theorem dX11_add_20 : decode cX11_add 20 = .ok (.iload_n 1, 1) := dk_27 (dk_at dksX11_add_0 20 rfl rfl)
theorem dX11_add_21 : decode cX11_add 21 = .ok (.imul, 1) := dk_104 (dk_at dksX11_add_0 21 rfl rfl)
theorem dX11_add_22 : decode cX11_add 22 = .ok (.iload_n 2, 1) := dk_28 (dk_at dksX11_add_0 22 rfl rfl)
theorem dX11_add_23 : decode cX11_add 23 = .ok (.bipush 64, 2) := dk_16 64 (dk_at dksX11_add_1 0 rfl rfl)
theorem dX11_add_25 : decode cX11_add 25 = .ok (.idiv, 1) := dk_108 (dk_at dksX11_add_1 2 rfl rfl)
theorem dX11_add_26 : decode cX11_add 26 = .ok (.iadd, 1) := dk_96 (dk_at dksX11_add_1 3 rfl rfl)
theorem dX11_add_27 : decode cX11_add 27 = .ok (.dup2, 1) := dk_92 (dk_at dksX11_add_1 4 rfl rfl)
theorem dX11_add_28 : decode cX11_add 28 = .ok (.laload, 1) := dk_47 (dk_at dksX11_add_1 5 rfl rfl)
theorem dX11_add_29 : decode cX11_add 29 = .ok (.lconst 1, 1) := dk_10 (dk_at dksX11_add_1 6 rfl rfl)
theorem dX11_add_30 : decode cX11_add 30 = .ok (.iload_n 2, 1) := dk_28 (dk_at dksX11_add_1 7 rfl rfl)
theorem dX11_add_31 : decode cX11_add 31 = .ok (.lshl, 1) := dk_121 (dk_at dksX11_add_1 8 rfl rfl)
theorem dX11_add_32 : decode cX11_add 32 = .ok (.lor, 1) := dk_129 (dk_at dksX11_add_1 9 rfl rfl)
theorem dX11_add_33 : decode cX11_add 33 = .ok (.lastore, 1) := dk_80 (dk_at dksX11_add_1 10 rfl rfl)
theorem dX11_add_34 : decode cX11_add 34 = .ok (.iload_n 3, 1) := dk_29 (dk_at dksX11_add_1 11 rfl rfl)
theorem dX11_add_35 : decode cX11_add 35 = .ok (.ireturn, 1) := dk_172 (dk_at dksX11_add_1 12 rfl rfl)
abbrev cX11_has : ByteArray := prog_11_method_3_code
def yX11_has : MethodName := ⟨RX11, "has", "(II)Z"⟩
def dkwX11_has_1 : List UInt8 := [167, 0, 4, 3, 172]
abbrev dktX11_has_1 : List UInt8 := dkwX11_has_1 ++ []
def dkwX11_has_0 : List UInt8 := [42, 180, 0, 17, 7, 27, 104, 28, 16, 64, 108, 96, 47, 28, 125, 10, 127, 10, 148, 154, 0, 7, 4]
abbrev dktX11_has_0 : List UInt8 := dkwX11_has_0 ++ dktX11_has_1
theorem dksX11_has_0 : cX11_has.data.toList.drop 0 = dktX11_has_0 := by decide +kernel
theorem dksX11_has_1 : cX11_has.data.toList.drop 23 = dktX11_has_1 := dk_seg dksX11_has_0 23 rfl rfl
theorem dX11_has_0 : decode cX11_has 0 = .ok (.aload_n 0, 1) := dk_42 (dk_at dksX11_has_0 0 rfl rfl)
theorem dX11_has_1 : decode cX11_has 1 = .ok (.getfield 17, 3) := dk_180 0 17 (dk_at dksX11_has_0 1 rfl rfl)
theorem dX11_has_4 : decode cX11_has 4 = .ok (.iconst 4, 1) := dk_7 (dk_at dksX11_has_0 4 rfl rfl)
theorem dX11_has_5 : decode cX11_has 5 = .ok (.iload_n 1, 1) := dk_27 (dk_at dksX11_has_0 5 rfl rfl)
theorem dX11_has_6 : decode cX11_has 6 = .ok (.imul, 1) := dk_104 (dk_at dksX11_has_0 6 rfl rfl)
theorem dX11_has_7 : decode cX11_has 7 = .ok (.iload_n 2, 1) := dk_28 (dk_at dksX11_has_0 7 rfl rfl)
theorem dX11_has_8 : decode cX11_has 8 = .ok (.bipush 64, 2) := dk_16 64 (dk_at dksX11_has_0 8 rfl rfl)
theorem dX11_has_10 : decode cX11_has 10 = .ok (.idiv, 1) := dk_108 (dk_at dksX11_has_0 10 rfl rfl)
theorem dX11_has_11 : decode cX11_has 11 = .ok (.iadd, 1) := dk_96 (dk_at dksX11_has_0 11 rfl rfl)
theorem dX11_has_12 : decode cX11_has 12 = .ok (.laload, 1) := dk_47 (dk_at dksX11_has_0 12 rfl rfl)
theorem dX11_has_13 : decode cX11_has 13 = .ok (.iload_n 2, 1) := dk_28 (dk_at dksX11_has_0 13 rfl rfl)
theorem dX11_has_14 : decode cX11_has 14 = .ok (.lushr, 1) := dk_125 (dk_at dksX11_has_0 14 rfl rfl)
theorem dX11_has_15 : decode cX11_has 15 = .ok (.lconst 1, 1) := dk_10 (dk_at dksX11_has_0 15 rfl rfl)
theorem dX11_has_16 : decode cX11_has 16 = .ok (.land, 1) := dk_127 (dk_at dksX11_has_0 16 rfl rfl)
theorem dX11_has_17 : decode cX11_has 17 = .ok (.lconst 1, 1) := dk_10 (dk_at dksX11_has_0 17 rfl rfl)
theorem dX11_has_18 : decode cX11_has 18 = .ok (.lcmp, 1) := dk_148 (dk_at dksX11_has_0 18 rfl rfl)
theorem dX11_has_19 : decode cX11_has 19 = .ok (.ifCond .ne 7, 3) := dk_154 0 7 (dk_at dksX11_has_0 19 rfl rfl)
theorem dX11_has_22 : decode cX11_has 22 = .ok (.iconst 1, 1) := dk_4 (dk_at dksX11_has_0 22 rfl rfl)
theorem dX11_has_23 : decode cX11_has 23 = .ok (.goto 4, 3) := dk_167 0 4 (dk_at dksX11_has_1 0 rfl rfl)
theorem dX11_has_26 : decode cX11_has 26 = .ok (.iconst 0, 1) := dk_3 (dk_at dksX11_has_1 3 rfl rfl)
theorem dX11_has_27 : decode cX11_has 27 = .ok (.ireturn, 1) := dk_172 (dk_at dksX11_has_1 4 rfl rfl)
abbrev cX11_fewest : ByteArray := prog_11_method_5_code
def yX11_fewest : MethodName := ⟨RX11, "fewest", "(I)I"⟩
def dkwX11_fewest_2 : List UInt8 := [178, 0, 21, 29, 46, 167, 0, 4, 28, 61, 132, 3, 1, 167, 255, 200, 28, 172]
abbrev dktX11_fewest_2 : List UInt8 := dkwX11_fewest_2 ++ []
def dkwX11_fewest_1 : List UInt8 := [162, 0, 7, 4, 167, 0, 4, 3, 54, 4, 42, 27, 29, 182, 0, 25, 153, 0, 16, 21, 4, 153, 0, 11]
abbrev dktX11_fewest_1 : List UInt8 := dkwX11_fewest_1 ++ dktX11_fewest_2
def dkwX11_fewest_0 : List UInt8 := [2, 61, 3, 62, 29, 42, 180, 0, 11, 163, 0, 54, 28, 2, 159, 0, 12, 178, 0, 21, 29, 46, 28]
abbrev dktX11_fewest_0 : List UInt8 := dkwX11_fewest_0 ++ dktX11_fewest_1
theorem dksX11_fewest_0 : cX11_fewest.data.toList.drop 0 = dktX11_fewest_0 := by decide +kernel
theorem dksX11_fewest_1 : cX11_fewest.data.toList.drop 23 = dktX11_fewest_1 := dk_seg dksX11_fewest_0 23 rfl rfl
theorem dksX11_fewest_2 : cX11_fewest.data.toList.drop 47 = dktX11_fewest_2 := dk_seg dksX11_fewest_1 24 rfl rfl
theorem dX11_fewest_0 : decode cX11_fewest 0 = .ok (.iconst (-1), 1) := dk_2 (dk_at dksX11_fewest_0 0 rfl rfl)
theorem dX11_fewest_1 : decode cX11_fewest 1 = .ok (.istore_n 2, 1) := dk_61 (dk_at dksX11_fewest_0 1 rfl rfl)
theorem dX11_fewest_2 : decode cX11_fewest 2 = .ok (.iconst 0, 1) := dk_3 (dk_at dksX11_fewest_0 2 rfl rfl)
theorem dX11_fewest_3 : decode cX11_fewest 3 = .ok (.istore_n 3, 1) := dk_62 (dk_at dksX11_fewest_0 3 rfl rfl)
theorem dX11_fewest_4 : decode cX11_fewest 4 = .ok (.iload_n 3, 1) := dk_29 (dk_at dksX11_fewest_0 4 rfl rfl)
theorem dX11_fewest_5 : decode cX11_fewest 5 = .ok (.aload_n 0, 1) := dk_42 (dk_at dksX11_fewest_0 5 rfl rfl)
theorem dX11_fewest_6 : decode cX11_fewest 6 = .ok (.getfield 11, 3) := dk_180 0 11 (dk_at dksX11_fewest_0 6 rfl rfl)
theorem dX11_fewest_9 : decode cX11_fewest 9 = .ok (.if_icmp .gt 54, 3) := dk_163 0 54 (dk_at dksX11_fewest_0 9 rfl rfl)
theorem dX11_fewest_12 : decode cX11_fewest 12 = .ok (.iload_n 2, 1) := dk_28 (dk_at dksX11_fewest_0 12 rfl rfl)
theorem dX11_fewest_13 : decode cX11_fewest 13 = .ok (.iconst (-1), 1) := dk_2 (dk_at dksX11_fewest_0 13 rfl rfl)
theorem dX11_fewest_14 : decode cX11_fewest 14 = .ok (.if_icmp .eq 12, 3) := dk_159 0 12 (dk_at dksX11_fewest_0 14 rfl rfl)
theorem dX11_fewest_17 : decode cX11_fewest 17 = .ok (.getstatic 21, 3) := dk_178 0 21 (dk_at dksX11_fewest_0 17 rfl rfl)
theorem dX11_fewest_20 : decode cX11_fewest 20 = .ok (.iload_n 3, 1) := dk_29 (dk_at dksX11_fewest_0 20 rfl rfl)
theorem dX11_fewest_21 : decode cX11_fewest 21 = .ok (.iaload, 1) := dk_46 (dk_at dksX11_fewest_0 21 rfl rfl)
theorem dX11_fewest_22 : decode cX11_fewest 22 = .ok (.iload_n 2, 1) := dk_28 (dk_at dksX11_fewest_0 22 rfl rfl)
theorem dX11_fewest_23 : decode cX11_fewest 23 = .ok (.if_icmp .ge 7, 3) := dk_162 0 7 (dk_at dksX11_fewest_1 0 rfl rfl)
theorem dX11_fewest_26 : decode cX11_fewest 26 = .ok (.iconst 1, 1) := dk_4 (dk_at dksX11_fewest_1 3 rfl rfl)
theorem dX11_fewest_27 : decode cX11_fewest 27 = .ok (.goto 4, 3) := dk_167 0 4 (dk_at dksX11_fewest_1 4 rfl rfl)
theorem dX11_fewest_30 : decode cX11_fewest 30 = .ok (.iconst 0, 1) := dk_3 (dk_at dksX11_fewest_1 7 rfl rfl)
theorem dX11_fewest_31 : decode cX11_fewest 31 = .ok (.istore 4, 2) := dk_54 4 (dk_at dksX11_fewest_1 8 rfl rfl)
theorem dX11_fewest_33 : decode cX11_fewest 33 = .ok (.aload_n 0, 1) := dk_42 (dk_at dksX11_fewest_1 10 rfl rfl)
theorem dX11_fewest_34 : decode cX11_fewest 34 = .ok (.iload_n 1, 1) := dk_27 (dk_at dksX11_fewest_1 11 rfl rfl)
theorem dX11_fewest_35 : decode cX11_fewest 35 = .ok (.iload_n 3, 1) := dk_29 (dk_at dksX11_fewest_1 12 rfl rfl)
theorem dX11_fewest_36 : decode cX11_fewest 36 = .ok (.invokevirtual 25, 3) := dk_182 0 25 (dk_at dksX11_fewest_1 13 rfl rfl)
theorem dX11_fewest_39 : decode cX11_fewest 39 = .ok (.ifCond .eq 16, 3) := dk_153 0 16 (dk_at dksX11_fewest_1 16 rfl rfl)
theorem dX11_fewest_42 : decode cX11_fewest 42 = .ok (.iload 4, 2) := dk_21 4 (dk_at dksX11_fewest_1 19 rfl rfl)
theorem dX11_fewest_44 : decode cX11_fewest 44 = .ok (.ifCond .eq 11, 3) := dk_153 0 11 (dk_at dksX11_fewest_1 21 rfl rfl)
theorem dX11_fewest_47 : decode cX11_fewest 47 = .ok (.getstatic 21, 3) := dk_178 0 21 (dk_at dksX11_fewest_2 0 rfl rfl)
theorem dX11_fewest_50 : decode cX11_fewest 50 = .ok (.iload_n 3, 1) := dk_29 (dk_at dksX11_fewest_2 3 rfl rfl)
theorem dX11_fewest_51 : decode cX11_fewest 51 = .ok (.iaload, 1) := dk_46 (dk_at dksX11_fewest_2 4 rfl rfl)
theorem dX11_fewest_52 : decode cX11_fewest 52 = .ok (.goto 4, 3) := dk_167 0 4 (dk_at dksX11_fewest_2 5 rfl rfl)
theorem dX11_fewest_55 : decode cX11_fewest 55 = .ok (.iload_n 2, 1) := dk_28 (dk_at dksX11_fewest_2 8 rfl rfl)
theorem dX11_fewest_56 : decode cX11_fewest 56 = .ok (.istore_n 2, 1) := dk_61 (dk_at dksX11_fewest_2 9 rfl rfl)
theorem dX11_fewest_57 : decode cX11_fewest 57 = .ok (.iinc 3 1, 3) := dk_132 3 1 (dk_at dksX11_fewest_2 10 rfl rfl)
theorem dX11_fewest_60 : decode cX11_fewest 60 = .ok (.goto (-56), 3) := dk_167 255 200 (dk_at dksX11_fewest_2 13 rfl rfl)
theorem dX11_fewest_63 : decode cX11_fewest 63 = .ok (.iload_n 2, 1) := dk_28 (dk_at dksX11_fewest_2 16 rfl rfl)
theorem dX11_fewest_64 : decode cX11_fewest 64 = .ok (.ireturn, 1) := dk_172 (dk_at dksX11_fewest_2 17 rfl rfl)
theorem q109 : (Jvm.Cond.initialized "FilterWaterworks$Reach") ∈ lw_all := lw_g (lw_at lw_m1 42 rfl) rfl
theorem q862 : (Jvm.Cond.instantiable "FilterWaterworks$Reach" (2 : Nat)) ∈ lw_all := lw_g (lw_at lw_m4 75 rfl) rfl
theorem q864 : (Jvm.Cond.instanceMethod ({ cls := "FilterWaterworks$Reach", name := "<init>", desc := "(II)V" } : Jvm.MethodName)) ∈ lw_all := lw_g (lw_at lw_m4 77 rfl) rfl
theorem q865 : (Jvm.Cond.code ({ cls := "FilterWaterworks$Reach", name := "<init>", desc := "(II)V" } : Jvm.MethodName) prog_11_method_1_code (3 : Nat) (Option.none : Option Jvm.ClassFile.FieldType)) ∈ lw_all := lw_g (lw_at lw_m4 78 rfl) rfl
theorem q866 : (Jvm.Cond.methodLink "FilterWaterworks$Reach" (5 : Nat) ({ cls := "java/lang/Object", name := "<init>", desc := "()V" } : Jvm.MethodName)) ∈ lw_all := lw_g (lw_at lw_m4 79 rfl) rfl
theorem q867 : (Jvm.Cond.fieldLink "FilterWaterworks$Reach" (11 : Nat) "FilterWaterworks$Reach" "start" "I") ∈ lw_all := lw_g (lw_at lw_m4 80 rfl) rfl
theorem q869 : (Jvm.Cond.fieldLink "FilterWaterworks$Reach" (17 : Nat) "FilterWaterworks$Reach" "bits" "[J") ∈ lw_all := lw_g (lw_at lw_m4 82 rfl) rfl
theorem q870 : (Jvm.Cond.laysFinal "FilterWaterworks$Reach" "FilterWaterworks$Reach" "start" "I") ∈ lw_all := lw_g (lw_at lw_m4 83 rfl) rfl
theorem q871 : (Jvm.Cond.soleField "FilterWaterworks$Reach" "start") ∈ lw_all := lw_g (lw_at lw_m4 84 rfl) rfl
theorem q872 : (Jvm.Cond.laysFinal "FilterWaterworks$Reach" "FilterWaterworks$Reach" "bits" "[J") ∈ lw_all := lw_g (lw_at lw_m4 85 rfl) rfl
theorem q873 : (Jvm.Cond.soleField "FilterWaterworks$Reach" "bits") ∈ lw_all := lw_g (lw_at lw_m4 86 rfl) rfl
theorem q874 : (Jvm.Cond.superclass "FilterWaterworks$Reach" "java/lang/Object") ∈ lw_all := lw_g (lw_at lw_m4 87 rfl) rfl
theorem q877 : (Jvm.Cond.instanceMethod ({ cls := "FilterWaterworks$Reach", name := "states", desc := "()I" } : Jvm.MethodName)) ∈ lw_all := lw_g (lw_at lw_m4 90 rfl) rfl
theorem q878 : (Jvm.Cond.selects "FilterWaterworks$Reach" ({ cls := "FilterWaterworks$Reach", name := "states", desc := "()I" } : Jvm.MethodName) ({ cls := "FilterWaterworks$Reach", name := "states", desc := "()I" } : Jvm.MethodName)) ∈ lw_all := lw_g (lw_at lw_m4 91 rfl) rfl
theorem q879 : (Jvm.Cond.code ({ cls := "FilterWaterworks$Reach", name := "states", desc := "()I" } : Jvm.MethodName) prog_11_method_2_code (1 : Nat) (Option.some Jvm.ClassFile.FieldType.int)) ∈ lw_all := lw_g (lw_at lw_m4 92 rfl) rfl
theorem q880 : (Jvm.Cond.fieldLinkNest "FilterWaterworks$Reach" (21 : Nat) "FilterWaterworks" "COUNTS" "[I" "FilterWaterworks") ∈ lw_tbl := lw_at lw_m4 93 rfl
theorem q883 : (Jvm.Cond.instanceMethod ({ cls := "FilterWaterworks$Reach", name := "add", desc := "(II)Z" } : Jvm.MethodName)) ∈ lw_all := lw_g (lw_at lw_m4 96 rfl) rfl
theorem q884 : (Jvm.Cond.selects "FilterWaterworks$Reach" ({ cls := "FilterWaterworks$Reach", name := "add", desc := "(II)Z" } : Jvm.MethodName) ({ cls := "FilterWaterworks$Reach", name := "add", desc := "(II)Z" } : Jvm.MethodName)) ∈ lw_all := lw_g (lw_at lw_m4 97 rfl) rfl
theorem q885 : (Jvm.Cond.code ({ cls := "FilterWaterworks$Reach", name := "add", desc := "(II)Z" } : Jvm.MethodName) prog_11_method_4_code (4 : Nat) (Option.some Jvm.ClassFile.FieldType.boolean)) ∈ lw_all := lw_g (lw_at lw_m4 98 rfl) rfl
theorem q886 : (Jvm.Cond.methodLink "FilterWaterworks$Reach" (25 : Nat) ({ cls := "FilterWaterworks$Reach", name := "has", desc := "(II)Z" } : Jvm.MethodName)) ∈ lw_all := lw_g (lw_at lw_m4 99 rfl) rfl
theorem q887 : (Jvm.Cond.instanceMethod ({ cls := "FilterWaterworks$Reach", name := "has", desc := "(II)Z" } : Jvm.MethodName)) ∈ lw_all := lw_g (lw_at lw_m4 100 rfl) rfl
theorem q888 : (Jvm.Cond.selects "FilterWaterworks$Reach" ({ cls := "FilterWaterworks$Reach", name := "has", desc := "(II)Z" } : Jvm.MethodName) ({ cls := "FilterWaterworks$Reach", name := "has", desc := "(II)Z" } : Jvm.MethodName)) ∈ lw_all := lw_g (lw_at lw_m4 101 rfl) rfl
theorem q889 : (Jvm.Cond.code ({ cls := "FilterWaterworks$Reach", name := "has", desc := "(II)Z" } : Jvm.MethodName) prog_11_method_3_code (3 : Nat) (Option.some Jvm.ClassFile.FieldType.boolean)) ∈ lw_all := lw_g (lw_at lw_m4 102 rfl) rfl
theorem q907 : (Jvm.Cond.instanceMethod ({ cls := "FilterWaterworks$Reach", name := "fewest", desc := "(I)I" } : Jvm.MethodName)) ∈ lw_all := lw_g (lw_at lw_m4 120 rfl) rfl
theorem q908 : (Jvm.Cond.selects "FilterWaterworks$Reach" ({ cls := "FilterWaterworks$Reach", name := "fewest", desc := "(I)I" } : Jvm.MethodName) ({ cls := "FilterWaterworks$Reach", name := "fewest", desc := "(I)I" } : Jvm.MethodName)) ∈ lw_all := lw_g (lw_at lw_m4 121 rfl) rfl
theorem q909 : (Jvm.Cond.code ({ cls := "FilterWaterworks$Reach", name := "fewest", desc := "(I)I" } : Jvm.MethodName) prog_11_method_5_code (5 : Nat) (Option.some Jvm.ClassFile.FieldType.int)) ∈ lw_all := lw_g (lw_at lw_m4 122 rfl) rfl
theorem q999 : (Jvm.Cond.selects "FilterWaterworks$Reach" ({ cls := "java/lang/Object", name := "getClass", desc := "()Ljava/lang/Class;" } : Jvm.MethodName) ({ cls := "java/lang/Object", name := "getClass", desc := "()Ljava/lang/Class;" } : Jvm.MethodName)) ∈ lw_all := lw_g (lw_at lw_m4 212 rfl) rfl
theorem q2071 : (Jvm.Cond.selects "FilterWaterworks$Reach" ({ cls := "java/lang/Object", name := "toString", desc := "()Ljava/lang/String;" } : Jvm.MethodName) ({ cls := "java/lang/Object", name := "toString", desc := "()Ljava/lang/String;" } : Jvm.MethodName)) ∈ lw_all := lw_g (lw_at lw_m9 84 rfl) rfl
theorem q2858 : (Jvm.Cond.castable "FilterWaterworks$Reach" "java/lang/Object") ∈ lw_tbl := lw_at lw_m12 151 rfl
theorem in_X11 : ∀ w ∈ wsX110, w ∈ lw_all := lw_in wsX110 [870, 872] (by decide +kernel) (by decide +kernel)

/-! FilterWaterworks$Parser -/
set_option maxRecDepth 100000
def RX12 : String := "FilterWaterworks$Parser"
def TX12 : u_T := fun k => match k with
  | 0 => ("FilterWaterworks$Parser", "text", "Ljava/lang/String;", true)
  | _ => ("FilterWaterworks$Parser", "at", "I", false)
def tyX12 : Nat → FieldType := fun k => match k with
  | 0 => .object "java/lang/String"
  | _ => .int
abbrev wsX120 : List Cond := u_ws RX12 TX12 2
theorem nmX12 : ∀ a, a < 2 → ∀ b, b < 2 → a ≠ b → (TX12 a).2.1 ≠ (TX12 b).2.1 := by decide +kernel
theorem tyX12_ok : ∀ k, k < 2 → parseFieldDescriptor (TX12 k).2.2.1 = some (tyX12 k) := by decide +kernel
abbrev cX12_init : ByteArray := prog_9_method_1_code
def yX12_init : MethodName := ⟨RX12, "<init>", "(Ljava/lang/String;)V"⟩
def dkwX12_init_0 : List UInt8 := [42, 183, 0, 1, 42, 43, 181, 0, 7, 177]
abbrev dktX12_init_0 : List UInt8 := dkwX12_init_0 ++ []
theorem dksX12_init_0 : cX12_init.data.toList.drop 0 = dktX12_init_0 := by decide +kernel
theorem dX12_init_0 : decode cX12_init 0 = .ok (.aload_n 0, 1) := dk_42 (dk_at dksX12_init_0 0 rfl rfl)
theorem dX12_init_1 : decode cX12_init 1 = .ok (.invokespecial 1, 3) := dk_183 0 1 (dk_at dksX12_init_0 1 rfl rfl)
theorem dX12_init_4 : decode cX12_init 4 = .ok (.aload_n 0, 1) := dk_42 (dk_at dksX12_init_0 4 rfl rfl)
theorem dX12_init_5 : decode cX12_init 5 = .ok (.aload_n 1, 1) := dk_43 (dk_at dksX12_init_0 5 rfl rfl)
theorem dX12_init_6 : decode cX12_init 6 = .ok (.putfield 7, 3) := dk_181 0 7 (dk_at dksX12_init_0 6 rfl rfl)
theorem dX12_init_9 : decode cX12_init 9 = .ok (.return_, 1) := dk_177 (dk_at dksX12_init_0 9 rfl rfl)
abbrev cX12_commands : ByteArray := prog_9_method_12_code
def yX12_commands : MethodName := ⟨RX12, "commands", "()Ljava/util/List;"⟩
def dkwX12_commands_2 : List UInt8 := [185, 0, 120, 2, 0, 87, 167, 255, 225, 43, 176]
abbrev dktX12_commands_2 : List UInt8 := dkwX12_commands_2 ++ []
def dkwX12_commands_1 : List UInt8 := [180, 0, 7, 182, 0, 17, 162, 0, 23, 42, 16, 59, 182, 0, 44, 43, 42, 182, 0, 116]
abbrev dktX12_commands_1 : List UInt8 := dkwX12_commands_1 ++ dktX12_commands_2
def dkwX12_commands_0 : List UInt8 := [187, 0, 113, 89, 183, 0, 115, 76, 43, 42, 182, 0, 116, 185, 0, 120, 2, 0, 87, 42, 180, 0, 13, 42]
abbrev dktX12_commands_0 : List UInt8 := dkwX12_commands_0 ++ dktX12_commands_1
theorem dksX12_commands_0 : cX12_commands.data.toList.drop 0 = dktX12_commands_0 := by decide +kernel
theorem dksX12_commands_1 : cX12_commands.data.toList.drop 24 = dktX12_commands_1 := dk_seg dksX12_commands_0 24 rfl rfl
theorem dksX12_commands_2 : cX12_commands.data.toList.drop 44 = dktX12_commands_2 := dk_seg dksX12_commands_1 20 rfl rfl
theorem dX12_commands_0 : decode cX12_commands 0 = .ok (.new 113, 3) := dk_187 0 113 (dk_at dksX12_commands_0 0 rfl rfl)
theorem dX12_commands_3 : decode cX12_commands 3 = .ok (.dup, 1) := dk_89 (dk_at dksX12_commands_0 3 rfl rfl)
theorem dX12_commands_4 : decode cX12_commands 4 = .ok (.invokespecial 115, 3) := dk_183 0 115 (dk_at dksX12_commands_0 4 rfl rfl)
theorem dX12_commands_7 : decode cX12_commands 7 = .ok (.astore_n 1, 1) := dk_76 (dk_at dksX12_commands_0 7 rfl rfl)
theorem dX12_commands_8 : decode cX12_commands 8 = .ok (.aload_n 1, 1) := dk_43 (dk_at dksX12_commands_0 8 rfl rfl)
theorem dX12_commands_9 : decode cX12_commands 9 = .ok (.aload_n 0, 1) := dk_42 (dk_at dksX12_commands_0 9 rfl rfl)
theorem dX12_commands_10 : decode cX12_commands 10 = .ok (.invokevirtual 116, 3) := dk_182 0 116 (dk_at dksX12_commands_0 10 rfl rfl)
theorem dX12_commands_13 : decode cX12_commands 13 = .ok (.invokeinterface 120 2, 5) := by decide +kernel
theorem dX12_commands_18 : decode cX12_commands 18 = .ok (.pop, 1) := dk_87 (dk_at dksX12_commands_0 18 rfl rfl)
theorem dX12_commands_19 : decode cX12_commands 19 = .ok (.aload_n 0, 1) := dk_42 (dk_at dksX12_commands_0 19 rfl rfl)
theorem dX12_commands_20 : decode cX12_commands 20 = .ok (.getfield 13, 3) := dk_180 0 13 (dk_at dksX12_commands_0 20 rfl rfl)
theorem dX12_commands_23 : decode cX12_commands 23 = .ok (.aload_n 0, 1) := dk_42 (dk_at dksX12_commands_0 23 rfl rfl)
theorem dX12_commands_24 : decode cX12_commands 24 = .ok (.getfield 7, 3) := dk_180 0 7 (dk_at dksX12_commands_1 0 rfl rfl)
theorem dX12_commands_27 : decode cX12_commands 27 = .ok (.invokevirtual 17, 3) := dk_182 0 17 (dk_at dksX12_commands_1 3 rfl rfl)
theorem dX12_commands_30 : decode cX12_commands 30 = .ok (.if_icmp .ge 23, 3) := dk_162 0 23 (dk_at dksX12_commands_1 6 rfl rfl)
theorem dX12_commands_33 : decode cX12_commands 33 = .ok (.aload_n 0, 1) := dk_42 (dk_at dksX12_commands_1 9 rfl rfl)
theorem dX12_commands_34 : decode cX12_commands 34 = .ok (.bipush 59, 2) := dk_16 59 (dk_at dksX12_commands_1 10 rfl rfl)
theorem dX12_commands_36 : decode cX12_commands 36 = .ok (.invokevirtual 44, 3) := dk_182 0 44 (dk_at dksX12_commands_1 12 rfl rfl)
theorem dX12_commands_39 : decode cX12_commands 39 = .ok (.aload_n 1, 1) := dk_43 (dk_at dksX12_commands_1 15 rfl rfl)
theorem dX12_commands_40 : decode cX12_commands 40 = .ok (.aload_n 0, 1) := dk_42 (dk_at dksX12_commands_1 16 rfl rfl)
theorem dX12_commands_41 : decode cX12_commands 41 = .ok (.invokevirtual 116, 3) := dk_182 0 116 (dk_at dksX12_commands_1 17 rfl rfl)
theorem dX12_commands_44 : decode cX12_commands 44 = .ok (.invokeinterface 120 2, 5) := by decide +kernel
theorem dX12_commands_49 : decode cX12_commands 49 = .ok (.pop, 1) := dk_87 (dk_at dksX12_commands_2 5 rfl rfl)
theorem dX12_commands_50 : decode cX12_commands 50 = .ok (.goto (-31), 3) := dk_167 255 225 (dk_at dksX12_commands_2 6 rfl rfl)
theorem dX12_commands_53 : decode cX12_commands 53 = .ok (.aload_n 1, 1) := dk_43 (dk_at dksX12_commands_2 9 rfl rfl)
theorem dX12_commands_54 : decode cX12_commands 54 = .ok (.areturn, 1) := dk_176 (dk_at dksX12_commands_2 10 rfl rfl)
abbrev cX12_command : ByteArray := prog_9_method_11_code
def yX12_command : MethodName := ⟨RX12, "command", "()LFilterWaterworks$Command;"⟩
def dkwX12_command_15 : List UInt8 := [183, 0, 107, 176]
abbrev dktX12_command_15 : List UInt8 := dkwX12_command_15 ++ []
def dkwX12_command_14 : List UInt8 := [167, 0, 4, 4, 79, 183, 0, 107, 176, 187, 0, 102, 89, 43, 4, 188, 10, 89, 3, 42, 182, 0, 110, 79]
abbrev dktX12_command_14 : List UInt8 := dkwX12_command_14 ++ dktX12_command_15
def dkwX12_command_13 : List UInt8 := [187, 0, 102, 89, 43, 4, 188, 10, 89, 3, 42, 182, 0, 32, 16, 32, 160, 0, 10, 42, 182, 0, 110]
abbrev dktX12_command_13 : List UInt8 := dkwX12_command_13 ++ dktX12_command_14
def dkwX12_command_12 : List UInt8 := [187, 0, 102, 89, 43, 5, 188, 10, 89, 3, 21, 9, 79, 89, 4, 42, 182, 0, 51, 79, 183, 0, 107, 176]
abbrev dktX12_command_12 : List UInt8 := dkwX12_command_12 ++ dktX12_command_13
def dkwX12_command_11 : List UInt8 := [89, 3, 21, 8, 79, 89, 4, 42, 182, 0, 110, 79, 183, 0, 107, 176, 42, 182, 0, 110, 54, 9]
abbrev dktX12_command_11 : List UInt8 := dkwX12_command_11 ++ dktX12_command_12
def dkwX12_command_10 : List UInt8 := [5, 42, 182, 0, 104, 79, 183, 0, 107, 176, 42, 182, 0, 51, 54, 8, 187, 0, 102, 89, 43, 5, 188, 10]
abbrev dktX12_command_10 : List UInt8 := dkwX12_command_10 ++ dktX12_command_11
def dkwX12_command_9 : List UInt8 := [182, 0, 110, 54, 7, 187, 0, 102, 89, 43, 6, 188, 10, 89, 3, 21, 6, 79, 89, 4, 21, 7, 79, 89]
abbrev dktX12_command_9 : List UInt8 := dkwX12_command_9 ++ dktX12_command_10
def dkwX12_command_8 : List UInt8 := [79, 89, 4, 21, 5, 79, 89, 5, 42, 182, 0, 104, 79, 183, 0, 107, 176, 42, 182, 0, 51, 54, 6, 42]
abbrev dktX12_command_8 : List UInt8 := dkwX12_command_8 ++ dktX12_command_9
def dkwX12_command_7 : List UInt8 := [42, 182, 0, 51, 54, 4, 42, 182, 0, 48, 54, 5, 187, 0, 102, 89, 43, 6, 188, 10, 89, 3, 21, 4]
abbrev dktX12_command_7 : List UInt8 := dkwX12_command_7 ++ dktX12_command_8
def dkwX12_command_6 : List UInt8 := [170, 0, 0, 0, 0, 212, 0, 0, 0, 0, 0, 0, 0, 5, 0, 0, 0, 38, 0, 0, 0, 79, 0, 0, 0, 120, 0, 0, 0, 150, 0, 0, 0, 150, 0, 0, 0, 180]
abbrev dktX12_command_6 : List UInt8 := dkwX12_command_6 ++ dktX12_command_7
def dkwX12_command_5 : List UInt8 := [18, 100, 182, 0, 88, 153, 0, 5, 8, 62, 29]
abbrev dktX12_command_5 : List UInt8 := dkwX12_command_5 ++ dktX12_command_6
def dkwX12_command_4 : List UInt8 := [153, 0, 33, 6, 62, 167, 0, 28, 44, 18, 98, 182, 0, 88, 153, 0, 19, 7, 62, 167, 0, 14, 44]
abbrev dktX12_command_4 : List UInt8 := dkwX12_command_4 ++ dktX12_command_5
def dkwX12_command_3 : List UInt8 := [62, 167, 0, 56, 44, 18, 94, 182, 0, 88, 153, 0, 47, 5, 62, 167, 0, 42, 44, 18, 96, 182, 0, 88]
abbrev dktX12_command_3 : List UInt8 := dkwX12_command_3 ++ dktX12_command_4
def dkwX12_command_2 : List UInt8 := [44, 18, 86, 182, 0, 88, 153, 0, 75, 3, 62, 167, 0, 70, 44, 18, 92, 182, 0, 88, 153, 0, 61, 4]
abbrev dktX12_command_2 : List UInt8 := dkwX12_command_2 ++ dktX12_command_3
def dkwX12_command_1 : List UInt8 := [171, 0, 0, 0, 0, 0, 140, 0, 0, 0, 6, 0, 47, 45, 68, 0, 0, 0, 87, 0, 50, 159, 99, 0, 0, 0, 115, 0, 52, 129, 174, 0, 0, 0, 59, 0, 52, 152, 220, 0, 0, 0, 73, 0, 55, 145, 117, 0, 0, 0, 129, 6, 172, 145, 144, 0, 0, 0, 101]
abbrev dktX12_command_1 : List UInt8 := dkwX12_command_1 ++ dktX12_command_2
def dkwX12_command_0 : List UInt8 := [42, 182, 0, 80, 76, 43, 77, 2, 62, 44, 182, 0, 83]
abbrev dktX12_command_0 : List UInt8 := dkwX12_command_0 ++ dktX12_command_1
theorem dksX12_command_0 : cX12_command.data.toList.drop 0 = dktX12_command_0 := by decide +kernel
theorem dksX12_command_1 : cX12_command.data.toList.drop 13 = dktX12_command_1 := dk_seg dksX12_command_0 13 rfl rfl
theorem dksX12_command_2 : cX12_command.data.toList.drop 72 = dktX12_command_2 := dk_seg dksX12_command_1 59 rfl rfl
theorem dksX12_command_3 : cX12_command.data.toList.drop 96 = dktX12_command_3 := dk_seg dksX12_command_2 24 rfl rfl
theorem dksX12_command_4 : cX12_command.data.toList.drop 120 = dktX12_command_4 := dk_seg dksX12_command_3 24 rfl rfl
theorem dksX12_command_5 : cX12_command.data.toList.drop 143 = dktX12_command_5 := dk_seg dksX12_command_4 23 rfl rfl
theorem dksX12_command_6 : cX12_command.data.toList.drop 154 = dktX12_command_6 := dk_seg dksX12_command_5 11 rfl rfl
theorem dksX12_command_7 : cX12_command.data.toList.drop 192 = dktX12_command_7 := dk_seg dksX12_command_6 38 rfl rfl
theorem dksX12_command_8 : cX12_command.data.toList.drop 216 = dktX12_command_8 := dk_seg dksX12_command_7 24 rfl rfl
theorem dksX12_command_9 : cX12_command.data.toList.drop 240 = dktX12_command_9 := dk_seg dksX12_command_8 24 rfl rfl
theorem dksX12_command_10 : cX12_command.data.toList.drop 264 = dktX12_command_10 := dk_seg dksX12_command_9 24 rfl rfl
theorem dksX12_command_11 : cX12_command.data.toList.drop 288 = dktX12_command_11 := dk_seg dksX12_command_10 24 rfl rfl
theorem dksX12_command_12 : cX12_command.data.toList.drop 310 = dktX12_command_12 := dk_seg dksX12_command_11 22 rfl rfl
theorem dksX12_command_13 : cX12_command.data.toList.drop 334 = dktX12_command_13 := dk_seg dksX12_command_12 24 rfl rfl
theorem dksX12_command_14 : cX12_command.data.toList.drop 357 = dktX12_command_14 := dk_seg dksX12_command_13 23 rfl rfl
theorem dksX12_command_15 : cX12_command.data.toList.drop 381 = dktX12_command_15 := dk_seg dksX12_command_14 24 rfl rfl
theorem dX12_command_0 : decode cX12_command 0 = .ok (.aload_n 0, 1) := dk_42 (dk_at dksX12_command_0 0 rfl rfl)
theorem dX12_command_1 : decode cX12_command 1 = .ok (.invokevirtual 80, 3) := dk_182 0 80 (dk_at dksX12_command_0 1 rfl rfl)
theorem dX12_command_4 : decode cX12_command 4 = .ok (.astore_n 1, 1) := dk_76 (dk_at dksX12_command_0 4 rfl rfl)
theorem dX12_command_5 : decode cX12_command 5 = .ok (.aload_n 1, 1) := dk_43 (dk_at dksX12_command_0 5 rfl rfl)
theorem dX12_command_6 : decode cX12_command 6 = .ok (.astore_n 2, 1) := dk_77 (dk_at dksX12_command_0 6 rfl rfl)
theorem dX12_command_7 : decode cX12_command 7 = .ok (.iconst (-1), 1) := dk_2 (dk_at dksX12_command_0 7 rfl rfl)
theorem dX12_command_8 : decode cX12_command 8 = .ok (.istore_n 3, 1) := dk_62 (dk_at dksX12_command_0 8 rfl rfl)
theorem dX12_command_9 : decode cX12_command 9 = .ok (.aload_n 2, 1) := dk_44 (dk_at dksX12_command_0 9 rfl rfl)
theorem dX12_command_10 : decode cX12_command 10 = .ok (.invokevirtual 83, 3) := dk_182 0 83 (dk_at dksX12_command_0 10 rfl rfl)
theorem dX12_command_13 : decode cX12_command 13 = .ok (.lookupswitch 140 #[(3091780, 87), (3317603, 115), (3441070, 59), (3447004, 73), (3641717, 129), (111972752, 101)], 59) := by decide +kernel
theorem dX12_command_72 : decode cX12_command 72 = .ok (.aload_n 2, 1) := dk_44 (dk_at dksX12_command_2 0 rfl rfl)
theorem dX12_command_73 : decode cX12_command 73 = .ok (.ldc 86, 2) := dk_18 86 (dk_at dksX12_command_2 1 rfl rfl)
theorem dX12_command_75 : decode cX12_command 75 = .ok (.invokevirtual 88, 3) := dk_182 0 88 (dk_at dksX12_command_2 3 rfl rfl)
theorem dX12_command_78 : decode cX12_command 78 = .ok (.ifCond .eq 75, 3) := dk_153 0 75 (dk_at dksX12_command_2 6 rfl rfl)
theorem dX12_command_81 : decode cX12_command 81 = .ok (.iconst 0, 1) := dk_3 (dk_at dksX12_command_2 9 rfl rfl)
theorem dX12_command_82 : decode cX12_command 82 = .ok (.istore_n 3, 1) := dk_62 (dk_at dksX12_command_2 10 rfl rfl)
theorem dX12_command_83 : decode cX12_command 83 = .ok (.goto 70, 3) := dk_167 0 70 (dk_at dksX12_command_2 11 rfl rfl)
theorem dX12_command_86 : decode cX12_command 86 = .ok (.aload_n 2, 1) := dk_44 (dk_at dksX12_command_2 14 rfl rfl)
theorem dX12_command_87 : decode cX12_command 87 = .ok (.ldc 92, 2) := dk_18 92 (dk_at dksX12_command_2 15 rfl rfl)
theorem dX12_command_89 : decode cX12_command 89 = .ok (.invokevirtual 88, 3) := dk_182 0 88 (dk_at dksX12_command_2 17 rfl rfl)
theorem dX12_command_92 : decode cX12_command 92 = .ok (.ifCond .eq 61, 3) := dk_153 0 61 (dk_at dksX12_command_2 20 rfl rfl)
theorem dX12_command_95 : decode cX12_command 95 = .ok (.iconst 1, 1) := dk_4 (dk_at dksX12_command_2 23 rfl rfl)
theorem dX12_command_96 : decode cX12_command 96 = .ok (.istore_n 3, 1) := dk_62 (dk_at dksX12_command_3 0 rfl rfl)
theorem dX12_command_97 : decode cX12_command 97 = .ok (.goto 56, 3) := dk_167 0 56 (dk_at dksX12_command_3 1 rfl rfl)
theorem dX12_command_100 : decode cX12_command 100 = .ok (.aload_n 2, 1) := dk_44 (dk_at dksX12_command_3 4 rfl rfl)
theorem dX12_command_101 : decode cX12_command 101 = .ok (.ldc 94, 2) := dk_18 94 (dk_at dksX12_command_3 5 rfl rfl)
theorem dX12_command_103 : decode cX12_command 103 = .ok (.invokevirtual 88, 3) := dk_182 0 88 (dk_at dksX12_command_3 7 rfl rfl)
theorem dX12_command_106 : decode cX12_command 106 = .ok (.ifCond .eq 47, 3) := dk_153 0 47 (dk_at dksX12_command_3 10 rfl rfl)
theorem dX12_command_109 : decode cX12_command 109 = .ok (.iconst 2, 1) := dk_5 (dk_at dksX12_command_3 13 rfl rfl)
theorem dX12_command_110 : decode cX12_command 110 = .ok (.istore_n 3, 1) := dk_62 (dk_at dksX12_command_3 14 rfl rfl)
theorem dX12_command_111 : decode cX12_command 111 = .ok (.goto 42, 3) := dk_167 0 42 (dk_at dksX12_command_3 15 rfl rfl)
theorem dX12_command_114 : decode cX12_command 114 = .ok (.aload_n 2, 1) := dk_44 (dk_at dksX12_command_3 18 rfl rfl)
theorem dX12_command_115 : decode cX12_command 115 = .ok (.ldc 96, 2) := dk_18 96 (dk_at dksX12_command_3 19 rfl rfl)
theorem dX12_command_117 : decode cX12_command 117 = .ok (.invokevirtual 88, 3) := dk_182 0 88 (dk_at dksX12_command_3 21 rfl rfl)
theorem dX12_command_120 : decode cX12_command 120 = .ok (.ifCond .eq 33, 3) := dk_153 0 33 (dk_at dksX12_command_4 0 rfl rfl)
theorem dX12_command_123 : decode cX12_command 123 = .ok (.iconst 3, 1) := dk_6 (dk_at dksX12_command_4 3 rfl rfl)
theorem dX12_command_124 : decode cX12_command 124 = .ok (.istore_n 3, 1) := dk_62 (dk_at dksX12_command_4 4 rfl rfl)
theorem dX12_command_125 : decode cX12_command 125 = .ok (.goto 28, 3) := dk_167 0 28 (dk_at dksX12_command_4 5 rfl rfl)
theorem dX12_command_128 : decode cX12_command 128 = .ok (.aload_n 2, 1) := dk_44 (dk_at dksX12_command_4 8 rfl rfl)
theorem dX12_command_129 : decode cX12_command 129 = .ok (.ldc 98, 2) := dk_18 98 (dk_at dksX12_command_4 9 rfl rfl)
theorem dX12_command_131 : decode cX12_command 131 = .ok (.invokevirtual 88, 3) := dk_182 0 88 (dk_at dksX12_command_4 11 rfl rfl)
theorem dX12_command_134 : decode cX12_command 134 = .ok (.ifCond .eq 19, 3) := dk_153 0 19 (dk_at dksX12_command_4 14 rfl rfl)
theorem dX12_command_137 : decode cX12_command 137 = .ok (.iconst 4, 1) := dk_7 (dk_at dksX12_command_4 17 rfl rfl)
theorem dX12_command_138 : decode cX12_command 138 = .ok (.istore_n 3, 1) := dk_62 (dk_at dksX12_command_4 18 rfl rfl)
theorem dX12_command_139 : decode cX12_command 139 = .ok (.goto 14, 3) := dk_167 0 14 (dk_at dksX12_command_4 19 rfl rfl)
theorem dX12_command_142 : decode cX12_command 142 = .ok (.aload_n 2, 1) := dk_44 (dk_at dksX12_command_4 22 rfl rfl)
theorem dX12_command_143 : decode cX12_command 143 = .ok (.ldc 100, 2) := dk_18 100 (dk_at dksX12_command_5 0 rfl rfl)
theorem dX12_command_145 : decode cX12_command 145 = .ok (.invokevirtual 88, 3) := dk_182 0 88 (dk_at dksX12_command_5 2 rfl rfl)
theorem dX12_command_148 : decode cX12_command 148 = .ok (.ifCond .eq 5, 3) := dk_153 0 5 (dk_at dksX12_command_5 5 rfl rfl)
theorem dX12_command_151 : decode cX12_command 151 = .ok (.iconst 5, 1) := dk_8 (dk_at dksX12_command_5 8 rfl rfl)
theorem dX12_command_152 : decode cX12_command 152 = .ok (.istore_n 3, 1) := dk_62 (dk_at dksX12_command_5 9 rfl rfl)
theorem dX12_command_153 : decode cX12_command 153 = .ok (.iload_n 3, 1) := dk_29 (dk_at dksX12_command_5 10 rfl rfl)
theorem dX12_command_154 : decode cX12_command 154 = .ok (.tableswitch 212 0 5 #[38, 79, 120, 150, 150, 180], 38) := by decide +kernel
theorem dX12_command_192 : decode cX12_command 192 = .ok (.aload_n 0, 1) := dk_42 (dk_at dksX12_command_7 0 rfl rfl)
theorem dX12_command_193 : decode cX12_command 193 = .ok (.invokevirtual 51, 3) := dk_182 0 51 (dk_at dksX12_command_7 1 rfl rfl)
theorem dX12_command_196 : decode cX12_command 196 = .ok (.istore 4, 2) := dk_54 4 (dk_at dksX12_command_7 4 rfl rfl)
theorem dX12_command_198 : decode cX12_command 198 = .ok (.aload_n 0, 1) := dk_42 (dk_at dksX12_command_7 6 rfl rfl)
theorem dX12_command_199 : decode cX12_command 199 = .ok (.invokevirtual 48, 3) := dk_182 0 48 (dk_at dksX12_command_7 7 rfl rfl)
theorem dX12_command_202 : decode cX12_command 202 = .ok (.istore 5, 2) := dk_54 5 (dk_at dksX12_command_7 10 rfl rfl)
theorem dX12_command_204 : decode cX12_command 204 = .ok (.new 102, 3) := dk_187 0 102 (dk_at dksX12_command_7 12 rfl rfl)
theorem dX12_command_207 : decode cX12_command 207 = .ok (.dup, 1) := dk_89 (dk_at dksX12_command_7 15 rfl rfl)
theorem dX12_command_208 : decode cX12_command 208 = .ok (.aload_n 1, 1) := dk_43 (dk_at dksX12_command_7 16 rfl rfl)
theorem dX12_command_209 : decode cX12_command 209 = .ok (.iconst 3, 1) := dk_6 (dk_at dksX12_command_7 17 rfl rfl)
theorem dX12_command_210 : decode cX12_command 210 = .ok (.newarray .int, 2) := dk_188_10 (dk_at dksX12_command_7 18 rfl rfl)
theorem dX12_command_212 : decode cX12_command 212 = .ok (.dup, 1) := dk_89 (dk_at dksX12_command_7 20 rfl rfl)
theorem dX12_command_213 : decode cX12_command 213 = .ok (.iconst 0, 1) := dk_3 (dk_at dksX12_command_7 21 rfl rfl)
theorem dX12_command_214 : decode cX12_command 214 = .ok (.iload 4, 2) := dk_21 4 (dk_at dksX12_command_7 22 rfl rfl)
theorem dX12_command_216 : decode cX12_command 216 = .ok (.iastore, 1) := dk_79 (dk_at dksX12_command_8 0 rfl rfl)
theorem dX12_command_217 : decode cX12_command 217 = .ok (.dup, 1) := dk_89 (dk_at dksX12_command_8 1 rfl rfl)
theorem dX12_command_218 : decode cX12_command 218 = .ok (.iconst 1, 1) := dk_4 (dk_at dksX12_command_8 2 rfl rfl)
theorem dX12_command_219 : decode cX12_command 219 = .ok (.iload 5, 2) := dk_21 5 (dk_at dksX12_command_8 3 rfl rfl)
theorem dX12_command_221 : decode cX12_command 221 = .ok (.iastore, 1) := dk_79 (dk_at dksX12_command_8 5 rfl rfl)
theorem dX12_command_222 : decode cX12_command 222 = .ok (.dup, 1) := dk_89 (dk_at dksX12_command_8 6 rfl rfl)
theorem dX12_command_223 : decode cX12_command 223 = .ok (.iconst 2, 1) := dk_5 (dk_at dksX12_command_8 7 rfl rfl)
theorem dX12_command_224 : decode cX12_command 224 = .ok (.aload_n 0, 1) := dk_42 (dk_at dksX12_command_8 8 rfl rfl)
theorem dX12_command_225 : decode cX12_command 225 = .ok (.invokevirtual 104, 3) := dk_182 0 104 (dk_at dksX12_command_8 9 rfl rfl)
theorem dX12_command_228 : decode cX12_command 228 = .ok (.iastore, 1) := dk_79 (dk_at dksX12_command_8 12 rfl rfl)
theorem dX12_command_229 : decode cX12_command 229 = .ok (.invokespecial 107, 3) := dk_183 0 107 (dk_at dksX12_command_8 13 rfl rfl)
theorem dX12_command_232 : decode cX12_command 232 = .ok (.areturn, 1) := dk_176 (dk_at dksX12_command_8 16 rfl rfl)
theorem dX12_command_233 : decode cX12_command 233 = .ok (.aload_n 0, 1) := dk_42 (dk_at dksX12_command_8 17 rfl rfl)
theorem dX12_command_234 : decode cX12_command 234 = .ok (.invokevirtual 51, 3) := dk_182 0 51 (dk_at dksX12_command_8 18 rfl rfl)
theorem dX12_command_237 : decode cX12_command 237 = .ok (.istore 6, 2) := dk_54 6 (dk_at dksX12_command_8 21 rfl rfl)
theorem dX12_command_239 : decode cX12_command 239 = .ok (.aload_n 0, 1) := dk_42 (dk_at dksX12_command_8 23 rfl rfl)
theorem dX12_command_240 : decode cX12_command 240 = .ok (.invokevirtual 110, 3) := dk_182 0 110 (dk_at dksX12_command_9 0 rfl rfl)
theorem dX12_command_243 : decode cX12_command 243 = .ok (.istore 7, 2) := dk_54 7 (dk_at dksX12_command_9 3 rfl rfl)
theorem dX12_command_245 : decode cX12_command 245 = .ok (.new 102, 3) := dk_187 0 102 (dk_at dksX12_command_9 5 rfl rfl)
theorem dX12_command_248 : decode cX12_command 248 = .ok (.dup, 1) := dk_89 (dk_at dksX12_command_9 8 rfl rfl)
theorem dX12_command_249 : decode cX12_command 249 = .ok (.aload_n 1, 1) := dk_43 (dk_at dksX12_command_9 9 rfl rfl)
theorem dX12_command_250 : decode cX12_command 250 = .ok (.iconst 3, 1) := dk_6 (dk_at dksX12_command_9 10 rfl rfl)
theorem dX12_command_251 : decode cX12_command 251 = .ok (.newarray .int, 2) := dk_188_10 (dk_at dksX12_command_9 11 rfl rfl)
theorem dX12_command_253 : decode cX12_command 253 = .ok (.dup, 1) := dk_89 (dk_at dksX12_command_9 13 rfl rfl)
theorem dX12_command_254 : decode cX12_command 254 = .ok (.iconst 0, 1) := dk_3 (dk_at dksX12_command_9 14 rfl rfl)
theorem dX12_command_255 : decode cX12_command 255 = .ok (.iload 6, 2) := dk_21 6 (dk_at dksX12_command_9 15 rfl rfl)
theorem dX12_command_257 : decode cX12_command 257 = .ok (.iastore, 1) := dk_79 (dk_at dksX12_command_9 17 rfl rfl)
theorem dX12_command_258 : decode cX12_command 258 = .ok (.dup, 1) := dk_89 (dk_at dksX12_command_9 18 rfl rfl)
theorem dX12_command_259 : decode cX12_command 259 = .ok (.iconst 1, 1) := dk_4 (dk_at dksX12_command_9 19 rfl rfl)
theorem dX12_command_260 : decode cX12_command 260 = .ok (.iload 7, 2) := dk_21 7 (dk_at dksX12_command_9 20 rfl rfl)
theorem dX12_command_262 : decode cX12_command 262 = .ok (.iastore, 1) := dk_79 (dk_at dksX12_command_9 22 rfl rfl)
theorem dX12_command_263 : decode cX12_command 263 = .ok (.dup, 1) := dk_89 (dk_at dksX12_command_9 23 rfl rfl)
theorem dX12_command_264 : decode cX12_command 264 = .ok (.iconst 2, 1) := dk_5 (dk_at dksX12_command_10 0 rfl rfl)
theorem dX12_command_265 : decode cX12_command 265 = .ok (.aload_n 0, 1) := dk_42 (dk_at dksX12_command_10 1 rfl rfl)
theorem dX12_command_266 : decode cX12_command 266 = .ok (.invokevirtual 104, 3) := dk_182 0 104 (dk_at dksX12_command_10 2 rfl rfl)
theorem dX12_command_269 : decode cX12_command 269 = .ok (.iastore, 1) := dk_79 (dk_at dksX12_command_10 5 rfl rfl)
theorem dX12_command_270 : decode cX12_command 270 = .ok (.invokespecial 107, 3) := dk_183 0 107 (dk_at dksX12_command_10 6 rfl rfl)
theorem dX12_command_273 : decode cX12_command 273 = .ok (.areturn, 1) := dk_176 (dk_at dksX12_command_10 9 rfl rfl)
theorem dX12_command_274 : decode cX12_command 274 = .ok (.aload_n 0, 1) := dk_42 (dk_at dksX12_command_10 10 rfl rfl)
theorem dX12_command_275 : decode cX12_command 275 = .ok (.invokevirtual 51, 3) := dk_182 0 51 (dk_at dksX12_command_10 11 rfl rfl)
theorem dX12_command_278 : decode cX12_command 278 = .ok (.istore 8, 2) := dk_54 8 (dk_at dksX12_command_10 14 rfl rfl)
theorem dX12_command_280 : decode cX12_command 280 = .ok (.new 102, 3) := dk_187 0 102 (dk_at dksX12_command_10 16 rfl rfl)
theorem dX12_command_283 : decode cX12_command 283 = .ok (.dup, 1) := dk_89 (dk_at dksX12_command_10 19 rfl rfl)
theorem dX12_command_284 : decode cX12_command 284 = .ok (.aload_n 1, 1) := dk_43 (dk_at dksX12_command_10 20 rfl rfl)
theorem dX12_command_285 : decode cX12_command 285 = .ok (.iconst 2, 1) := dk_5 (dk_at dksX12_command_10 21 rfl rfl)
theorem dX12_command_286 : decode cX12_command 286 = .ok (.newarray .int, 2) := dk_188_10 (dk_at dksX12_command_10 22 rfl rfl)
theorem dX12_command_288 : decode cX12_command 288 = .ok (.dup, 1) := dk_89 (dk_at dksX12_command_11 0 rfl rfl)
theorem dX12_command_289 : decode cX12_command 289 = .ok (.iconst 0, 1) := dk_3 (dk_at dksX12_command_11 1 rfl rfl)
theorem dX12_command_290 : decode cX12_command 290 = .ok (.iload 8, 2) := dk_21 8 (dk_at dksX12_command_11 2 rfl rfl)
theorem dX12_command_292 : decode cX12_command 292 = .ok (.iastore, 1) := dk_79 (dk_at dksX12_command_11 4 rfl rfl)
theorem dX12_command_293 : decode cX12_command 293 = .ok (.dup, 1) := dk_89 (dk_at dksX12_command_11 5 rfl rfl)
theorem dX12_command_294 : decode cX12_command 294 = .ok (.iconst 1, 1) := dk_4 (dk_at dksX12_command_11 6 rfl rfl)
theorem dX12_command_295 : decode cX12_command 295 = .ok (.aload_n 0, 1) := dk_42 (dk_at dksX12_command_11 7 rfl rfl)
theorem dX12_command_296 : decode cX12_command 296 = .ok (.invokevirtual 110, 3) := dk_182 0 110 (dk_at dksX12_command_11 8 rfl rfl)
theorem dX12_command_299 : decode cX12_command 299 = .ok (.iastore, 1) := dk_79 (dk_at dksX12_command_11 11 rfl rfl)
theorem dX12_command_300 : decode cX12_command 300 = .ok (.invokespecial 107, 3) := dk_183 0 107 (dk_at dksX12_command_11 12 rfl rfl)
theorem dX12_command_303 : decode cX12_command 303 = .ok (.areturn, 1) := dk_176 (dk_at dksX12_command_11 15 rfl rfl)
theorem dX12_command_304 : decode cX12_command 304 = .ok (.aload_n 0, 1) := dk_42 (dk_at dksX12_command_11 16 rfl rfl)
theorem dX12_command_305 : decode cX12_command 305 = .ok (.invokevirtual 110, 3) := dk_182 0 110 (dk_at dksX12_command_11 17 rfl rfl)
theorem dX12_command_308 : decode cX12_command 308 = .ok (.istore 9, 2) := dk_54 9 (dk_at dksX12_command_11 20 rfl rfl)
theorem dX12_command_310 : decode cX12_command 310 = .ok (.new 102, 3) := dk_187 0 102 (dk_at dksX12_command_12 0 rfl rfl)
theorem dX12_command_313 : decode cX12_command 313 = .ok (.dup, 1) := dk_89 (dk_at dksX12_command_12 3 rfl rfl)
theorem dX12_command_314 : decode cX12_command 314 = .ok (.aload_n 1, 1) := dk_43 (dk_at dksX12_command_12 4 rfl rfl)
theorem dX12_command_315 : decode cX12_command 315 = .ok (.iconst 2, 1) := dk_5 (dk_at dksX12_command_12 5 rfl rfl)
theorem dX12_command_316 : decode cX12_command 316 = .ok (.newarray .int, 2) := dk_188_10 (dk_at dksX12_command_12 6 rfl rfl)
theorem dX12_command_318 : decode cX12_command 318 = .ok (.dup, 1) := dk_89 (dk_at dksX12_command_12 8 rfl rfl)
theorem dX12_command_319 : decode cX12_command 319 = .ok (.iconst 0, 1) := dk_3 (dk_at dksX12_command_12 9 rfl rfl)
theorem dX12_command_320 : decode cX12_command 320 = .ok (.iload 9, 2) := dk_21 9 (dk_at dksX12_command_12 10 rfl rfl)
theorem dX12_command_322 : decode cX12_command 322 = .ok (.iastore, 1) := dk_79 (dk_at dksX12_command_12 12 rfl rfl)
theorem dX12_command_323 : decode cX12_command 323 = .ok (.dup, 1) := dk_89 (dk_at dksX12_command_12 13 rfl rfl)
theorem dX12_command_324 : decode cX12_command 324 = .ok (.iconst 1, 1) := dk_4 (dk_at dksX12_command_12 14 rfl rfl)
theorem dX12_command_325 : decode cX12_command 325 = .ok (.aload_n 0, 1) := dk_42 (dk_at dksX12_command_12 15 rfl rfl)
theorem dX12_command_326 : decode cX12_command 326 = .ok (.invokevirtual 51, 3) := dk_182 0 51 (dk_at dksX12_command_12 16 rfl rfl)
theorem dX12_command_329 : decode cX12_command 329 = .ok (.iastore, 1) := dk_79 (dk_at dksX12_command_12 19 rfl rfl)
theorem dX12_command_330 : decode cX12_command 330 = .ok (.invokespecial 107, 3) := dk_183 0 107 (dk_at dksX12_command_12 20 rfl rfl)
theorem dX12_command_333 : decode cX12_command 333 = .ok (.areturn, 1) := dk_176 (dk_at dksX12_command_12 23 rfl rfl)
theorem dX12_command_334 : decode cX12_command 334 = .ok (.new 102, 3) := dk_187 0 102 (dk_at dksX12_command_13 0 rfl rfl)
theorem dX12_command_337 : decode cX12_command 337 = .ok (.dup, 1) := dk_89 (dk_at dksX12_command_13 3 rfl rfl)
theorem dX12_command_338 : decode cX12_command 338 = .ok (.aload_n 1, 1) := dk_43 (dk_at dksX12_command_13 4 rfl rfl)
theorem dX12_command_339 : decode cX12_command 339 = .ok (.iconst 1, 1) := dk_4 (dk_at dksX12_command_13 5 rfl rfl)
theorem dX12_command_340 : decode cX12_command 340 = .ok (.newarray .int, 2) := dk_188_10 (dk_at dksX12_command_13 6 rfl rfl)
theorem dX12_command_342 : decode cX12_command 342 = .ok (.dup, 1) := dk_89 (dk_at dksX12_command_13 8 rfl rfl)
theorem dX12_command_343 : decode cX12_command 343 = .ok (.iconst 0, 1) := dk_3 (dk_at dksX12_command_13 9 rfl rfl)
theorem dX12_command_344 : decode cX12_command 344 = .ok (.aload_n 0, 1) := dk_42 (dk_at dksX12_command_13 10 rfl rfl)
theorem dX12_command_345 : decode cX12_command 345 = .ok (.invokevirtual 32, 3) := dk_182 0 32 (dk_at dksX12_command_13 11 rfl rfl)
theorem dX12_command_348 : decode cX12_command 348 = .ok (.bipush 32, 2) := dk_16 32 (dk_at dksX12_command_13 14 rfl rfl)
theorem dX12_command_350 : decode cX12_command 350 = .ok (.if_icmp .ne 10, 3) := dk_160 0 10 (dk_at dksX12_command_13 16 rfl rfl)
theorem dX12_command_353 : decode cX12_command 353 = .ok (.aload_n 0, 1) := dk_42 (dk_at dksX12_command_13 19 rfl rfl)
theorem dX12_command_354 : decode cX12_command 354 = .ok (.invokevirtual 110, 3) := dk_182 0 110 (dk_at dksX12_command_13 20 rfl rfl)
theorem dX12_command_357 : decode cX12_command 357 = .ok (.goto 4, 3) := dk_167 0 4 (dk_at dksX12_command_14 0 rfl rfl)
theorem dX12_command_360 : decode cX12_command 360 = .ok (.iconst 1, 1) := dk_4 (dk_at dksX12_command_14 3 rfl rfl)
theorem dX12_command_361 : decode cX12_command 361 = .ok (.iastore, 1) := dk_79 (dk_at dksX12_command_14 4 rfl rfl)
theorem dX12_command_362 : decode cX12_command 362 = .ok (.invokespecial 107, 3) := dk_183 0 107 (dk_at dksX12_command_14 5 rfl rfl)
theorem dX12_command_365 : decode cX12_command 365 = .ok (.areturn, 1) := dk_176 (dk_at dksX12_command_14 8 rfl rfl)
theorem dX12_command_366 : decode cX12_command 366 = .ok (.new 102, 3) := dk_187 0 102 (dk_at dksX12_command_14 9 rfl rfl)
theorem dX12_command_369 : decode cX12_command 369 = .ok (.dup, 1) := dk_89 (dk_at dksX12_command_14 12 rfl rfl)
theorem dX12_command_370 : decode cX12_command 370 = .ok (.aload_n 1, 1) := dk_43 (dk_at dksX12_command_14 13 rfl rfl)
theorem dX12_command_371 : decode cX12_command 371 = .ok (.iconst 1, 1) := dk_4 (dk_at dksX12_command_14 14 rfl rfl)
theorem dX12_command_372 : decode cX12_command 372 = .ok (.newarray .int, 2) := dk_188_10 (dk_at dksX12_command_14 15 rfl rfl)
theorem dX12_command_374 : decode cX12_command 374 = .ok (.dup, 1) := dk_89 (dk_at dksX12_command_14 17 rfl rfl)
theorem dX12_command_375 : decode cX12_command 375 = .ok (.iconst 0, 1) := dk_3 (dk_at dksX12_command_14 18 rfl rfl)
theorem dX12_command_376 : decode cX12_command 376 = .ok (.aload_n 0, 1) := dk_42 (dk_at dksX12_command_14 19 rfl rfl)
theorem dX12_command_377 : decode cX12_command 377 = .ok (.invokevirtual 110, 3) := dk_182 0 110 (dk_at dksX12_command_14 20 rfl rfl)
theorem dX12_command_380 : decode cX12_command 380 = .ok (.iastore, 1) := dk_79 (dk_at dksX12_command_14 23 rfl rfl)
theorem dX12_command_381 : decode cX12_command 381 = .ok (.invokespecial 107, 3) := dk_183 0 107 (dk_at dksX12_command_15 0 rfl rfl)
theorem dX12_command_384 : decode cX12_command 384 = .ok (.areturn, 1) := dk_176 (dk_at dksX12_command_15 3 rfl rfl)
abbrev cX12_word : ByteArray := prog_9_method_10_code
def yX12_word : MethodName := ⟨RX12, "word", "()Ljava/lang/String;"⟩
def dkwX12_word_5 : List UInt8 := [182, 0, 75, 153, 0, 7, 4, 167, 0, 4, 3, 182, 0, 36, 43, 182, 0, 71, 176]
abbrev dktX12_word_5 : List UInt8 := dkwX12_word_5 ++ []
def dkwX12_word_4 : List UInt8 := [187, 0, 54, 89, 183, 0, 56, 18, 59, 182, 0, 61, 43, 182, 0, 65, 18, 59, 182, 0, 61, 182, 0, 71]
abbrev dktX12_word_4 : List UInt8 := dkwX12_word_4 ++ dktX12_word_5
def dkwX12_word_3 : List UInt8 := [42, 89, 180, 0, 13, 4, 96, 181, 0, 13, 167, 255, 184, 42, 43, 182, 0, 79, 158, 0, 39, 18, 57]
abbrev dktX12_word_3 : List UInt8 := dkwX12_word_3 ++ dktX12_word_4
def dkwX12_word_2 : List UInt8 := [182, 0, 32, 182, 0, 68, 182, 0, 71, 182, 0, 75, 182, 0, 36, 43, 42, 182, 0, 32, 182, 0, 68, 87]
abbrev dktX12_word_2 : List UInt8 := dkwX12_word_2 ++ dktX12_word_3
def dkwX12_word_1 : List UInt8 := [163, 0, 60, 42, 18, 57, 187, 0, 54, 89, 183, 0, 56, 18, 59, 182, 0, 61, 43, 182, 0, 65, 42]
abbrev dktX12_word_1 : List UInt8 := dkwX12_word_1 ++ dktX12_word_2
def dkwX12_word_0 : List UInt8 := [187, 0, 54, 89, 183, 0, 56, 76, 42, 182, 0, 32, 16, 97, 161, 0, 69, 42, 182, 0, 32, 16, 122]
abbrev dktX12_word_0 : List UInt8 := dkwX12_word_0 ++ dktX12_word_1
theorem dksX12_word_0 : cX12_word.data.toList.drop 0 = dktX12_word_0 := by decide +kernel
theorem dksX12_word_1 : cX12_word.data.toList.drop 23 = dktX12_word_1 := dk_seg dksX12_word_0 23 rfl rfl
theorem dksX12_word_2 : cX12_word.data.toList.drop 46 = dktX12_word_2 := dk_seg dksX12_word_1 23 rfl rfl
theorem dksX12_word_3 : cX12_word.data.toList.drop 70 = dktX12_word_3 := dk_seg dksX12_word_2 24 rfl rfl
theorem dksX12_word_4 : cX12_word.data.toList.drop 93 = dktX12_word_4 := dk_seg dksX12_word_3 23 rfl rfl
theorem dksX12_word_5 : cX12_word.data.toList.drop 117 = dktX12_word_5 := dk_seg dksX12_word_4 24 rfl rfl
theorem dX12_word_0 : decode cX12_word 0 = .ok (.new 54, 3) := dk_187 0 54 (dk_at dksX12_word_0 0 rfl rfl)
theorem dX12_word_3 : decode cX12_word 3 = .ok (.dup, 1) := dk_89 (dk_at dksX12_word_0 3 rfl rfl)
theorem dX12_word_4 : decode cX12_word 4 = .ok (.invokespecial 56, 3) := dk_183 0 56 (dk_at dksX12_word_0 4 rfl rfl)
theorem dX12_word_7 : decode cX12_word 7 = .ok (.astore_n 1, 1) := dk_76 (dk_at dksX12_word_0 7 rfl rfl)
theorem dX12_word_8 : decode cX12_word 8 = .ok (.aload_n 0, 1) := dk_42 (dk_at dksX12_word_0 8 rfl rfl)
theorem dX12_word_9 : decode cX12_word 9 = .ok (.invokevirtual 32, 3) := dk_182 0 32 (dk_at dksX12_word_0 9 rfl rfl)
theorem dX12_word_12 : decode cX12_word 12 = .ok (.bipush 97, 2) := dk_16 97 (dk_at dksX12_word_0 12 rfl rfl)
theorem dX12_word_14 : decode cX12_word 14 = .ok (.if_icmp .lt 69, 3) := dk_161 0 69 (dk_at dksX12_word_0 14 rfl rfl)
theorem dX12_word_17 : decode cX12_word 17 = .ok (.aload_n 0, 1) := dk_42 (dk_at dksX12_word_0 17 rfl rfl)
theorem dX12_word_18 : decode cX12_word 18 = .ok (.invokevirtual 32, 3) := dk_182 0 32 (dk_at dksX12_word_0 18 rfl rfl)
theorem dX12_word_21 : decode cX12_word 21 = .ok (.bipush 122, 2) := dk_16 122 (dk_at dksX12_word_0 21 rfl rfl)
theorem dX12_word_23 : decode cX12_word 23 = .ok (.if_icmp .gt 60, 3) := dk_163 0 60 (dk_at dksX12_word_1 0 rfl rfl)
theorem dX12_word_26 : decode cX12_word 26 = .ok (.aload_n 0, 1) := dk_42 (dk_at dksX12_word_1 3 rfl rfl)
theorem dX12_word_27 : decode cX12_word 27 = .ok (.ldc 57, 2) := dk_18 57 (dk_at dksX12_word_1 4 rfl rfl)
theorem dX12_word_29 : decode cX12_word 29 = .ok (.new 54, 3) := dk_187 0 54 (dk_at dksX12_word_1 6 rfl rfl)
theorem dX12_word_32 : decode cX12_word 32 = .ok (.dup, 1) := dk_89 (dk_at dksX12_word_1 9 rfl rfl)
theorem dX12_word_33 : decode cX12_word 33 = .ok (.invokespecial 56, 3) := dk_183 0 56 (dk_at dksX12_word_1 10 rfl rfl)
theorem dX12_word_36 : decode cX12_word 36 = .ok (.ldc 59, 2) := dk_18 59 (dk_at dksX12_word_1 13 rfl rfl)
theorem dX12_word_38 : decode cX12_word 38 = .ok (.invokevirtual 61, 3) := dk_182 0 61 (dk_at dksX12_word_1 15 rfl rfl)
theorem dX12_word_41 : decode cX12_word 41 = .ok (.aload_n 1, 1) := dk_43 (dk_at dksX12_word_1 18 rfl rfl)
theorem dX12_word_42 : decode cX12_word 42 = .ok (.invokevirtual 65, 3) := dk_182 0 65 (dk_at dksX12_word_1 19 rfl rfl)
theorem dX12_word_45 : decode cX12_word 45 = .ok (.aload_n 0, 1) := dk_42 (dk_at dksX12_word_1 22 rfl rfl)
theorem dX12_word_46 : decode cX12_word 46 = .ok (.invokevirtual 32, 3) := dk_182 0 32 (dk_at dksX12_word_2 0 rfl rfl)
theorem dX12_word_49 : decode cX12_word 49 = .ok (.invokevirtual 68, 3) := dk_182 0 68 (dk_at dksX12_word_2 3 rfl rfl)
theorem dX12_word_52 : decode cX12_word 52 = .ok (.invokevirtual 71, 3) := dk_182 0 71 (dk_at dksX12_word_2 6 rfl rfl)
theorem dX12_word_55 : decode cX12_word 55 = .ok (.invokevirtual 75, 3) := dk_182 0 75 (dk_at dksX12_word_2 9 rfl rfl)
theorem dX12_word_58 : decode cX12_word 58 = .ok (.invokevirtual 36, 3) := dk_182 0 36 (dk_at dksX12_word_2 12 rfl rfl)
theorem dX12_word_61 : decode cX12_word 61 = .ok (.aload_n 1, 1) := dk_43 (dk_at dksX12_word_2 15 rfl rfl)
theorem dX12_word_62 : decode cX12_word 62 = .ok (.aload_n 0, 1) := dk_42 (dk_at dksX12_word_2 16 rfl rfl)
theorem dX12_word_63 : decode cX12_word 63 = .ok (.invokevirtual 32, 3) := dk_182 0 32 (dk_at dksX12_word_2 17 rfl rfl)
theorem dX12_word_66 : decode cX12_word 66 = .ok (.invokevirtual 68, 3) := dk_182 0 68 (dk_at dksX12_word_2 20 rfl rfl)
theorem dX12_word_69 : decode cX12_word 69 = .ok (.pop, 1) := dk_87 (dk_at dksX12_word_2 23 rfl rfl)
theorem dX12_word_70 : decode cX12_word 70 = .ok (.aload_n 0, 1) := dk_42 (dk_at dksX12_word_3 0 rfl rfl)
theorem dX12_word_71 : decode cX12_word 71 = .ok (.dup, 1) := dk_89 (dk_at dksX12_word_3 1 rfl rfl)
theorem dX12_word_72 : decode cX12_word 72 = .ok (.getfield 13, 3) := dk_180 0 13 (dk_at dksX12_word_3 2 rfl rfl)
theorem dX12_word_75 : decode cX12_word 75 = .ok (.iconst 1, 1) := dk_4 (dk_at dksX12_word_3 5 rfl rfl)
theorem dX12_word_76 : decode cX12_word 76 = .ok (.iadd, 1) := dk_96 (dk_at dksX12_word_3 6 rfl rfl)
theorem dX12_word_77 : decode cX12_word 77 = .ok (.putfield 13, 3) := dk_181 0 13 (dk_at dksX12_word_3 7 rfl rfl)
theorem dX12_word_80 : decode cX12_word 80 = .ok (.goto (-72), 3) := dk_167 255 184 (dk_at dksX12_word_3 10 rfl rfl)
theorem dX12_word_83 : decode cX12_word 83 = .ok (.aload_n 0, 1) := dk_42 (dk_at dksX12_word_3 13 rfl rfl)
theorem dX12_word_84 : decode cX12_word 84 = .ok (.aload_n 1, 1) := dk_43 (dk_at dksX12_word_3 14 rfl rfl)
theorem dX12_word_85 : decode cX12_word 85 = .ok (.invokevirtual 79, 3) := dk_182 0 79 (dk_at dksX12_word_3 15 rfl rfl)
theorem dX12_word_88 : decode cX12_word 88 = .ok (.ifCond .le 39, 3) := dk_158 0 39 (dk_at dksX12_word_3 18 rfl rfl)
theorem dX12_word_91 : decode cX12_word 91 = .ok (.ldc 57, 2) := dk_18 57 (dk_at dksX12_word_3 21 rfl rfl)
theorem dX12_word_93 : decode cX12_word 93 = .ok (.new 54, 3) := dk_187 0 54 (dk_at dksX12_word_4 0 rfl rfl)
theorem dX12_word_96 : decode cX12_word 96 = .ok (.dup, 1) := dk_89 (dk_at dksX12_word_4 3 rfl rfl)
theorem dX12_word_97 : decode cX12_word 97 = .ok (.invokespecial 56, 3) := dk_183 0 56 (dk_at dksX12_word_4 4 rfl rfl)
theorem dX12_word_100 : decode cX12_word 100 = .ok (.ldc 59, 2) := dk_18 59 (dk_at dksX12_word_4 7 rfl rfl)
theorem dX12_word_102 : decode cX12_word 102 = .ok (.invokevirtual 61, 3) := dk_182 0 61 (dk_at dksX12_word_4 9 rfl rfl)
theorem dX12_word_105 : decode cX12_word 105 = .ok (.aload_n 1, 1) := dk_43 (dk_at dksX12_word_4 12 rfl rfl)
theorem dX12_word_106 : decode cX12_word 106 = .ok (.invokevirtual 65, 3) := dk_182 0 65 (dk_at dksX12_word_4 13 rfl rfl)
theorem dX12_word_109 : decode cX12_word 109 = .ok (.ldc 59, 2) := dk_18 59 (dk_at dksX12_word_4 16 rfl rfl)
theorem dX12_word_111 : decode cX12_word 111 = .ok (.invokevirtual 61, 3) := dk_182 0 61 (dk_at dksX12_word_4 18 rfl rfl)
theorem dX12_word_114 : decode cX12_word 114 = .ok (.invokevirtual 71, 3) := dk_182 0 71 (dk_at dksX12_word_4 21 rfl rfl)
theorem dX12_word_117 : decode cX12_word 117 = .ok (.invokevirtual 75, 3) := dk_182 0 75 (dk_at dksX12_word_5 0 rfl rfl)
theorem dX12_word_120 : decode cX12_word 120 = .ok (.ifCond .eq 7, 3) := dk_153 0 7 (dk_at dksX12_word_5 3 rfl rfl)
theorem dX12_word_123 : decode cX12_word 123 = .ok (.iconst 1, 1) := dk_4 (dk_at dksX12_word_5 6 rfl rfl)
theorem dX12_word_124 : decode cX12_word 124 = .ok (.goto 4, 3) := dk_167 0 4 (dk_at dksX12_word_5 7 rfl rfl)
theorem dX12_word_127 : decode cX12_word 127 = .ok (.iconst 0, 1) := dk_3 (dk_at dksX12_word_5 10 rfl rfl)
theorem dX12_word_128 : decode cX12_word 128 = .ok (.invokevirtual 36, 3) := dk_182 0 36 (dk_at dksX12_word_5 11 rfl rfl)
theorem dX12_word_131 : decode cX12_word 131 = .ok (.aload_n 1, 1) := dk_43 (dk_at dksX12_word_5 14 rfl rfl)
theorem dX12_word_132 : decode cX12_word 132 = .ok (.invokevirtual 71, 3) := dk_182 0 71 (dk_at dksX12_word_5 15 rfl rfl)
theorem dX12_word_135 : decode cX12_word 135 = .ok (.areturn, 1) := dk_176 (dk_at dksX12_word_5 18 rfl rfl)
abbrev cX12_current : ByteArray := prog_9_method_2_code
def yX12_current : MethodName := ⟨RX12, "current", "()C"⟩
def dkwX12_current_1 : List UInt8 := [182, 0, 23, 167, 0, 5, 16, 10, 172]
abbrev dktX12_current_1 : List UInt8 := dkwX12_current_1 ++ []
def dkwX12_current_0 : List UInt8 := [42, 180, 0, 13, 42, 180, 0, 7, 182, 0, 17, 162, 0, 17, 42, 180, 0, 7, 42, 180, 0, 13]
abbrev dktX12_current_0 : List UInt8 := dkwX12_current_0 ++ dktX12_current_1
theorem dksX12_current_0 : cX12_current.data.toList.drop 0 = dktX12_current_0 := by decide +kernel
theorem dksX12_current_1 : cX12_current.data.toList.drop 22 = dktX12_current_1 := dk_seg dksX12_current_0 22 rfl rfl
theorem dX12_current_0 : decode cX12_current 0 = .ok (.aload_n 0, 1) := dk_42 (dk_at dksX12_current_0 0 rfl rfl)
theorem dX12_current_1 : decode cX12_current 1 = .ok (.getfield 13, 3) := dk_180 0 13 (dk_at dksX12_current_0 1 rfl rfl)
theorem dX12_current_4 : decode cX12_current 4 = .ok (.aload_n 0, 1) := dk_42 (dk_at dksX12_current_0 4 rfl rfl)
theorem dX12_current_5 : decode cX12_current 5 = .ok (.getfield 7, 3) := dk_180 0 7 (dk_at dksX12_current_0 5 rfl rfl)
theorem dX12_current_8 : decode cX12_current 8 = .ok (.invokevirtual 17, 3) := dk_182 0 17 (dk_at dksX12_current_0 8 rfl rfl)
theorem dX12_current_11 : decode cX12_current 11 = .ok (.if_icmp .ge 17, 3) := dk_162 0 17 (dk_at dksX12_current_0 11 rfl rfl)
theorem dX12_current_14 : decode cX12_current 14 = .ok (.aload_n 0, 1) := dk_42 (dk_at dksX12_current_0 14 rfl rfl)
theorem dX12_current_15 : decode cX12_current 15 = .ok (.getfield 7, 3) := dk_180 0 7 (dk_at dksX12_current_0 15 rfl rfl)
theorem dX12_current_18 : decode cX12_current 18 = .ok (.aload_n 0, 1) := dk_42 (dk_at dksX12_current_0 18 rfl rfl)
theorem dX12_current_19 : decode cX12_current 19 = .ok (.getfield 13, 3) := dk_180 0 13 (dk_at dksX12_current_0 19 rfl rfl)
theorem dX12_current_22 : decode cX12_current 22 = .ok (.invokevirtual 23, 3) := dk_182 0 23 (dk_at dksX12_current_1 0 rfl rfl)
theorem dX12_current_25 : decode cX12_current 25 = .ok (.goto 5, 3) := dk_167 0 5 (dk_at dksX12_current_1 3 rfl rfl)
theorem dX12_current_28 : decode cX12_current 28 = .ok (.bipush 10, 2) := dk_16 10 (dk_at dksX12_current_1 6 rfl rfl)
theorem dX12_current_30 : decode cX12_current 30 = .ok (.ireturn, 1) := dk_172 (dk_at dksX12_current_1 8 rfl rfl)
abbrev cX12_require : ByteArray := prog_9_method_3_code
def yX12_require : MethodName := ⟨RX12, "require", "(Z)V"⟩
def dkwX12_require_0 : List UInt8 := [27, 154, 0, 15, 187, 0, 27, 89, 42, 180, 0, 13, 183, 0, 29, 191, 177]
abbrev dktX12_require_0 : List UInt8 := dkwX12_require_0 ++ []
theorem dksX12_require_0 : cX12_require.data.toList.drop 0 = dktX12_require_0 := by decide +kernel
theorem dX12_require_0 : decode cX12_require 0 = .ok (.iload_n 1, 1) := dk_27 (dk_at dksX12_require_0 0 rfl rfl)
theorem dX12_require_1 : decode cX12_require 1 = .ok (.ifCond .ne 15, 3) := dk_154 0 15 (dk_at dksX12_require_0 1 rfl rfl)
theorem dX12_require_4 : decode cX12_require 4 = .ok (.new 27, 3) := dk_187 0 27 (dk_at dksX12_require_0 4 rfl rfl)
theorem dX12_require_7 : decode cX12_require 7 = .ok (.dup, 1) := dk_89 (dk_at dksX12_require_0 7 rfl rfl)
theorem dX12_require_8 : decode cX12_require 8 = .ok (.aload_n 0, 1) := dk_42 (dk_at dksX12_require_0 8 rfl rfl)
theorem dX12_require_9 : decode cX12_require 9 = .ok (.getfield 13, 3) := dk_180 0 13 (dk_at dksX12_require_0 9 rfl rfl)
theorem dX12_require_12 : decode cX12_require 12 = .ok (.invokespecial 29, 3) := dk_183 0 29 (dk_at dksX12_require_0 12 rfl rfl)
theorem dX12_require_15 : decode cX12_require 15 = .ok (.athrow, 1) := dk_191 (dk_at dksX12_require_0 15 rfl rfl)
theorem dX12_require_16 : decode cX12_require 16 = .ok (.return_, 1) := dk_177 (dk_at dksX12_require_0 16 rfl rfl)
abbrev cX12_spaceAndDigit : ByteArray := prog_9_method_7_code
def yX12_spaceAndDigit : MethodName := ⟨RX12, "spaceAndDigit", "()I"⟩
def dkwX12_spaceAndDigit_0 : List UInt8 := [42, 16, 32, 182, 0, 44, 42, 182, 0, 48, 172]
abbrev dktX12_spaceAndDigit_0 : List UInt8 := dkwX12_spaceAndDigit_0 ++ []
theorem dksX12_spaceAndDigit_0 : cX12_spaceAndDigit.data.toList.drop 0 = dktX12_spaceAndDigit_0 := by decide +kernel
theorem dX12_spaceAndDigit_0 : decode cX12_spaceAndDigit 0 = .ok (.aload_n 0, 1) := dk_42 (dk_at dksX12_spaceAndDigit_0 0 rfl rfl)
theorem dX12_spaceAndDigit_1 : decode cX12_spaceAndDigit 1 = .ok (.bipush 32, 2) := dk_16 32 (dk_at dksX12_spaceAndDigit_0 1 rfl rfl)
theorem dX12_spaceAndDigit_3 : decode cX12_spaceAndDigit 3 = .ok (.invokevirtual 44, 3) := dk_182 0 44 (dk_at dksX12_spaceAndDigit_0 3 rfl rfl)
theorem dX12_spaceAndDigit_6 : decode cX12_spaceAndDigit 6 = .ok (.aload_n 0, 1) := dk_42 (dk_at dksX12_spaceAndDigit_0 6 rfl rfl)
theorem dX12_spaceAndDigit_7 : decode cX12_spaceAndDigit 7 = .ok (.invokevirtual 48, 3) := dk_182 0 48 (dk_at dksX12_spaceAndDigit_0 7 rfl rfl)
theorem dX12_spaceAndDigit_10 : decode cX12_spaceAndDigit 10 = .ok (.ireturn, 1) := dk_172 (dk_at dksX12_spaceAndDigit_0 10 rfl rfl)
abbrev cX12_take : ByteArray := prog_9_method_4_code
def yX12_take : MethodName := ⟨RX12, "take", "(C)V"⟩
def dkwX12_take_1 : List UInt8 := [181, 0, 13, 177]
abbrev dktX12_take_1 : List UInt8 := dkwX12_take_1 ++ []
def dkwX12_take_0 : List UInt8 := [42, 42, 182, 0, 32, 27, 160, 0, 7, 4, 167, 0, 4, 3, 182, 0, 36, 42, 89, 180, 0, 13, 4, 96]
abbrev dktX12_take_0 : List UInt8 := dkwX12_take_0 ++ dktX12_take_1
theorem dksX12_take_0 : cX12_take.data.toList.drop 0 = dktX12_take_0 := by decide +kernel
theorem dksX12_take_1 : cX12_take.data.toList.drop 24 = dktX12_take_1 := dk_seg dksX12_take_0 24 rfl rfl
theorem dX12_take_0 : decode cX12_take 0 = .ok (.aload_n 0, 1) := dk_42 (dk_at dksX12_take_0 0 rfl rfl)
theorem dX12_take_1 : decode cX12_take 1 = .ok (.aload_n 0, 1) := dk_42 (dk_at dksX12_take_0 1 rfl rfl)
theorem dX12_take_2 : decode cX12_take 2 = .ok (.invokevirtual 32, 3) := dk_182 0 32 (dk_at dksX12_take_0 2 rfl rfl)
theorem dX12_take_5 : decode cX12_take 5 = .ok (.iload_n 1, 1) := dk_27 (dk_at dksX12_take_0 5 rfl rfl)
theorem dX12_take_6 : decode cX12_take 6 = .ok (.if_icmp .ne 7, 3) := dk_160 0 7 (dk_at dksX12_take_0 6 rfl rfl)
theorem dX12_take_9 : decode cX12_take 9 = .ok (.iconst 1, 1) := dk_4 (dk_at dksX12_take_0 9 rfl rfl)
theorem dX12_take_10 : decode cX12_take 10 = .ok (.goto 4, 3) := dk_167 0 4 (dk_at dksX12_take_0 10 rfl rfl)
theorem dX12_take_13 : decode cX12_take 13 = .ok (.iconst 0, 1) := dk_3 (dk_at dksX12_take_0 13 rfl rfl)
theorem dX12_take_14 : decode cX12_take 14 = .ok (.invokevirtual 36, 3) := dk_182 0 36 (dk_at dksX12_take_0 14 rfl rfl)
theorem dX12_take_17 : decode cX12_take 17 = .ok (.aload_n 0, 1) := dk_42 (dk_at dksX12_take_0 17 rfl rfl)
theorem dX12_take_18 : decode cX12_take 18 = .ok (.dup, 1) := dk_89 (dk_at dksX12_take_0 18 rfl rfl)
theorem dX12_take_19 : decode cX12_take 19 = .ok (.getfield 13, 3) := dk_180 0 13 (dk_at dksX12_take_0 19 rfl rfl)
theorem dX12_take_22 : decode cX12_take 22 = .ok (.iconst 1, 1) := dk_4 (dk_at dksX12_take_0 22 rfl rfl)
theorem dX12_take_23 : decode cX12_take 23 = .ok (.iadd, 1) := dk_96 (dk_at dksX12_take_0 23 rfl rfl)
theorem dX12_take_24 : decode cX12_take 24 = .ok (.putfield 13, 3) := dk_181 0 13 (dk_at dksX12_take_1 0 rfl rfl)
theorem dX12_take_27 : decode cX12_take 27 = .ok (.return_, 1) := dk_177 (dk_at dksX12_take_1 3 rfl rfl)
abbrev cX12_digit : ByteArray := prog_9_method_6_code
def yX12_digit : MethodName := ⟨RX12, "digit", "()I"⟩
def dkwX12_digit_1 : List UInt8 := [180, 0, 13, 4, 100, 182, 0, 23, 16, 48, 100, 172]
abbrev dktX12_digit_1 : List UInt8 := dkwX12_digit_1 ++ []
def dkwX12_digit_0 : List UInt8 := [42, 42, 182, 0, 40, 182, 0, 36, 42, 89, 180, 0, 13, 4, 96, 181, 0, 13, 42, 180, 0, 7, 42]
abbrev dktX12_digit_0 : List UInt8 := dkwX12_digit_0 ++ dktX12_digit_1
theorem dksX12_digit_0 : cX12_digit.data.toList.drop 0 = dktX12_digit_0 := by decide +kernel
theorem dksX12_digit_1 : cX12_digit.data.toList.drop 23 = dktX12_digit_1 := dk_seg dksX12_digit_0 23 rfl rfl
theorem dX12_digit_0 : decode cX12_digit 0 = .ok (.aload_n 0, 1) := dk_42 (dk_at dksX12_digit_0 0 rfl rfl)
theorem dX12_digit_1 : decode cX12_digit 1 = .ok (.aload_n 0, 1) := dk_42 (dk_at dksX12_digit_0 1 rfl rfl)
theorem dX12_digit_2 : decode cX12_digit 2 = .ok (.invokevirtual 40, 3) := dk_182 0 40 (dk_at dksX12_digit_0 2 rfl rfl)
theorem dX12_digit_5 : decode cX12_digit 5 = .ok (.invokevirtual 36, 3) := dk_182 0 36 (dk_at dksX12_digit_0 5 rfl rfl)
theorem dX12_digit_8 : decode cX12_digit 8 = .ok (.aload_n 0, 1) := dk_42 (dk_at dksX12_digit_0 8 rfl rfl)
theorem dX12_digit_9 : decode cX12_digit 9 = .ok (.dup, 1) := dk_89 (dk_at dksX12_digit_0 9 rfl rfl)
theorem dX12_digit_10 : decode cX12_digit 10 = .ok (.getfield 13, 3) := dk_180 0 13 (dk_at dksX12_digit_0 10 rfl rfl)
theorem dX12_digit_13 : decode cX12_digit 13 = .ok (.iconst 1, 1) := dk_4 (dk_at dksX12_digit_0 13 rfl rfl)
theorem dX12_digit_14 : decode cX12_digit 14 = .ok (.iadd, 1) := dk_96 (dk_at dksX12_digit_0 14 rfl rfl)
theorem dX12_digit_15 : decode cX12_digit 15 = .ok (.putfield 13, 3) := dk_181 0 13 (dk_at dksX12_digit_0 15 rfl rfl)
theorem dX12_digit_18 : decode cX12_digit 18 = .ok (.aload_n 0, 1) := dk_42 (dk_at dksX12_digit_0 18 rfl rfl)
theorem dX12_digit_19 : decode cX12_digit 19 = .ok (.getfield 7, 3) := dk_180 0 7 (dk_at dksX12_digit_0 19 rfl rfl)
theorem dX12_digit_22 : decode cX12_digit 22 = .ok (.aload_n 0, 1) := dk_42 (dk_at dksX12_digit_0 22 rfl rfl)
theorem dX12_digit_23 : decode cX12_digit 23 = .ok (.getfield 13, 3) := dk_180 0 13 (dk_at dksX12_digit_1 0 rfl rfl)
theorem dX12_digit_26 : decode cX12_digit 26 = .ok (.iconst 1, 1) := dk_4 (dk_at dksX12_digit_1 3 rfl rfl)
theorem dX12_digit_27 : decode cX12_digit 27 = .ok (.isub, 1) := dk_100 (dk_at dksX12_digit_1 4 rfl rfl)
theorem dX12_digit_28 : decode cX12_digit 28 = .ok (.invokevirtual 23, 3) := dk_182 0 23 (dk_at dksX12_digit_1 5 rfl rfl)
theorem dX12_digit_31 : decode cX12_digit 31 = .ok (.bipush 48, 2) := dk_16 48 (dk_at dksX12_digit_1 8 rfl rfl)
theorem dX12_digit_33 : decode cX12_digit 33 = .ok (.isub, 1) := dk_100 (dk_at dksX12_digit_1 10 rfl rfl)
theorem dX12_digit_34 : decode cX12_digit 34 = .ok (.ireturn, 1) := dk_172 (dk_at dksX12_digit_1 11 rfl rfl)
abbrev cX12_isAtDigit : ByteArray := prog_9_method_5_code
def yX12_isAtDigit : MethodName := ⟨RX12, "isAtDigit", "()Z"⟩
def dkwX12_isAtDigit_0 : List UInt8 := [42, 182, 0, 32, 16, 48, 161, 0, 16, 42, 182, 0, 32, 16, 57, 163, 0, 7, 4, 167, 0, 4, 3, 172]
abbrev dktX12_isAtDigit_0 : List UInt8 := dkwX12_isAtDigit_0 ++ []
theorem dksX12_isAtDigit_0 : cX12_isAtDigit.data.toList.drop 0 = dktX12_isAtDigit_0 := by decide +kernel
theorem dX12_isAtDigit_0 : decode cX12_isAtDigit 0 = .ok (.aload_n 0, 1) := dk_42 (dk_at dksX12_isAtDigit_0 0 rfl rfl)
theorem dX12_isAtDigit_1 : decode cX12_isAtDigit 1 = .ok (.invokevirtual 32, 3) := dk_182 0 32 (dk_at dksX12_isAtDigit_0 1 rfl rfl)
theorem dX12_isAtDigit_4 : decode cX12_isAtDigit 4 = .ok (.bipush 48, 2) := dk_16 48 (dk_at dksX12_isAtDigit_0 4 rfl rfl)
theorem dX12_isAtDigit_6 : decode cX12_isAtDigit 6 = .ok (.if_icmp .lt 16, 3) := dk_161 0 16 (dk_at dksX12_isAtDigit_0 6 rfl rfl)
theorem dX12_isAtDigit_9 : decode cX12_isAtDigit 9 = .ok (.aload_n 0, 1) := dk_42 (dk_at dksX12_isAtDigit_0 9 rfl rfl)
theorem dX12_isAtDigit_10 : decode cX12_isAtDigit 10 = .ok (.invokevirtual 32, 3) := dk_182 0 32 (dk_at dksX12_isAtDigit_0 10 rfl rfl)
theorem dX12_isAtDigit_13 : decode cX12_isAtDigit 13 = .ok (.bipush 57, 2) := dk_16 57 (dk_at dksX12_isAtDigit_0 13 rfl rfl)
theorem dX12_isAtDigit_15 : decode cX12_isAtDigit 15 = .ok (.if_icmp .gt 7, 3) := dk_163 0 7 (dk_at dksX12_isAtDigit_0 15 rfl rfl)
theorem dX12_isAtDigit_18 : decode cX12_isAtDigit 18 = .ok (.iconst 1, 1) := dk_4 (dk_at dksX12_isAtDigit_0 18 rfl rfl)
theorem dX12_isAtDigit_19 : decode cX12_isAtDigit 19 = .ok (.goto 4, 3) := dk_167 0 4 (dk_at dksX12_isAtDigit_0 19 rfl rfl)
theorem dX12_isAtDigit_22 : decode cX12_isAtDigit 22 = .ok (.iconst 0, 1) := dk_3 (dk_at dksX12_isAtDigit_0 22 rfl rfl)
theorem dX12_isAtDigit_23 : decode cX12_isAtDigit 23 = .ok (.ireturn, 1) := dk_172 (dk_at dksX12_isAtDigit_0 23 rfl rfl)
abbrev cX12_set : ByteArray := prog_9_method_9_code
def yX12_set : MethodName := ⟨RX12, "set", "()I"⟩
def dkwX12_set_2 : List UInt8 := [182, 0, 36, 27, 28, 128, 60, 42, 89, 180, 0, 13, 4, 96, 181, 0, 13, 167, 255, 200, 27, 172]
abbrev dktX12_set_2 : List UInt8 := dkwX12_set_2 ++ []
def dkwX12_set_1 : List UInt8 := [163, 0, 44, 4, 42, 182, 0, 32, 16, 97, 100, 120, 61, 42, 28, 27, 164, 0, 7, 4, 167, 0, 4, 3]
abbrev dktX12_set_1 : List UInt8 := dkwX12_set_1 ++ dktX12_set_2
def dkwX12_set_0 : List UInt8 := [42, 16, 47, 182, 0, 44, 3, 60, 42, 182, 0, 32, 16, 97, 161, 0, 53, 42, 182, 0, 32, 16, 104]
abbrev dktX12_set_0 : List UInt8 := dkwX12_set_0 ++ dktX12_set_1
theorem dksX12_set_0 : cX12_set.data.toList.drop 0 = dktX12_set_0 := by decide +kernel
theorem dksX12_set_1 : cX12_set.data.toList.drop 23 = dktX12_set_1 := dk_seg dksX12_set_0 23 rfl rfl
theorem dksX12_set_2 : cX12_set.data.toList.drop 47 = dktX12_set_2 := dk_seg dksX12_set_1 24 rfl rfl
theorem dX12_set_0 : decode cX12_set 0 = .ok (.aload_n 0, 1) := dk_42 (dk_at dksX12_set_0 0 rfl rfl)
theorem dX12_set_1 : decode cX12_set 1 = .ok (.bipush 47, 2) := dk_16 47 (dk_at dksX12_set_0 1 rfl rfl)
theorem dX12_set_3 : decode cX12_set 3 = .ok (.invokevirtual 44, 3) := dk_182 0 44 (dk_at dksX12_set_0 3 rfl rfl)
theorem dX12_set_6 : decode cX12_set 6 = .ok (.iconst 0, 1) := dk_3 (dk_at dksX12_set_0 6 rfl rfl)
theorem dX12_set_7 : decode cX12_set 7 = .ok (.istore_n 1, 1) := dk_60 (dk_at dksX12_set_0 7 rfl rfl)
theorem dX12_set_8 : decode cX12_set 8 = .ok (.aload_n 0, 1) := dk_42 (dk_at dksX12_set_0 8 rfl rfl)
theorem dX12_set_9 : decode cX12_set 9 = .ok (.invokevirtual 32, 3) := dk_182 0 32 (dk_at dksX12_set_0 9 rfl rfl)
theorem dX12_set_12 : decode cX12_set 12 = .ok (.bipush 97, 2) := dk_16 97 (dk_at dksX12_set_0 12 rfl rfl)
theorem dX12_set_14 : decode cX12_set 14 = .ok (.if_icmp .lt 53, 3) := dk_161 0 53 (dk_at dksX12_set_0 14 rfl rfl)
theorem dX12_set_17 : decode cX12_set 17 = .ok (.aload_n 0, 1) := dk_42 (dk_at dksX12_set_0 17 rfl rfl)
theorem dX12_set_18 : decode cX12_set 18 = .ok (.invokevirtual 32, 3) := dk_182 0 32 (dk_at dksX12_set_0 18 rfl rfl)
theorem dX12_set_21 : decode cX12_set 21 = .ok (.bipush 104, 2) := dk_16 104 (dk_at dksX12_set_0 21 rfl rfl)
theorem dX12_set_23 : decode cX12_set 23 = .ok (.if_icmp .gt 44, 3) := dk_163 0 44 (dk_at dksX12_set_1 0 rfl rfl)
theorem dX12_set_26 : decode cX12_set 26 = .ok (.iconst 1, 1) := dk_4 (dk_at dksX12_set_1 3 rfl rfl)
theorem dX12_set_27 : decode cX12_set 27 = .ok (.aload_n 0, 1) := dk_42 (dk_at dksX12_set_1 4 rfl rfl)
theorem dX12_set_28 : decode cX12_set 28 = .ok (.invokevirtual 32, 3) := dk_182 0 32 (dk_at dksX12_set_1 5 rfl rfl)
theorem dX12_set_31 : decode cX12_set 31 = .ok (.bipush 97, 2) := dk_16 97 (dk_at dksX12_set_1 8 rfl rfl)
theorem dX12_set_33 : decode cX12_set 33 = .ok (.isub, 1) := dk_100 (dk_at dksX12_set_1 10 rfl rfl)
theorem dX12_set_34 : decode cX12_set 34 = .ok (.ishl, 1) := dk_120 (dk_at dksX12_set_1 11 rfl rfl)
theorem dX12_set_35 : decode cX12_set 35 = .ok (.istore_n 2, 1) := dk_61 (dk_at dksX12_set_1 12 rfl rfl)
theorem dX12_set_36 : decode cX12_set 36 = .ok (.aload_n 0, 1) := dk_42 (dk_at dksX12_set_1 13 rfl rfl)
theorem dX12_set_37 : decode cX12_set 37 = .ok (.iload_n 2, 1) := dk_28 (dk_at dksX12_set_1 14 rfl rfl)
theorem dX12_set_38 : decode cX12_set 38 = .ok (.iload_n 1, 1) := dk_27 (dk_at dksX12_set_1 15 rfl rfl)
theorem dX12_set_39 : decode cX12_set 39 = .ok (.if_icmp .le 7, 3) := dk_164 0 7 (dk_at dksX12_set_1 16 rfl rfl)
theorem dX12_set_42 : decode cX12_set 42 = .ok (.iconst 1, 1) := dk_4 (dk_at dksX12_set_1 19 rfl rfl)
theorem dX12_set_43 : decode cX12_set 43 = .ok (.goto 4, 3) := dk_167 0 4 (dk_at dksX12_set_1 20 rfl rfl)
theorem dX12_set_46 : decode cX12_set 46 = .ok (.iconst 0, 1) := dk_3 (dk_at dksX12_set_1 23 rfl rfl)
theorem dX12_set_47 : decode cX12_set 47 = .ok (.invokevirtual 36, 3) := dk_182 0 36 (dk_at dksX12_set_2 0 rfl rfl)
theorem dX12_set_50 : decode cX12_set 50 = .ok (.iload_n 1, 1) := dk_27 (dk_at dksX12_set_2 3 rfl rfl)
theorem dX12_set_51 : decode cX12_set 51 = .ok (.iload_n 2, 1) := dk_28 (dk_at dksX12_set_2 4 rfl rfl)
theorem dX12_set_52 : decode cX12_set 52 = .ok (.ior, 1) := dk_128 (dk_at dksX12_set_2 5 rfl rfl)
theorem dX12_set_53 : decode cX12_set 53 = .ok (.istore_n 1, 1) := dk_60 (dk_at dksX12_set_2 6 rfl rfl)
theorem dX12_set_54 : decode cX12_set 54 = .ok (.aload_n 0, 1) := dk_42 (dk_at dksX12_set_2 7 rfl rfl)
theorem dX12_set_55 : decode cX12_set 55 = .ok (.dup, 1) := dk_89 (dk_at dksX12_set_2 8 rfl rfl)
theorem dX12_set_56 : decode cX12_set 56 = .ok (.getfield 13, 3) := dk_180 0 13 (dk_at dksX12_set_2 9 rfl rfl)
theorem dX12_set_59 : decode cX12_set 59 = .ok (.iconst 1, 1) := dk_4 (dk_at dksX12_set_2 12 rfl rfl)
theorem dX12_set_60 : decode cX12_set 60 = .ok (.iadd, 1) := dk_96 (dk_at dksX12_set_2 13 rfl rfl)
theorem dX12_set_61 : decode cX12_set 61 = .ok (.putfield 13, 3) := dk_181 0 13 (dk_at dksX12_set_2 14 rfl rfl)
theorem dX12_set_64 : decode cX12_set 64 = .ok (.goto (-56), 3) := dk_167 255 200 (dk_at dksX12_set_2 17 rfl rfl)
theorem dX12_set_67 : decode cX12_set 67 = .ok (.iload_n 1, 1) := dk_27 (dk_at dksX12_set_2 20 rfl rfl)
theorem dX12_set_68 : decode cX12_set 68 = .ok (.ireturn, 1) := dk_172 (dk_at dksX12_set_2 21 rfl rfl)
abbrev cX12_spaceAndNumber : ByteArray := prog_9_method_8_code
def yX12_spaceAndNumber : MethodName := ⟨RX12, "spaceAndNumber", "()I"⟩
def dkwX12_spaceAndNumber_1 : List UInt8 := [182, 0, 48, 96, 60, 132, 2, 1, 167, 255, 231, 27, 172]
abbrev dktX12_spaceAndNumber_1 : List UInt8 := dkwX12_spaceAndNumber_1 ++ []
def dkwX12_spaceAndNumber_0 : List UInt8 := [42, 182, 0, 51, 60, 4, 61, 28, 6, 162, 0, 26, 42, 182, 0, 40, 153, 0, 19, 16, 10, 27, 104, 42]
abbrev dktX12_spaceAndNumber_0 : List UInt8 := dkwX12_spaceAndNumber_0 ++ dktX12_spaceAndNumber_1
theorem dksX12_spaceAndNumber_0 : cX12_spaceAndNumber.data.toList.drop 0 = dktX12_spaceAndNumber_0 := by decide +kernel
theorem dksX12_spaceAndNumber_1 : cX12_spaceAndNumber.data.toList.drop 24 = dktX12_spaceAndNumber_1 := dk_seg dksX12_spaceAndNumber_0 24 rfl rfl
theorem dX12_spaceAndNumber_0 : decode cX12_spaceAndNumber 0 = .ok (.aload_n 0, 1) := dk_42 (dk_at dksX12_spaceAndNumber_0 0 rfl rfl)
theorem dX12_spaceAndNumber_1 : decode cX12_spaceAndNumber 1 = .ok (.invokevirtual 51, 3) := dk_182 0 51 (dk_at dksX12_spaceAndNumber_0 1 rfl rfl)
theorem dX12_spaceAndNumber_4 : decode cX12_spaceAndNumber 4 = .ok (.istore_n 1, 1) := dk_60 (dk_at dksX12_spaceAndNumber_0 4 rfl rfl)
theorem dX12_spaceAndNumber_5 : decode cX12_spaceAndNumber 5 = .ok (.iconst 1, 1) := dk_4 (dk_at dksX12_spaceAndNumber_0 5 rfl rfl)
theorem dX12_spaceAndNumber_6 : decode cX12_spaceAndNumber 6 = .ok (.istore_n 2, 1) := dk_61 (dk_at dksX12_spaceAndNumber_0 6 rfl rfl)
theorem dX12_spaceAndNumber_7 : decode cX12_spaceAndNumber 7 = .ok (.iload_n 2, 1) := dk_28 (dk_at dksX12_spaceAndNumber_0 7 rfl rfl)
theorem dX12_spaceAndNumber_8 : decode cX12_spaceAndNumber 8 = .ok (.iconst 3, 1) := dk_6 (dk_at dksX12_spaceAndNumber_0 8 rfl rfl)
theorem dX12_spaceAndNumber_9 : decode cX12_spaceAndNumber 9 = .ok (.if_icmp .ge 26, 3) := dk_162 0 26 (dk_at dksX12_spaceAndNumber_0 9 rfl rfl)
theorem dX12_spaceAndNumber_12 : decode cX12_spaceAndNumber 12 = .ok (.aload_n 0, 1) := dk_42 (dk_at dksX12_spaceAndNumber_0 12 rfl rfl)
theorem dX12_spaceAndNumber_13 : decode cX12_spaceAndNumber 13 = .ok (.invokevirtual 40, 3) := dk_182 0 40 (dk_at dksX12_spaceAndNumber_0 13 rfl rfl)
theorem dX12_spaceAndNumber_16 : decode cX12_spaceAndNumber 16 = .ok (.ifCond .eq 19, 3) := dk_153 0 19 (dk_at dksX12_spaceAndNumber_0 16 rfl rfl)
theorem dX12_spaceAndNumber_19 : decode cX12_spaceAndNumber 19 = .ok (.bipush 10, 2) := dk_16 10 (dk_at dksX12_spaceAndNumber_0 19 rfl rfl)
theorem dX12_spaceAndNumber_21 : decode cX12_spaceAndNumber 21 = .ok (.iload_n 1, 1) := dk_27 (dk_at dksX12_spaceAndNumber_0 21 rfl rfl)
theorem dX12_spaceAndNumber_22 : decode cX12_spaceAndNumber 22 = .ok (.imul, 1) := dk_104 (dk_at dksX12_spaceAndNumber_0 22 rfl rfl)
theorem dX12_spaceAndNumber_23 : decode cX12_spaceAndNumber 23 = .ok (.aload_n 0, 1) := dk_42 (dk_at dksX12_spaceAndNumber_0 23 rfl rfl)
theorem dX12_spaceAndNumber_24 : decode cX12_spaceAndNumber 24 = .ok (.invokevirtual 48, 3) := dk_182 0 48 (dk_at dksX12_spaceAndNumber_1 0 rfl rfl)
theorem dX12_spaceAndNumber_27 : decode cX12_spaceAndNumber 27 = .ok (.iadd, 1) := dk_96 (dk_at dksX12_spaceAndNumber_1 3 rfl rfl)
theorem dX12_spaceAndNumber_28 : decode cX12_spaceAndNumber 28 = .ok (.istore_n 1, 1) := dk_60 (dk_at dksX12_spaceAndNumber_1 4 rfl rfl)
theorem dX12_spaceAndNumber_29 : decode cX12_spaceAndNumber 29 = .ok (.iinc 2 1, 3) := dk_132 2 1 (dk_at dksX12_spaceAndNumber_1 5 rfl rfl)
theorem dX12_spaceAndNumber_32 : decode cX12_spaceAndNumber 32 = .ok (.goto (-25), 3) := dk_167 255 231 (dk_at dksX12_spaceAndNumber_1 8 rfl rfl)
theorem dX12_spaceAndNumber_35 : decode cX12_spaceAndNumber 35 = .ok (.iload_n 1, 1) := dk_27 (dk_at dksX12_spaceAndNumber_1 11 rfl rfl)
theorem dX12_spaceAndNumber_36 : decode cX12_spaceAndNumber 36 = .ok (.ireturn, 1) := dk_172 (dk_at dksX12_spaceAndNumber_1 12 rfl rfl)
theorem q113 : (Jvm.Cond.initialized "FilterWaterworks$Parser") ∈ lw_all := lw_g (lw_at lw_m1 46 rfl) rfl
theorem q997 : (Jvm.Cond.selects "FilterWaterworks$Parser" ({ cls := "java/lang/Object", name := "getClass", desc := "()Ljava/lang/Class;" } : Jvm.MethodName) ({ cls := "java/lang/Object", name := "getClass", desc := "()Ljava/lang/Class;" } : Jvm.MethodName)) ∈ lw_all := lw_g (lw_at lw_m4 210 rfl) rfl
theorem q1974 : (Jvm.Cond.instantiable "FilterWaterworks$Parser" (2 : Nat)) ∈ lw_all := lw_g (lw_at lw_m8 227 rfl) rfl
theorem q1976 : (Jvm.Cond.instanceMethod ({ cls := "FilterWaterworks$Parser", name := "<init>", desc := "(Ljava/lang/String;)V" } : Jvm.MethodName)) ∈ lw_all := lw_g (lw_at lw_m8 229 rfl) rfl
theorem q1977 : (Jvm.Cond.code ({ cls := "FilterWaterworks$Parser", name := "<init>", desc := "(Ljava/lang/String;)V" } : Jvm.MethodName) prog_9_method_1_code (2 : Nat) (Option.none : Option Jvm.ClassFile.FieldType)) ∈ lw_all := lw_g (lw_at lw_m8 230 rfl) rfl
theorem q1978 : (Jvm.Cond.methodLink "FilterWaterworks$Parser" (1 : Nat) ({ cls := "java/lang/Object", name := "<init>", desc := "()V" } : Jvm.MethodName)) ∈ lw_all := lw_g (lw_at lw_m8 231 rfl) rfl
theorem q1979 : (Jvm.Cond.fieldLink "FilterWaterworks$Parser" (7 : Nat) "FilterWaterworks$Parser" "text" "Ljava/lang/String;") ∈ lw_all := lw_g (lw_at lw_m8 232 rfl) rfl
theorem q1980 : (Jvm.Cond.fieldLink "FilterWaterworks$Parser" (13 : Nat) "FilterWaterworks$Parser" "at" "I") ∈ lw_all := lw_g (lw_at lw_m8 233 rfl) rfl
theorem q1981 : (Jvm.Cond.laysFinal "FilterWaterworks$Parser" "FilterWaterworks$Parser" "text" "Ljava/lang/String;") ∈ lw_all := lw_g (lw_at lw_m8 234 rfl) rfl
theorem q1982 : (Jvm.Cond.soleField "FilterWaterworks$Parser" "text") ∈ lw_all := lw_g (lw_at lw_m8 235 rfl) rfl
theorem q1983 : (Jvm.Cond.lays "FilterWaterworks$Parser" "FilterWaterworks$Parser" "at" "I") ∈ lw_all := lw_g (lw_at lw_m8 236 rfl) rfl
theorem q1984 : (Jvm.Cond.soleField "FilterWaterworks$Parser" "at") ∈ lw_all := lw_g (lw_at lw_m8 237 rfl) rfl
theorem q1985 : (Jvm.Cond.superclass "FilterWaterworks$Parser" "java/lang/Object") ∈ lw_all := lw_g (lw_at lw_m8 238 rfl) rfl
theorem q1987 : (Jvm.Cond.instanceMethod ({ cls := "FilterWaterworks$Parser", name := "commands", desc := "()Ljava/util/List;" } : Jvm.MethodName)) ∈ lw_all := lw_g (lw_at lw_m9 0 rfl) rfl
theorem q1988 : (Jvm.Cond.selects "FilterWaterworks$Parser" ({ cls := "FilterWaterworks$Parser", name := "commands", desc := "()Ljava/util/List;" } : Jvm.MethodName) ({ cls := "FilterWaterworks$Parser", name := "commands", desc := "()Ljava/util/List;" } : Jvm.MethodName)) ∈ lw_all := lw_g (lw_at lw_m9 1 rfl) rfl
theorem q1989 : (Jvm.Cond.code ({ cls := "FilterWaterworks$Parser", name := "commands", desc := "()Ljava/util/List;" } : Jvm.MethodName) prog_9_method_12_code (2 : Nat) (Option.some (Jvm.ClassFile.FieldType.object "java/util/List"))) ∈ lw_all := lw_g (lw_at lw_m9 2 rfl) rfl
theorem q1990 : (Jvm.Cond.classLink "FilterWaterworks$Parser" (113 : Nat) "java/util/ArrayList") ∈ lw_all := lw_g (lw_at lw_m9 3 rfl) rfl
theorem q1991 : (Jvm.Cond.methodLink "FilterWaterworks$Parser" (115 : Nat) ({ cls := "java/util/ArrayList", name := "<init>", desc := "()V" } : Jvm.MethodName)) ∈ lw_all := lw_g (lw_at lw_m9 4 rfl) rfl
theorem q1992 : (Jvm.Cond.methodLink "FilterWaterworks$Parser" (116 : Nat) ({ cls := "FilterWaterworks$Parser", name := "command", desc := "()LFilterWaterworks$Command;" } : Jvm.MethodName)) ∈ lw_all := lw_g (lw_at lw_m9 5 rfl) rfl
theorem q1993 : (Jvm.Cond.privateMethod ({ cls := "FilterWaterworks$Parser", name := "command", desc := "()LFilterWaterworks$Command;" } : Jvm.MethodName)) ∈ lw_tbl := lw_at lw_m9 6 rfl
theorem q1994 : (Jvm.Cond.instanceMethod ({ cls := "FilterWaterworks$Parser", name := "command", desc := "()LFilterWaterworks$Command;" } : Jvm.MethodName)) ∈ lw_all := lw_g (lw_at lw_m9 7 rfl) rfl
theorem q1995 : (Jvm.Cond.code ({ cls := "FilterWaterworks$Parser", name := "command", desc := "()LFilterWaterworks$Command;" } : Jvm.MethodName) prog_9_method_11_code (10 : Nat) (Option.some (Jvm.ClassFile.FieldType.object "FilterWaterworks$Command"))) ∈ lw_all := lw_g (lw_at lw_m9 8 rfl) rfl
theorem q1996 : (Jvm.Cond.methodLink "FilterWaterworks$Parser" (80 : Nat) ({ cls := "FilterWaterworks$Parser", name := "word", desc := "()Ljava/lang/String;" } : Jvm.MethodName)) ∈ lw_all := lw_g (lw_at lw_m9 9 rfl) rfl
theorem q1997 : (Jvm.Cond.privateMethod ({ cls := "FilterWaterworks$Parser", name := "word", desc := "()Ljava/lang/String;" } : Jvm.MethodName)) ∈ lw_tbl := lw_at lw_m9 10 rfl
theorem q1998 : (Jvm.Cond.instanceMethod ({ cls := "FilterWaterworks$Parser", name := "word", desc := "()Ljava/lang/String;" } : Jvm.MethodName)) ∈ lw_all := lw_g (lw_at lw_m9 11 rfl) rfl
theorem q1999 : (Jvm.Cond.code ({ cls := "FilterWaterworks$Parser", name := "word", desc := "()Ljava/lang/String;" } : Jvm.MethodName) prog_9_method_10_code (2 : Nat) (Option.some (Jvm.ClassFile.FieldType.object "java/lang/String"))) ∈ lw_all := lw_g (lw_at lw_m9 12 rfl) rfl
theorem q2000 : (Jvm.Cond.classLink "FilterWaterworks$Parser" (54 : Nat) "java/lang/StringBuilder") ∈ lw_all := lw_g (lw_at lw_m9 13 rfl) rfl
theorem q2001 : (Jvm.Cond.methodLink "FilterWaterworks$Parser" (56 : Nat) ({ cls := "java/lang/StringBuilder", name := "<init>", desc := "()V" } : Jvm.MethodName)) ∈ lw_all := lw_g (lw_at lw_m9 14 rfl) rfl
theorem q2002 : (Jvm.Cond.methodLink "FilterWaterworks$Parser" (32 : Nat) ({ cls := "FilterWaterworks$Parser", name := "current", desc := "()C" } : Jvm.MethodName)) ∈ lw_all := lw_g (lw_at lw_m9 15 rfl) rfl
theorem q2003 : (Jvm.Cond.privateMethod ({ cls := "FilterWaterworks$Parser", name := "current", desc := "()C" } : Jvm.MethodName)) ∈ lw_tbl := lw_at lw_m9 16 rfl
theorem q2004 : (Jvm.Cond.instanceMethod ({ cls := "FilterWaterworks$Parser", name := "current", desc := "()C" } : Jvm.MethodName)) ∈ lw_all := lw_g (lw_at lw_m9 17 rfl) rfl
theorem q2005 : (Jvm.Cond.code ({ cls := "FilterWaterworks$Parser", name := "current", desc := "()C" } : Jvm.MethodName) prog_9_method_2_code (1 : Nat) (Option.some Jvm.ClassFile.FieldType.char)) ∈ lw_all := lw_g (lw_at lw_m9 18 rfl) rfl
theorem q2006 : (Jvm.Cond.methodLink "FilterWaterworks$Parser" (17 : Nat) ({ cls := "java/lang/String", name := "length", desc := "()I" } : Jvm.MethodName)) ∈ lw_all := lw_g (lw_at lw_m9 19 rfl) rfl
theorem q2007 : (Jvm.Cond.methodLink "FilterWaterworks$Parser" (23 : Nat) ({ cls := "java/lang/String", name := "charAt", desc := "(I)C" } : Jvm.MethodName)) ∈ lw_all := lw_g (lw_at lw_m9 20 rfl) rfl
theorem q2008 : (Jvm.Cond.stringRef "FilterWaterworks$Parser" (57 : Nat) " tank pipe pour draw valve leak clean wait ") ∈ lw_tbl := lw_at lw_m9 21 rfl
theorem q2009 : (Jvm.Cond.stringRef "FilterWaterworks$Parser" (59 : Nat) " ") ∈ lw_tbl := lw_at lw_m9 22 rfl
theorem q2010 : (Jvm.Cond.methodLink "FilterWaterworks$Parser" (61 : Nat) ({ cls := "java/lang/StringBuilder", name := "append", desc := "(Ljava/lang/String;)Ljava/lang/StringBuilder;" } : Jvm.MethodName)) ∈ lw_all := lw_g (lw_at lw_m9 23 rfl) rfl
theorem q2011 : (Jvm.Cond.methodLink "FilterWaterworks$Parser" (65 : Nat) ({ cls := "java/lang/StringBuilder", name := "append", desc := "(Ljava/lang/Object;)Ljava/lang/StringBuilder;" } : Jvm.MethodName)) ∈ lw_all := lw_g (lw_at lw_m9 24 rfl) rfl
theorem q2069 : (Jvm.Cond.selects "FilterWaterworks$Parser" ({ cls := "java/lang/Object", name := "toString", desc := "()Ljava/lang/String;" } : Jvm.MethodName) ({ cls := "java/lang/Object", name := "toString", desc := "()Ljava/lang/String;" } : Jvm.MethodName)) ∈ lw_all := lw_g (lw_at lw_m9 82 rfl) rfl
theorem q2091 : (Jvm.Cond.methodLink "FilterWaterworks$Parser" (68 : Nat) ({ cls := "java/lang/StringBuilder", name := "append", desc := "(C)Ljava/lang/StringBuilder;" } : Jvm.MethodName)) ∈ lw_all := lw_g (lw_at lw_m9 104 rfl) rfl
theorem q2092 : (Jvm.Cond.methodLink "FilterWaterworks$Parser" (71 : Nat) ({ cls := "java/lang/StringBuilder", name := "toString", desc := "()Ljava/lang/String;" } : Jvm.MethodName)) ∈ lw_all := lw_g (lw_at lw_m9 105 rfl) rfl
theorem q2093 : (Jvm.Cond.methodLink "FilterWaterworks$Parser" (75 : Nat) ({ cls := "java/lang/String", name := "contains", desc := "(Ljava/lang/CharSequence;)Z" } : Jvm.MethodName)) ∈ lw_all := lw_g (lw_at lw_m9 106 rfl) rfl
theorem q2131 : (Jvm.Cond.methodLink "FilterWaterworks$Parser" (36 : Nat) ({ cls := "FilterWaterworks$Parser", name := "require", desc := "(Z)V" } : Jvm.MethodName)) ∈ lw_all := lw_g (lw_at lw_m9 144 rfl) rfl
theorem q2132 : (Jvm.Cond.privateMethod ({ cls := "FilterWaterworks$Parser", name := "require", desc := "(Z)V" } : Jvm.MethodName)) ∈ lw_tbl := lw_at lw_m9 145 rfl
theorem q2133 : (Jvm.Cond.instanceMethod ({ cls := "FilterWaterworks$Parser", name := "require", desc := "(Z)V" } : Jvm.MethodName)) ∈ lw_all := lw_g (lw_at lw_m9 146 rfl) rfl
theorem q2134 : (Jvm.Cond.code ({ cls := "FilterWaterworks$Parser", name := "require", desc := "(Z)V" } : Jvm.MethodName) prog_9_method_3_code (2 : Nat) (Option.none : Option Jvm.ClassFile.FieldType)) ∈ lw_all := lw_g (lw_at lw_m9 147 rfl) rfl
theorem q2135 : (Jvm.Cond.classLink "FilterWaterworks$Parser" (27 : Nat) "FilterWaterworks$SyntaxFailure") ∈ lw_all := lw_g (lw_at lw_m9 148 rfl) rfl
theorem q2144 : (Jvm.Cond.methodLink "FilterWaterworks$Parser" (29 : Nat) ({ cls := "FilterWaterworks$SyntaxFailure", name := "<init>", desc := "(I)V" } : Jvm.MethodName)) ∈ lw_all := lw_g (lw_at lw_m9 157 rfl) rfl
theorem q2153 : (Jvm.Cond.methodLink "FilterWaterworks$Parser" (79 : Nat) ({ cls := "java/lang/StringBuilder", name := "length", desc := "()I" } : Jvm.MethodName)) ∈ lw_all := lw_g (lw_at lw_m9 166 rfl) rfl
theorem q2154 : (Jvm.Cond.methodLink "FilterWaterworks$Parser" (83 : Nat) ({ cls := "java/lang/String", name := "hashCode", desc := "()I" } : Jvm.MethodName)) ∈ lw_all := lw_g (lw_at lw_m9 167 rfl) rfl
theorem q2155 : (Jvm.Cond.stringRef "FilterWaterworks$Parser" (86 : Nat) "pipe") ∈ lw_tbl := lw_at lw_m9 168 rfl
theorem q2156 : (Jvm.Cond.methodLink "FilterWaterworks$Parser" (88 : Nat) ({ cls := "java/lang/String", name := "equals", desc := "(Ljava/lang/Object;)Z" } : Jvm.MethodName)) ∈ lw_all := lw_g (lw_at lw_m9 169 rfl) rfl
theorem q2157 : (Jvm.Cond.stringRef "FilterWaterworks$Parser" (92 : Nat) "pour") ∈ lw_tbl := lw_at lw_m9 170 rfl
theorem q2158 : (Jvm.Cond.stringRef "FilterWaterworks$Parser" (94 : Nat) "draw") ∈ lw_tbl := lw_at lw_m9 171 rfl
theorem q2159 : (Jvm.Cond.stringRef "FilterWaterworks$Parser" (96 : Nat) "valve") ∈ lw_tbl := lw_at lw_m9 172 rfl
theorem q2160 : (Jvm.Cond.stringRef "FilterWaterworks$Parser" (98 : Nat) "leak") ∈ lw_tbl := lw_at lw_m9 173 rfl
theorem q2161 : (Jvm.Cond.stringRef "FilterWaterworks$Parser" (100 : Nat) "wait") ∈ lw_tbl := lw_at lw_m9 174 rfl
theorem q2162 : (Jvm.Cond.methodLink "FilterWaterworks$Parser" (51 : Nat) ({ cls := "FilterWaterworks$Parser", name := "spaceAndDigit", desc := "()I" } : Jvm.MethodName)) ∈ lw_all := lw_g (lw_at lw_m9 175 rfl) rfl
theorem q2163 : (Jvm.Cond.privateMethod ({ cls := "FilterWaterworks$Parser", name := "spaceAndDigit", desc := "()I" } : Jvm.MethodName)) ∈ lw_tbl := lw_at lw_m9 176 rfl
theorem q2164 : (Jvm.Cond.instanceMethod ({ cls := "FilterWaterworks$Parser", name := "spaceAndDigit", desc := "()I" } : Jvm.MethodName)) ∈ lw_all := lw_g (lw_at lw_m9 177 rfl) rfl
theorem q2165 : (Jvm.Cond.code ({ cls := "FilterWaterworks$Parser", name := "spaceAndDigit", desc := "()I" } : Jvm.MethodName) prog_9_method_7_code (1 : Nat) (Option.some Jvm.ClassFile.FieldType.int)) ∈ lw_all := lw_g (lw_at lw_m9 178 rfl) rfl
theorem q2166 : (Jvm.Cond.methodLink "FilterWaterworks$Parser" (44 : Nat) ({ cls := "FilterWaterworks$Parser", name := "take", desc := "(C)V" } : Jvm.MethodName)) ∈ lw_all := lw_g (lw_at lw_m9 179 rfl) rfl
theorem q2167 : (Jvm.Cond.privateMethod ({ cls := "FilterWaterworks$Parser", name := "take", desc := "(C)V" } : Jvm.MethodName)) ∈ lw_tbl := lw_at lw_m9 180 rfl
theorem q2168 : (Jvm.Cond.instanceMethod ({ cls := "FilterWaterworks$Parser", name := "take", desc := "(C)V" } : Jvm.MethodName)) ∈ lw_all := lw_g (lw_at lw_m9 181 rfl) rfl
theorem q2169 : (Jvm.Cond.code ({ cls := "FilterWaterworks$Parser", name := "take", desc := "(C)V" } : Jvm.MethodName) prog_9_method_4_code (2 : Nat) (Option.none : Option Jvm.ClassFile.FieldType)) ∈ lw_all := lw_g (lw_at lw_m9 182 rfl) rfl
theorem q2170 : (Jvm.Cond.methodLink "FilterWaterworks$Parser" (48 : Nat) ({ cls := "FilterWaterworks$Parser", name := "digit", desc := "()I" } : Jvm.MethodName)) ∈ lw_all := lw_g (lw_at lw_m9 183 rfl) rfl
theorem q2171 : (Jvm.Cond.privateMethod ({ cls := "FilterWaterworks$Parser", name := "digit", desc := "()I" } : Jvm.MethodName)) ∈ lw_tbl := lw_at lw_m9 184 rfl
theorem q2172 : (Jvm.Cond.instanceMethod ({ cls := "FilterWaterworks$Parser", name := "digit", desc := "()I" } : Jvm.MethodName)) ∈ lw_all := lw_g (lw_at lw_m9 185 rfl) rfl
theorem q2173 : (Jvm.Cond.code ({ cls := "FilterWaterworks$Parser", name := "digit", desc := "()I" } : Jvm.MethodName) prog_9_method_6_code (1 : Nat) (Option.some Jvm.ClassFile.FieldType.int)) ∈ lw_all := lw_g (lw_at lw_m9 186 rfl) rfl
theorem q2174 : (Jvm.Cond.methodLink "FilterWaterworks$Parser" (40 : Nat) ({ cls := "FilterWaterworks$Parser", name := "isAtDigit", desc := "()Z" } : Jvm.MethodName)) ∈ lw_all := lw_g (lw_at lw_m9 187 rfl) rfl
theorem q2175 : (Jvm.Cond.privateMethod ({ cls := "FilterWaterworks$Parser", name := "isAtDigit", desc := "()Z" } : Jvm.MethodName)) ∈ lw_tbl := lw_at lw_m9 188 rfl
theorem q2176 : (Jvm.Cond.instanceMethod ({ cls := "FilterWaterworks$Parser", name := "isAtDigit", desc := "()Z" } : Jvm.MethodName)) ∈ lw_all := lw_g (lw_at lw_m9 189 rfl) rfl
theorem q2177 : (Jvm.Cond.code ({ cls := "FilterWaterworks$Parser", name := "isAtDigit", desc := "()Z" } : Jvm.MethodName) prog_9_method_5_code (1 : Nat) (Option.some Jvm.ClassFile.FieldType.boolean)) ∈ lw_all := lw_g (lw_at lw_m9 190 rfl) rfl
theorem q2178 : (Jvm.Cond.classLink "FilterWaterworks$Parser" (102 : Nat) "FilterWaterworks$Command") ∈ lw_all := lw_g (lw_at lw_m9 191 rfl) rfl
theorem q2179 : (Jvm.Cond.methodLink "FilterWaterworks$Parser" (104 : Nat) ({ cls := "FilterWaterworks$Parser", name := "set", desc := "()I" } : Jvm.MethodName)) ∈ lw_all := lw_g (lw_at lw_m9 192 rfl) rfl
theorem q2180 : (Jvm.Cond.privateMethod ({ cls := "FilterWaterworks$Parser", name := "set", desc := "()I" } : Jvm.MethodName)) ∈ lw_tbl := lw_at lw_m9 193 rfl
theorem q2181 : (Jvm.Cond.instanceMethod ({ cls := "FilterWaterworks$Parser", name := "set", desc := "()I" } : Jvm.MethodName)) ∈ lw_all := lw_g (lw_at lw_m9 194 rfl) rfl
theorem q2182 : (Jvm.Cond.code ({ cls := "FilterWaterworks$Parser", name := "set", desc := "()I" } : Jvm.MethodName) prog_9_method_9_code (3 : Nat) (Option.some Jvm.ClassFile.FieldType.int)) ∈ lw_all := lw_g (lw_at lw_m9 195 rfl) rfl
theorem q2183 : (Jvm.Cond.methodLink "FilterWaterworks$Parser" (107 : Nat) ({ cls := "FilterWaterworks$Command", name := "<init>", desc := "(Ljava/lang/String;[I)V" } : Jvm.MethodName)) ∈ lw_all := lw_g (lw_at lw_m9 196 rfl) rfl
theorem q2184 : (Jvm.Cond.methodLink "FilterWaterworks$Parser" (110 : Nat) ({ cls := "FilterWaterworks$Parser", name := "spaceAndNumber", desc := "()I" } : Jvm.MethodName)) ∈ lw_all := lw_g (lw_at lw_m9 197 rfl) rfl
theorem q2185 : (Jvm.Cond.privateMethod ({ cls := "FilterWaterworks$Parser", name := "spaceAndNumber", desc := "()I" } : Jvm.MethodName)) ∈ lw_tbl := lw_at lw_m9 198 rfl
theorem q2186 : (Jvm.Cond.instanceMethod ({ cls := "FilterWaterworks$Parser", name := "spaceAndNumber", desc := "()I" } : Jvm.MethodName)) ∈ lw_all := lw_g (lw_at lw_m9 199 rfl) rfl
theorem q2187 : (Jvm.Cond.code ({ cls := "FilterWaterworks$Parser", name := "spaceAndNumber", desc := "()I" } : Jvm.MethodName) prog_9_method_8_code (3 : Nat) (Option.some Jvm.ClassFile.FieldType.int)) ∈ lw_all := lw_g (lw_at lw_m9 200 rfl) rfl
theorem q2188 : (Jvm.Cond.interfaceEntry "FilterWaterworks$Parser" (120 : Nat)) ∈ lw_tbl := lw_at lw_m9 201 rfl
theorem q2189 : (Jvm.Cond.methodLink "FilterWaterworks$Parser" (120 : Nat) ({ cls := "java/util/List", name := "add", desc := "(Ljava/lang/Object;)Z" } : Jvm.MethodName)) ∈ lw_all := lw_g (lw_at lw_m9 202 rfl) rfl
theorem q2861 : (Jvm.Cond.castable "FilterWaterworks$Parser" "java/lang/Object") ∈ lw_tbl := lw_at lw_m12 154 rfl
theorem in_X12 : ∀ w ∈ wsX120, w ∈ lw_all := lw_in wsX120 [1981, 1983] (by decide +kernel) (by decide +kernel)

/-! FilterWaterworks$SyntaxFailure -/
set_option maxRecDepth 100000
def RX13 : String := "FilterWaterworks$SyntaxFailure"
def TX13 : u_T := fun k => match k with
  | 0 => ("java/lang/Throwable", "cause", "Ljava/lang/Throwable;", false)
  | 1 => ("java/lang/Throwable", "stackTrace", "[Ljava/lang/StackTraceElement;", false)
  | 2 => ("java/lang/Throwable", "suppressedExceptions", "Ljava/util/List;", false)
  | 3 => ("java/lang/Throwable", "detailMessage", "Ljava/lang/String;", false)
  | 4 => ("java/lang/Throwable", "backtrace", "Ljava/lang/Object;", false)
  | 5 => ("java/lang/Throwable", "depth", "I", false)
  | _ => ("FilterWaterworks$SyntaxFailure", "position", "I", true)
def tyX13 : Nat → FieldType := fun k => match k with
  | 0 => .object "java/lang/Throwable"
  | 1 => .array (.object "java/lang/StackTraceElement")
  | 2 => .object "java/util/List"
  | 3 => .object "java/lang/String"
  | 4 => .object "java/lang/Object"
  | 5 => .int
  | _ => .int
abbrev wsX130 : List Cond := u_ws RX13 TX13 7
theorem nmX13 : ∀ a, a < 7 → ∀ b, b < 7 → a ≠ b → (TX13 a).2.1 ≠ (TX13 b).2.1 := by decide +kernel
theorem tyX13_ok : ∀ k, k < 7 → parseFieldDescriptor (TX13 k).2.2.1 = some (tyX13 k) := by decide +kernel
abbrev cX13_asPublicException : ByteArray := prog_12_method_3_code
def yX13_asPublicException : MethodName := ⟨RX13, "asPublicException", "()Ljava/lang/RuntimeException;"⟩
def dkwX13_asPublicException_0 : List UInt8 := [187, 0, 13, 89, 183, 0, 15, 176]
abbrev dktX13_asPublicException_0 : List UInt8 := dkwX13_asPublicException_0 ++ []
theorem dksX13_asPublicException_0 : cX13_asPublicException.data.toList.drop 0 = dktX13_asPublicException_0 := by decide +kernel
theorem dX13_asPublicException_0 : decode cX13_asPublicException 0 = .ok (.new 13, 3) := dk_187 0 13 (dk_at dksX13_asPublicException_0 0 rfl rfl)
theorem dX13_asPublicException_3 : decode cX13_asPublicException 3 = .ok (.dup, 1) := dk_89 (dk_at dksX13_asPublicException_0 3 rfl rfl)
theorem dX13_asPublicException_4 : decode cX13_asPublicException 4 = .ok (.invokespecial 15, 3) := dk_183 0 15 (dk_at dksX13_asPublicException_0 4 rfl rfl)
theorem dX13_asPublicException_7 : decode cX13_asPublicException 7 = .ok (.areturn, 1) := dk_176 (dk_at dksX13_asPublicException_0 7 rfl rfl)
abbrev cX13_init : ByteArray := prog_12_method_1_code
def yX13_init : MethodName := ⟨RX13, "<init>", "(I)V"⟩
def dkwX13_init_0 : List UInt8 := [42, 1, 183, 0, 1, 42, 27, 181, 0, 7, 177]
abbrev dktX13_init_0 : List UInt8 := dkwX13_init_0 ++ []
theorem dksX13_init_0 : cX13_init.data.toList.drop 0 = dktX13_init_0 := by decide +kernel
theorem dX13_init_0 : decode cX13_init 0 = .ok (.aload_n 0, 1) := dk_42 (dk_at dksX13_init_0 0 rfl rfl)
theorem dX13_init_1 : decode cX13_init 1 = .ok (.aconst_null, 1) := dk_1 (dk_at dksX13_init_0 1 rfl rfl)
theorem dX13_init_2 : decode cX13_init 2 = .ok (.invokespecial 1, 3) := dk_183 0 1 (dk_at dksX13_init_0 2 rfl rfl)
theorem dX13_init_5 : decode cX13_init 5 = .ok (.aload_n 0, 1) := dk_42 (dk_at dksX13_init_0 5 rfl rfl)
theorem dX13_init_6 : decode cX13_init 6 = .ok (.iload_n 1, 1) := dk_27 (dk_at dksX13_init_0 6 rfl rfl)
theorem dX13_init_7 : decode cX13_init 7 = .ok (.putfield 7, 3) := dk_181 0 7 (dk_at dksX13_init_0 7 rfl rfl)
theorem dX13_init_10 : decode cX13_init 10 = .ok (.return_, 1) := dk_177 (dk_at dksX13_init_0 10 rfl rfl)
abbrev cX13_position : ByteArray := prog_12_method_2_code
def yX13_position : MethodName := ⟨RX13, "position", "()I"⟩
theorem dX13_position_0 : decode cX13_position 0 = .ok (.aload_n 0, 1) := by decide +kernel
theorem dX13_position_1 : decode cX13_position 1 = .ok (.getfield 7, 3) := by decide +kernel
theorem dX13_position_4 : decode cX13_position 4 = .ok (.ireturn, 1) := by decide +kernel
theorem q114 : (Jvm.Cond.initialized "FilterWaterworks$SyntaxFailure") ∈ lw_all := lw_g (lw_at lw_m1 47 rfl) rfl
theorem q391 : (Jvm.Cond.selects "FilterWaterworks$SyntaxFailure" ({ cls := "java/lang/Throwable", name := "fillInStackTrace", desc := "()Ljava/lang/Throwable;" } : Jvm.MethodName) ({ cls := "java/lang/Throwable", name := "fillInStackTrace", desc := "()Ljava/lang/Throwable;" } : Jvm.MethodName)) ∈ lw_all := lw_g (lw_at lw_m2 84 rfl) rfl
theorem q1000 : (Jvm.Cond.selects "FilterWaterworks$SyntaxFailure" ({ cls := "java/lang/Object", name := "getClass", desc := "()Ljava/lang/Class;" } : Jvm.MethodName) ({ cls := "java/lang/Object", name := "getClass", desc := "()Ljava/lang/Class;" } : Jvm.MethodName)) ∈ lw_all := lw_g (lw_at lw_m4 213 rfl) rfl
theorem q1423 : (Jvm.Cond.selects "FilterWaterworks$SyntaxFailure" ({ cls := "FilterWaterworks$Failure", name := "asPublicException", desc := "()Ljava/lang/RuntimeException;" } : Jvm.MethodName) ({ cls := "FilterWaterworks$SyntaxFailure", name := "asPublicException", desc := "()Ljava/lang/RuntimeException;" } : Jvm.MethodName)) ∈ lw_all := lw_g (lw_at lw_m6 156 rfl) rfl
theorem q1424 : (Jvm.Cond.instanceMethod ({ cls := "FilterWaterworks$SyntaxFailure", name := "asPublicException", desc := "()Ljava/lang/RuntimeException;" } : Jvm.MethodName)) ∈ lw_all := lw_g (lw_at lw_m6 157 rfl) rfl
theorem q1425 : (Jvm.Cond.code ({ cls := "FilterWaterworks$SyntaxFailure", name := "asPublicException", desc := "()Ljava/lang/RuntimeException;" } : Jvm.MethodName) prog_12_method_3_code (1 : Nat) (Option.some (Jvm.ClassFile.FieldType.object "java/lang/RuntimeException"))) ∈ lw_all := lw_g (lw_at lw_m6 158 rfl) rfl
theorem q1426 : (Jvm.Cond.classLink "FilterWaterworks$SyntaxFailure" (13 : Nat) "java/lang/IllegalArgumentException") ∈ lw_all := lw_g (lw_at lw_m6 159 rfl) rfl
theorem q1427 : (Jvm.Cond.methodLink "FilterWaterworks$SyntaxFailure" (15 : Nat) ({ cls := "java/lang/IllegalArgumentException", name := "<init>", desc := "()V" } : Jvm.MethodName)) ∈ lw_all := lw_g (lw_at lw_m6 160 rfl) rfl
theorem q2034 : (Jvm.Cond.selects "FilterWaterworks$SyntaxFailure" ({ cls := "java/lang/Throwable", name := "getLocalizedMessage", desc := "()Ljava/lang/String;" } : Jvm.MethodName) ({ cls := "java/lang/Throwable", name := "getLocalizedMessage", desc := "()Ljava/lang/String;" } : Jvm.MethodName)) ∈ lw_all := lw_g (lw_at lw_m9 47 rfl) rfl
theorem q2049 : (Jvm.Cond.selects "FilterWaterworks$SyntaxFailure" ({ cls := "java/lang/Throwable", name := "getMessage", desc := "()Ljava/lang/String;" } : Jvm.MethodName) ({ cls := "java/lang/Throwable", name := "getMessage", desc := "()Ljava/lang/String;" } : Jvm.MethodName)) ∈ lw_all := lw_g (lw_at lw_m9 62 rfl) rfl
theorem q2072 : (Jvm.Cond.selects "FilterWaterworks$SyntaxFailure" ({ cls := "java/lang/Object", name := "toString", desc := "()Ljava/lang/String;" } : Jvm.MethodName) ({ cls := "java/lang/Throwable", name := "toString", desc := "()Ljava/lang/String;" } : Jvm.MethodName)) ∈ lw_all := lw_g (lw_at lw_m9 85 rfl) rfl
theorem q2136 : (Jvm.Cond.instantiable "FilterWaterworks$SyntaxFailure" (7 : Nat)) ∈ lw_all := lw_g (lw_at lw_m9 149 rfl) rfl
theorem q2137 : (Jvm.Cond.castable "FilterWaterworks$SyntaxFailure" "FilterWaterworks$SyntaxFailure") ∈ lw_tbl := lw_at lw_m9 150 rfl
theorem q2138 : (Jvm.Cond.selects "FilterWaterworks$SyntaxFailure" ({ cls := "java/lang/Throwable", name := "fillInStackTrace", desc := "(I)Ljava/lang/Throwable;" } : Jvm.MethodName) ({ cls := "java/lang/Throwable", name := "fillInStackTrace", desc := "(I)Ljava/lang/Throwable;" } : Jvm.MethodName)) ∈ lw_all := lw_g (lw_at lw_m9 151 rfl) rfl
theorem q2139 : (Jvm.Cond.lays "FilterWaterworks$SyntaxFailure" "java/lang/Throwable" "cause" "Ljava/lang/Throwable;") ∈ lw_all := lw_g (lw_at lw_m9 152 rfl) rfl
theorem q2140 : (Jvm.Cond.lays "FilterWaterworks$SyntaxFailure" "java/lang/Throwable" "stackTrace" "[Ljava/lang/StackTraceElement;") ∈ lw_all := lw_g (lw_at lw_m9 153 rfl) rfl
theorem q2141 : (Jvm.Cond.lays "FilterWaterworks$SyntaxFailure" "java/lang/Throwable" "suppressedExceptions" "Ljava/util/List;") ∈ lw_all := lw_g (lw_at lw_m9 154 rfl) rfl
theorem q2142 : (Jvm.Cond.lays "FilterWaterworks$SyntaxFailure" "java/lang/Throwable" "detailMessage" "Ljava/lang/String;") ∈ lw_all := lw_g (lw_at lw_m9 155 rfl) rfl
theorem q2143 : (Jvm.Cond.lays "FilterWaterworks$SyntaxFailure" "java/lang/Throwable" "backtrace" "Ljava/lang/Object;") ∈ lw_all := lw_g (lw_at lw_m9 156 rfl) rfl
theorem q2145 : (Jvm.Cond.instanceMethod ({ cls := "FilterWaterworks$SyntaxFailure", name := "<init>", desc := "(I)V" } : Jvm.MethodName)) ∈ lw_all := lw_g (lw_at lw_m9 158 rfl) rfl
theorem q2146 : (Jvm.Cond.code ({ cls := "FilterWaterworks$SyntaxFailure", name := "<init>", desc := "(I)V" } : Jvm.MethodName) prog_12_method_1_code (2 : Nat) (Option.none : Option Jvm.ClassFile.FieldType)) ∈ lw_all := lw_g (lw_at lw_m9 159 rfl) rfl
theorem q2147 : (Jvm.Cond.methodLink "FilterWaterworks$SyntaxFailure" (1 : Nat) ({ cls := "FilterWaterworks$Failure", name := "<init>", desc := "(LFilterWaterworks$Failure;)V" } : Jvm.MethodName)) ∈ lw_all := lw_g (lw_at lw_m9 160 rfl) rfl
theorem q2148 : (Jvm.Cond.fieldLink "FilterWaterworks$SyntaxFailure" (7 : Nat) "FilterWaterworks$SyntaxFailure" "position" "I") ∈ lw_all := lw_g (lw_at lw_m9 161 rfl) rfl
theorem q2149 : (Jvm.Cond.laysFinal "FilterWaterworks$SyntaxFailure" "FilterWaterworks$SyntaxFailure" "position" "I") ∈ lw_all := lw_g (lw_at lw_m9 162 rfl) rfl
theorem q2150 : (Jvm.Cond.soleField "FilterWaterworks$SyntaxFailure" "position") ∈ lw_all := lw_g (lw_at lw_m9 163 rfl) rfl
theorem q2151 : (Jvm.Cond.lays "FilterWaterworks$SyntaxFailure" "java/lang/Throwable" "depth" "I") ∈ lw_all := lw_g (lw_at lw_m9 164 rfl) rfl
theorem q2152 : (Jvm.Cond.superclass "FilterWaterworks$SyntaxFailure" "FilterWaterworks$Failure") ∈ lw_all := lw_g (lw_at lw_m9 165 rfl) rfl
theorem q2212 : (Jvm.Cond.instanceMethod ({ cls := "FilterWaterworks$SyntaxFailure", name := "position", desc := "()I" } : Jvm.MethodName)) ∈ lw_all := lw_g (lw_at lw_m9 225 rfl) rfl
theorem q2213 : (Jvm.Cond.selects "FilterWaterworks$SyntaxFailure" ({ cls := "FilterWaterworks$SyntaxFailure", name := "position", desc := "()I" } : Jvm.MethodName) ({ cls := "FilterWaterworks$SyntaxFailure", name := "position", desc := "()I" } : Jvm.MethodName)) ∈ lw_all := lw_g (lw_at lw_m9 226 rfl) rfl
theorem q2214 : (Jvm.Cond.code ({ cls := "FilterWaterworks$SyntaxFailure", name := "position", desc := "()I" } : Jvm.MethodName) prog_12_method_2_code (1 : Nat) (Option.some Jvm.ClassFile.FieldType.int)) ∈ lw_all := lw_g (lw_at lw_m9 227 rfl) rfl
theorem q2827 : (Jvm.Cond.selects "FilterWaterworks$SyntaxFailure" ({ cls := "FilterWaterworks$SyntaxFailure", name := "asPublicException", desc := "()Ljava/lang/RuntimeException;" } : Jvm.MethodName) ({ cls := "FilterWaterworks$SyntaxFailure", name := "asPublicException", desc := "()Ljava/lang/RuntimeException;" } : Jvm.MethodName)) ∈ lw_all := lw_g (lw_at lw_m12 120 rfl) rfl
theorem q2832 : (Jvm.Cond.castable "FilterWaterworks$SyntaxFailure" "FilterWaterworks$Failure") ∈ lw_tbl := lw_at lw_m12 125 rfl
theorem q2862 : (Jvm.Cond.castable "FilterWaterworks$SyntaxFailure" "java/lang/Object") ∈ lw_tbl := lw_at lw_m12 155 rfl
theorem in_X13 : ∀ w ∈ wsX130, w ∈ lw_all := lw_in wsX130 [2139, 2140, 2141, 2142, 2143, 2151, 2149] (by decide +kernel) (by decide +kernel)

/-! FilterWaterworks$CommandFailure -/
set_option maxRecDepth 100000
def RX14 : String := "FilterWaterworks$CommandFailure"
def TX14 : u_T := fun k => match k with
  | 0 => ("java/lang/Throwable", "cause", "Ljava/lang/Throwable;", false)
  | 1 => ("java/lang/Throwable", "stackTrace", "[Ljava/lang/StackTraceElement;", false)
  | 2 => ("java/lang/Throwable", "suppressedExceptions", "Ljava/util/List;", false)
  | 3 => ("java/lang/Throwable", "detailMessage", "Ljava/lang/String;", false)
  | 4 => ("java/lang/Throwable", "backtrace", "Ljava/lang/Object;", false)
  | 5 => ("java/lang/Throwable", "depth", "I", false)
  | _ => ("FilterWaterworks$CommandFailure", "index", "I", true)
def tyX14 : Nat → FieldType := fun k => match k with
  | 0 => .object "java/lang/Throwable"
  | 1 => .array (.object "java/lang/StackTraceElement")
  | 2 => .object "java/util/List"
  | 3 => .object "java/lang/String"
  | 4 => .object "java/lang/Object"
  | 5 => .int
  | _ => .int
abbrev wsX140 : List Cond := u_ws RX14 TX14 7
theorem nmX14 : ∀ a, a < 7 → ∀ b, b < 7 → a ≠ b → (TX14 a).2.1 ≠ (TX14 b).2.1 := by decide +kernel
theorem tyX14_ok : ∀ k, k < 7 → parseFieldDescriptor (TX14 k).2.2.1 = some (tyX14 k) := by decide +kernel
abbrev cX14_asPublicException : ByteArray := prog_3_method_3_code
def yX14_asPublicException : MethodName := ⟨RX14, "asPublicException", "()Ljava/lang/RuntimeException;"⟩
def dkwX14_asPublicException_0 : List UInt8 := [187, 0, 13, 89, 183, 0, 15, 176]
abbrev dktX14_asPublicException_0 : List UInt8 := dkwX14_asPublicException_0 ++ []
theorem dksX14_asPublicException_0 : cX14_asPublicException.data.toList.drop 0 = dktX14_asPublicException_0 := by decide +kernel
theorem dX14_asPublicException_0 : decode cX14_asPublicException 0 = .ok (.new 13, 3) := dk_187 0 13 (dk_at dksX14_asPublicException_0 0 rfl rfl)
theorem dX14_asPublicException_3 : decode cX14_asPublicException 3 = .ok (.dup, 1) := dk_89 (dk_at dksX14_asPublicException_0 3 rfl rfl)
theorem dX14_asPublicException_4 : decode cX14_asPublicException 4 = .ok (.invokespecial 15, 3) := dk_183 0 15 (dk_at dksX14_asPublicException_0 4 rfl rfl)
theorem dX14_asPublicException_7 : decode cX14_asPublicException 7 = .ok (.areturn, 1) := dk_176 (dk_at dksX14_asPublicException_0 7 rfl rfl)
abbrev cX14_init : ByteArray := prog_3_method_1_code
def yX14_init : MethodName := ⟨RX14, "<init>", "(ILFilterWaterworks$Failure;)V"⟩
def dkwX14_init_0 : List UInt8 := [42, 44, 183, 0, 1, 42, 27, 181, 0, 7, 177]
abbrev dktX14_init_0 : List UInt8 := dkwX14_init_0 ++ []
theorem dksX14_init_0 : cX14_init.data.toList.drop 0 = dktX14_init_0 := by decide +kernel
theorem dX14_init_0 : decode cX14_init 0 = .ok (.aload_n 0, 1) := dk_42 (dk_at dksX14_init_0 0 rfl rfl)
theorem dX14_init_1 : decode cX14_init 1 = .ok (.aload_n 2, 1) := dk_44 (dk_at dksX14_init_0 1 rfl rfl)
theorem dX14_init_2 : decode cX14_init 2 = .ok (.invokespecial 1, 3) := dk_183 0 1 (dk_at dksX14_init_0 2 rfl rfl)
theorem dX14_init_5 : decode cX14_init 5 = .ok (.aload_n 0, 1) := dk_42 (dk_at dksX14_init_0 5 rfl rfl)
theorem dX14_init_6 : decode cX14_init 6 = .ok (.iload_n 1, 1) := dk_27 (dk_at dksX14_init_0 6 rfl rfl)
theorem dX14_init_7 : decode cX14_init 7 = .ok (.putfield 7, 3) := dk_181 0 7 (dk_at dksX14_init_0 7 rfl rfl)
theorem dX14_init_10 : decode cX14_init 10 = .ok (.return_, 1) := dk_177 (dk_at dksX14_init_0 10 rfl rfl)
abbrev cX14_index : ByteArray := prog_3_method_2_code
def yX14_index : MethodName := ⟨RX14, "index", "()I"⟩
theorem dX14_index_0 : decode cX14_index 0 = .ok (.aload_n 0, 1) := by decide +kernel
theorem dX14_index_1 : decode cX14_index 1 = .ok (.getfield 7, 3) := by decide +kernel
theorem dX14_index_4 : decode cX14_index 4 = .ok (.ireturn, 1) := by decide +kernel
theorem q115 : (Jvm.Cond.initialized "FilterWaterworks$CommandFailure") ∈ lw_all := lw_g (lw_at lw_m1 48 rfl) rfl
theorem q389 : (Jvm.Cond.selects "FilterWaterworks$CommandFailure" ({ cls := "java/lang/Throwable", name := "fillInStackTrace", desc := "()Ljava/lang/Throwable;" } : Jvm.MethodName) ({ cls := "java/lang/Throwable", name := "fillInStackTrace", desc := "()Ljava/lang/Throwable;" } : Jvm.MethodName)) ∈ lw_all := lw_g (lw_at lw_m2 82 rfl) rfl
theorem q993 : (Jvm.Cond.selects "FilterWaterworks$CommandFailure" ({ cls := "java/lang/Object", name := "getClass", desc := "()Ljava/lang/Class;" } : Jvm.MethodName) ({ cls := "java/lang/Object", name := "getClass", desc := "()Ljava/lang/Class;" } : Jvm.MethodName)) ∈ lw_all := lw_g (lw_at lw_m4 206 rfl) rfl
theorem q1370 : (Jvm.Cond.selects "FilterWaterworks$CommandFailure" ({ cls := "FilterWaterworks$Failure", name := "asPublicException", desc := "()Ljava/lang/RuntimeException;" } : Jvm.MethodName) ({ cls := "FilterWaterworks$CommandFailure", name := "asPublicException", desc := "()Ljava/lang/RuntimeException;" } : Jvm.MethodName)) ∈ lw_all := lw_g (lw_at lw_m6 103 rfl) rfl
theorem q1371 : (Jvm.Cond.instanceMethod ({ cls := "FilterWaterworks$CommandFailure", name := "asPublicException", desc := "()Ljava/lang/RuntimeException;" } : Jvm.MethodName)) ∈ lw_all := lw_g (lw_at lw_m6 104 rfl) rfl
theorem q1372 : (Jvm.Cond.code ({ cls := "FilterWaterworks$CommandFailure", name := "asPublicException", desc := "()Ljava/lang/RuntimeException;" } : Jvm.MethodName) prog_3_method_3_code (1 : Nat) (Option.some (Jvm.ClassFile.FieldType.object "java/lang/RuntimeException"))) ∈ lw_all := lw_g (lw_at lw_m6 105 rfl) rfl
theorem q1373 : (Jvm.Cond.classLink "FilterWaterworks$CommandFailure" (13 : Nat) "java/lang/IllegalStateException") ∈ lw_all := lw_g (lw_at lw_m6 106 rfl) rfl
theorem q1382 : (Jvm.Cond.methodLink "FilterWaterworks$CommandFailure" (15 : Nat) ({ cls := "java/lang/IllegalStateException", name := "<init>", desc := "()V" } : Jvm.MethodName)) ∈ lw_all := lw_g (lw_at lw_m6 115 rfl) rfl
theorem q2025 : (Jvm.Cond.selects "FilterWaterworks$CommandFailure" ({ cls := "java/lang/Object", name := "toString", desc := "()Ljava/lang/String;" } : Jvm.MethodName) ({ cls := "java/lang/Throwable", name := "toString", desc := "()Ljava/lang/String;" } : Jvm.MethodName)) ∈ lw_all := lw_g (lw_at lw_m9 38 rfl) rfl
theorem q2032 : (Jvm.Cond.selects "FilterWaterworks$CommandFailure" ({ cls := "java/lang/Throwable", name := "getLocalizedMessage", desc := "()Ljava/lang/String;" } : Jvm.MethodName) ({ cls := "java/lang/Throwable", name := "getLocalizedMessage", desc := "()Ljava/lang/String;" } : Jvm.MethodName)) ∈ lw_all := lw_g (lw_at lw_m9 45 rfl) rfl
theorem q2047 : (Jvm.Cond.selects "FilterWaterworks$CommandFailure" ({ cls := "java/lang/Throwable", name := "getMessage", desc := "()Ljava/lang/String;" } : Jvm.MethodName) ({ cls := "java/lang/Throwable", name := "getMessage", desc := "()Ljava/lang/String;" } : Jvm.MethodName)) ∈ lw_all := lw_g (lw_at lw_m9 60 rfl) rfl
theorem q2194 : (Jvm.Cond.instantiable "FilterWaterworks$CommandFailure" (7 : Nat)) ∈ lw_all := lw_g (lw_at lw_m9 207 rfl) rfl
theorem q2195 : (Jvm.Cond.castable "FilterWaterworks$CommandFailure" "FilterWaterworks$CommandFailure") ∈ lw_tbl := lw_at lw_m9 208 rfl
theorem q2196 : (Jvm.Cond.selects "FilterWaterworks$CommandFailure" ({ cls := "java/lang/Throwable", name := "fillInStackTrace", desc := "(I)Ljava/lang/Throwable;" } : Jvm.MethodName) ({ cls := "java/lang/Throwable", name := "fillInStackTrace", desc := "(I)Ljava/lang/Throwable;" } : Jvm.MethodName)) ∈ lw_all := lw_g (lw_at lw_m9 209 rfl) rfl
theorem q2197 : (Jvm.Cond.lays "FilterWaterworks$CommandFailure" "java/lang/Throwable" "cause" "Ljava/lang/Throwable;") ∈ lw_all := lw_g (lw_at lw_m9 210 rfl) rfl
theorem q2198 : (Jvm.Cond.lays "FilterWaterworks$CommandFailure" "java/lang/Throwable" "stackTrace" "[Ljava/lang/StackTraceElement;") ∈ lw_all := lw_g (lw_at lw_m9 211 rfl) rfl
theorem q2199 : (Jvm.Cond.lays "FilterWaterworks$CommandFailure" "java/lang/Throwable" "suppressedExceptions" "Ljava/util/List;") ∈ lw_all := lw_g (lw_at lw_m9 212 rfl) rfl
theorem q2200 : (Jvm.Cond.lays "FilterWaterworks$CommandFailure" "java/lang/Throwable" "detailMessage" "Ljava/lang/String;") ∈ lw_all := lw_g (lw_at lw_m9 213 rfl) rfl
theorem q2201 : (Jvm.Cond.lays "FilterWaterworks$CommandFailure" "java/lang/Throwable" "backtrace" "Ljava/lang/Object;") ∈ lw_all := lw_g (lw_at lw_m9 214 rfl) rfl
theorem q2203 : (Jvm.Cond.instanceMethod ({ cls := "FilterWaterworks$CommandFailure", name := "<init>", desc := "(ILFilterWaterworks$Failure;)V" } : Jvm.MethodName)) ∈ lw_all := lw_g (lw_at lw_m9 216 rfl) rfl
theorem q2204 : (Jvm.Cond.code ({ cls := "FilterWaterworks$CommandFailure", name := "<init>", desc := "(ILFilterWaterworks$Failure;)V" } : Jvm.MethodName) prog_3_method_1_code (3 : Nat) (Option.none : Option Jvm.ClassFile.FieldType)) ∈ lw_all := lw_g (lw_at lw_m9 217 rfl) rfl
theorem q2205 : (Jvm.Cond.methodLink "FilterWaterworks$CommandFailure" (1 : Nat) ({ cls := "FilterWaterworks$Failure", name := "<init>", desc := "(LFilterWaterworks$Failure;)V" } : Jvm.MethodName)) ∈ lw_all := lw_g (lw_at lw_m9 218 rfl) rfl
theorem q2206 : (Jvm.Cond.fieldLink "FilterWaterworks$CommandFailure" (7 : Nat) "FilterWaterworks$CommandFailure" "index" "I") ∈ lw_all := lw_g (lw_at lw_m9 219 rfl) rfl
theorem q2207 : (Jvm.Cond.laysFinal "FilterWaterworks$CommandFailure" "FilterWaterworks$CommandFailure" "index" "I") ∈ lw_all := lw_g (lw_at lw_m9 220 rfl) rfl
theorem q2208 : (Jvm.Cond.soleField "FilterWaterworks$CommandFailure" "index") ∈ lw_all := lw_g (lw_at lw_m9 221 rfl) rfl
theorem q2209 : (Jvm.Cond.lays "FilterWaterworks$CommandFailure" "java/lang/Throwable" "depth" "I") ∈ lw_all := lw_g (lw_at lw_m9 222 rfl) rfl
theorem q2210 : (Jvm.Cond.superclass "FilterWaterworks$CommandFailure" "FilterWaterworks$Failure") ∈ lw_all := lw_g (lw_at lw_m9 223 rfl) rfl
theorem q2217 : (Jvm.Cond.instanceMethod ({ cls := "FilterWaterworks$CommandFailure", name := "index", desc := "()I" } : Jvm.MethodName)) ∈ lw_all := lw_g (lw_at lw_m9 230 rfl) rfl
theorem q2218 : (Jvm.Cond.selects "FilterWaterworks$CommandFailure" ({ cls := "FilterWaterworks$CommandFailure", name := "index", desc := "()I" } : Jvm.MethodName) ({ cls := "FilterWaterworks$CommandFailure", name := "index", desc := "()I" } : Jvm.MethodName)) ∈ lw_all := lw_g (lw_at lw_m9 231 rfl) rfl
theorem q2219 : (Jvm.Cond.code ({ cls := "FilterWaterworks$CommandFailure", name := "index", desc := "()I" } : Jvm.MethodName) prog_3_method_2_code (1 : Nat) (Option.some Jvm.ClassFile.FieldType.int)) ∈ lw_all := lw_g (lw_at lw_m9 232 rfl) rfl
theorem q2828 : (Jvm.Cond.selects "FilterWaterworks$CommandFailure" ({ cls := "FilterWaterworks$CommandFailure", name := "asPublicException", desc := "()Ljava/lang/RuntimeException;" } : Jvm.MethodName) ({ cls := "FilterWaterworks$CommandFailure", name := "asPublicException", desc := "()Ljava/lang/RuntimeException;" } : Jvm.MethodName)) ∈ lw_all := lw_g (lw_at lw_m12 121 rfl) rfl
theorem q2830 : (Jvm.Cond.castable "FilterWaterworks$CommandFailure" "FilterWaterworks$Failure") ∈ lw_tbl := lw_at lw_m12 123 rfl
theorem q2863 : (Jvm.Cond.castable "FilterWaterworks$CommandFailure" "java/lang/Object") ∈ lw_tbl := lw_at lw_m12 156 rfl
theorem in_X14 : ∀ w ∈ wsX140, w ∈ lw_all := lw_in wsX140 [2197, 2198, 2199, 2200, 2201, 2209, 2207] (by decide +kernel) (by decide +kernel)

/-! FilterWaterworks$Direction$1 -/
set_option maxRecDepth 100000
def RX15 : String := "FilterWaterworks$Direction$1"
abbrev cX15_from : ByteArray := prog_6_method_2_code
def yX15_from : MethodName := ⟨RX15, "from", "(LFilterWaterworks$Pipe;)I"⟩
theorem dX15_from_0 : decode cX15_from 0 = .ok (.aload_n 1, 1) := by decide +kernel
theorem dX15_from_1 : decode cX15_from 1 = .ok (.getfield 7, 3) := by decide +kernel
theorem dX15_from_4 : decode cX15_from 4 = .ok (.ireturn, 1) := by decide +kernel
abbrev cX15_signed : ByteArray := prog_6_method_3_code
def yX15_signed : MethodName := ⟨RX15, "signed", "(I)I"⟩
theorem dX15_signed_0 : decode cX15_signed 0 = .ok (.iload_n 1, 1) := by decide +kernel
theorem dX15_signed_1 : decode cX15_signed 1 = .ok (.ireturn, 1) := by decide +kernel
theorem q995 : (Jvm.Cond.selects "FilterWaterworks$Direction$1" ({ cls := "java/lang/Object", name := "getClass", desc := "()Ljava/lang/Class;" } : Jvm.MethodName) ({ cls := "java/lang/Object", name := "getClass", desc := "()Ljava/lang/Class;" } : Jvm.MethodName)) ∈ lw_all := lw_g (lw_at lw_m4 208 rfl) rfl
theorem q1068 : (Jvm.Cond.fieldLinkNest "FilterWaterworks$Direction$1" (7 : Nat) "FilterWaterworks$Pipe" "first" "I" "FilterWaterworks") ∈ lw_tbl := lw_at lw_m5 41 rfl
theorem q1313 : (Jvm.Cond.selects "FilterWaterworks$Direction$1" ({ cls := "FilterWaterworks$Direction", name := "from", desc := "(LFilterWaterworks$Pipe;)I" } : Jvm.MethodName) ({ cls := "FilterWaterworks$Direction$1", name := "from", desc := "(LFilterWaterworks$Pipe;)I" } : Jvm.MethodName)) ∈ lw_all := lw_g (lw_at lw_m6 46 rfl) rfl
theorem q1314 : (Jvm.Cond.instanceMethod ({ cls := "FilterWaterworks$Direction$1", name := "from", desc := "(LFilterWaterworks$Pipe;)I" } : Jvm.MethodName)) ∈ lw_all := lw_g (lw_at lw_m6 47 rfl) rfl
theorem q1315 : (Jvm.Cond.code ({ cls := "FilterWaterworks$Direction$1", name := "from", desc := "(LFilterWaterworks$Pipe;)I" } : Jvm.MethodName) prog_6_method_2_code (2 : Nat) (Option.some Jvm.ClassFile.FieldType.int)) ∈ lw_all := lw_g (lw_at lw_m6 48 rfl) rfl
theorem q1671 : (Jvm.Cond.selects "FilterWaterworks$Direction$1" ({ cls := "FilterWaterworks$Direction", name := "signed", desc := "(I)I" } : Jvm.MethodName) ({ cls := "FilterWaterworks$Direction$1", name := "signed", desc := "(I)I" } : Jvm.MethodName)) ∈ lw_all := lw_g (lw_at lw_m7 164 rfl) rfl
theorem q1672 : (Jvm.Cond.instanceMethod ({ cls := "FilterWaterworks$Direction$1", name := "signed", desc := "(I)I" } : Jvm.MethodName)) ∈ lw_all := lw_g (lw_at lw_m7 165 rfl) rfl
theorem q1673 : (Jvm.Cond.code ({ cls := "FilterWaterworks$Direction$1", name := "signed", desc := "(I)I" } : Jvm.MethodName) prog_6_method_3_code (2 : Nat) (Option.some Jvm.ClassFile.FieldType.int)) ∈ lw_all := lw_g (lw_at lw_m7 166 rfl) rfl
theorem q2065 : (Jvm.Cond.selects "FilterWaterworks$Direction$1" ({ cls := "java/lang/Object", name := "toString", desc := "()Ljava/lang/String;" } : Jvm.MethodName) ({ cls := "java/lang/Enum", name := "toString", desc := "()Ljava/lang/String;" } : Jvm.MethodName)) ∈ lw_all := lw_g (lw_at lw_m9 78 rfl) rfl
theorem q2850 : (Jvm.Cond.castable "FilterWaterworks$Direction$1" "java/lang/Object") ∈ lw_tbl := lw_at lw_m12 143 rfl

/-! FilterWaterworks$Direction$2 -/
set_option maxRecDepth 100000
def RX16 : String := "FilterWaterworks$Direction$2"
abbrev cX16_from : ByteArray := prog_7_method_2_code
def yX16_from : MethodName := ⟨RX16, "from", "(LFilterWaterworks$Pipe;)I"⟩
theorem dX16_from_0 : decode cX16_from 0 = .ok (.aload_n 1, 1) := by decide +kernel
theorem dX16_from_1 : decode cX16_from 1 = .ok (.getfield 7, 3) := by decide +kernel
theorem dX16_from_4 : decode cX16_from 4 = .ok (.ireturn, 1) := by decide +kernel
abbrev cX16_signed : ByteArray := prog_7_method_3_code
def yX16_signed : MethodName := ⟨RX16, "signed", "(I)I"⟩
theorem dX16_signed_0 : decode cX16_signed 0 = .ok (.iload_n 1, 1) := by decide +kernel
theorem dX16_signed_1 : decode cX16_signed 1 = .ok (.ineg, 1) := by decide +kernel
theorem dX16_signed_2 : decode cX16_signed 2 = .ok (.ireturn, 1) := by decide +kernel
theorem q996 : (Jvm.Cond.selects "FilterWaterworks$Direction$2" ({ cls := "java/lang/Object", name := "getClass", desc := "()Ljava/lang/Class;" } : Jvm.MethodName) ({ cls := "java/lang/Object", name := "getClass", desc := "()Ljava/lang/Class;" } : Jvm.MethodName)) ∈ lw_all := lw_g (lw_at lw_m4 209 rfl) rfl
theorem q1072 : (Jvm.Cond.fieldLinkNest "FilterWaterworks$Direction$2" (7 : Nat) "FilterWaterworks$Pipe" "second" "I" "FilterWaterworks") ∈ lw_tbl := lw_at lw_m5 45 rfl
theorem q1316 : (Jvm.Cond.selects "FilterWaterworks$Direction$2" ({ cls := "FilterWaterworks$Direction", name := "from", desc := "(LFilterWaterworks$Pipe;)I" } : Jvm.MethodName) ({ cls := "FilterWaterworks$Direction$2", name := "from", desc := "(LFilterWaterworks$Pipe;)I" } : Jvm.MethodName)) ∈ lw_all := lw_g (lw_at lw_m6 49 rfl) rfl
theorem q1317 : (Jvm.Cond.instanceMethod ({ cls := "FilterWaterworks$Direction$2", name := "from", desc := "(LFilterWaterworks$Pipe;)I" } : Jvm.MethodName)) ∈ lw_all := lw_g (lw_at lw_m6 50 rfl) rfl
theorem q1318 : (Jvm.Cond.code ({ cls := "FilterWaterworks$Direction$2", name := "from", desc := "(LFilterWaterworks$Pipe;)I" } : Jvm.MethodName) prog_7_method_2_code (2 : Nat) (Option.some Jvm.ClassFile.FieldType.int)) ∈ lw_all := lw_g (lw_at lw_m6 51 rfl) rfl
theorem q1674 : (Jvm.Cond.selects "FilterWaterworks$Direction$2" ({ cls := "FilterWaterworks$Direction", name := "signed", desc := "(I)I" } : Jvm.MethodName) ({ cls := "FilterWaterworks$Direction$2", name := "signed", desc := "(I)I" } : Jvm.MethodName)) ∈ lw_all := lw_g (lw_at lw_m7 167 rfl) rfl
theorem q1675 : (Jvm.Cond.instanceMethod ({ cls := "FilterWaterworks$Direction$2", name := "signed", desc := "(I)I" } : Jvm.MethodName)) ∈ lw_all := lw_g (lw_at lw_m7 168 rfl) rfl
theorem q1676 : (Jvm.Cond.code ({ cls := "FilterWaterworks$Direction$2", name := "signed", desc := "(I)I" } : Jvm.MethodName) prog_7_method_3_code (2 : Nat) (Option.some Jvm.ClassFile.FieldType.int)) ∈ lw_all := lw_g (lw_at lw_m7 169 rfl) rfl
theorem q2068 : (Jvm.Cond.selects "FilterWaterworks$Direction$2" ({ cls := "java/lang/Object", name := "toString", desc := "()Ljava/lang/String;" } : Jvm.MethodName) ({ cls := "java/lang/Enum", name := "toString", desc := "()Ljava/lang/String;" } : Jvm.MethodName)) ∈ lw_all := lw_g (lw_at lw_m9 81 rfl) rfl
theorem q2851 : (Jvm.Cond.castable "FilterWaterworks$Direction$2" "java/lang/Object") ∈ lw_tbl := lw_at lw_m12 144 rfl

