/-! CorridorPlanLaw -/
set_option maxRecDepth 100000
def RX0 : String := "CorridorPlanLaw"
abbrev cX0_room : ByteArray := method_3_code
def yX0_room : MethodName := ⟨RX0, "room", "(LCorridorPlan;IIII[J)I"⟩
def dkwX0_room_1 : List UInt8 := [172, 3, 172]
abbrev dktX0_room_1 : List UInt8 := dkwX0_room_1 ++ []
def dkwX0_room_0 : List UInt8 := [25, 5, 3, 42, 27, 28, 29, 21, 4, 182, 0, 7, 133, 80, 167, 0, 11, 58, 6, 4, 172, 58, 6, 5]
abbrev dktX0_room_0 : List UInt8 := dkwX0_room_0 ++ dktX0_room_1
theorem dksX0_room_0 : cX0_room.data.toList.drop 0 = dktX0_room_0 := by decide +kernel
theorem dksX0_room_1 : cX0_room.data.toList.drop 24 = dktX0_room_1 := dk_seg dksX0_room_0 24 rfl rfl
theorem dX0_room_0 : decode cX0_room 0 = .ok (.aload 5, 2) := dk_25 5 (dk_at dksX0_room_0 0 rfl rfl)
theorem dX0_room_2 : decode cX0_room 2 = .ok (.iconst 0, 1) := dk_3 (dk_at dksX0_room_0 2 rfl rfl)
theorem dX0_room_3 : decode cX0_room 3 = .ok (.aload_n 0, 1) := dk_42 (dk_at dksX0_room_0 3 rfl rfl)
theorem dX0_room_4 : decode cX0_room 4 = .ok (.iload_n 1, 1) := dk_27 (dk_at dksX0_room_0 4 rfl rfl)
theorem dX0_room_5 : decode cX0_room 5 = .ok (.iload_n 2, 1) := dk_28 (dk_at dksX0_room_0 5 rfl rfl)
theorem dX0_room_6 : decode cX0_room 6 = .ok (.iload_n 3, 1) := dk_29 (dk_at dksX0_room_0 6 rfl rfl)
theorem dX0_room_7 : decode cX0_room 7 = .ok (.iload 4, 2) := dk_21 4 (dk_at dksX0_room_0 7 rfl rfl)
theorem dX0_room_9 : decode cX0_room 9 = .ok (.invokevirtual 7, 3) := dk_182 0 7 (dk_at dksX0_room_0 9 rfl rfl)
theorem dX0_room_12 : decode cX0_room 12 = .ok (.i2l, 1) := dk_133 (dk_at dksX0_room_0 12 rfl rfl)
theorem dX0_room_13 : decode cX0_room 13 = .ok (.lastore, 1) := dk_80 (dk_at dksX0_room_0 13 rfl rfl)
theorem dX0_room_14 : decode cX0_room 14 = .ok (.goto 11, 3) := dk_167 0 11 (dk_at dksX0_room_0 14 rfl rfl)
theorem dX0_room_17 : decode cX0_room 17 = .ok (.astore 6, 2) := dk_58 6 (dk_at dksX0_room_0 17 rfl rfl)
theorem dX0_room_19 : decode cX0_room 19 = .ok (.iconst 1, 1) := dk_4 (dk_at dksX0_room_0 19 rfl rfl)
theorem dX0_room_20 : decode cX0_room 20 = .ok (.ireturn, 1) := dk_172 (dk_at dksX0_room_0 20 rfl rfl)
theorem dX0_room_21 : decode cX0_room 21 = .ok (.astore 6, 2) := dk_58 6 (dk_at dksX0_room_0 21 rfl rfl)
theorem dX0_room_23 : decode cX0_room 23 = .ok (.iconst 2, 1) := dk_5 (dk_at dksX0_room_0 23 rfl rfl)
theorem dX0_room_24 : decode cX0_room 24 = .ok (.ireturn, 1) := dk_172 (dk_at dksX0_room_1 0 rfl rfl)
theorem dX0_room_25 : decode cX0_room 25 = .ok (.iconst 0, 1) := dk_3 (dk_at dksX0_room_1 1 rfl rfl)
theorem dX0_room_26 : decode cX0_room 26 = .ok (.ireturn, 1) := dk_172 (dk_at dksX0_room_1 2 rfl rfl)
abbrev cX0_give : ByteArray := method_4_code
def yX0_give : MethodName := ⟨RX0, "give", "(LCorridorPlan;I[J)I"⟩
def dkwX0_give_0 : List UInt8 := [44, 3, 42, 27, 182, 0, 17, 133, 80, 167, 0, 6, 78, 4, 172, 3, 172]
abbrev dktX0_give_0 : List UInt8 := dkwX0_give_0 ++ []
theorem dksX0_give_0 : cX0_give.data.toList.drop 0 = dktX0_give_0 := by decide +kernel
theorem dX0_give_0 : decode cX0_give 0 = .ok (.aload_n 2, 1) := dk_44 (dk_at dksX0_give_0 0 rfl rfl)
theorem dX0_give_1 : decode cX0_give 1 = .ok (.iconst 0, 1) := dk_3 (dk_at dksX0_give_0 1 rfl rfl)
theorem dX0_give_2 : decode cX0_give 2 = .ok (.aload_n 0, 1) := dk_42 (dk_at dksX0_give_0 2 rfl rfl)
theorem dX0_give_3 : decode cX0_give 3 = .ok (.iload_n 1, 1) := dk_27 (dk_at dksX0_give_0 3 rfl rfl)
theorem dX0_give_4 : decode cX0_give 4 = .ok (.invokevirtual 17, 3) := dk_182 0 17 (dk_at dksX0_give_0 4 rfl rfl)
theorem dX0_give_7 : decode cX0_give 7 = .ok (.i2l, 1) := dk_133 (dk_at dksX0_give_0 7 rfl rfl)
theorem dX0_give_8 : decode cX0_give 8 = .ok (.lastore, 1) := dk_80 (dk_at dksX0_give_0 8 rfl rfl)
theorem dX0_give_9 : decode cX0_give 9 = .ok (.goto 6, 3) := dk_167 0 6 (dk_at dksX0_give_0 9 rfl rfl)
theorem dX0_give_12 : decode cX0_give 12 = .ok (.astore_n 3, 1) := dk_78 (dk_at dksX0_give_0 12 rfl rfl)
theorem dX0_give_13 : decode cX0_give 13 = .ok (.iconst 1, 1) := dk_4 (dk_at dksX0_give_0 13 rfl rfl)
theorem dX0_give_14 : decode cX0_give 14 = .ok (.ireturn, 1) := dk_172 (dk_at dksX0_give_0 14 rfl rfl)
theorem dX0_give_15 : decode cX0_give 15 = .ok (.iconst 0, 1) := dk_3 (dk_at dksX0_give_0 15 rfl rfl)
theorem dX0_give_16 : decode cX0_give 16 = .ok (.ireturn, 1) := dk_172 (dk_at dksX0_give_0 16 rfl rfl)
abbrev cX0_walk : ByteArray := method_5_code
def yX0_walk : MethodName := ⟨RX0, "walk", "(LCorridorPlan;III[J)I"⟩
def dkwX0_walk_1 : List UInt8 := [172]
abbrev dktX0_walk_1 : List UInt8 := dkwX0_walk_1 ++ []
def dkwX0_walk_0 : List UInt8 := [25, 4, 3, 42, 27, 28, 29, 182, 0, 23, 133, 80, 167, 0, 11, 58, 5, 4, 172, 58, 5, 5, 172, 3]
abbrev dktX0_walk_0 : List UInt8 := dkwX0_walk_0 ++ dktX0_walk_1
theorem dksX0_walk_0 : cX0_walk.data.toList.drop 0 = dktX0_walk_0 := by decide +kernel
theorem dksX0_walk_1 : cX0_walk.data.toList.drop 24 = dktX0_walk_1 := dk_seg dksX0_walk_0 24 rfl rfl
theorem dX0_walk_0 : decode cX0_walk 0 = .ok (.aload 4, 2) := dk_25 4 (dk_at dksX0_walk_0 0 rfl rfl)
theorem dX0_walk_2 : decode cX0_walk 2 = .ok (.iconst 0, 1) := dk_3 (dk_at dksX0_walk_0 2 rfl rfl)
theorem dX0_walk_3 : decode cX0_walk 3 = .ok (.aload_n 0, 1) := dk_42 (dk_at dksX0_walk_0 3 rfl rfl)
theorem dX0_walk_4 : decode cX0_walk 4 = .ok (.iload_n 1, 1) := dk_27 (dk_at dksX0_walk_0 4 rfl rfl)
theorem dX0_walk_5 : decode cX0_walk 5 = .ok (.iload_n 2, 1) := dk_28 (dk_at dksX0_walk_0 5 rfl rfl)
theorem dX0_walk_6 : decode cX0_walk 6 = .ok (.iload_n 3, 1) := dk_29 (dk_at dksX0_walk_0 6 rfl rfl)
theorem dX0_walk_7 : decode cX0_walk 7 = .ok (.invokevirtual 23, 3) := dk_182 0 23 (dk_at dksX0_walk_0 7 rfl rfl)
theorem dX0_walk_10 : decode cX0_walk 10 = .ok (.i2l, 1) := dk_133 (dk_at dksX0_walk_0 10 rfl rfl)
theorem dX0_walk_11 : decode cX0_walk 11 = .ok (.lastore, 1) := dk_80 (dk_at dksX0_walk_0 11 rfl rfl)
theorem dX0_walk_12 : decode cX0_walk 12 = .ok (.goto 11, 3) := dk_167 0 11 (dk_at dksX0_walk_0 12 rfl rfl)
theorem dX0_walk_15 : decode cX0_walk 15 = .ok (.astore 5, 2) := dk_58 5 (dk_at dksX0_walk_0 15 rfl rfl)
theorem dX0_walk_17 : decode cX0_walk 17 = .ok (.iconst 1, 1) := dk_4 (dk_at dksX0_walk_0 17 rfl rfl)
theorem dX0_walk_18 : decode cX0_walk 18 = .ok (.ireturn, 1) := dk_172 (dk_at dksX0_walk_0 18 rfl rfl)
theorem dX0_walk_19 : decode cX0_walk 19 = .ok (.astore 5, 2) := dk_58 5 (dk_at dksX0_walk_0 19 rfl rfl)
theorem dX0_walk_21 : decode cX0_walk 21 = .ok (.iconst 2, 1) := dk_5 (dk_at dksX0_walk_0 21 rfl rfl)
theorem dX0_walk_22 : decode cX0_walk 22 = .ok (.ireturn, 1) := dk_172 (dk_at dksX0_walk_0 22 rfl rfl)
theorem dX0_walk_23 : decode cX0_walk 23 = .ok (.iconst 0, 1) := dk_3 (dk_at dksX0_walk_0 23 rfl rfl)
theorem dX0_walk_24 : decode cX0_walk 24 = .ok (.ireturn, 1) := dk_172 (dk_at dksX0_walk_1 0 rfl rfl)
abbrev cX0_dig : ByteArray := method_6_code
def yX0_dig : MethodName := ⟨RX0, "dig", "(LCorridorPlan;II[J)I"⟩
def dkwX0_dig_0 : List UInt8 := [45, 3, 42, 27, 28, 182, 0, 27, 133, 80, 167, 0, 11, 58, 4, 4, 172, 58, 4, 5, 172, 3, 172]
abbrev dktX0_dig_0 : List UInt8 := dkwX0_dig_0 ++ []
theorem dksX0_dig_0 : cX0_dig.data.toList.drop 0 = dktX0_dig_0 := by decide +kernel
theorem dX0_dig_0 : decode cX0_dig 0 = .ok (.aload_n 3, 1) := dk_45 (dk_at dksX0_dig_0 0 rfl rfl)
theorem dX0_dig_1 : decode cX0_dig 1 = .ok (.iconst 0, 1) := dk_3 (dk_at dksX0_dig_0 1 rfl rfl)
theorem dX0_dig_2 : decode cX0_dig 2 = .ok (.aload_n 0, 1) := dk_42 (dk_at dksX0_dig_0 2 rfl rfl)
theorem dX0_dig_3 : decode cX0_dig 3 = .ok (.iload_n 1, 1) := dk_27 (dk_at dksX0_dig_0 3 rfl rfl)
theorem dX0_dig_4 : decode cX0_dig 4 = .ok (.iload_n 2, 1) := dk_28 (dk_at dksX0_dig_0 4 rfl rfl)
theorem dX0_dig_5 : decode cX0_dig 5 = .ok (.invokevirtual 27, 3) := dk_182 0 27 (dk_at dksX0_dig_0 5 rfl rfl)
theorem dX0_dig_8 : decode cX0_dig 8 = .ok (.i2l, 1) := dk_133 (dk_at dksX0_dig_0 8 rfl rfl)
theorem dX0_dig_9 : decode cX0_dig 9 = .ok (.lastore, 1) := dk_80 (dk_at dksX0_dig_0 9 rfl rfl)
theorem dX0_dig_10 : decode cX0_dig 10 = .ok (.goto 11, 3) := dk_167 0 11 (dk_at dksX0_dig_0 10 rfl rfl)
theorem dX0_dig_13 : decode cX0_dig 13 = .ok (.astore 4, 2) := dk_58 4 (dk_at dksX0_dig_0 13 rfl rfl)
theorem dX0_dig_15 : decode cX0_dig 15 = .ok (.iconst 1, 1) := dk_4 (dk_at dksX0_dig_0 15 rfl rfl)
theorem dX0_dig_16 : decode cX0_dig 16 = .ok (.ireturn, 1) := dk_172 (dk_at dksX0_dig_0 16 rfl rfl)
theorem dX0_dig_17 : decode cX0_dig 17 = .ok (.astore 4, 2) := dk_58 4 (dk_at dksX0_dig_0 17 rfl rfl)
theorem dX0_dig_19 : decode cX0_dig 19 = .ok (.iconst 2, 1) := dk_5 (dk_at dksX0_dig_0 19 rfl rfl)
theorem dX0_dig_20 : decode cX0_dig 20 = .ok (.ireturn, 1) := dk_172 (dk_at dksX0_dig_0 20 rfl rfl)
theorem dX0_dig_21 : decode cX0_dig 21 = .ok (.iconst 0, 1) := dk_3 (dk_at dksX0_dig_0 21 rfl rfl)
theorem dX0_dig_22 : decode cX0_dig 22 = .ok (.ireturn, 1) := dk_172 (dk_at dksX0_dig_0 22 rfl rfl)
abbrev cX0_carve : ByteArray := method_7_code
def yX0_carve : MethodName := ⟨RX0, "carve", "(LCorridorPlan;II[J)I"⟩
def dkwX0_carve_1 : List UInt8 := [172, 3, 172]
abbrev dktX0_carve_1 : List UInt8 := dkwX0_carve_1 ++ []
def dkwX0_carve_0 : List UInt8 := [45, 3, 42, 27, 28, 182, 0, 31, 133, 80, 167, 0, 15, 58, 4, 4, 172, 58, 4, 5, 172, 58, 4, 6]
abbrev dktX0_carve_0 : List UInt8 := dkwX0_carve_0 ++ dktX0_carve_1
theorem dksX0_carve_0 : cX0_carve.data.toList.drop 0 = dktX0_carve_0 := by decide +kernel
theorem dksX0_carve_1 : cX0_carve.data.toList.drop 24 = dktX0_carve_1 := dk_seg dksX0_carve_0 24 rfl rfl
theorem dX0_carve_0 : decode cX0_carve 0 = .ok (.aload_n 3, 1) := dk_45 (dk_at dksX0_carve_0 0 rfl rfl)
theorem dX0_carve_1 : decode cX0_carve 1 = .ok (.iconst 0, 1) := dk_3 (dk_at dksX0_carve_0 1 rfl rfl)
theorem dX0_carve_2 : decode cX0_carve 2 = .ok (.aload_n 0, 1) := dk_42 (dk_at dksX0_carve_0 2 rfl rfl)
theorem dX0_carve_3 : decode cX0_carve 3 = .ok (.iload_n 1, 1) := dk_27 (dk_at dksX0_carve_0 3 rfl rfl)
theorem dX0_carve_4 : decode cX0_carve 4 = .ok (.iload_n 2, 1) := dk_28 (dk_at dksX0_carve_0 4 rfl rfl)
theorem dX0_carve_5 : decode cX0_carve 5 = .ok (.invokevirtual 31, 3) := dk_182 0 31 (dk_at dksX0_carve_0 5 rfl rfl)
theorem dX0_carve_8 : decode cX0_carve 8 = .ok (.i2l, 1) := dk_133 (dk_at dksX0_carve_0 8 rfl rfl)
theorem dX0_carve_9 : decode cX0_carve 9 = .ok (.lastore, 1) := dk_80 (dk_at dksX0_carve_0 9 rfl rfl)
theorem dX0_carve_10 : decode cX0_carve 10 = .ok (.goto 15, 3) := dk_167 0 15 (dk_at dksX0_carve_0 10 rfl rfl)
theorem dX0_carve_13 : decode cX0_carve 13 = .ok (.astore 4, 2) := dk_58 4 (dk_at dksX0_carve_0 13 rfl rfl)
theorem dX0_carve_15 : decode cX0_carve 15 = .ok (.iconst 1, 1) := dk_4 (dk_at dksX0_carve_0 15 rfl rfl)
theorem dX0_carve_16 : decode cX0_carve 16 = .ok (.ireturn, 1) := dk_172 (dk_at dksX0_carve_0 16 rfl rfl)
theorem dX0_carve_17 : decode cX0_carve 17 = .ok (.astore 4, 2) := dk_58 4 (dk_at dksX0_carve_0 17 rfl rfl)
theorem dX0_carve_19 : decode cX0_carve 19 = .ok (.iconst 2, 1) := dk_5 (dk_at dksX0_carve_0 19 rfl rfl)
theorem dX0_carve_20 : decode cX0_carve 20 = .ok (.ireturn, 1) := dk_172 (dk_at dksX0_carve_0 20 rfl rfl)
theorem dX0_carve_21 : decode cX0_carve 21 = .ok (.astore 4, 2) := dk_58 4 (dk_at dksX0_carve_0 21 rfl rfl)
theorem dX0_carve_23 : decode cX0_carve 23 = .ok (.iconst 3, 1) := dk_6 (dk_at dksX0_carve_0 23 rfl rfl)
theorem dX0_carve_24 : decode cX0_carve 24 = .ok (.ireturn, 1) := dk_172 (dk_at dksX0_carve_1 0 rfl rfl)
theorem dX0_carve_25 : decode cX0_carve 25 = .ok (.iconst 0, 1) := dk_3 (dk_at dksX0_carve_1 1 rfl rfl)
theorem dX0_carve_26 : decode cX0_carve 26 = .ok (.ireturn, 1) := dk_172 (dk_at dksX0_carve_1 2 rfl rfl)
abbrev cX0_set : ByteArray := method_8_code
def yX0_set : MethodName := ⟨RX0, "set", "(LCorridorPlan;I[J)I"⟩
def dkwX0_set_0 : List UInt8 := [44, 3, 42, 27, 182, 0, 34, 133, 80, 167, 0, 6, 78, 4, 172, 3, 172]
abbrev dktX0_set_0 : List UInt8 := dkwX0_set_0 ++ []
theorem dksX0_set_0 : cX0_set.data.toList.drop 0 = dktX0_set_0 := by decide +kernel
theorem dX0_set_0 : decode cX0_set 0 = .ok (.aload_n 2, 1) := dk_44 (dk_at dksX0_set_0 0 rfl rfl)
theorem dX0_set_1 : decode cX0_set 1 = .ok (.iconst 0, 1) := dk_3 (dk_at dksX0_set_0 1 rfl rfl)
theorem dX0_set_2 : decode cX0_set 2 = .ok (.aload_n 0, 1) := dk_42 (dk_at dksX0_set_0 2 rfl rfl)
theorem dX0_set_3 : decode cX0_set 3 = .ok (.iload_n 1, 1) := dk_27 (dk_at dksX0_set_0 3 rfl rfl)
theorem dX0_set_4 : decode cX0_set 4 = .ok (.invokevirtual 34, 3) := dk_182 0 34 (dk_at dksX0_set_0 4 rfl rfl)
theorem dX0_set_7 : decode cX0_set 7 = .ok (.i2l, 1) := dk_133 (dk_at dksX0_set_0 7 rfl rfl)
theorem dX0_set_8 : decode cX0_set 8 = .ok (.lastore, 1) := dk_80 (dk_at dksX0_set_0 8 rfl rfl)
theorem dX0_set_9 : decode cX0_set 9 = .ok (.goto 6, 3) := dk_167 0 6 (dk_at dksX0_set_0 9 rfl rfl)
theorem dX0_set_12 : decode cX0_set 12 = .ok (.astore_n 3, 1) := dk_78 (dk_at dksX0_set_0 12 rfl rfl)
theorem dX0_set_13 : decode cX0_set 13 = .ok (.iconst 1, 1) := dk_4 (dk_at dksX0_set_0 13 rfl rfl)
theorem dX0_set_14 : decode cX0_set 14 = .ok (.ireturn, 1) := dk_172 (dk_at dksX0_set_0 14 rfl rfl)
theorem dX0_set_15 : decode cX0_set 15 = .ok (.iconst 0, 1) := dk_3 (dk_at dksX0_set_0 15 rfl rfl)
theorem dX0_set_16 : decode cX0_set 16 = .ok (.ireturn, 1) := dk_172 (dk_at dksX0_set_0 16 rfl rfl)
abbrev cX0_append : ByteArray := method_9_code
def yX0_append : MethodName := ⟨RX0, "append", "(LCorridorPlan;I[J)I"⟩
def dkwX0_append_0 : List UInt8 := [44, 3, 42, 27, 182, 0, 37, 133, 80, 167, 0, 9, 78, 4, 172, 78, 5, 172, 3, 172]
abbrev dktX0_append_0 : List UInt8 := dkwX0_append_0 ++ []
theorem dksX0_append_0 : cX0_append.data.toList.drop 0 = dktX0_append_0 := by decide +kernel
theorem dX0_append_0 : decode cX0_append 0 = .ok (.aload_n 2, 1) := dk_44 (dk_at dksX0_append_0 0 rfl rfl)
theorem dX0_append_1 : decode cX0_append 1 = .ok (.iconst 0, 1) := dk_3 (dk_at dksX0_append_0 1 rfl rfl)
theorem dX0_append_2 : decode cX0_append 2 = .ok (.aload_n 0, 1) := dk_42 (dk_at dksX0_append_0 2 rfl rfl)
theorem dX0_append_3 : decode cX0_append 3 = .ok (.iload_n 1, 1) := dk_27 (dk_at dksX0_append_0 3 rfl rfl)
theorem dX0_append_4 : decode cX0_append 4 = .ok (.invokevirtual 37, 3) := dk_182 0 37 (dk_at dksX0_append_0 4 rfl rfl)
theorem dX0_append_7 : decode cX0_append 7 = .ok (.i2l, 1) := dk_133 (dk_at dksX0_append_0 7 rfl rfl)
theorem dX0_append_8 : decode cX0_append 8 = .ok (.lastore, 1) := dk_80 (dk_at dksX0_append_0 8 rfl rfl)
theorem dX0_append_9 : decode cX0_append 9 = .ok (.goto 9, 3) := dk_167 0 9 (dk_at dksX0_append_0 9 rfl rfl)
theorem dX0_append_12 : decode cX0_append 12 = .ok (.astore_n 3, 1) := dk_78 (dk_at dksX0_append_0 12 rfl rfl)
theorem dX0_append_13 : decode cX0_append 13 = .ok (.iconst 1, 1) := dk_4 (dk_at dksX0_append_0 13 rfl rfl)
theorem dX0_append_14 : decode cX0_append 14 = .ok (.ireturn, 1) := dk_172 (dk_at dksX0_append_0 14 rfl rfl)
theorem dX0_append_15 : decode cX0_append 15 = .ok (.astore_n 3, 1) := dk_78 (dk_at dksX0_append_0 15 rfl rfl)
theorem dX0_append_16 : decode cX0_append 16 = .ok (.iconst 2, 1) := dk_5 (dk_at dksX0_append_0 16 rfl rfl)
theorem dX0_append_17 : decode cX0_append 17 = .ok (.ireturn, 1) := dk_172 (dk_at dksX0_append_0 17 rfl rfl)
theorem dX0_append_18 : decode cX0_append 18 = .ok (.iconst 0, 1) := dk_3 (dk_at dksX0_append_0 18 rfl rfl)
theorem dX0_append_19 : decode cX0_append 19 = .ok (.ireturn, 1) := dk_172 (dk_at dksX0_append_0 19 rfl rfl)
abbrev cX0_run : ByteArray := method_10_code
def yX0_run : MethodName := ⟨RX0, "run", "(LCorridorPlan;[J)I"⟩
def dkwX0_run_0 : List UInt8 := [43, 3, 42, 182, 0, 40, 133, 80, 167, 0, 6, 77, 4, 172, 3, 172]
abbrev dktX0_run_0 : List UInt8 := dkwX0_run_0 ++ []
theorem dksX0_run_0 : cX0_run.data.toList.drop 0 = dktX0_run_0 := by decide +kernel
theorem dX0_run_0 : decode cX0_run 0 = .ok (.aload_n 1, 1) := dk_43 (dk_at dksX0_run_0 0 rfl rfl)
theorem dX0_run_1 : decode cX0_run 1 = .ok (.iconst 0, 1) := dk_3 (dk_at dksX0_run_0 1 rfl rfl)
theorem dX0_run_2 : decode cX0_run 2 = .ok (.aload_n 0, 1) := dk_42 (dk_at dksX0_run_0 2 rfl rfl)
theorem dX0_run_3 : decode cX0_run 3 = .ok (.invokevirtual 40, 3) := dk_182 0 40 (dk_at dksX0_run_0 3 rfl rfl)
theorem dX0_run_6 : decode cX0_run 6 = .ok (.i2l, 1) := dk_133 (dk_at dksX0_run_0 6 rfl rfl)
theorem dX0_run_7 : decode cX0_run 7 = .ok (.lastore, 1) := dk_80 (dk_at dksX0_run_0 7 rfl rfl)
theorem dX0_run_8 : decode cX0_run 8 = .ok (.goto 6, 3) := dk_167 0 6 (dk_at dksX0_run_0 8 rfl rfl)
theorem dX0_run_11 : decode cX0_run 11 = .ok (.astore_n 2, 1) := dk_77 (dk_at dksX0_run_0 11 rfl rfl)
theorem dX0_run_12 : decode cX0_run 12 = .ok (.iconst 1, 1) := dk_4 (dk_at dksX0_run_0 12 rfl rfl)
theorem dX0_run_13 : decode cX0_run 13 = .ok (.ireturn, 1) := dk_172 (dk_at dksX0_run_0 13 rfl rfl)
theorem dX0_run_14 : decode cX0_run 14 = .ok (.iconst 0, 1) := dk_3 (dk_at dksX0_run_0 14 rfl rfl)
theorem dX0_run_15 : decode cX0_run 15 = .ok (.ireturn, 1) := dk_172 (dk_at dksX0_run_0 15 rfl rfl)
abbrev cX0_undo : ByteArray := method_11_code
def yX0_undo : MethodName := ⟨RX0, "undo", "(LCorridorPlan;[J)I"⟩
def dkwX0_undo_0 : List UInt8 := [43, 3, 42, 182, 0, 44, 133, 80, 167, 0, 6, 77, 4, 172, 3, 172]
abbrev dktX0_undo_0 : List UInt8 := dkwX0_undo_0 ++ []
theorem dksX0_undo_0 : cX0_undo.data.toList.drop 0 = dktX0_undo_0 := by decide +kernel
theorem dX0_undo_0 : decode cX0_undo 0 = .ok (.aload_n 1, 1) := dk_43 (dk_at dksX0_undo_0 0 rfl rfl)
theorem dX0_undo_1 : decode cX0_undo 1 = .ok (.iconst 0, 1) := dk_3 (dk_at dksX0_undo_0 1 rfl rfl)
theorem dX0_undo_2 : decode cX0_undo 2 = .ok (.aload_n 0, 1) := dk_42 (dk_at dksX0_undo_0 2 rfl rfl)
theorem dX0_undo_3 : decode cX0_undo 3 = .ok (.invokevirtual 44, 3) := dk_182 0 44 (dk_at dksX0_undo_0 3 rfl rfl)
theorem dX0_undo_6 : decode cX0_undo 6 = .ok (.i2l, 1) := dk_133 (dk_at dksX0_undo_0 6 rfl rfl)
theorem dX0_undo_7 : decode cX0_undo 7 = .ok (.lastore, 1) := dk_80 (dk_at dksX0_undo_0 7 rfl rfl)
theorem dX0_undo_8 : decode cX0_undo 8 = .ok (.goto 6, 3) := dk_167 0 6 (dk_at dksX0_undo_0 8 rfl rfl)
theorem dX0_undo_11 : decode cX0_undo 11 = .ok (.astore_n 2, 1) := dk_77 (dk_at dksX0_undo_0 11 rfl rfl)
theorem dX0_undo_12 : decode cX0_undo 12 = .ok (.iconst 1, 1) := dk_4 (dk_at dksX0_undo_0 12 rfl rfl)
theorem dX0_undo_13 : decode cX0_undo 13 = .ok (.ireturn, 1) := dk_172 (dk_at dksX0_undo_0 13 rfl rfl)
theorem dX0_undo_14 : decode cX0_undo 14 = .ok (.iconst 0, 1) := dk_3 (dk_at dksX0_undo_0 14 rfl rfl)
theorem dX0_undo_15 : decode cX0_undo 15 = .ok (.ireturn, 1) := dk_172 (dk_at dksX0_undo_0 15 rfl rfl)
abbrev cX0_square : ByteArray := method_12_code
def yX0_square : MethodName := ⟨RX0, "square", "(LCorridorPlan;III[J)I"⟩
def dkwX0_square_0 : List UInt8 := [25, 4, 3, 42, 27, 28, 29, 182, 0, 47, 133, 80, 167, 0, 7, 58, 5, 4, 172, 3, 172]
abbrev dktX0_square_0 : List UInt8 := dkwX0_square_0 ++ []
theorem dksX0_square_0 : cX0_square.data.toList.drop 0 = dktX0_square_0 := by decide +kernel
theorem dX0_square_0 : decode cX0_square 0 = .ok (.aload 4, 2) := dk_25 4 (dk_at dksX0_square_0 0 rfl rfl)
theorem dX0_square_2 : decode cX0_square 2 = .ok (.iconst 0, 1) := dk_3 (dk_at dksX0_square_0 2 rfl rfl)
theorem dX0_square_3 : decode cX0_square 3 = .ok (.aload_n 0, 1) := dk_42 (dk_at dksX0_square_0 3 rfl rfl)
theorem dX0_square_4 : decode cX0_square 4 = .ok (.iload_n 1, 1) := dk_27 (dk_at dksX0_square_0 4 rfl rfl)
theorem dX0_square_5 : decode cX0_square 5 = .ok (.iload_n 2, 1) := dk_28 (dk_at dksX0_square_0 5 rfl rfl)
theorem dX0_square_6 : decode cX0_square 6 = .ok (.iload_n 3, 1) := dk_29 (dk_at dksX0_square_0 6 rfl rfl)
theorem dX0_square_7 : decode cX0_square 7 = .ok (.invokevirtual 47, 3) := dk_182 0 47 (dk_at dksX0_square_0 7 rfl rfl)
theorem dX0_square_10 : decode cX0_square 10 = .ok (.i2l, 1) := dk_133 (dk_at dksX0_square_0 10 rfl rfl)
theorem dX0_square_11 : decode cX0_square 11 = .ok (.lastore, 1) := dk_80 (dk_at dksX0_square_0 11 rfl rfl)
theorem dX0_square_12 : decode cX0_square 12 = .ok (.goto 7, 3) := dk_167 0 7 (dk_at dksX0_square_0 12 rfl rfl)
theorem dX0_square_15 : decode cX0_square 15 = .ok (.astore 5, 2) := dk_58 5 (dk_at dksX0_square_0 15 rfl rfl)
theorem dX0_square_17 : decode cX0_square 17 = .ok (.iconst 1, 1) := dk_4 (dk_at dksX0_square_0 17 rfl rfl)
theorem dX0_square_18 : decode cX0_square 18 = .ok (.ireturn, 1) := dk_172 (dk_at dksX0_square_0 18 rfl rfl)
theorem dX0_square_19 : decode cX0_square 19 = .ok (.iconst 0, 1) := dk_3 (dk_at dksX0_square_0 19 rfl rfl)
theorem dX0_square_20 : decode cX0_square 20 = .ok (.ireturn, 1) := dk_172 (dk_at dksX0_square_0 20 rfl rfl)
abbrev cX0_chamber : ByteArray := method_13_code
def yX0_chamber : MethodName := ⟨RX0, "chamber", "(LCorridorPlan;II[J)I"⟩
def dkwX0_chamber_0 : List UInt8 := [45, 3, 42, 27, 28, 182, 0, 50, 133, 80, 167, 0, 11, 58, 4, 4, 172, 58, 4, 5, 172, 3, 172]
abbrev dktX0_chamber_0 : List UInt8 := dkwX0_chamber_0 ++ []
theorem dksX0_chamber_0 : cX0_chamber.data.toList.drop 0 = dktX0_chamber_0 := by decide +kernel
theorem dX0_chamber_0 : decode cX0_chamber 0 = .ok (.aload_n 3, 1) := dk_45 (dk_at dksX0_chamber_0 0 rfl rfl)
theorem dX0_chamber_1 : decode cX0_chamber 1 = .ok (.iconst 0, 1) := dk_3 (dk_at dksX0_chamber_0 1 rfl rfl)
theorem dX0_chamber_2 : decode cX0_chamber 2 = .ok (.aload_n 0, 1) := dk_42 (dk_at dksX0_chamber_0 2 rfl rfl)
theorem dX0_chamber_3 : decode cX0_chamber 3 = .ok (.iload_n 1, 1) := dk_27 (dk_at dksX0_chamber_0 3 rfl rfl)
theorem dX0_chamber_4 : decode cX0_chamber 4 = .ok (.iload_n 2, 1) := dk_28 (dk_at dksX0_chamber_0 4 rfl rfl)
theorem dX0_chamber_5 : decode cX0_chamber 5 = .ok (.invokevirtual 50, 3) := dk_182 0 50 (dk_at dksX0_chamber_0 5 rfl rfl)
theorem dX0_chamber_8 : decode cX0_chamber 8 = .ok (.i2l, 1) := dk_133 (dk_at dksX0_chamber_0 8 rfl rfl)
theorem dX0_chamber_9 : decode cX0_chamber 9 = .ok (.lastore, 1) := dk_80 (dk_at dksX0_chamber_0 9 rfl rfl)
theorem dX0_chamber_10 : decode cX0_chamber 10 = .ok (.goto 11, 3) := dk_167 0 11 (dk_at dksX0_chamber_0 10 rfl rfl)
theorem dX0_chamber_13 : decode cX0_chamber 13 = .ok (.astore 4, 2) := dk_58 4 (dk_at dksX0_chamber_0 13 rfl rfl)
theorem dX0_chamber_15 : decode cX0_chamber 15 = .ok (.iconst 1, 1) := dk_4 (dk_at dksX0_chamber_0 15 rfl rfl)
theorem dX0_chamber_16 : decode cX0_chamber 16 = .ok (.ireturn, 1) := dk_172 (dk_at dksX0_chamber_0 16 rfl rfl)
theorem dX0_chamber_17 : decode cX0_chamber 17 = .ok (.astore 4, 2) := dk_58 4 (dk_at dksX0_chamber_0 17 rfl rfl)
theorem dX0_chamber_19 : decode cX0_chamber 19 = .ok (.iconst 2, 1) := dk_5 (dk_at dksX0_chamber_0 19 rfl rfl)
theorem dX0_chamber_20 : decode cX0_chamber 20 = .ok (.ireturn, 1) := dk_172 (dk_at dksX0_chamber_0 20 rfl rfl)
theorem dX0_chamber_21 : decode cX0_chamber 21 = .ok (.iconst 0, 1) := dk_3 (dk_at dksX0_chamber_0 21 rfl rfl)
theorem dX0_chamber_22 : decode cX0_chamber 22 = .ok (.ireturn, 1) := dk_172 (dk_at dksX0_chamber_0 22 rfl rfl)
abbrev cX0_way : ByteArray := method_14_code
def yX0_way : MethodName := ⟨RX0, "way", "(LCorridorPlan;III[J)I"⟩
def dkwX0_way_1 : List UInt8 := [172]
abbrev dktX0_way_1 : List UInt8 := dkwX0_way_1 ++ []
def dkwX0_way_0 : List UInt8 := [25, 4, 3, 42, 27, 28, 29, 182, 0, 53, 133, 80, 167, 0, 11, 58, 5, 4, 172, 58, 5, 5, 172, 3]
abbrev dktX0_way_0 : List UInt8 := dkwX0_way_0 ++ dktX0_way_1
theorem dksX0_way_0 : cX0_way.data.toList.drop 0 = dktX0_way_0 := by decide +kernel
theorem dksX0_way_1 : cX0_way.data.toList.drop 24 = dktX0_way_1 := dk_seg dksX0_way_0 24 rfl rfl
theorem dX0_way_0 : decode cX0_way 0 = .ok (.aload 4, 2) := dk_25 4 (dk_at dksX0_way_0 0 rfl rfl)
theorem dX0_way_2 : decode cX0_way 2 = .ok (.iconst 0, 1) := dk_3 (dk_at dksX0_way_0 2 rfl rfl)
theorem dX0_way_3 : decode cX0_way 3 = .ok (.aload_n 0, 1) := dk_42 (dk_at dksX0_way_0 3 rfl rfl)
theorem dX0_way_4 : decode cX0_way 4 = .ok (.iload_n 1, 1) := dk_27 (dk_at dksX0_way_0 4 rfl rfl)
theorem dX0_way_5 : decode cX0_way 5 = .ok (.iload_n 2, 1) := dk_28 (dk_at dksX0_way_0 5 rfl rfl)
theorem dX0_way_6 : decode cX0_way 6 = .ok (.iload_n 3, 1) := dk_29 (dk_at dksX0_way_0 6 rfl rfl)
theorem dX0_way_7 : decode cX0_way 7 = .ok (.invokevirtual 53, 3) := dk_182 0 53 (dk_at dksX0_way_0 7 rfl rfl)
theorem dX0_way_10 : decode cX0_way 10 = .ok (.i2l, 1) := dk_133 (dk_at dksX0_way_0 10 rfl rfl)
theorem dX0_way_11 : decode cX0_way 11 = .ok (.lastore, 1) := dk_80 (dk_at dksX0_way_0 11 rfl rfl)
theorem dX0_way_12 : decode cX0_way 12 = .ok (.goto 11, 3) := dk_167 0 11 (dk_at dksX0_way_0 12 rfl rfl)
theorem dX0_way_15 : decode cX0_way 15 = .ok (.astore 5, 2) := dk_58 5 (dk_at dksX0_way_0 15 rfl rfl)
theorem dX0_way_17 : decode cX0_way 17 = .ok (.iconst 1, 1) := dk_4 (dk_at dksX0_way_0 17 rfl rfl)
theorem dX0_way_18 : decode cX0_way 18 = .ok (.ireturn, 1) := dk_172 (dk_at dksX0_way_0 18 rfl rfl)
theorem dX0_way_19 : decode cX0_way 19 = .ok (.astore 5, 2) := dk_58 5 (dk_at dksX0_way_0 19 rfl rfl)
theorem dX0_way_21 : decode cX0_way 21 = .ok (.iconst 2, 1) := dk_5 (dk_at dksX0_way_0 21 rfl rfl)
theorem dX0_way_22 : decode cX0_way 22 = .ok (.ireturn, 1) := dk_172 (dk_at dksX0_way_0 22 rfl rfl)
theorem dX0_way_23 : decode cX0_way 23 = .ok (.iconst 0, 1) := dk_3 (dk_at dksX0_way_0 23 rfl rfl)
theorem dX0_way_24 : decode cX0_way 24 = .ok (.ireturn, 1) := dk_172 (dk_at dksX0_way_1 0 rfl rfl)
abbrev cX0_count : ByteArray := method_15_code
def yX0_count : MethodName := ⟨RX0, "count", "(LCorridorPlan;I[J)I"⟩
def dkwX0_count_0 : List UInt8 := [44, 3, 42, 27, 182, 0, 56, 133, 80, 167, 0, 6, 78, 4, 172, 3, 172]
abbrev dktX0_count_0 : List UInt8 := dkwX0_count_0 ++ []
theorem dksX0_count_0 : cX0_count.data.toList.drop 0 = dktX0_count_0 := by decide +kernel
theorem dX0_count_0 : decode cX0_count 0 = .ok (.aload_n 2, 1) := dk_44 (dk_at dksX0_count_0 0 rfl rfl)
theorem dX0_count_1 : decode cX0_count 1 = .ok (.iconst 0, 1) := dk_3 (dk_at dksX0_count_0 1 rfl rfl)
theorem dX0_count_2 : decode cX0_count 2 = .ok (.aload_n 0, 1) := dk_42 (dk_at dksX0_count_0 2 rfl rfl)
theorem dX0_count_3 : decode cX0_count 3 = .ok (.iload_n 1, 1) := dk_27 (dk_at dksX0_count_0 3 rfl rfl)
theorem dX0_count_4 : decode cX0_count 4 = .ok (.invokevirtual 56, 3) := dk_182 0 56 (dk_at dksX0_count_0 4 rfl rfl)
theorem dX0_count_7 : decode cX0_count 7 = .ok (.i2l, 1) := dk_133 (dk_at dksX0_count_0 7 rfl rfl)
theorem dX0_count_8 : decode cX0_count 8 = .ok (.lastore, 1) := dk_80 (dk_at dksX0_count_0 8 rfl rfl)
theorem dX0_count_9 : decode cX0_count 9 = .ok (.goto 6, 3) := dk_167 0 6 (dk_at dksX0_count_0 9 rfl rfl)
theorem dX0_count_12 : decode cX0_count 12 = .ok (.astore_n 3, 1) := dk_78 (dk_at dksX0_count_0 12 rfl rfl)
theorem dX0_count_13 : decode cX0_count 13 = .ok (.iconst 1, 1) := dk_4 (dk_at dksX0_count_0 13 rfl rfl)
theorem dX0_count_14 : decode cX0_count 14 = .ok (.ireturn, 1) := dk_172 (dk_at dksX0_count_0 14 rfl rfl)
theorem dX0_count_15 : decode cX0_count 15 = .ok (.iconst 0, 1) := dk_3 (dk_at dksX0_count_0 15 rfl rfl)
theorem dX0_count_16 : decode cX0_count 16 = .ok (.ireturn, 1) := dk_172 (dk_at dksX0_count_0 16 rfl rfl)
abbrev cX0_ifDug : ByteArray := method_16_code
def yX0_ifDug : MethodName := ⟨RX0, "ifDug", "(LCorridorPlan;III[J)I"⟩
def dkwX0_ifDug_0 : List UInt8 := [25, 4, 3, 42, 27, 28, 29, 182, 0, 59, 133, 80, 167, 0, 7, 58, 5, 4, 172, 3, 172]
abbrev dktX0_ifDug_0 : List UInt8 := dkwX0_ifDug_0 ++ []
theorem dksX0_ifDug_0 : cX0_ifDug.data.toList.drop 0 = dktX0_ifDug_0 := by decide +kernel
theorem dX0_ifDug_0 : decode cX0_ifDug 0 = .ok (.aload 4, 2) := dk_25 4 (dk_at dksX0_ifDug_0 0 rfl rfl)
theorem dX0_ifDug_2 : decode cX0_ifDug 2 = .ok (.iconst 0, 1) := dk_3 (dk_at dksX0_ifDug_0 2 rfl rfl)
theorem dX0_ifDug_3 : decode cX0_ifDug 3 = .ok (.aload_n 0, 1) := dk_42 (dk_at dksX0_ifDug_0 3 rfl rfl)
theorem dX0_ifDug_4 : decode cX0_ifDug 4 = .ok (.iload_n 1, 1) := dk_27 (dk_at dksX0_ifDug_0 4 rfl rfl)
theorem dX0_ifDug_5 : decode cX0_ifDug 5 = .ok (.iload_n 2, 1) := dk_28 (dk_at dksX0_ifDug_0 5 rfl rfl)
theorem dX0_ifDug_6 : decode cX0_ifDug 6 = .ok (.iload_n 3, 1) := dk_29 (dk_at dksX0_ifDug_0 6 rfl rfl)
theorem dX0_ifDug_7 : decode cX0_ifDug 7 = .ok (.invokevirtual 59, 3) := dk_182 0 59 (dk_at dksX0_ifDug_0 7 rfl rfl)
theorem dX0_ifDug_10 : decode cX0_ifDug 10 = .ok (.i2l, 1) := dk_133 (dk_at dksX0_ifDug_0 10 rfl rfl)
theorem dX0_ifDug_11 : decode cX0_ifDug 11 = .ok (.lastore, 1) := dk_80 (dk_at dksX0_ifDug_0 11 rfl rfl)
theorem dX0_ifDug_12 : decode cX0_ifDug 12 = .ok (.goto 7, 3) := dk_167 0 7 (dk_at dksX0_ifDug_0 12 rfl rfl)
theorem dX0_ifDug_15 : decode cX0_ifDug 15 = .ok (.astore 5, 2) := dk_58 5 (dk_at dksX0_ifDug_0 15 rfl rfl)
theorem dX0_ifDug_17 : decode cX0_ifDug 17 = .ok (.iconst 1, 1) := dk_4 (dk_at dksX0_ifDug_0 17 rfl rfl)
theorem dX0_ifDug_18 : decode cX0_ifDug 18 = .ok (.ireturn, 1) := dk_172 (dk_at dksX0_ifDug_0 18 rfl rfl)
theorem dX0_ifDug_19 : decode cX0_ifDug 19 = .ok (.iconst 0, 1) := dk_3 (dk_at dksX0_ifDug_0 19 rfl rfl)
theorem dX0_ifDug_20 : decode cX0_ifDug 20 = .ok (.ireturn, 1) := dk_172 (dk_at dksX0_ifDug_0 20 rfl rfl)
abbrev cX0_ifGiven : ByteArray := method_17_code
def yX0_ifGiven : MethodName := ⟨RX0, "ifGiven", "(LCorridorPlan;I[J)I"⟩
def dkwX0_ifGiven_0 : List UInt8 := [44, 3, 42, 27, 182, 0, 62, 133, 80, 167, 0, 6, 78, 4, 172, 3, 172]
abbrev dktX0_ifGiven_0 : List UInt8 := dkwX0_ifGiven_0 ++ []
theorem dksX0_ifGiven_0 : cX0_ifGiven.data.toList.drop 0 = dktX0_ifGiven_0 := by decide +kernel
theorem dX0_ifGiven_0 : decode cX0_ifGiven 0 = .ok (.aload_n 2, 1) := dk_44 (dk_at dksX0_ifGiven_0 0 rfl rfl)
theorem dX0_ifGiven_1 : decode cX0_ifGiven 1 = .ok (.iconst 0, 1) := dk_3 (dk_at dksX0_ifGiven_0 1 rfl rfl)
theorem dX0_ifGiven_2 : decode cX0_ifGiven 2 = .ok (.aload_n 0, 1) := dk_42 (dk_at dksX0_ifGiven_0 2 rfl rfl)
theorem dX0_ifGiven_3 : decode cX0_ifGiven 3 = .ok (.iload_n 1, 1) := dk_27 (dk_at dksX0_ifGiven_0 3 rfl rfl)
theorem dX0_ifGiven_4 : decode cX0_ifGiven 4 = .ok (.invokevirtual 62, 3) := dk_182 0 62 (dk_at dksX0_ifGiven_0 4 rfl rfl)
theorem dX0_ifGiven_7 : decode cX0_ifGiven 7 = .ok (.i2l, 1) := dk_133 (dk_at dksX0_ifGiven_0 7 rfl rfl)
theorem dX0_ifGiven_8 : decode cX0_ifGiven 8 = .ok (.lastore, 1) := dk_80 (dk_at dksX0_ifGiven_0 8 rfl rfl)
theorem dX0_ifGiven_9 : decode cX0_ifGiven 9 = .ok (.goto 6, 3) := dk_167 0 6 (dk_at dksX0_ifGiven_0 9 rfl rfl)
theorem dX0_ifGiven_12 : decode cX0_ifGiven 12 = .ok (.astore_n 3, 1) := dk_78 (dk_at dksX0_ifGiven_0 12 rfl rfl)
theorem dX0_ifGiven_13 : decode cX0_ifGiven 13 = .ok (.iconst 1, 1) := dk_4 (dk_at dksX0_ifGiven_0 13 rfl rfl)
theorem dX0_ifGiven_14 : decode cX0_ifGiven 14 = .ok (.ireturn, 1) := dk_172 (dk_at dksX0_ifGiven_0 14 rfl rfl)
theorem dX0_ifGiven_15 : decode cX0_ifGiven 15 = .ok (.iconst 0, 1) := dk_3 (dk_at dksX0_ifGiven_0 15 rfl rfl)
theorem dX0_ifGiven_16 : decode cX0_ifGiven 16 = .ok (.ireturn, 1) := dk_172 (dk_at dksX0_ifGiven_0 16 rfl rfl)
theorem q93 : (Jvm.Cond.initialized "CorridorPlanLaw") ∈ lw_all := lw_g (lw_at lw_m1 0 rfl) rfl
theorem q126 : (Jvm.Cond.classLink "CorridorPlanLaw" (8 : Nat) "CorridorPlan") ∈ lw_all := lw_g (lw_at lw_m1 33 rfl) rfl
theorem q128 : (Jvm.Cond.methodLink "CorridorPlanLaw" (65 : Nat) ({ cls := "CorridorPlan", name := "<init>", desc := "()V" } : Jvm.MethodName)) ∈ lw_all := lw_g (lw_at lw_m1 35 rfl) rfl
theorem q289 : (Jvm.Cond.methodLink "CorridorPlanLaw" (93 : Nat) ({ cls := "CorridorPlan", name := "carveAll", desc := "()I" } : Jvm.MethodName)) ∈ lw_all := lw_g (lw_at lw_m1 196 rfl) rfl
theorem q549 : (Jvm.Cond.methodLink "CorridorPlanLaw" (97 : Nat) ({ cls := "CorridorPlan", name := "fillUp", desc := "()I" } : Jvm.MethodName)) ∈ lw_all := lw_g (lw_at lw_m2 216 rfl) rfl
theorem q553 : (Jvm.Cond.methodLink "CorridorPlanLaw" (107 : Nat) ({ cls := "CorridorPlan", name := "clearBuffer", desc := "()I" } : Jvm.MethodName)) ∈ lw_all := lw_g (lw_at lw_m2 220 rfl) rfl
theorem q842 : (Jvm.Cond.methodLink "CorridorPlanLaw" (111 : Nat) ({ cls := "CorridorPlan", name := "firstError", desc := "()I" } : Jvm.MethodName)) ∈ lw_all := lw_g (lw_at lw_m4 29 rfl) rfl
theorem q1012 : (Jvm.Cond.methodLink "CorridorPlanLaw" (140 : Nat) ({ cls := "CorridorPlan", name := "allCost", desc := "()I" } : Jvm.MethodName)) ∈ lw_all := lw_g (lw_at lw_m4 199 rfl) rfl
theorem q1023 : (Jvm.Cond.methodLink "CorridorPlanLaw" (144 : Nat) ({ cls := "CorridorPlan", name := "openShare", desc := "()D" } : Jvm.MethodName)) ∈ lw_all := lw_g (lw_at lw_m4 210 rfl) rfl
theorem q1036 : (Jvm.Cond.methodLink "CorridorPlanLaw" (149 : Nat) ({ cls := "CorridorPlan", name := "digest", desc := "()J" } : Jvm.MethodName)) ∈ lw_all := lw_g (lw_at lw_m4 223 rfl) rfl
theorem q1127 : (Jvm.Cond.methodLink "CorridorPlanLaw" (69 : Nat) ({ cls := "CorridorPlanLaw", name := "room", desc := "(LCorridorPlan;IIII[J)I" } : Jvm.MethodName)) ∈ lw_all := lw_g (lw_at lw_m5 74 rfl) rfl
theorem q1128 : (Jvm.Cond.static ({ cls := "CorridorPlanLaw", name := "room", desc := "(LCorridorPlan;IIII[J)I" } : Jvm.MethodName)) ∈ lw_all := lw_g (lw_at lw_m5 75 rfl) rfl
theorem q1129 : (Jvm.Cond.codeWith ({ cls := "CorridorPlanLaw", name := "room", desc := "(LCorridorPlan;IIII[J)I" } : Jvm.MethodName) method_3_code (7 : Nat) (Option.some Jvm.ClassFile.FieldType.int) [((0 : Nat), (14 : Nat), (17 : Nat), (13 : Nat)), ((0 : Nat), (14 : Nat), (21 : Nat), (15 : Nat))]) ∈ lw_all := lw_g (lw_at lw_m5 76 rfl) rfl
theorem q1130 : (Jvm.Cond.classLink "CorridorPlanLaw" (13 : Nat) "java/lang/IllegalArgumentException") ∈ lw_all := lw_g (lw_at lw_m5 77 rfl) rfl
theorem q1131 : (Jvm.Cond.classLink "CorridorPlanLaw" (15 : Nat) "java/lang/IllegalStateException") ∈ lw_all := lw_g (lw_at lw_m5 78 rfl) rfl
theorem q1132 : (Jvm.Cond.methodLink "CorridorPlanLaw" (7 : Nat) ({ cls := "CorridorPlan", name := "room", desc := "(IIII)I" } : Jvm.MethodName)) ∈ lw_all := lw_g (lw_at lw_m5 79 rfl) rfl
theorem q1173 : (Jvm.Cond.methodLink "CorridorPlanLaw" (78 : Nat) ({ cls := "CorridorPlanLaw", name := "give", desc := "(LCorridorPlan;I[J)I" } : Jvm.MethodName)) ∈ lw_all := lw_g (lw_at lw_m5 120 rfl) rfl
theorem q1174 : (Jvm.Cond.static ({ cls := "CorridorPlanLaw", name := "give", desc := "(LCorridorPlan;I[J)I" } : Jvm.MethodName)) ∈ lw_all := lw_g (lw_at lw_m5 121 rfl) rfl
theorem q1175 : (Jvm.Cond.codeWith ({ cls := "CorridorPlanLaw", name := "give", desc := "(LCorridorPlan;I[J)I" } : Jvm.MethodName) method_4_code (4 : Nat) (Option.some Jvm.ClassFile.FieldType.int) [((0 : Nat), (9 : Nat), (12 : Nat), (21 : Nat))]) ∈ lw_all := lw_g (lw_at lw_m5 122 rfl) rfl
theorem q1176 : (Jvm.Cond.classLink "CorridorPlanLaw" (21 : Nat) "java/lang/IndexOutOfBoundsException") ∈ lw_all := lw_g (lw_at lw_m5 123 rfl) rfl
theorem q1179 : (Jvm.Cond.methodLink "CorridorPlanLaw" (17 : Nat) ({ cls := "CorridorPlan", name := "give", desc := "(I)I" } : Jvm.MethodName)) ∈ lw_all := lw_g (lw_at lw_m5 126 rfl) rfl
theorem q1205 : (Jvm.Cond.methodLink "CorridorPlanLaw" (82 : Nat) ({ cls := "CorridorPlanLaw", name := "walk", desc := "(LCorridorPlan;III[J)I" } : Jvm.MethodName)) ∈ lw_all := lw_g (lw_at lw_m5 152 rfl) rfl
theorem q1206 : (Jvm.Cond.static ({ cls := "CorridorPlanLaw", name := "walk", desc := "(LCorridorPlan;III[J)I" } : Jvm.MethodName)) ∈ lw_all := lw_g (lw_at lw_m5 153 rfl) rfl
theorem q1207 : (Jvm.Cond.codeWith ({ cls := "CorridorPlanLaw", name := "walk", desc := "(LCorridorPlan;III[J)I" } : Jvm.MethodName) method_5_code (6 : Nat) (Option.some Jvm.ClassFile.FieldType.int) [((0 : Nat), (12 : Nat), (15 : Nat), (21 : Nat)), ((0 : Nat), (12 : Nat), (19 : Nat), (13 : Nat))]) ∈ lw_all := lw_g (lw_at lw_m5 154 rfl) rfl
theorem q1208 : (Jvm.Cond.methodLink "CorridorPlanLaw" (23 : Nat) ({ cls := "CorridorPlan", name := "walk", desc := "(III)I" } : Jvm.MethodName)) ∈ lw_all := lw_g (lw_at lw_m5 155 rfl) rfl
theorem q1213 : (Jvm.Cond.methodLink "CorridorPlanLaw" (86 : Nat) ({ cls := "CorridorPlanLaw", name := "dig", desc := "(LCorridorPlan;II[J)I" } : Jvm.MethodName)) ∈ lw_all := lw_g (lw_at lw_m5 160 rfl) rfl
theorem q1214 : (Jvm.Cond.static ({ cls := "CorridorPlanLaw", name := "dig", desc := "(LCorridorPlan;II[J)I" } : Jvm.MethodName)) ∈ lw_all := lw_g (lw_at lw_m5 161 rfl) rfl
theorem q1215 : (Jvm.Cond.codeWith ({ cls := "CorridorPlanLaw", name := "dig", desc := "(LCorridorPlan;II[J)I" } : Jvm.MethodName) method_6_code (5 : Nat) (Option.some Jvm.ClassFile.FieldType.int) [((0 : Nat), (10 : Nat), (13 : Nat), (13 : Nat)), ((0 : Nat), (10 : Nat), (17 : Nat), (15 : Nat))]) ∈ lw_all := lw_g (lw_at lw_m5 162 rfl) rfl
theorem q1216 : (Jvm.Cond.methodLink "CorridorPlanLaw" (27 : Nat) ({ cls := "CorridorPlan", name := "dig", desc := "(II)I" } : Jvm.MethodName)) ∈ lw_all := lw_g (lw_at lw_m5 163 rfl) rfl
theorem q1220 : (Jvm.Cond.methodLink "CorridorPlanLaw" (90 : Nat) ({ cls := "CorridorPlanLaw", name := "carve", desc := "(LCorridorPlan;II[J)I" } : Jvm.MethodName)) ∈ lw_all := lw_g (lw_at lw_m5 167 rfl) rfl
theorem q1221 : (Jvm.Cond.static ({ cls := "CorridorPlanLaw", name := "carve", desc := "(LCorridorPlan;II[J)I" } : Jvm.MethodName)) ∈ lw_all := lw_g (lw_at lw_m5 168 rfl) rfl
theorem q1222 : (Jvm.Cond.codeWith ({ cls := "CorridorPlanLaw", name := "carve", desc := "(LCorridorPlan;II[J)I" } : Jvm.MethodName) method_7_code (5 : Nat) (Option.some Jvm.ClassFile.FieldType.int) [((0 : Nat), (10 : Nat), (13 : Nat), (21 : Nat)), ((0 : Nat), (10 : Nat), (17 : Nat), (13 : Nat)), ((0 : Nat), (10 : Nat), (21 : Nat), (15 : Nat))]) ∈ lw_all := lw_g (lw_at lw_m5 169 rfl) rfl
theorem q1223 : (Jvm.Cond.methodLink "CorridorPlanLaw" (31 : Nat) ({ cls := "CorridorPlan", name := "carve", desc := "(II)I" } : Jvm.MethodName)) ∈ lw_all := lw_g (lw_at lw_m5 170 rfl) rfl
theorem q1227 : (Jvm.Cond.methodLink "CorridorPlanLaw" (101 : Nat) ({ cls := "CorridorPlanLaw", name := "set", desc := "(LCorridorPlan;I[J)I" } : Jvm.MethodName)) ∈ lw_all := lw_g (lw_at lw_m5 174 rfl) rfl
theorem q1228 : (Jvm.Cond.static ({ cls := "CorridorPlanLaw", name := "set", desc := "(LCorridorPlan;I[J)I" } : Jvm.MethodName)) ∈ lw_all := lw_g (lw_at lw_m5 175 rfl) rfl
theorem q1229 : (Jvm.Cond.codeWith ({ cls := "CorridorPlanLaw", name := "set", desc := "(LCorridorPlan;I[J)I" } : Jvm.MethodName) method_8_code (4 : Nat) (Option.some Jvm.ClassFile.FieldType.int) [((0 : Nat), (9 : Nat), (12 : Nat), (13 : Nat))]) ∈ lw_all := lw_g (lw_at lw_m5 176 rfl) rfl
theorem q1230 : (Jvm.Cond.methodLink "CorridorPlanLaw" (34 : Nat) ({ cls := "CorridorPlan", name := "set", desc := "(I)I" } : Jvm.MethodName)) ∈ lw_all := lw_g (lw_at lw_m5 177 rfl) rfl
theorem q1234 : (Jvm.Cond.methodLink "CorridorPlanLaw" (104 : Nat) ({ cls := "CorridorPlanLaw", name := "append", desc := "(LCorridorPlan;I[J)I" } : Jvm.MethodName)) ∈ lw_all := lw_g (lw_at lw_m5 181 rfl) rfl
theorem q1235 : (Jvm.Cond.static ({ cls := "CorridorPlanLaw", name := "append", desc := "(LCorridorPlan;I[J)I" } : Jvm.MethodName)) ∈ lw_all := lw_g (lw_at lw_m5 182 rfl) rfl
theorem q1236 : (Jvm.Cond.codeWith ({ cls := "CorridorPlanLaw", name := "append", desc := "(LCorridorPlan;I[J)I" } : Jvm.MethodName) method_9_code (4 : Nat) (Option.some Jvm.ClassFile.FieldType.int) [((0 : Nat), (9 : Nat), (12 : Nat), (13 : Nat)), ((0 : Nat), (9 : Nat), (15 : Nat), (15 : Nat))]) ∈ lw_all := lw_g (lw_at lw_m5 183 rfl) rfl
theorem q1237 : (Jvm.Cond.methodLink "CorridorPlanLaw" (37 : Nat) ({ cls := "CorridorPlan", name := "append", desc := "(I)I" } : Jvm.MethodName)) ∈ lw_all := lw_g (lw_at lw_m5 184 rfl) rfl
theorem q1254 : (Jvm.Cond.methodLink "CorridorPlanLaw" (115 : Nat) ({ cls := "CorridorPlanLaw", name := "run", desc := "(LCorridorPlan;[J)I" } : Jvm.MethodName)) ∈ lw_all := lw_g (lw_at lw_m5 201 rfl) rfl
theorem q1255 : (Jvm.Cond.static ({ cls := "CorridorPlanLaw", name := "run", desc := "(LCorridorPlan;[J)I" } : Jvm.MethodName)) ∈ lw_all := lw_g (lw_at lw_m5 202 rfl) rfl
theorem q1256 : (Jvm.Cond.codeWith ({ cls := "CorridorPlanLaw", name := "run", desc := "(LCorridorPlan;[J)I" } : Jvm.MethodName) method_10_code (3 : Nat) (Option.some Jvm.ClassFile.FieldType.int) [((0 : Nat), (8 : Nat), (11 : Nat), (13 : Nat))]) ∈ lw_all := lw_g (lw_at lw_m5 203 rfl) rfl
theorem q1257 : (Jvm.Cond.methodLink "CorridorPlanLaw" (40 : Nat) ({ cls := "CorridorPlan", name := "run", desc := "()I" } : Jvm.MethodName)) ∈ lw_all := lw_g (lw_at lw_m5 204 rfl) rfl
theorem q1364 : (Jvm.Cond.methodLink "CorridorPlanLaw" (119 : Nat) ({ cls := "CorridorPlanLaw", name := "undo", desc := "(LCorridorPlan;[J)I" } : Jvm.MethodName)) ∈ lw_all := lw_g (lw_at lw_m6 71 rfl) rfl
theorem q1365 : (Jvm.Cond.static ({ cls := "CorridorPlanLaw", name := "undo", desc := "(LCorridorPlan;[J)I" } : Jvm.MethodName)) ∈ lw_all := lw_g (lw_at lw_m6 72 rfl) rfl
theorem q1366 : (Jvm.Cond.codeWith ({ cls := "CorridorPlanLaw", name := "undo", desc := "(LCorridorPlan;[J)I" } : Jvm.MethodName) method_11_code (3 : Nat) (Option.some Jvm.ClassFile.FieldType.int) [((0 : Nat), (8 : Nat), (11 : Nat), (15 : Nat))]) ∈ lw_all := lw_g (lw_at lw_m6 73 rfl) rfl
theorem q1367 : (Jvm.Cond.methodLink "CorridorPlanLaw" (44 : Nat) ({ cls := "CorridorPlan", name := "undo", desc := "()I" } : Jvm.MethodName)) ∈ lw_all := lw_g (lw_at lw_m6 74 rfl) rfl
theorem q1390 : (Jvm.Cond.methodLink "CorridorPlanLaw" (122 : Nat) ({ cls := "CorridorPlanLaw", name := "square", desc := "(LCorridorPlan;III[J)I" } : Jvm.MethodName)) ∈ lw_all := lw_g (lw_at lw_m6 97 rfl) rfl
theorem q1391 : (Jvm.Cond.static ({ cls := "CorridorPlanLaw", name := "square", desc := "(LCorridorPlan;III[J)I" } : Jvm.MethodName)) ∈ lw_all := lw_g (lw_at lw_m6 98 rfl) rfl
theorem q1392 : (Jvm.Cond.codeWith ({ cls := "CorridorPlanLaw", name := "square", desc := "(LCorridorPlan;III[J)I" } : Jvm.MethodName) method_12_code (6 : Nat) (Option.some Jvm.ClassFile.FieldType.int) [((0 : Nat), (12 : Nat), (15 : Nat), (13 : Nat))]) ∈ lw_all := lw_g (lw_at lw_m6 99 rfl) rfl
theorem q1393 : (Jvm.Cond.methodLink "CorridorPlanLaw" (47 : Nat) ({ cls := "CorridorPlan", name := "square", desc := "(III)I" } : Jvm.MethodName)) ∈ lw_all := lw_g (lw_at lw_m6 100 rfl) rfl
theorem q1397 : (Jvm.Cond.methodLink "CorridorPlanLaw" (125 : Nat) ({ cls := "CorridorPlanLaw", name := "chamber", desc := "(LCorridorPlan;II[J)I" } : Jvm.MethodName)) ∈ lw_all := lw_g (lw_at lw_m6 104 rfl) rfl
theorem q1398 : (Jvm.Cond.static ({ cls := "CorridorPlanLaw", name := "chamber", desc := "(LCorridorPlan;II[J)I" } : Jvm.MethodName)) ∈ lw_all := lw_g (lw_at lw_m6 105 rfl) rfl
theorem q1399 : (Jvm.Cond.codeWith ({ cls := "CorridorPlanLaw", name := "chamber", desc := "(LCorridorPlan;II[J)I" } : Jvm.MethodName) method_13_code (5 : Nat) (Option.some Jvm.ClassFile.FieldType.int) [((0 : Nat), (10 : Nat), (13 : Nat), (21 : Nat)), ((0 : Nat), (10 : Nat), (17 : Nat), (13 : Nat))]) ∈ lw_all := lw_g (lw_at lw_m6 106 rfl) rfl
theorem q1400 : (Jvm.Cond.methodLink "CorridorPlanLaw" (50 : Nat) ({ cls := "CorridorPlan", name := "chamber", desc := "(II)I" } : Jvm.MethodName)) ∈ lw_all := lw_g (lw_at lw_m6 107 rfl) rfl
theorem q1404 : (Jvm.Cond.methodLink "CorridorPlanLaw" (128 : Nat) ({ cls := "CorridorPlanLaw", name := "way", desc := "(LCorridorPlan;III[J)I" } : Jvm.MethodName)) ∈ lw_all := lw_g (lw_at lw_m6 111 rfl) rfl
theorem q1405 : (Jvm.Cond.static ({ cls := "CorridorPlanLaw", name := "way", desc := "(LCorridorPlan;III[J)I" } : Jvm.MethodName)) ∈ lw_all := lw_g (lw_at lw_m6 112 rfl) rfl
theorem q1406 : (Jvm.Cond.codeWith ({ cls := "CorridorPlanLaw", name := "way", desc := "(LCorridorPlan;III[J)I" } : Jvm.MethodName) method_14_code (6 : Nat) (Option.some Jvm.ClassFile.FieldType.int) [((0 : Nat), (12 : Nat), (15 : Nat), (21 : Nat)), ((0 : Nat), (12 : Nat), (19 : Nat), (13 : Nat))]) ∈ lw_all := lw_g (lw_at lw_m6 113 rfl) rfl
theorem q1407 : (Jvm.Cond.methodLink "CorridorPlanLaw" (53 : Nat) ({ cls := "CorridorPlan", name := "way", desc := "(III)I" } : Jvm.MethodName)) ∈ lw_all := lw_g (lw_at lw_m6 114 rfl) rfl
theorem q1411 : (Jvm.Cond.methodLink "CorridorPlanLaw" (131 : Nat) ({ cls := "CorridorPlanLaw", name := "count", desc := "(LCorridorPlan;I[J)I" } : Jvm.MethodName)) ∈ lw_all := lw_g (lw_at lw_m6 118 rfl) rfl
theorem q1412 : (Jvm.Cond.static ({ cls := "CorridorPlanLaw", name := "count", desc := "(LCorridorPlan;I[J)I" } : Jvm.MethodName)) ∈ lw_all := lw_g (lw_at lw_m6 119 rfl) rfl
theorem q1413 : (Jvm.Cond.codeWith ({ cls := "CorridorPlanLaw", name := "count", desc := "(LCorridorPlan;I[J)I" } : Jvm.MethodName) method_15_code (4 : Nat) (Option.some Jvm.ClassFile.FieldType.int) [((0 : Nat), (9 : Nat), (12 : Nat), (13 : Nat))]) ∈ lw_all := lw_g (lw_at lw_m6 120 rfl) rfl
theorem q1414 : (Jvm.Cond.methodLink "CorridorPlanLaw" (56 : Nat) ({ cls := "CorridorPlan", name := "count", desc := "(I)I" } : Jvm.MethodName)) ∈ lw_all := lw_g (lw_at lw_m6 121 rfl) rfl
theorem q1418 : (Jvm.Cond.methodLink "CorridorPlanLaw" (134 : Nat) ({ cls := "CorridorPlanLaw", name := "ifDug", desc := "(LCorridorPlan;III[J)I" } : Jvm.MethodName)) ∈ lw_all := lw_g (lw_at lw_m6 125 rfl) rfl
theorem q1419 : (Jvm.Cond.static ({ cls := "CorridorPlanLaw", name := "ifDug", desc := "(LCorridorPlan;III[J)I" } : Jvm.MethodName)) ∈ lw_all := lw_g (lw_at lw_m6 126 rfl) rfl
theorem q1420 : (Jvm.Cond.codeWith ({ cls := "CorridorPlanLaw", name := "ifDug", desc := "(LCorridorPlan;III[J)I" } : Jvm.MethodName) method_16_code (6 : Nat) (Option.some Jvm.ClassFile.FieldType.int) [((0 : Nat), (12 : Nat), (15 : Nat), (13 : Nat))]) ∈ lw_all := lw_g (lw_at lw_m6 127 rfl) rfl
theorem q1421 : (Jvm.Cond.methodLink "CorridorPlanLaw" (59 : Nat) ({ cls := "CorridorPlan", name := "ifDug", desc := "(III)I" } : Jvm.MethodName)) ∈ lw_all := lw_g (lw_at lw_m6 128 rfl) rfl
theorem q1425 : (Jvm.Cond.methodLink "CorridorPlanLaw" (137 : Nat) ({ cls := "CorridorPlanLaw", name := "ifGiven", desc := "(LCorridorPlan;I[J)I" } : Jvm.MethodName)) ∈ lw_all := lw_g (lw_at lw_m6 132 rfl) rfl
theorem q1426 : (Jvm.Cond.static ({ cls := "CorridorPlanLaw", name := "ifGiven", desc := "(LCorridorPlan;I[J)I" } : Jvm.MethodName)) ∈ lw_all := lw_g (lw_at lw_m6 133 rfl) rfl
theorem q1427 : (Jvm.Cond.codeWith ({ cls := "CorridorPlanLaw", name := "ifGiven", desc := "(LCorridorPlan;I[J)I" } : Jvm.MethodName) method_17_code (4 : Nat) (Option.some Jvm.ClassFile.FieldType.int) [((0 : Nat), (9 : Nat), (12 : Nat), (21 : Nat))]) ∈ lw_all := lw_g (lw_at lw_m6 134 rfl) rfl
theorem q1428 : (Jvm.Cond.methodLink "CorridorPlanLaw" (62 : Nat) ({ cls := "CorridorPlan", name := "ifGiven", desc := "(I)I" } : Jvm.MethodName)) ∈ lw_all := lw_g (lw_at lw_m6 135 rfl) rfl
theorem q1432 : (Jvm.Cond.classLink "CorridorPlanLaw" (66 : Nat) "CorridorPlanModel") ∈ lw_all := lw_g (lw_at lw_m6 139 rfl) rfl
theorem q1434 : (Jvm.Cond.methodLink "CorridorPlanLaw" (68 : Nat) ({ cls := "CorridorPlanModel", name := "<init>", desc := "()V" } : Jvm.MethodName)) ∈ lw_all := lw_g (lw_at lw_m6 141 rfl) rfl
theorem q1499 : (Jvm.Cond.methodLink "CorridorPlanLaw" (75 : Nat) ({ cls := "CorridorPlanModel", name := "thrown", desc := "()I" } : Jvm.MethodName)) ∈ lw_all := lw_g (lw_at lw_m6 206 rfl) rfl
theorem q1503 : (Jvm.Cond.methodLink "CorridorPlanLaw" (121 : Nat) ({ cls := "CorridorPlanModel", name := "undo", desc := "()I" } : Jvm.MethodName)) ∈ lw_all := lw_g (lw_at lw_m6 210 rfl) rfl
theorem q1514 : (Jvm.Cond.methodLink "CorridorPlanLaw" (74 : Nat) ({ cls := "CorridorPlanModel", name := "room", desc := "(IIII)I" } : Jvm.MethodName)) ∈ lw_all := lw_g (lw_at lw_m6 221 rfl) rfl
theorem q1545 : (Jvm.Cond.methodLink "CorridorPlanLaw" (81 : Nat) ({ cls := "CorridorPlanModel", name := "give", desc := "(I)I" } : Jvm.MethodName)) ∈ lw_all := lw_g (lw_at lw_m7 12 rfl) rfl
theorem q1552 : (Jvm.Cond.methodLink "CorridorPlanLaw" (85 : Nat) ({ cls := "CorridorPlanModel", name := "walk", desc := "(III)I" } : Jvm.MethodName)) ∈ lw_all := lw_g (lw_at lw_m7 19 rfl) rfl
theorem q1567 : (Jvm.Cond.methodLink "CorridorPlanLaw" (89 : Nat) ({ cls := "CorridorPlanModel", name := "dig", desc := "(II)I" } : Jvm.MethodName)) ∈ lw_all := lw_g (lw_at lw_m7 34 rfl) rfl
theorem q1574 : (Jvm.Cond.methodLink "CorridorPlanLaw" (92 : Nat) ({ cls := "CorridorPlanModel", name := "carve", desc := "(II)I" } : Jvm.MethodName)) ∈ lw_all := lw_g (lw_at lw_m7 41 rfl) rfl
theorem q1618 : (Jvm.Cond.methodLink "CorridorPlanLaw" (96 : Nat) ({ cls := "CorridorPlanModel", name := "carveAll", desc := "()I" } : Jvm.MethodName)) ∈ lw_all := lw_g (lw_at lw_m7 85 rfl) rfl
theorem q1626 : (Jvm.Cond.methodLink "CorridorPlanLaw" (100 : Nat) ({ cls := "CorridorPlanModel", name := "fillUp", desc := "()I" } : Jvm.MethodName)) ∈ lw_all := lw_g (lw_at lw_m7 93 rfl) rfl
theorem q1634 : (Jvm.Cond.methodLink "CorridorPlanLaw" (103 : Nat) ({ cls := "CorridorPlanModel", name := "set", desc := "(I)I" } : Jvm.MethodName)) ∈ lw_all := lw_g (lw_at lw_m7 101 rfl) rfl
theorem q1638 : (Jvm.Cond.methodLink "CorridorPlanLaw" (106 : Nat) ({ cls := "CorridorPlanModel", name := "append", desc := "(I)I" } : Jvm.MethodName)) ∈ lw_all := lw_g (lw_at lw_m7 105 rfl) rfl
theorem q1642 : (Jvm.Cond.methodLink "CorridorPlanLaw" (110 : Nat) ({ cls := "CorridorPlanModel", name := "clearBuffer", desc := "()I" } : Jvm.MethodName)) ∈ lw_all := lw_g (lw_at lw_m7 109 rfl) rfl
theorem q1646 : (Jvm.Cond.methodLink "CorridorPlanLaw" (114 : Nat) ({ cls := "CorridorPlanModel", name := "firstError", desc := "()I" } : Jvm.MethodName)) ∈ lw_all := lw_g (lw_at lw_m7 113 rfl) rfl
theorem q1678 : (Jvm.Cond.methodLink "CorridorPlanLaw" (118 : Nat) ({ cls := "CorridorPlanModel", name := "run", desc := "()I" } : Jvm.MethodName)) ∈ lw_all := lw_g (lw_at lw_m7 145 rfl) rfl
theorem q1686 : (Jvm.Cond.methodLink "CorridorPlanLaw" (124 : Nat) ({ cls := "CorridorPlanModel", name := "square", desc := "(III)I" } : Jvm.MethodName)) ∈ lw_all := lw_g (lw_at lw_m7 153 rfl) rfl
theorem q1693 : (Jvm.Cond.methodLink "CorridorPlanLaw" (127 : Nat) ({ cls := "CorridorPlanModel", name := "chamber", desc := "(II)I" } : Jvm.MethodName)) ∈ lw_all := lw_g (lw_at lw_m7 160 rfl) rfl
theorem q1713 : (Jvm.Cond.methodLink "CorridorPlanLaw" (130 : Nat) ({ cls := "CorridorPlanModel", name := "way", desc := "(III)I" } : Jvm.MethodName)) ∈ lw_all := lw_g (lw_at lw_m7 180 rfl) rfl
theorem q1721 : (Jvm.Cond.methodLink "CorridorPlanLaw" (133 : Nat) ({ cls := "CorridorPlanModel", name := "count", desc := "(I)I" } : Jvm.MethodName)) ∈ lw_all := lw_g (lw_at lw_m7 188 rfl) rfl
theorem q1744 : (Jvm.Cond.methodLink "CorridorPlanLaw" (136 : Nat) ({ cls := "CorridorPlanModel", name := "ifDug", desc := "(III)I" } : Jvm.MethodName)) ∈ lw_all := lw_g (lw_at lw_m7 211 rfl) rfl
theorem q1756 : (Jvm.Cond.methodLink "CorridorPlanLaw" (139 : Nat) ({ cls := "CorridorPlanModel", name := "ifGiven", desc := "(I)I" } : Jvm.MethodName)) ∈ lw_all := lw_g (lw_at lw_m7 223 rfl) rfl
theorem q1764 : (Jvm.Cond.methodLink "CorridorPlanLaw" (143 : Nat) ({ cls := "CorridorPlanModel", name := "allCost", desc := "()I" } : Jvm.MethodName)) ∈ lw_all := lw_g (lw_at lw_m7 231 rfl) rfl
theorem q1772 : (Jvm.Cond.methodLink "CorridorPlanLaw" (148 : Nat) ({ cls := "CorridorPlanModel", name := "openShare", desc := "()D" } : Jvm.MethodName)) ∈ lw_all := lw_g (lw_at lw_m7 239 rfl) rfl
theorem q1780 : (Jvm.Cond.methodLink "CorridorPlanLaw" (153 : Nat) ({ cls := "CorridorPlanModel", name := "digest", desc := "()J" } : Jvm.MethodName)) ∈ lw_all := lw_g (lw_at lw_m8 7 rfl) rfl
/-! CorridorPlan$State -/
set_option maxRecDepth 100000
def RX2 : String := "CorridorPlan$State"
def TX2 : u_T := fun k => match k with
  | 0 => ("CorridorPlan$State", "squares", "[I", true)
  | 1 => ("CorridorPlan$State", "needs", "[I", true)
  | 2 => ("CorridorPlan$State", "rooms", "[Z", true)
  | _ => ("CorridorPlan$State", "far", "I", false)
def tyX2 : Nat → FieldType := fun k => match k with
  | 0 => .array .int
  | 1 => .array .int
  | 2 => .array .boolean
  | _ => .int
abbrev wsX20 : List Cond := u_ws RX2 TX2 4
theorem nmX2 : ∀ a, a < 4 → ∀ b, b < 4 → a ≠ b → (TX2 a).2.1 ≠ (TX2 b).2.1 := by decide +kernel
theorem tyX2_ok : ∀ k, k < 4 → parseFieldDescriptor (TX2 k).2.2.1 = some (tyX2 k) := by decide +kernel
abbrev cX2_init : ByteArray := prog_5_method_1_code
def yX2_init : MethodName := ⟨RX2, "<init>", "([I[I[Z)V"⟩
def dkwX2_init_1 : List UInt8 := [177]
abbrev dktX2_init_1 : List UInt8 := dkwX2_init_1 ++ []
def dkwX2_init_0 : List UInt8 := [42, 183, 0, 3, 42, 5, 181, 0, 9, 42, 43, 181, 0, 15, 42, 44, 181, 0, 19, 42, 45, 181, 0, 22]
abbrev dktX2_init_0 : List UInt8 := dkwX2_init_0 ++ dktX2_init_1
theorem dksX2_init_0 : cX2_init.data.toList.drop 0 = dktX2_init_0 := by decide +kernel
theorem dksX2_init_1 : cX2_init.data.toList.drop 24 = dktX2_init_1 := dk_seg dksX2_init_0 24 rfl rfl
theorem dX2_init_0 : decode cX2_init 0 = .ok (.aload_n 0, 1) := dk_42 (dk_at dksX2_init_0 0 rfl rfl)
theorem dX2_init_1 : decode cX2_init 1 = .ok (.invokespecial 3, 3) := dk_183 0 3 (dk_at dksX2_init_0 1 rfl rfl)
theorem dX2_init_4 : decode cX2_init 4 = .ok (.aload_n 0, 1) := dk_42 (dk_at dksX2_init_0 4 rfl rfl)
theorem dX2_init_5 : decode cX2_init 5 = .ok (.iconst 2, 1) := dk_5 (dk_at dksX2_init_0 5 rfl rfl)
theorem dX2_init_6 : decode cX2_init 6 = .ok (.putfield 9, 3) := dk_181 0 9 (dk_at dksX2_init_0 6 rfl rfl)
theorem dX2_init_9 : decode cX2_init 9 = .ok (.aload_n 0, 1) := dk_42 (dk_at dksX2_init_0 9 rfl rfl)
theorem dX2_init_10 : decode cX2_init 10 = .ok (.aload_n 1, 1) := dk_43 (dk_at dksX2_init_0 10 rfl rfl)
theorem dX2_init_11 : decode cX2_init 11 = .ok (.putfield 15, 3) := dk_181 0 15 (dk_at dksX2_init_0 11 rfl rfl)
theorem dX2_init_14 : decode cX2_init 14 = .ok (.aload_n 0, 1) := dk_42 (dk_at dksX2_init_0 14 rfl rfl)
theorem dX2_init_15 : decode cX2_init 15 = .ok (.aload_n 2, 1) := dk_44 (dk_at dksX2_init_0 15 rfl rfl)
theorem dX2_init_16 : decode cX2_init 16 = .ok (.putfield 19, 3) := dk_181 0 19 (dk_at dksX2_init_0 16 rfl rfl)
theorem dX2_init_19 : decode cX2_init 19 = .ok (.aload_n 0, 1) := dk_42 (dk_at dksX2_init_0 19 rfl rfl)
theorem dX2_init_20 : decode cX2_init 20 = .ok (.aload_n 3, 1) := dk_45 (dk_at dksX2_init_0 20 rfl rfl)
theorem dX2_init_21 : decode cX2_init 21 = .ok (.putfield 22, 3) := dk_181 0 22 (dk_at dksX2_init_0 21 rfl rfl)
theorem dX2_init_24 : decode cX2_init 24 = .ok (.return_, 1) := dk_177 (dk_at dksX2_init_1 0 rfl rfl)
abbrev cX2_beside : ByteArray := prog_5_method_5_code
def yX2_beside : MethodName := ⟨RX2, "beside", "(II)I"⟩
def dkwX2_beside_2 : List UInt8 := [16, 16, 21, 4, 104, 29, 96, 46, 167, 0, 5, 16, 254, 172]
abbrev dktX2_beside_2 : List UInt8 := dkwX2_beside_2 ++ []
def dkwX2_beside_1 : List UInt8 := [3, 16, 15, 184, 0, 42, 153, 0, 29, 21, 4, 3, 16, 11, 184, 0, 42, 153, 0, 18, 42, 180, 0, 15]
abbrev dktX2_beside_1 : List UInt8 := dkwX2_beside_1 ++ dktX2_beside_2
def dkwX2_beside_0 : List UInt8 := [27, 16, 16, 112, 178, 0, 36, 28, 46, 96, 62, 27, 16, 16, 108, 178, 0, 39, 28, 46, 96, 54, 4, 29]
abbrev dktX2_beside_0 : List UInt8 := dkwX2_beside_0 ++ dktX2_beside_1
theorem dksX2_beside_0 : cX2_beside.data.toList.drop 0 = dktX2_beside_0 := by decide +kernel
theorem dksX2_beside_1 : cX2_beside.data.toList.drop 24 = dktX2_beside_1 := dk_seg dksX2_beside_0 24 rfl rfl
theorem dksX2_beside_2 : cX2_beside.data.toList.drop 48 = dktX2_beside_2 := dk_seg dksX2_beside_1 24 rfl rfl
theorem dX2_beside_0 : decode cX2_beside 0 = .ok (.iload_n 1, 1) := dk_27 (dk_at dksX2_beside_0 0 rfl rfl)
theorem dX2_beside_1 : decode cX2_beside 1 = .ok (.bipush 16, 2) := dk_16 16 (dk_at dksX2_beside_0 1 rfl rfl)
theorem dX2_beside_3 : decode cX2_beside 3 = .ok (.irem, 1) := dk_112 (dk_at dksX2_beside_0 3 rfl rfl)
theorem dX2_beside_4 : decode cX2_beside 4 = .ok (.getstatic 36, 3) := dk_178 0 36 (dk_at dksX2_beside_0 4 rfl rfl)
theorem dX2_beside_7 : decode cX2_beside 7 = .ok (.iload_n 2, 1) := dk_28 (dk_at dksX2_beside_0 7 rfl rfl)
theorem dX2_beside_8 : decode cX2_beside 8 = .ok (.iaload, 1) := dk_46 (dk_at dksX2_beside_0 8 rfl rfl)
theorem dX2_beside_9 : decode cX2_beside 9 = .ok (.iadd, 1) := dk_96 (dk_at dksX2_beside_0 9 rfl rfl)
theorem dX2_beside_10 : decode cX2_beside 10 = .ok (.istore_n 3, 1) := dk_62 (dk_at dksX2_beside_0 10 rfl rfl)
theorem dX2_beside_11 : decode cX2_beside 11 = .ok (.iload_n 1, 1) := dk_27 (dk_at dksX2_beside_0 11 rfl rfl)
theorem dX2_beside_12 : decode cX2_beside 12 = .ok (.bipush 16, 2) := dk_16 16 (dk_at dksX2_beside_0 12 rfl rfl)
theorem dX2_beside_14 : decode cX2_beside 14 = .ok (.idiv, 1) := dk_108 (dk_at dksX2_beside_0 14 rfl rfl)
theorem dX2_beside_15 : decode cX2_beside 15 = .ok (.getstatic 39, 3) := dk_178 0 39 (dk_at dksX2_beside_0 15 rfl rfl)
theorem dX2_beside_18 : decode cX2_beside 18 = .ok (.iload_n 2, 1) := dk_28 (dk_at dksX2_beside_0 18 rfl rfl)
theorem dX2_beside_19 : decode cX2_beside 19 = .ok (.iaload, 1) := dk_46 (dk_at dksX2_beside_0 19 rfl rfl)
theorem dX2_beside_20 : decode cX2_beside 20 = .ok (.iadd, 1) := dk_96 (dk_at dksX2_beside_0 20 rfl rfl)
theorem dX2_beside_21 : decode cX2_beside 21 = .ok (.istore 4, 2) := dk_54 4 (dk_at dksX2_beside_0 21 rfl rfl)
theorem dX2_beside_23 : decode cX2_beside 23 = .ok (.iload_n 3, 1) := dk_29 (dk_at dksX2_beside_0 23 rfl rfl)
theorem dX2_beside_24 : decode cX2_beside 24 = .ok (.iconst 0, 1) := dk_3 (dk_at dksX2_beside_1 0 rfl rfl)
theorem dX2_beside_25 : decode cX2_beside 25 = .ok (.bipush 15, 2) := dk_16 15 (dk_at dksX2_beside_1 1 rfl rfl)
theorem dX2_beside_27 : decode cX2_beside 27 = .ok (.invokestatic 42, 3) := dk_184 0 42 (dk_at dksX2_beside_1 3 rfl rfl)
theorem dX2_beside_30 : decode cX2_beside 30 = .ok (.ifCond .eq 29, 3) := dk_153 0 29 (dk_at dksX2_beside_1 6 rfl rfl)
theorem dX2_beside_33 : decode cX2_beside 33 = .ok (.iload 4, 2) := dk_21 4 (dk_at dksX2_beside_1 9 rfl rfl)
theorem dX2_beside_35 : decode cX2_beside 35 = .ok (.iconst 0, 1) := dk_3 (dk_at dksX2_beside_1 11 rfl rfl)
theorem dX2_beside_36 : decode cX2_beside 36 = .ok (.bipush 11, 2) := dk_16 11 (dk_at dksX2_beside_1 12 rfl rfl)
theorem dX2_beside_38 : decode cX2_beside 38 = .ok (.invokestatic 42, 3) := dk_184 0 42 (dk_at dksX2_beside_1 14 rfl rfl)
theorem dX2_beside_41 : decode cX2_beside 41 = .ok (.ifCond .eq 18, 3) := dk_153 0 18 (dk_at dksX2_beside_1 17 rfl rfl)
theorem dX2_beside_44 : decode cX2_beside 44 = .ok (.aload_n 0, 1) := dk_42 (dk_at dksX2_beside_1 20 rfl rfl)
theorem dX2_beside_45 : decode cX2_beside 45 = .ok (.getfield 15, 3) := dk_180 0 15 (dk_at dksX2_beside_1 21 rfl rfl)
theorem dX2_beside_48 : decode cX2_beside 48 = .ok (.bipush 16, 2) := dk_16 16 (dk_at dksX2_beside_2 0 rfl rfl)
theorem dX2_beside_50 : decode cX2_beside 50 = .ok (.iload 4, 2) := dk_21 4 (dk_at dksX2_beside_2 2 rfl rfl)
theorem dX2_beside_52 : decode cX2_beside 52 = .ok (.imul, 1) := dk_104 (dk_at dksX2_beside_2 4 rfl rfl)
theorem dX2_beside_53 : decode cX2_beside 53 = .ok (.iload_n 3, 1) := dk_29 (dk_at dksX2_beside_2 5 rfl rfl)
theorem dX2_beside_54 : decode cX2_beside 54 = .ok (.iadd, 1) := dk_96 (dk_at dksX2_beside_2 6 rfl rfl)
theorem dX2_beside_55 : decode cX2_beside 55 = .ok (.iaload, 1) := dk_46 (dk_at dksX2_beside_2 7 rfl rfl)
theorem dX2_beside_56 : decode cX2_beside 56 = .ok (.goto 5, 3) := dk_167 0 5 (dk_at dksX2_beside_2 8 rfl rfl)
theorem dX2_beside_59 : decode cX2_beside 59 = .ok (.bipush (-2), 2) := dk_16 254 (dk_at dksX2_beside_2 11 rfl rfl)
theorem dX2_beside_61 : decode cX2_beside 61 = .ok (.ireturn, 1) := dk_172 (dk_at dksX2_beside_2 13 rfl rfl)
abbrev cX2_twin : ByteArray := prog_5_method_2_code
def yX2_twin : MethodName := ⟨RX2, "twin", "()LCorridorPlan$State;"⟩
def dkwX2_twin_1 : List UInt8 := [42, 180, 0, 22, 182, 0, 31, 192, 0, 32, 183, 0, 33, 76, 43, 42, 180, 0, 9, 181, 0, 9, 43, 176]
abbrev dktX2_twin_1 : List UInt8 := dkwX2_twin_1 ++ []
def dkwX2_twin_0 : List UInt8 := [187, 0, 10, 89, 42, 180, 0, 15, 182, 0, 26, 192, 0, 27, 42, 180, 0, 19, 182, 0, 26, 192, 0, 27]
abbrev dktX2_twin_0 : List UInt8 := dkwX2_twin_0 ++ dktX2_twin_1
theorem dksX2_twin_0 : cX2_twin.data.toList.drop 0 = dktX2_twin_0 := by decide +kernel
theorem dksX2_twin_1 : cX2_twin.data.toList.drop 24 = dktX2_twin_1 := dk_seg dksX2_twin_0 24 rfl rfl
theorem dX2_twin_0 : decode cX2_twin 0 = .ok (.new 10, 3) := dk_187 0 10 (dk_at dksX2_twin_0 0 rfl rfl)
theorem dX2_twin_3 : decode cX2_twin 3 = .ok (.dup, 1) := dk_89 (dk_at dksX2_twin_0 3 rfl rfl)
theorem dX2_twin_4 : decode cX2_twin 4 = .ok (.aload_n 0, 1) := dk_42 (dk_at dksX2_twin_0 4 rfl rfl)
theorem dX2_twin_5 : decode cX2_twin 5 = .ok (.getfield 15, 3) := dk_180 0 15 (dk_at dksX2_twin_0 5 rfl rfl)
theorem dX2_twin_8 : decode cX2_twin 8 = .ok (.invokevirtual 26, 3) := dk_182 0 26 (dk_at dksX2_twin_0 8 rfl rfl)
theorem dX2_twin_11 : decode cX2_twin 11 = .ok (.checkcast 27, 3) := dk_192 0 27 (dk_at dksX2_twin_0 11 rfl rfl)
theorem dX2_twin_14 : decode cX2_twin 14 = .ok (.aload_n 0, 1) := dk_42 (dk_at dksX2_twin_0 14 rfl rfl)
theorem dX2_twin_15 : decode cX2_twin 15 = .ok (.getfield 19, 3) := dk_180 0 19 (dk_at dksX2_twin_0 15 rfl rfl)
theorem dX2_twin_18 : decode cX2_twin 18 = .ok (.invokevirtual 26, 3) := dk_182 0 26 (dk_at dksX2_twin_0 18 rfl rfl)
theorem dX2_twin_21 : decode cX2_twin 21 = .ok (.checkcast 27, 3) := dk_192 0 27 (dk_at dksX2_twin_0 21 rfl rfl)
theorem dX2_twin_24 : decode cX2_twin 24 = .ok (.aload_n 0, 1) := dk_42 (dk_at dksX2_twin_1 0 rfl rfl)
theorem dX2_twin_25 : decode cX2_twin 25 = .ok (.getfield 22, 3) := dk_180 0 22 (dk_at dksX2_twin_1 1 rfl rfl)
theorem dX2_twin_28 : decode cX2_twin 28 = .ok (.invokevirtual 31, 3) := dk_182 0 31 (dk_at dksX2_twin_1 4 rfl rfl)
theorem dX2_twin_31 : decode cX2_twin 31 = .ok (.checkcast 32, 3) := dk_192 0 32 (dk_at dksX2_twin_1 7 rfl rfl)
theorem dX2_twin_34 : decode cX2_twin 34 = .ok (.invokespecial 33, 3) := dk_183 0 33 (dk_at dksX2_twin_1 10 rfl rfl)
theorem dX2_twin_37 : decode cX2_twin 37 = .ok (.astore_n 1, 1) := dk_76 (dk_at dksX2_twin_1 13 rfl rfl)
theorem dX2_twin_38 : decode cX2_twin 38 = .ok (.aload_n 1, 1) := dk_43 (dk_at dksX2_twin_1 14 rfl rfl)
theorem dX2_twin_39 : decode cX2_twin 39 = .ok (.aload_n 0, 1) := dk_42 (dk_at dksX2_twin_1 15 rfl rfl)
theorem dX2_twin_40 : decode cX2_twin 40 = .ok (.getfield 9, 3) := dk_180 0 9 (dk_at dksX2_twin_1 16 rfl rfl)
theorem dX2_twin_43 : decode cX2_twin 43 = .ok (.putfield 9, 3) := dk_181 0 9 (dk_at dksX2_twin_1 19 rfl rfl)
theorem dX2_twin_46 : decode cX2_twin 46 = .ok (.aload_n 1, 1) := dk_43 (dk_at dksX2_twin_1 22 rfl rfl)
theorem dX2_twin_47 : decode cX2_twin 47 = .ok (.areturn, 1) := dk_176 (dk_at dksX2_twin_1 23 rfl rfl)
abbrev cX2_needed : ByteArray := prog_5_method_3_code
def yX2_needed : MethodName := ⟨RX2, "needed", "(II)I"⟩
def dkwX2_needed_0 : List UInt8 := [42, 180, 0, 19, 16, 6, 27, 104, 28, 96, 46, 172]
abbrev dktX2_needed_0 : List UInt8 := dkwX2_needed_0 ++ []
theorem dksX2_needed_0 : cX2_needed.data.toList.drop 0 = dktX2_needed_0 := by decide +kernel
theorem dX2_needed_0 : decode cX2_needed 0 = .ok (.aload_n 0, 1) := dk_42 (dk_at dksX2_needed_0 0 rfl rfl)
theorem dX2_needed_1 : decode cX2_needed 1 = .ok (.getfield 19, 3) := dk_180 0 19 (dk_at dksX2_needed_0 1 rfl rfl)
theorem dX2_needed_4 : decode cX2_needed 4 = .ok (.bipush 6, 2) := dk_16 6 (dk_at dksX2_needed_0 4 rfl rfl)
theorem dX2_needed_6 : decode cX2_needed 6 = .ok (.iload_n 1, 1) := dk_27 (dk_at dksX2_needed_0 6 rfl rfl)
theorem dX2_needed_7 : decode cX2_needed 7 = .ok (.imul, 1) := dk_104 (dk_at dksX2_needed_0 7 rfl rfl)
theorem dX2_needed_8 : decode cX2_needed 8 = .ok (.iload_n 2, 1) := dk_28 (dk_at dksX2_needed_0 8 rfl rfl)
theorem dX2_needed_9 : decode cX2_needed 9 = .ok (.iadd, 1) := dk_96 (dk_at dksX2_needed_0 9 rfl rfl)
theorem dX2_needed_10 : decode cX2_needed 10 = .ok (.iaload, 1) := dk_46 (dk_at dksX2_needed_0 10 rfl rfl)
theorem dX2_needed_11 : decode cX2_needed 11 = .ok (.ireturn, 1) := dk_172 (dk_at dksX2_needed_0 11 rfl rfl)
abbrev cX2_giveUp : ByteArray := prog_5_method_6_code
def yX2_giveUp : MethodName := ⟨RX2, "giveUp", "(I)I"⟩
def dkwX2_giveUp_3 : List UInt8 := [3, 62, 29, 16, 6, 162, 0, 16, 42, 27, 29, 3, 182, 0, 50, 132, 3, 1, 167, 255, 240, 28, 172]
abbrev dktX2_giveUp_3 : List UInt8 := dkwX2_giveUp_3 ++ []
def dkwX2_giveUp_2 : List UInt8 := [29, 46, 79, 28, 21, 4, 184, 0, 46, 96, 61, 132, 3, 1, 167, 255, 200, 42, 180, 0, 22, 27, 3, 84]
abbrev dktX2_giveUp_2 : List UInt8 := dkwX2_giveUp_2 ++ dktX2_giveUp_3
def dkwX2_giveUp_1 : List UInt8 := [167, 0, 4, 3, 54, 4, 42, 180, 0, 15, 29, 21, 4, 153, 0, 7, 2, 167, 0, 9, 42, 180, 0, 15]
abbrev dktX2_giveUp_1 : List UInt8 := dkwX2_giveUp_1 ++ dktX2_giveUp_2
def dkwX2_giveUp_0 : List UInt8 := [3, 61, 3, 62, 29, 17, 0, 192, 162, 0, 55, 42, 180, 0, 15, 29, 46, 27, 160, 0, 7, 4]
abbrev dktX2_giveUp_0 : List UInt8 := dkwX2_giveUp_0 ++ dktX2_giveUp_1
theorem dksX2_giveUp_0 : cX2_giveUp.data.toList.drop 0 = dktX2_giveUp_0 := by decide +kernel
theorem dksX2_giveUp_1 : cX2_giveUp.data.toList.drop 22 = dktX2_giveUp_1 := dk_seg dksX2_giveUp_0 22 rfl rfl
theorem dksX2_giveUp_2 : cX2_giveUp.data.toList.drop 46 = dktX2_giveUp_2 := dk_seg dksX2_giveUp_1 24 rfl rfl
theorem dksX2_giveUp_3 : cX2_giveUp.data.toList.drop 70 = dktX2_giveUp_3 := dk_seg dksX2_giveUp_2 24 rfl rfl
theorem dX2_giveUp_0 : decode cX2_giveUp 0 = .ok (.iconst 0, 1) := dk_3 (dk_at dksX2_giveUp_0 0 rfl rfl)
theorem dX2_giveUp_1 : decode cX2_giveUp 1 = .ok (.istore_n 2, 1) := dk_61 (dk_at dksX2_giveUp_0 1 rfl rfl)
theorem dX2_giveUp_2 : decode cX2_giveUp 2 = .ok (.iconst 0, 1) := dk_3 (dk_at dksX2_giveUp_0 2 rfl rfl)
theorem dX2_giveUp_3 : decode cX2_giveUp 3 = .ok (.istore_n 3, 1) := dk_62 (dk_at dksX2_giveUp_0 3 rfl rfl)
theorem dX2_giveUp_4 : decode cX2_giveUp 4 = .ok (.iload_n 3, 1) := dk_29 (dk_at dksX2_giveUp_0 4 rfl rfl)
theorem dX2_giveUp_5 : decode cX2_giveUp 5 = .ok (.sipush 192, 3) := dk_17 0 192 (dk_at dksX2_giveUp_0 5 rfl rfl)
theorem dX2_giveUp_8 : decode cX2_giveUp 8 = .ok (.if_icmp .ge 55, 3) := dk_162 0 55 (dk_at dksX2_giveUp_0 8 rfl rfl)
theorem dX2_giveUp_11 : decode cX2_giveUp 11 = .ok (.aload_n 0, 1) := dk_42 (dk_at dksX2_giveUp_0 11 rfl rfl)
theorem dX2_giveUp_12 : decode cX2_giveUp 12 = .ok (.getfield 15, 3) := dk_180 0 15 (dk_at dksX2_giveUp_0 12 rfl rfl)
theorem dX2_giveUp_15 : decode cX2_giveUp 15 = .ok (.iload_n 3, 1) := dk_29 (dk_at dksX2_giveUp_0 15 rfl rfl)
theorem dX2_giveUp_16 : decode cX2_giveUp 16 = .ok (.iaload, 1) := dk_46 (dk_at dksX2_giveUp_0 16 rfl rfl)
theorem dX2_giveUp_17 : decode cX2_giveUp 17 = .ok (.iload_n 1, 1) := dk_27 (dk_at dksX2_giveUp_0 17 rfl rfl)
theorem dX2_giveUp_18 : decode cX2_giveUp 18 = .ok (.if_icmp .ne 7, 3) := dk_160 0 7 (dk_at dksX2_giveUp_0 18 rfl rfl)
theorem dX2_giveUp_21 : decode cX2_giveUp 21 = .ok (.iconst 1, 1) := dk_4 (dk_at dksX2_giveUp_0 21 rfl rfl)
theorem dX2_giveUp_22 : decode cX2_giveUp 22 = .ok (.goto 4, 3) := dk_167 0 4 (dk_at dksX2_giveUp_1 0 rfl rfl)
theorem dX2_giveUp_25 : decode cX2_giveUp 25 = .ok (.iconst 0, 1) := dk_3 (dk_at dksX2_giveUp_1 3 rfl rfl)
theorem dX2_giveUp_26 : decode cX2_giveUp 26 = .ok (.istore 4, 2) := dk_54 4 (dk_at dksX2_giveUp_1 4 rfl rfl)
theorem dX2_giveUp_28 : decode cX2_giveUp 28 = .ok (.aload_n 0, 1) := dk_42 (dk_at dksX2_giveUp_1 6 rfl rfl)
theorem dX2_giveUp_29 : decode cX2_giveUp 29 = .ok (.getfield 15, 3) := dk_180 0 15 (dk_at dksX2_giveUp_1 7 rfl rfl)
theorem dX2_giveUp_32 : decode cX2_giveUp 32 = .ok (.iload_n 3, 1) := dk_29 (dk_at dksX2_giveUp_1 10 rfl rfl)
theorem dX2_giveUp_33 : decode cX2_giveUp 33 = .ok (.iload 4, 2) := dk_21 4 (dk_at dksX2_giveUp_1 11 rfl rfl)
theorem dX2_giveUp_35 : decode cX2_giveUp 35 = .ok (.ifCond .eq 7, 3) := dk_153 0 7 (dk_at dksX2_giveUp_1 13 rfl rfl)
theorem dX2_giveUp_38 : decode cX2_giveUp 38 = .ok (.iconst (-1), 1) := dk_2 (dk_at dksX2_giveUp_1 16 rfl rfl)
theorem dX2_giveUp_39 : decode cX2_giveUp 39 = .ok (.goto 9, 3) := dk_167 0 9 (dk_at dksX2_giveUp_1 17 rfl rfl)
theorem dX2_giveUp_42 : decode cX2_giveUp 42 = .ok (.aload_n 0, 1) := dk_42 (dk_at dksX2_giveUp_1 20 rfl rfl)
theorem dX2_giveUp_43 : decode cX2_giveUp 43 = .ok (.getfield 15, 3) := dk_180 0 15 (dk_at dksX2_giveUp_1 21 rfl rfl)
theorem dX2_giveUp_46 : decode cX2_giveUp 46 = .ok (.iload_n 3, 1) := dk_29 (dk_at dksX2_giveUp_2 0 rfl rfl)
theorem dX2_giveUp_47 : decode cX2_giveUp 47 = .ok (.iaload, 1) := dk_46 (dk_at dksX2_giveUp_2 1 rfl rfl)
theorem dX2_giveUp_48 : decode cX2_giveUp 48 = .ok (.iastore, 1) := dk_79 (dk_at dksX2_giveUp_2 2 rfl rfl)
theorem dX2_giveUp_49 : decode cX2_giveUp 49 = .ok (.iload_n 2, 1) := dk_28 (dk_at dksX2_giveUp_2 3 rfl rfl)
theorem dX2_giveUp_50 : decode cX2_giveUp 50 = .ok (.iload 4, 2) := dk_21 4 (dk_at dksX2_giveUp_2 4 rfl rfl)
theorem dX2_giveUp_52 : decode cX2_giveUp 52 = .ok (.invokestatic 46, 3) := dk_184 0 46 (dk_at dksX2_giveUp_2 6 rfl rfl)
theorem dX2_giveUp_55 : decode cX2_giveUp 55 = .ok (.iadd, 1) := dk_96 (dk_at dksX2_giveUp_2 9 rfl rfl)
theorem dX2_giveUp_56 : decode cX2_giveUp 56 = .ok (.istore_n 2, 1) := dk_61 (dk_at dksX2_giveUp_2 10 rfl rfl)
theorem dX2_giveUp_57 : decode cX2_giveUp 57 = .ok (.iinc 3 1, 3) := dk_132 3 1 (dk_at dksX2_giveUp_2 11 rfl rfl)
theorem dX2_giveUp_60 : decode cX2_giveUp 60 = .ok (.goto (-56), 3) := dk_167 255 200 (dk_at dksX2_giveUp_2 14 rfl rfl)
theorem dX2_giveUp_63 : decode cX2_giveUp 63 = .ok (.aload_n 0, 1) := dk_42 (dk_at dksX2_giveUp_2 17 rfl rfl)
theorem dX2_giveUp_64 : decode cX2_giveUp 64 = .ok (.getfield 22, 3) := dk_180 0 22 (dk_at dksX2_giveUp_2 18 rfl rfl)
theorem dX2_giveUp_67 : decode cX2_giveUp 67 = .ok (.iload_n 1, 1) := dk_27 (dk_at dksX2_giveUp_2 21 rfl rfl)
theorem dX2_giveUp_68 : decode cX2_giveUp 68 = .ok (.iconst 0, 1) := dk_3 (dk_at dksX2_giveUp_2 22 rfl rfl)
theorem dX2_giveUp_69 : decode cX2_giveUp 69 = .ok (.bastore, 1) := dk_84 (dk_at dksX2_giveUp_2 23 rfl rfl)
theorem dX2_giveUp_70 : decode cX2_giveUp 70 = .ok (.iconst 0, 1) := dk_3 (dk_at dksX2_giveUp_3 0 rfl rfl)
theorem dX2_giveUp_71 : decode cX2_giveUp 71 = .ok (.istore_n 3, 1) := dk_62 (dk_at dksX2_giveUp_3 1 rfl rfl)
theorem dX2_giveUp_72 : decode cX2_giveUp 72 = .ok (.iload_n 3, 1) := dk_29 (dk_at dksX2_giveUp_3 2 rfl rfl)
theorem dX2_giveUp_73 : decode cX2_giveUp 73 = .ok (.bipush 6, 2) := dk_16 6 (dk_at dksX2_giveUp_3 3 rfl rfl)
theorem dX2_giveUp_75 : decode cX2_giveUp 75 = .ok (.if_icmp .ge 16, 3) := dk_162 0 16 (dk_at dksX2_giveUp_3 5 rfl rfl)
theorem dX2_giveUp_78 : decode cX2_giveUp 78 = .ok (.aload_n 0, 1) := dk_42 (dk_at dksX2_giveUp_3 8 rfl rfl)
theorem dX2_giveUp_79 : decode cX2_giveUp 79 = .ok (.iload_n 1, 1) := dk_27 (dk_at dksX2_giveUp_3 9 rfl rfl)
theorem dX2_giveUp_80 : decode cX2_giveUp 80 = .ok (.iload_n 3, 1) := dk_29 (dk_at dksX2_giveUp_3 10 rfl rfl)
theorem dX2_giveUp_81 : decode cX2_giveUp 81 = .ok (.iconst 0, 1) := dk_3 (dk_at dksX2_giveUp_3 11 rfl rfl)
theorem dX2_giveUp_82 : decode cX2_giveUp 82 = .ok (.invokevirtual 50, 3) := dk_182 0 50 (dk_at dksX2_giveUp_3 12 rfl rfl)
theorem dX2_giveUp_85 : decode cX2_giveUp 85 = .ok (.iinc 3 1, 3) := dk_132 3 1 (dk_at dksX2_giveUp_3 15 rfl rfl)
theorem dX2_giveUp_88 : decode cX2_giveUp 88 = .ok (.goto (-16), 3) := dk_167 255 240 (dk_at dksX2_giveUp_3 18 rfl rfl)
theorem dX2_giveUp_91 : decode cX2_giveUp 91 = .ok (.iload_n 2, 1) := dk_28 (dk_at dksX2_giveUp_3 21 rfl rfl)
theorem dX2_giveUp_92 : decode cX2_giveUp 92 = .ok (.ireturn, 1) := dk_172 (dk_at dksX2_giveUp_3 22 rfl rfl)
abbrev cX2_need : ByteArray := prog_5_method_4_code
def yX2_need : MethodName := ⟨RX2, "need", "(III)V"⟩
def dkwX2_need_1 : List UInt8 := [177]
abbrev dktX2_need_1 : List UInt8 := dkwX2_need_1 ++ []
def dkwX2_need_0 : List UInt8 := [42, 180, 0, 19, 16, 6, 27, 104, 28, 96, 29, 79, 42, 180, 0, 19, 16, 6, 28, 104, 27, 96, 29, 79]
abbrev dktX2_need_0 : List UInt8 := dkwX2_need_0 ++ dktX2_need_1
theorem dksX2_need_0 : cX2_need.data.toList.drop 0 = dktX2_need_0 := by decide +kernel
theorem dksX2_need_1 : cX2_need.data.toList.drop 24 = dktX2_need_1 := dk_seg dksX2_need_0 24 rfl rfl
theorem dX2_need_0 : decode cX2_need 0 = .ok (.aload_n 0, 1) := dk_42 (dk_at dksX2_need_0 0 rfl rfl)
theorem dX2_need_1 : decode cX2_need 1 = .ok (.getfield 19, 3) := dk_180 0 19 (dk_at dksX2_need_0 1 rfl rfl)
theorem dX2_need_4 : decode cX2_need 4 = .ok (.bipush 6, 2) := dk_16 6 (dk_at dksX2_need_0 4 rfl rfl)
theorem dX2_need_6 : decode cX2_need 6 = .ok (.iload_n 1, 1) := dk_27 (dk_at dksX2_need_0 6 rfl rfl)
theorem dX2_need_7 : decode cX2_need 7 = .ok (.imul, 1) := dk_104 (dk_at dksX2_need_0 7 rfl rfl)
theorem dX2_need_8 : decode cX2_need 8 = .ok (.iload_n 2, 1) := dk_28 (dk_at dksX2_need_0 8 rfl rfl)
theorem dX2_need_9 : decode cX2_need 9 = .ok (.iadd, 1) := dk_96 (dk_at dksX2_need_0 9 rfl rfl)
theorem dX2_need_10 : decode cX2_need 10 = .ok (.iload_n 3, 1) := dk_29 (dk_at dksX2_need_0 10 rfl rfl)
theorem dX2_need_11 : decode cX2_need 11 = .ok (.iastore, 1) := dk_79 (dk_at dksX2_need_0 11 rfl rfl)
theorem dX2_need_12 : decode cX2_need 12 = .ok (.aload_n 0, 1) := dk_42 (dk_at dksX2_need_0 12 rfl rfl)
theorem dX2_need_13 : decode cX2_need 13 = .ok (.getfield 19, 3) := dk_180 0 19 (dk_at dksX2_need_0 13 rfl rfl)
theorem dX2_need_16 : decode cX2_need 16 = .ok (.bipush 6, 2) := dk_16 6 (dk_at dksX2_need_0 16 rfl rfl)
theorem dX2_need_18 : decode cX2_need 18 = .ok (.iload_n 2, 1) := dk_28 (dk_at dksX2_need_0 18 rfl rfl)
theorem dX2_need_19 : decode cX2_need 19 = .ok (.imul, 1) := dk_104 (dk_at dksX2_need_0 19 rfl rfl)
theorem dX2_need_20 : decode cX2_need 20 = .ok (.iload_n 1, 1) := dk_27 (dk_at dksX2_need_0 20 rfl rfl)
theorem dX2_need_21 : decode cX2_need 21 = .ok (.iadd, 1) := dk_96 (dk_at dksX2_need_0 21 rfl rfl)
theorem dX2_need_22 : decode cX2_need 22 = .ok (.iload_n 3, 1) := dk_29 (dk_at dksX2_need_0 22 rfl rfl)
theorem dX2_need_23 : decode cX2_need 23 = .ok (.iastore, 1) := dk_79 (dk_at dksX2_need_0 23 rfl rfl)
theorem dX2_need_24 : decode cX2_need 24 = .ok (.return_, 1) := dk_177 (dk_at dksX2_need_1 0 rfl rfl)
theorem q95 : (Jvm.Cond.initialized "CorridorPlan$State") ∈ lw_all := lw_g (lw_at lw_m1 2 rfl) rfl
theorem q138 : (Jvm.Cond.instantiable "CorridorPlan$State" (4 : Nat)) ∈ lw_all := lw_g (lw_at lw_m1 45 rfl) rfl
theorem q140 : (Jvm.Cond.instanceMethod ({ cls := "CorridorPlan$State", name := "<init>", desc := "([I[I[Z)V" } : Jvm.MethodName)) ∈ lw_all := lw_g (lw_at lw_m1 47 rfl) rfl
theorem q141 : (Jvm.Cond.code ({ cls := "CorridorPlan$State", name := "<init>", desc := "([I[I[Z)V" } : Jvm.MethodName) prog_5_method_1_code (4 : Nat) (Option.none : Option Jvm.ClassFile.FieldType)) ∈ lw_all := lw_g (lw_at lw_m1 48 rfl) rfl
theorem q142 : (Jvm.Cond.methodLink "CorridorPlan$State" (3 : Nat) ({ cls := "java/lang/Object", name := "<init>", desc := "()V" } : Jvm.MethodName)) ∈ lw_all := lw_g (lw_at lw_m1 49 rfl) rfl
theorem q143 : (Jvm.Cond.fieldLink "CorridorPlan$State" (15 : Nat) "CorridorPlan$State" "squares" "[I") ∈ lw_all := lw_g (lw_at lw_m1 50 rfl) rfl
theorem q145 : (Jvm.Cond.fieldLink "CorridorPlan$State" (19 : Nat) "CorridorPlan$State" "needs" "[I") ∈ lw_all := lw_g (lw_at lw_m1 52 rfl) rfl
theorem q147 : (Jvm.Cond.fieldLink "CorridorPlan$State" (22 : Nat) "CorridorPlan$State" "rooms" "[Z") ∈ lw_all := lw_g (lw_at lw_m1 54 rfl) rfl
theorem q149 : (Jvm.Cond.fieldLink "CorridorPlan$State" (9 : Nat) "CorridorPlan$State" "far" "I") ∈ lw_all := lw_g (lw_at lw_m1 56 rfl) rfl
theorem q151 : (Jvm.Cond.laysFinal "CorridorPlan$State" "CorridorPlan$State" "squares" "[I") ∈ lw_all := lw_g (lw_at lw_m1 58 rfl) rfl
theorem q152 : (Jvm.Cond.soleField "CorridorPlan$State" "squares") ∈ lw_all := lw_g (lw_at lw_m1 59 rfl) rfl
theorem q153 : (Jvm.Cond.laysFinal "CorridorPlan$State" "CorridorPlan$State" "needs" "[I") ∈ lw_all := lw_g (lw_at lw_m1 60 rfl) rfl
theorem q154 : (Jvm.Cond.soleField "CorridorPlan$State" "needs") ∈ lw_all := lw_g (lw_at lw_m1 61 rfl) rfl
theorem q155 : (Jvm.Cond.laysFinal "CorridorPlan$State" "CorridorPlan$State" "rooms" "[Z") ∈ lw_all := lw_g (lw_at lw_m1 62 rfl) rfl
theorem q156 : (Jvm.Cond.soleField "CorridorPlan$State" "rooms") ∈ lw_all := lw_g (lw_at lw_m1 63 rfl) rfl
theorem q157 : (Jvm.Cond.lays "CorridorPlan$State" "CorridorPlan$State" "far" "I") ∈ lw_all := lw_g (lw_at lw_m1 64 rfl) rfl
theorem q158 : (Jvm.Cond.soleField "CorridorPlan$State" "far") ∈ lw_all := lw_g (lw_at lw_m1 65 rfl) rfl
theorem q159 : (Jvm.Cond.superclass "CorridorPlan$State" "java/lang/Object") ∈ lw_all := lw_g (lw_at lw_m1 66 rfl) rfl
theorem q205 : (Jvm.Cond.instanceMethod ({ cls := "CorridorPlan$State", name := "beside", desc := "(II)I" } : Jvm.MethodName)) ∈ lw_all := lw_g (lw_at lw_m1 112 rfl) rfl
theorem q206 : (Jvm.Cond.selects "CorridorPlan$State" ({ cls := "CorridorPlan$State", name := "beside", desc := "(II)I" } : Jvm.MethodName) ({ cls := "CorridorPlan$State", name := "beside", desc := "(II)I" } : Jvm.MethodName)) ∈ lw_all := lw_g (lw_at lw_m1 113 rfl) rfl
theorem q207 : (Jvm.Cond.code ({ cls := "CorridorPlan$State", name := "beside", desc := "(II)I" } : Jvm.MethodName) prog_5_method_5_code (5 : Nat) (Option.some Jvm.ClassFile.FieldType.int)) ∈ lw_all := lw_g (lw_at lw_m1 114 rfl) rfl
theorem q208 : (Jvm.Cond.fieldLinkNest "CorridorPlan$State" (36 : Nat) "CorridorPlan" "ACROSS" "[I" "CorridorPlan") ∈ lw_tbl := lw_at lw_m1 115 rfl
theorem q210 : (Jvm.Cond.fieldLinkNest "CorridorPlan$State" (39 : Nat) "CorridorPlan" "DOWN" "[I" "CorridorPlan") ∈ lw_tbl := lw_at lw_m1 117 rfl
theorem q212 : (Jvm.Cond.methodLinkNest "CorridorPlan$State" (42 : Nat) ({ cls := "CorridorPlan", name := "inRange", desc := "(III)Z" } : Jvm.MethodName) "CorridorPlan") ∈ lw_tbl := lw_at lw_m1 119 rfl
theorem q319 : (Jvm.Cond.instanceMethod ({ cls := "CorridorPlan$State", name := "twin", desc := "()LCorridorPlan$State;" } : Jvm.MethodName)) ∈ lw_all := lw_g (lw_at lw_m1 226 rfl) rfl
theorem q320 : (Jvm.Cond.selects "CorridorPlan$State" ({ cls := "CorridorPlan$State", name := "twin", desc := "()LCorridorPlan$State;" } : Jvm.MethodName) ({ cls := "CorridorPlan$State", name := "twin", desc := "()LCorridorPlan$State;" } : Jvm.MethodName)) ∈ lw_all := lw_g (lw_at lw_m1 227 rfl) rfl
theorem q321 : (Jvm.Cond.code ({ cls := "CorridorPlan$State", name := "twin", desc := "()LCorridorPlan$State;" } : Jvm.MethodName) prog_5_method_2_code (2 : Nat) (Option.some (Jvm.ClassFile.FieldType.object "CorridorPlan$State"))) ∈ lw_all := lw_g (lw_at lw_m1 228 rfl) rfl
theorem q322 : (Jvm.Cond.classLink "CorridorPlan$State" (10 : Nat) "CorridorPlan$State") ∈ lw_all := lw_g (lw_at lw_m1 229 rfl) rfl
theorem q323 : (Jvm.Cond.methodLink "CorridorPlan$State" (26 : Nat) ({ cls := "[I", name := "clone", desc := "()Ljava/lang/Object;" } : Jvm.MethodName)) ∈ lw_all := lw_g (lw_at lw_m1 230 rfl) rfl
theorem q329 : (Jvm.Cond.classLink "CorridorPlan$State" (27 : Nat) "[I") ∈ lw_all := lw_g (lw_at lw_m1 236 rfl) rfl
theorem q330 : (Jvm.Cond.methodLink "CorridorPlan$State" (31 : Nat) ({ cls := "[Z", name := "clone", desc := "()Ljava/lang/Object;" } : Jvm.MethodName)) ∈ lw_all := lw_g (lw_at lw_m1 237 rfl) rfl
theorem q334 : (Jvm.Cond.classLink "CorridorPlan$State" (32 : Nat) "[Z") ∈ lw_all := lw_g (lw_at lw_m2 1 rfl) rfl
theorem q335 : (Jvm.Cond.methodLink "CorridorPlan$State" (33 : Nat) ({ cls := "CorridorPlan$State", name := "<init>", desc := "([I[I[Z)V" } : Jvm.MethodName)) ∈ lw_all := lw_g (lw_at lw_m2 2 rfl) rfl
theorem q431 : (Jvm.Cond.selects "CorridorPlan$State" ({ cls := "java/lang/Object", name := "getClass", desc := "()Ljava/lang/Class;" } : Jvm.MethodName) ({ cls := "java/lang/Object", name := "getClass", desc := "()Ljava/lang/Class;" } : Jvm.MethodName)) ∈ lw_all := lw_g (lw_at lw_m2 98 rfl) rfl
theorem q474 : (Jvm.Cond.unhidden "CorridorPlan$State" "width" "(II)I") ∈ lw_tbl := lw_at lw_m2 141 rfl
theorem q482 : (Jvm.Cond.castable "CorridorPlan$State" "CorridorPlan$Walkers") ∈ lw_tbl := lw_at lw_m2 149 rfl
theorem q483 : (Jvm.Cond.selects "CorridorPlan$State" ({ cls := "CorridorPlan$Walkers", name := "needed", desc := "(II)I" } : Jvm.MethodName) ({ cls := "CorridorPlan$State", name := "needed", desc := "(II)I" } : Jvm.MethodName)) ∈ lw_all := lw_g (lw_at lw_m2 150 rfl) rfl
theorem q484 : (Jvm.Cond.unhidden "CorridorPlan$State" "needed" "(II)I") ∈ lw_tbl := lw_at lw_m2 151 rfl
theorem q485 : (Jvm.Cond.instanceMethod ({ cls := "CorridorPlan$State", name := "needed", desc := "(II)I" } : Jvm.MethodName)) ∈ lw_all := lw_g (lw_at lw_m2 152 rfl) rfl
theorem q486 : (Jvm.Cond.publicMethod ({ cls := "CorridorPlan$State", name := "needed", desc := "(II)I" } : Jvm.MethodName)) ∈ lw_tbl := lw_at lw_m2 153 rfl
theorem q487 : (Jvm.Cond.code ({ cls := "CorridorPlan$State", name := "needed", desc := "(II)I" } : Jvm.MethodName) prog_5_method_3_code (3 : Nat) (Option.some Jvm.ClassFile.FieldType.int)) ∈ lw_all := lw_g (lw_at lw_m2 154 rfl) rfl
theorem q1108 : (Jvm.Cond.instanceMethod ({ cls := "CorridorPlan$State", name := "giveUp", desc := "(I)I" } : Jvm.MethodName)) ∈ lw_all := lw_g (lw_at lw_m5 55 rfl) rfl
theorem q1109 : (Jvm.Cond.selects "CorridorPlan$State" ({ cls := "CorridorPlan$State", name := "giveUp", desc := "(I)I" } : Jvm.MethodName) ({ cls := "CorridorPlan$State", name := "giveUp", desc := "(I)I" } : Jvm.MethodName)) ∈ lw_all := lw_g (lw_at lw_m5 56 rfl) rfl
theorem q1110 : (Jvm.Cond.code ({ cls := "CorridorPlan$State", name := "giveUp", desc := "(I)I" } : Jvm.MethodName) prog_5_method_6_code (5 : Nat) (Option.some Jvm.ClassFile.FieldType.int)) ∈ lw_all := lw_g (lw_at lw_m5 57 rfl) rfl
theorem q1111 : (Jvm.Cond.methodLinkNest "CorridorPlan$State" (46 : Nat) ({ cls := "CorridorPlan", name := "flag", desc := "(Z)I" } : Jvm.MethodName) "CorridorPlan") ∈ lw_tbl := lw_at lw_m5 58 rfl
theorem q1112 : (Jvm.Cond.methodLink "CorridorPlan$State" (50 : Nat) ({ cls := "CorridorPlan$State", name := "need", desc := "(III)V" } : Jvm.MethodName)) ∈ lw_all := lw_g (lw_at lw_m5 59 rfl) rfl
theorem q1113 : (Jvm.Cond.instanceMethod ({ cls := "CorridorPlan$State", name := "need", desc := "(III)V" } : Jvm.MethodName)) ∈ lw_all := lw_g (lw_at lw_m5 60 rfl) rfl
theorem q1114 : (Jvm.Cond.selects "CorridorPlan$State" ({ cls := "CorridorPlan$State", name := "need", desc := "(III)V" } : Jvm.MethodName) ({ cls := "CorridorPlan$State", name := "need", desc := "(III)V" } : Jvm.MethodName)) ∈ lw_all := lw_g (lw_at lw_m5 61 rfl) rfl
theorem q1115 : (Jvm.Cond.code ({ cls := "CorridorPlan$State", name := "need", desc := "(III)V" } : Jvm.MethodName) prog_5_method_4_code (4 : Nat) (Option.none : Option Jvm.ClassFile.FieldType)) ∈ lw_all := lw_g (lw_at lw_m5 62 rfl) rfl
theorem q1801 : (Jvm.Cond.selects "CorridorPlan$State" ({ cls := "CorridorPlan$State", name := "needed", desc := "(II)I" } : Jvm.MethodName) ({ cls := "CorridorPlan$State", name := "needed", desc := "(II)I" } : Jvm.MethodName)) ∈ lw_all := lw_g (lw_at lw_m8 28 rfl) rfl
theorem q1807 : (Jvm.Cond.castable "CorridorPlan$State" "java/lang/Object") ∈ lw_tbl := lw_at lw_m8 34 rfl
theorem in_X2 : ∀ w ∈ wsX20, w ∈ lw_all := lw_in wsX20 [151, 153, 155, 157] (by decide +kernel) (by decide +kernel)
/-! java/util/AbstractCollection -/
set_option maxRecDepth 100000
def RJ0 : String := "java/util/AbstractCollection"
abbrev cJ0_init : ByteArray := prog_36_method_1_code
def yJ0_init : MethodName := ⟨RJ0, "<init>", "()V"⟩
theorem dJ0_init_0 : decode cJ0_init 0 = .ok (.aload_n 0, 1) := by decide +kernel
theorem dJ0_init_1 : decode cJ0_init 1 = .ok (.invokespecial 1, 3) := by decide +kernel
theorem dJ0_init_4 : decode cJ0_init 4 = .ok (.return_, 1) := by decide +kernel
theorem q96 : (Jvm.Cond.initialized "java/util/AbstractCollection") ∈ lw_all := lw_g (lw_at lw_m1 3 rfl) rfl
theorem q168 : (Jvm.Cond.instanceMethod ({ cls := "java/util/AbstractCollection", name := "<init>", desc := "()V" } : Jvm.MethodName)) ∈ lw_all := lw_g (lw_at lw_m1 75 rfl) rfl
theorem q169 : (Jvm.Cond.code ({ cls := "java/util/AbstractCollection", name := "<init>", desc := "()V" } : Jvm.MethodName) prog_36_method_1_code (1 : Nat) (Option.none : Option Jvm.ClassFile.FieldType)) ∈ lw_all := lw_g (lw_at lw_m1 76 rfl) rfl
theorem q170 : (Jvm.Cond.methodLink "java/util/AbstractCollection" (1 : Nat) ({ cls := "java/lang/Object", name := "<init>", desc := "()V" } : Jvm.MethodName)) ∈ lw_all := lw_g (lw_at lw_m1 77 rfl) rfl
/-! java/util/ArrayDeque -/
set_option maxRecDepth 100000
def RJ1 : String := "java/util/ArrayDeque"
def TJ1 : u_T := fun k => match k with
  | 0 => ("java/util/ArrayDeque", "elements", "[Ljava/lang/Object;", false)
  | 1 => ("java/util/ArrayDeque", "head", "I", false)
  | _ => ("java/util/ArrayDeque", "tail", "I", false)
def tyJ1 : Nat → FieldType := fun k => match k with
  | 0 => .array (.object "java/lang/Object")
  | 1 => .int
  | _ => .int
abbrev wsJ10 : List Cond := u_ws RJ1 TJ1 3
theorem nmJ1 : ∀ a, a < 3 → ∀ b, b < 3 → a ≠ b → (TJ1 a).2.1 ≠ (TJ1 b).2.1 := by decide +kernel
theorem tyJ1_ok : ∀ k, k < 3 → parseFieldDescriptor (TJ1 k).2.2.1 = some (tyJ1 k) := by decide +kernel
abbrev cJ1_init : ByteArray := prog_38_method_4_code
def yJ1_init : MethodName := ⟨RJ1, "<init>", "(I)V"⟩
def dkwJ1_init_1 : List UInt8 := [167, 0, 6, 27, 4, 96, 189, 0, 47, 181, 0, 3, 177]
abbrev dktJ1_init_1 : List UInt8 := dkwJ1_init_1 ++ []
def dkwJ1_init_0 : List UInt8 := [42, 183, 0, 42, 42, 27, 4, 162, 0, 7, 4, 167, 0, 17, 27, 18, 41, 160, 0, 8, 18, 41]
abbrev dktJ1_init_0 : List UInt8 := dkwJ1_init_0 ++ dktJ1_init_1
theorem dksJ1_init_0 : cJ1_init.data.toList.drop 0 = dktJ1_init_0 := by decide +kernel
theorem dksJ1_init_1 : cJ1_init.data.toList.drop 22 = dktJ1_init_1 := dk_seg dksJ1_init_0 22 rfl rfl
theorem dJ1_init_0 : decode cJ1_init 0 = .ok (.aload_n 0, 1) := dk_42 (dk_at dksJ1_init_0 0 rfl rfl)
theorem dJ1_init_1 : decode cJ1_init 1 = .ok (.invokespecial 42, 3) := dk_183 0 42 (dk_at dksJ1_init_0 1 rfl rfl)
theorem dJ1_init_4 : decode cJ1_init 4 = .ok (.aload_n 0, 1) := dk_42 (dk_at dksJ1_init_0 4 rfl rfl)
theorem dJ1_init_5 : decode cJ1_init 5 = .ok (.iload_n 1, 1) := dk_27 (dk_at dksJ1_init_0 5 rfl rfl)
theorem dJ1_init_6 : decode cJ1_init 6 = .ok (.iconst 1, 1) := dk_4 (dk_at dksJ1_init_0 6 rfl rfl)
theorem dJ1_init_7 : decode cJ1_init 7 = .ok (.if_icmp .ge 7, 3) := dk_162 0 7 (dk_at dksJ1_init_0 7 rfl rfl)
theorem dJ1_init_10 : decode cJ1_init 10 = .ok (.iconst 1, 1) := dk_4 (dk_at dksJ1_init_0 10 rfl rfl)
theorem dJ1_init_11 : decode cJ1_init 11 = .ok (.goto 17, 3) := dk_167 0 17 (dk_at dksJ1_init_0 11 rfl rfl)
theorem dJ1_init_14 : decode cJ1_init 14 = .ok (.iload_n 1, 1) := dk_27 (dk_at dksJ1_init_0 14 rfl rfl)
theorem dJ1_init_15 : decode cJ1_init 15 = .ok (.ldc 41, 2) := dk_18 41 (dk_at dksJ1_init_0 15 rfl rfl)
theorem dJ1_init_17 : decode cJ1_init 17 = .ok (.if_icmp .ne 8, 3) := dk_160 0 8 (dk_at dksJ1_init_0 17 rfl rfl)
theorem dJ1_init_20 : decode cJ1_init 20 = .ok (.ldc 41, 2) := dk_18 41 (dk_at dksJ1_init_0 20 rfl rfl)
theorem dJ1_init_22 : decode cJ1_init 22 = .ok (.goto 6, 3) := dk_167 0 6 (dk_at dksJ1_init_1 0 rfl rfl)
theorem dJ1_init_25 : decode cJ1_init 25 = .ok (.iload_n 1, 1) := dk_27 (dk_at dksJ1_init_1 3 rfl rfl)
theorem dJ1_init_26 : decode cJ1_init 26 = .ok (.iconst 1, 1) := dk_4 (dk_at dksJ1_init_1 4 rfl rfl)
theorem dJ1_init_27 : decode cJ1_init 27 = .ok (.iadd, 1) := dk_96 (dk_at dksJ1_init_1 5 rfl rfl)
theorem dJ1_init_28 : decode cJ1_init 28 = .ok (.anewarray 47, 3) := dk_189 0 47 (dk_at dksJ1_init_1 6 rfl rfl)
theorem dJ1_init_31 : decode cJ1_init 31 = .ok (.putfield 3, 3) := dk_181 0 3 (dk_at dksJ1_init_1 9 rfl rfl)
theorem dJ1_init_34 : decode cJ1_init 34 = .ok (.return_, 1) := dk_177 (dk_at dksJ1_init_1 12 rfl rfl)
abbrev cJ1_size : ByteArray := prog_38_method_37_code
def yJ1_size : MethodName := ⟨RJ1, "size", "()I"⟩
def dkwJ1_size_0 : List UInt8 := [42, 180, 0, 20, 42, 180, 0, 24, 42, 180, 0, 3, 190, 184, 0, 127, 172]
abbrev dktJ1_size_0 : List UInt8 := dkwJ1_size_0 ++ []
theorem dksJ1_size_0 : cJ1_size.data.toList.drop 0 = dktJ1_size_0 := by decide +kernel
theorem dJ1_size_0 : decode cJ1_size 0 = .ok (.aload_n 0, 1) := dk_42 (dk_at dksJ1_size_0 0 rfl rfl)
theorem dJ1_size_1 : decode cJ1_size 1 = .ok (.getfield 20, 3) := dk_180 0 20 (dk_at dksJ1_size_0 1 rfl rfl)
theorem dJ1_size_4 : decode cJ1_size 4 = .ok (.aload_n 0, 1) := dk_42 (dk_at dksJ1_size_0 4 rfl rfl)
theorem dJ1_size_5 : decode cJ1_size 5 = .ok (.getfield 24, 3) := dk_180 0 24 (dk_at dksJ1_size_0 5 rfl rfl)
theorem dJ1_size_8 : decode cJ1_size 8 = .ok (.aload_n 0, 1) := dk_42 (dk_at dksJ1_size_0 8 rfl rfl)
theorem dJ1_size_9 : decode cJ1_size 9 = .ok (.getfield 3, 3) := dk_180 0 3 (dk_at dksJ1_size_0 9 rfl rfl)
theorem dJ1_size_12 : decode cJ1_size 12 = .ok (.arraylength, 1) := dk_190 (dk_at dksJ1_size_0 12 rfl rfl)
theorem dJ1_size_13 : decode cJ1_size 13 = .ok (.invokestatic 127, 3) := dk_184 0 127 (dk_at dksJ1_size_0 13 rfl rfl)
theorem dJ1_size_16 : decode cJ1_size 16 = .ok (.ireturn, 1) := dk_172 (dk_at dksJ1_size_0 16 rfl rfl)
abbrev cJ1_sub : ByteArray := prog_38_method_9_code
def yJ1_sub : MethodName := ⟨RJ1, "sub", "(III)I"⟩
def dkwJ1_sub_0 : List UInt8 := [26, 27, 100, 89, 59, 156, 0, 7, 26, 28, 96, 59, 26, 172]
abbrev dktJ1_sub_0 : List UInt8 := dkwJ1_sub_0 ++ []
theorem dksJ1_sub_0 : cJ1_sub.data.toList.drop 0 = dktJ1_sub_0 := by decide +kernel
theorem dJ1_sub_0 : decode cJ1_sub 0 = .ok (.iload_n 0, 1) := dk_26 (dk_at dksJ1_sub_0 0 rfl rfl)
theorem dJ1_sub_1 : decode cJ1_sub 1 = .ok (.iload_n 1, 1) := dk_27 (dk_at dksJ1_sub_0 1 rfl rfl)
theorem dJ1_sub_2 : decode cJ1_sub 2 = .ok (.isub, 1) := dk_100 (dk_at dksJ1_sub_0 2 rfl rfl)
theorem dJ1_sub_3 : decode cJ1_sub 3 = .ok (.dup, 1) := dk_89 (dk_at dksJ1_sub_0 3 rfl rfl)
theorem dJ1_sub_4 : decode cJ1_sub 4 = .ok (.istore_n 0, 1) := dk_59 (dk_at dksJ1_sub_0 4 rfl rfl)
theorem dJ1_sub_5 : decode cJ1_sub 5 = .ok (.ifCond .ge 7, 3) := dk_156 0 7 (dk_at dksJ1_sub_0 5 rfl rfl)
theorem dJ1_sub_8 : decode cJ1_sub 8 = .ok (.iload_n 0, 1) := dk_26 (dk_at dksJ1_sub_0 8 rfl rfl)
theorem dJ1_sub_9 : decode cJ1_sub 9 = .ok (.iload_n 2, 1) := dk_28 (dk_at dksJ1_sub_0 9 rfl rfl)
theorem dJ1_sub_10 : decode cJ1_sub 10 = .ok (.iadd, 1) := dk_96 (dk_at dksJ1_sub_0 10 rfl rfl)
theorem dJ1_sub_11 : decode cJ1_sub 11 = .ok (.istore_n 0, 1) := dk_59 (dk_at dksJ1_sub_0 11 rfl rfl)
theorem dJ1_sub_12 : decode cJ1_sub 12 = .ok (.iload_n 0, 1) := dk_26 (dk_at dksJ1_sub_0 12 rfl rfl)
theorem dJ1_sub_13 : decode cJ1_sub 13 = .ok (.ireturn, 1) := dk_172 (dk_at dksJ1_sub_0 13 rfl rfl)
abbrev cJ1_removeLast : ByteArray := prog_38_method_19_code
def yJ1_removeLast : MethodName := ⟨RJ1, "removeLast", "()Ljava/lang/Object;"⟩
def dkwJ1_removeLast_0 : List UInt8 := [42, 182, 0, 100, 76, 43, 199, 0, 11, 187, 0, 97, 89, 183, 0, 99, 191, 43, 176]
abbrev dktJ1_removeLast_0 : List UInt8 := dkwJ1_removeLast_0 ++ []
theorem dksJ1_removeLast_0 : cJ1_removeLast.data.toList.drop 0 = dktJ1_removeLast_0 := by decide +kernel
theorem dJ1_removeLast_0 : decode cJ1_removeLast 0 = .ok (.aload_n 0, 1) := dk_42 (dk_at dksJ1_removeLast_0 0 rfl rfl)
theorem dJ1_removeLast_1 : decode cJ1_removeLast 1 = .ok (.invokevirtual 100, 3) := dk_182 0 100 (dk_at dksJ1_removeLast_0 1 rfl rfl)
theorem dJ1_removeLast_4 : decode cJ1_removeLast 4 = .ok (.astore_n 1, 1) := dk_76 (dk_at dksJ1_removeLast_0 4 rfl rfl)
theorem dJ1_removeLast_5 : decode cJ1_removeLast 5 = .ok (.aload_n 1, 1) := dk_43 (dk_at dksJ1_removeLast_0 5 rfl rfl)
theorem dJ1_removeLast_6 : decode cJ1_removeLast 6 = .ok (.ifnonnull 11, 3) := dk_199 0 11 (dk_at dksJ1_removeLast_0 6 rfl rfl)
theorem dJ1_removeLast_9 : decode cJ1_removeLast 9 = .ok (.new 97, 3) := dk_187 0 97 (dk_at dksJ1_removeLast_0 9 rfl rfl)
theorem dJ1_removeLast_12 : decode cJ1_removeLast 12 = .ok (.dup, 1) := dk_89 (dk_at dksJ1_removeLast_0 12 rfl rfl)
theorem dJ1_removeLast_13 : decode cJ1_removeLast 13 = .ok (.invokespecial 99, 3) := dk_183 0 99 (dk_at dksJ1_removeLast_0 13 rfl rfl)
theorem dJ1_removeLast_16 : decode cJ1_removeLast 16 = .ok (.athrow, 1) := dk_191 (dk_at dksJ1_removeLast_0 16 rfl rfl)
theorem dJ1_removeLast_17 : decode cJ1_removeLast 17 = .ok (.aload_n 1, 1) := dk_43 (dk_at dksJ1_removeLast_0 17 rfl rfl)
theorem dJ1_removeLast_18 : decode cJ1_removeLast 18 = .ok (.areturn, 1) := dk_176 (dk_at dksJ1_removeLast_0 18 rfl rfl)
abbrev cJ1_pollLast : ByteArray := prog_38_method_21_code
def yJ1_pollLast : MethodName := ⟨RJ1, "pollLast", "()Ljava/lang/Object;"⟩
def dkwJ1_pollLast_1 : List UInt8 := [198, 0, 12, 43, 42, 28, 90, 181, 0, 20, 1, 83, 45, 176]
abbrev dktJ1_pollLast_1 : List UInt8 := dkwJ1_pollLast_1 ++ []
def dkwJ1_pollLast_0 : List UInt8 := [42, 180, 0, 3, 89, 76, 42, 180, 0, 20, 43, 190, 184, 0, 68, 89, 61, 184, 0, 103, 78, 45]
abbrev dktJ1_pollLast_0 : List UInt8 := dkwJ1_pollLast_0 ++ dktJ1_pollLast_1
theorem dksJ1_pollLast_0 : cJ1_pollLast.data.toList.drop 0 = dktJ1_pollLast_0 := by decide +kernel
theorem dksJ1_pollLast_1 : cJ1_pollLast.data.toList.drop 22 = dktJ1_pollLast_1 := dk_seg dksJ1_pollLast_0 22 rfl rfl
theorem dJ1_pollLast_0 : decode cJ1_pollLast 0 = .ok (.aload_n 0, 1) := dk_42 (dk_at dksJ1_pollLast_0 0 rfl rfl)
theorem dJ1_pollLast_1 : decode cJ1_pollLast 1 = .ok (.getfield 3, 3) := dk_180 0 3 (dk_at dksJ1_pollLast_0 1 rfl rfl)
theorem dJ1_pollLast_4 : decode cJ1_pollLast 4 = .ok (.dup, 1) := dk_89 (dk_at dksJ1_pollLast_0 4 rfl rfl)
theorem dJ1_pollLast_5 : decode cJ1_pollLast 5 = .ok (.astore_n 1, 1) := dk_76 (dk_at dksJ1_pollLast_0 5 rfl rfl)
theorem dJ1_pollLast_6 : decode cJ1_pollLast 6 = .ok (.aload_n 0, 1) := dk_42 (dk_at dksJ1_pollLast_0 6 rfl rfl)
theorem dJ1_pollLast_7 : decode cJ1_pollLast 7 = .ok (.getfield 20, 3) := dk_180 0 20 (dk_at dksJ1_pollLast_0 7 rfl rfl)
theorem dJ1_pollLast_10 : decode cJ1_pollLast 10 = .ok (.aload_n 1, 1) := dk_43 (dk_at dksJ1_pollLast_0 10 rfl rfl)
theorem dJ1_pollLast_11 : decode cJ1_pollLast 11 = .ok (.arraylength, 1) := dk_190 (dk_at dksJ1_pollLast_0 11 rfl rfl)
theorem dJ1_pollLast_12 : decode cJ1_pollLast 12 = .ok (.invokestatic 68, 3) := dk_184 0 68 (dk_at dksJ1_pollLast_0 12 rfl rfl)
theorem dJ1_pollLast_15 : decode cJ1_pollLast 15 = .ok (.dup, 1) := dk_89 (dk_at dksJ1_pollLast_0 15 rfl rfl)
theorem dJ1_pollLast_16 : decode cJ1_pollLast 16 = .ok (.istore_n 2, 1) := dk_61 (dk_at dksJ1_pollLast_0 16 rfl rfl)
theorem dJ1_pollLast_17 : decode cJ1_pollLast 17 = .ok (.invokestatic 103, 3) := dk_184 0 103 (dk_at dksJ1_pollLast_0 17 rfl rfl)
theorem dJ1_pollLast_20 : decode cJ1_pollLast 20 = .ok (.astore_n 3, 1) := dk_78 (dk_at dksJ1_pollLast_0 20 rfl rfl)
theorem dJ1_pollLast_21 : decode cJ1_pollLast 21 = .ok (.aload_n 3, 1) := dk_45 (dk_at dksJ1_pollLast_0 21 rfl rfl)
theorem dJ1_pollLast_22 : decode cJ1_pollLast 22 = .ok (.ifnull 12, 3) := dk_198 0 12 (dk_at dksJ1_pollLast_1 0 rfl rfl)
theorem dJ1_pollLast_25 : decode cJ1_pollLast 25 = .ok (.aload_n 1, 1) := dk_43 (dk_at dksJ1_pollLast_1 3 rfl rfl)
theorem dJ1_pollLast_26 : decode cJ1_pollLast 26 = .ok (.aload_n 0, 1) := dk_42 (dk_at dksJ1_pollLast_1 4 rfl rfl)
theorem dJ1_pollLast_27 : decode cJ1_pollLast 27 = .ok (.iload_n 2, 1) := dk_28 (dk_at dksJ1_pollLast_1 5 rfl rfl)
theorem dJ1_pollLast_28 : decode cJ1_pollLast 28 = .ok (.dup_x1, 1) := dk_90 (dk_at dksJ1_pollLast_1 6 rfl rfl)
theorem dJ1_pollLast_29 : decode cJ1_pollLast 29 = .ok (.putfield 20, 3) := dk_181 0 20 (dk_at dksJ1_pollLast_1 7 rfl rfl)
theorem dJ1_pollLast_32 : decode cJ1_pollLast 32 = .ok (.aconst_null, 1) := dk_1 (dk_at dksJ1_pollLast_1 10 rfl rfl)
theorem dJ1_pollLast_33 : decode cJ1_pollLast 33 = .ok (.aastore, 1) := dk_83 (dk_at dksJ1_pollLast_1 11 rfl rfl)
theorem dJ1_pollLast_34 : decode cJ1_pollLast 34 = .ok (.aload_n 3, 1) := dk_45 (dk_at dksJ1_pollLast_1 12 rfl rfl)
theorem dJ1_pollLast_35 : decode cJ1_pollLast 35 = .ok (.areturn, 1) := dk_176 (dk_at dksJ1_pollLast_1 13 rfl rfl)
abbrev cJ1_dec : ByteArray := prog_38_method_7_code
def yJ1_dec : MethodName := ⟨RJ1, "dec", "(II)I"⟩
def dkwJ1_dec_0 : List UInt8 := [132, 0, 255, 26, 156, 0, 7, 27, 4, 100, 59, 26, 172]
abbrev dktJ1_dec_0 : List UInt8 := dkwJ1_dec_0 ++ []
theorem dksJ1_dec_0 : cJ1_dec.data.toList.drop 0 = dktJ1_dec_0 := by decide +kernel
theorem dJ1_dec_0 : decode cJ1_dec 0 = .ok (.iinc 0 (-1), 3) := dk_132 0 255 (dk_at dksJ1_dec_0 0 rfl rfl)
theorem dJ1_dec_3 : decode cJ1_dec 3 = .ok (.iload_n 0, 1) := dk_26 (dk_at dksJ1_dec_0 3 rfl rfl)
theorem dJ1_dec_4 : decode cJ1_dec 4 = .ok (.ifCond .ge 7, 3) := dk_156 0 7 (dk_at dksJ1_dec_0 4 rfl rfl)
theorem dJ1_dec_7 : decode cJ1_dec 7 = .ok (.iload_n 1, 1) := dk_27 (dk_at dksJ1_dec_0 7 rfl rfl)
theorem dJ1_dec_8 : decode cJ1_dec 8 = .ok (.iconst 1, 1) := dk_4 (dk_at dksJ1_dec_0 8 rfl rfl)
theorem dJ1_dec_9 : decode cJ1_dec 9 = .ok (.isub, 1) := dk_100 (dk_at dksJ1_dec_0 9 rfl rfl)
theorem dJ1_dec_10 : decode cJ1_dec 10 = .ok (.istore_n 0, 1) := dk_59 (dk_at dksJ1_dec_0 10 rfl rfl)
theorem dJ1_dec_11 : decode cJ1_dec 11 = .ok (.iload_n 0, 1) := dk_26 (dk_at dksJ1_dec_0 11 rfl rfl)
theorem dJ1_dec_12 : decode cJ1_dec 12 = .ok (.ireturn, 1) := dk_172 (dk_at dksJ1_dec_0 12 rfl rfl)
abbrev cJ1_elementAt : ByteArray := prog_38_method_10_code
def yJ1_elementAt : MethodName := ⟨RJ1, "elementAt", "([Ljava/lang/Object;I)Ljava/lang/Object;"⟩
def dkwJ1_elementAt_0 : List UInt8 := [42, 27, 50, 176]
abbrev dktJ1_elementAt_0 : List UInt8 := dkwJ1_elementAt_0 ++ []
theorem dksJ1_elementAt_0 : cJ1_elementAt.data.toList.drop 0 = dktJ1_elementAt_0 := by decide +kernel
theorem dJ1_elementAt_0 : decode cJ1_elementAt 0 = .ok (.aload_n 0, 1) := dk_42 (dk_at dksJ1_elementAt_0 0 rfl rfl)
theorem dJ1_elementAt_1 : decode cJ1_elementAt 1 = .ok (.iload_n 1, 1) := dk_27 (dk_at dksJ1_elementAt_0 1 rfl rfl)
theorem dJ1_elementAt_2 : decode cJ1_elementAt 2 = .ok (.aaload, 1) := dk_50 (dk_at dksJ1_elementAt_0 2 rfl rfl)
theorem dJ1_elementAt_3 : decode cJ1_elementAt 3 = .ok (.areturn, 1) := dk_176 (dk_at dksJ1_elementAt_0 3 rfl rfl)
abbrev cJ1_push : ByteArray := prog_38_method_34_code
def yJ1_push : MethodName := ⟨RJ1, "push", "(Ljava/lang/Object;)V"⟩
def dkwJ1_push_0 : List UInt8 := [42, 43, 182, 0, 86, 177]
abbrev dktJ1_push_0 : List UInt8 := dkwJ1_push_0 ++ []
theorem dksJ1_push_0 : cJ1_push.data.toList.drop 0 = dktJ1_push_0 := by decide +kernel
theorem dJ1_push_0 : decode cJ1_push 0 = .ok (.aload_n 0, 1) := dk_42 (dk_at dksJ1_push_0 0 rfl rfl)
theorem dJ1_push_1 : decode cJ1_push 1 = .ok (.aload_n 1, 1) := dk_43 (dk_at dksJ1_push_0 1 rfl rfl)
theorem dJ1_push_2 : decode cJ1_push 2 = .ok (.invokevirtual 86, 3) := dk_182 0 86 (dk_at dksJ1_push_0 2 rfl rfl)
theorem dJ1_push_5 : decode cJ1_push 5 = .ok (.return_, 1) := dk_177 (dk_at dksJ1_push_0 5 rfl rfl)
abbrev cJ1_addFirst : ByteArray := prog_38_method_12_code
def yJ1_addFirst : MethodName := ⟨RJ1, "addFirst", "(Ljava/lang/Object;)V"⟩
def dkwJ1_addFirst_2 : List UInt8 := [182, 0, 71, 177]
abbrev dktJ1_addFirst_2 : List UInt8 := dkwJ1_addFirst_2 ++ []
def dkwJ1_addFirst_1 : List UInt8 := [190, 184, 0, 68, 90, 181, 0, 24, 43, 83, 42, 180, 0, 24, 42, 180, 0, 20, 160, 0, 8, 42, 4]
abbrev dktJ1_addFirst_1 : List UInt8 := dkwJ1_addFirst_1 ++ dktJ1_addFirst_2
def dkwJ1_addFirst_0 : List UInt8 := [43, 199, 0, 11, 187, 0, 65, 89, 183, 0, 67, 191, 42, 180, 0, 3, 77, 44, 42, 42, 180, 0, 24, 44]
abbrev dktJ1_addFirst_0 : List UInt8 := dkwJ1_addFirst_0 ++ dktJ1_addFirst_1
theorem dksJ1_addFirst_0 : cJ1_addFirst.data.toList.drop 0 = dktJ1_addFirst_0 := by decide +kernel
theorem dksJ1_addFirst_1 : cJ1_addFirst.data.toList.drop 24 = dktJ1_addFirst_1 := dk_seg dksJ1_addFirst_0 24 rfl rfl
theorem dksJ1_addFirst_2 : cJ1_addFirst.data.toList.drop 47 = dktJ1_addFirst_2 := dk_seg dksJ1_addFirst_1 23 rfl rfl
theorem dJ1_addFirst_0 : decode cJ1_addFirst 0 = .ok (.aload_n 1, 1) := dk_43 (dk_at dksJ1_addFirst_0 0 rfl rfl)
theorem dJ1_addFirst_1 : decode cJ1_addFirst 1 = .ok (.ifnonnull 11, 3) := dk_199 0 11 (dk_at dksJ1_addFirst_0 1 rfl rfl)
theorem dJ1_addFirst_4 : decode cJ1_addFirst 4 = .ok (.new 65, 3) := dk_187 0 65 (dk_at dksJ1_addFirst_0 4 rfl rfl)
theorem dJ1_addFirst_7 : decode cJ1_addFirst 7 = .ok (.dup, 1) := dk_89 (dk_at dksJ1_addFirst_0 7 rfl rfl)
theorem dJ1_addFirst_8 : decode cJ1_addFirst 8 = .ok (.invokespecial 67, 3) := dk_183 0 67 (dk_at dksJ1_addFirst_0 8 rfl rfl)
theorem dJ1_addFirst_11 : decode cJ1_addFirst 11 = .ok (.athrow, 1) := dk_191 (dk_at dksJ1_addFirst_0 11 rfl rfl)
theorem dJ1_addFirst_12 : decode cJ1_addFirst 12 = .ok (.aload_n 0, 1) := dk_42 (dk_at dksJ1_addFirst_0 12 rfl rfl)
theorem dJ1_addFirst_13 : decode cJ1_addFirst 13 = .ok (.getfield 3, 3) := dk_180 0 3 (dk_at dksJ1_addFirst_0 13 rfl rfl)
theorem dJ1_addFirst_16 : decode cJ1_addFirst 16 = .ok (.astore_n 2, 1) := dk_77 (dk_at dksJ1_addFirst_0 16 rfl rfl)
theorem dJ1_addFirst_17 : decode cJ1_addFirst 17 = .ok (.aload_n 2, 1) := dk_44 (dk_at dksJ1_addFirst_0 17 rfl rfl)
theorem dJ1_addFirst_18 : decode cJ1_addFirst 18 = .ok (.aload_n 0, 1) := dk_42 (dk_at dksJ1_addFirst_0 18 rfl rfl)
theorem dJ1_addFirst_19 : decode cJ1_addFirst 19 = .ok (.aload_n 0, 1) := dk_42 (dk_at dksJ1_addFirst_0 19 rfl rfl)
theorem dJ1_addFirst_20 : decode cJ1_addFirst 20 = .ok (.getfield 24, 3) := dk_180 0 24 (dk_at dksJ1_addFirst_0 20 rfl rfl)
theorem dJ1_addFirst_23 : decode cJ1_addFirst 23 = .ok (.aload_n 2, 1) := dk_44 (dk_at dksJ1_addFirst_0 23 rfl rfl)
theorem dJ1_addFirst_24 : decode cJ1_addFirst 24 = .ok (.arraylength, 1) := dk_190 (dk_at dksJ1_addFirst_1 0 rfl rfl)
theorem dJ1_addFirst_25 : decode cJ1_addFirst 25 = .ok (.invokestatic 68, 3) := dk_184 0 68 (dk_at dksJ1_addFirst_1 1 rfl rfl)
theorem dJ1_addFirst_28 : decode cJ1_addFirst 28 = .ok (.dup_x1, 1) := dk_90 (dk_at dksJ1_addFirst_1 4 rfl rfl)
theorem dJ1_addFirst_29 : decode cJ1_addFirst 29 = .ok (.putfield 24, 3) := dk_181 0 24 (dk_at dksJ1_addFirst_1 5 rfl rfl)
theorem dJ1_addFirst_32 : decode cJ1_addFirst 32 = .ok (.aload_n 1, 1) := dk_43 (dk_at dksJ1_addFirst_1 8 rfl rfl)
theorem dJ1_addFirst_33 : decode cJ1_addFirst 33 = .ok (.aastore, 1) := dk_83 (dk_at dksJ1_addFirst_1 9 rfl rfl)
theorem dJ1_addFirst_34 : decode cJ1_addFirst 34 = .ok (.aload_n 0, 1) := dk_42 (dk_at dksJ1_addFirst_1 10 rfl rfl)
theorem dJ1_addFirst_35 : decode cJ1_addFirst 35 = .ok (.getfield 24, 3) := dk_180 0 24 (dk_at dksJ1_addFirst_1 11 rfl rfl)
theorem dJ1_addFirst_38 : decode cJ1_addFirst 38 = .ok (.aload_n 0, 1) := dk_42 (dk_at dksJ1_addFirst_1 14 rfl rfl)
theorem dJ1_addFirst_39 : decode cJ1_addFirst 39 = .ok (.getfield 20, 3) := dk_180 0 20 (dk_at dksJ1_addFirst_1 15 rfl rfl)
theorem dJ1_addFirst_42 : decode cJ1_addFirst 42 = .ok (.if_icmp .ne 8, 3) := dk_160 0 8 (dk_at dksJ1_addFirst_1 18 rfl rfl)
theorem dJ1_addFirst_45 : decode cJ1_addFirst 45 = .ok (.aload_n 0, 1) := dk_42 (dk_at dksJ1_addFirst_1 21 rfl rfl)
theorem dJ1_addFirst_46 : decode cJ1_addFirst 46 = .ok (.iconst 1, 1) := dk_4 (dk_at dksJ1_addFirst_1 22 rfl rfl)
theorem dJ1_addFirst_47 : decode cJ1_addFirst 47 = .ok (.invokevirtual 71, 3) := dk_182 0 71 (dk_at dksJ1_addFirst_2 0 rfl rfl)
theorem dJ1_addFirst_50 : decode cJ1_addFirst 50 = .ok (.return_, 1) := dk_177 (dk_at dksJ1_addFirst_2 3 rfl rfl)
abbrev cJ1_grow : ByteArray := prog_38_method_1_code
def yJ1_grow : MethodName := ⟨RJ1, "grow", "(I)V"⟩
def dkwJ1_grow_7 : List UInt8 := [177]
abbrev dktJ1_grow_7 : List UInt8 := dkwJ1_grow_7 ++ []
def dkwJ1_grow_6 : List UInt8 := [181, 0, 24, 54, 8, 21, 7, 21, 8, 162, 0, 15, 25, 5, 21, 7, 1, 83, 132, 7, 1, 167, 255, 240]
abbrev dktJ1_grow_6 : List UInt8 := dkwJ1_grow_6 ++ dktJ1_grow_7
def dkwJ1_grow_5 : List UInt8 := [42, 180, 0, 24, 100, 184, 0, 27, 42, 180, 0, 24, 54, 7, 42, 89, 180, 0, 24, 21, 6, 96, 90]
abbrev dktJ1_grow_5 : List UInt8 := dkwJ1_grow_5 ++ dktJ1_grow_6
def dkwJ1_grow_4 : List UInt8 := [198, 0, 71, 29, 28, 100, 54, 6, 25, 5, 42, 180, 0, 24, 25, 5, 42, 180, 0, 24, 21, 6, 96, 28]
abbrev dktJ1_grow_4 : List UInt8 := dkwJ1_grow_4 ++ dktJ1_grow_5
def dkwJ1_grow_3 : List UInt8 := [180, 0, 24, 161, 0, 24, 42, 180, 0, 20, 42, 180, 0, 24, 160, 0, 81, 25, 5, 42, 180, 0, 24, 50]
abbrev dktJ1_grow_3 : List UInt8 := dkwJ1_grow_3 ++ dktJ1_grow_4
def dkwJ1_grow_2 : List UInt8 := [182, 0, 10, 62, 42, 42, 180, 0, 3, 29, 184, 0, 14, 90, 181, 0, 3, 58, 5, 42, 180, 0, 20, 42]
abbrev dktJ1_grow_2 : List UInt8 := dkwJ1_grow_2 ++ dktJ1_grow_3
def dkwJ1_grow_1 : List UInt8 := [21, 4, 27, 161, 0, 15, 28, 21, 4, 96, 89, 62, 18, 9, 100, 158, 0, 11, 42, 27, 21, 4]
abbrev dktJ1_grow_1 : List UInt8 := dkwJ1_grow_1 ++ dktJ1_grow_2
def dkwJ1_grow_0 : List UInt8 := [42, 180, 0, 3, 190, 61, 28, 16, 64, 162, 0, 9, 28, 5, 96, 167, 0, 6, 28, 4, 122, 54, 4]
abbrev dktJ1_grow_0 : List UInt8 := dkwJ1_grow_0 ++ dktJ1_grow_1
theorem dksJ1_grow_0 : cJ1_grow.data.toList.drop 0 = dktJ1_grow_0 := by decide +kernel
theorem dksJ1_grow_1 : cJ1_grow.data.toList.drop 23 = dktJ1_grow_1 := dk_seg dksJ1_grow_0 23 rfl rfl
theorem dksJ1_grow_2 : cJ1_grow.data.toList.drop 45 = dktJ1_grow_2 := dk_seg dksJ1_grow_1 22 rfl rfl
theorem dksJ1_grow_3 : cJ1_grow.data.toList.drop 69 = dktJ1_grow_3 := dk_seg dksJ1_grow_2 24 rfl rfl
theorem dksJ1_grow_4 : cJ1_grow.data.toList.drop 93 = dktJ1_grow_4 := dk_seg dksJ1_grow_3 24 rfl rfl
theorem dksJ1_grow_5 : cJ1_grow.data.toList.drop 117 = dktJ1_grow_5 := dk_seg dksJ1_grow_4 24 rfl rfl
theorem dksJ1_grow_6 : cJ1_grow.data.toList.drop 140 = dktJ1_grow_6 := dk_seg dksJ1_grow_5 23 rfl rfl
theorem dksJ1_grow_7 : cJ1_grow.data.toList.drop 164 = dktJ1_grow_7 := dk_seg dksJ1_grow_6 24 rfl rfl
theorem dJ1_grow_0 : decode cJ1_grow 0 = .ok (.aload_n 0, 1) := dk_42 (dk_at dksJ1_grow_0 0 rfl rfl)
theorem dJ1_grow_1 : decode cJ1_grow 1 = .ok (.getfield 3, 3) := dk_180 0 3 (dk_at dksJ1_grow_0 1 rfl rfl)
theorem dJ1_grow_4 : decode cJ1_grow 4 = .ok (.arraylength, 1) := dk_190 (dk_at dksJ1_grow_0 4 rfl rfl)
theorem dJ1_grow_5 : decode cJ1_grow 5 = .ok (.istore_n 2, 1) := dk_61 (dk_at dksJ1_grow_0 5 rfl rfl)
theorem dJ1_grow_6 : decode cJ1_grow 6 = .ok (.iload_n 2, 1) := dk_28 (dk_at dksJ1_grow_0 6 rfl rfl)
theorem dJ1_grow_7 : decode cJ1_grow 7 = .ok (.bipush 64, 2) := dk_16 64 (dk_at dksJ1_grow_0 7 rfl rfl)
theorem dJ1_grow_9 : decode cJ1_grow 9 = .ok (.if_icmp .ge 9, 3) := dk_162 0 9 (dk_at dksJ1_grow_0 9 rfl rfl)
theorem dJ1_grow_12 : decode cJ1_grow 12 = .ok (.iload_n 2, 1) := dk_28 (dk_at dksJ1_grow_0 12 rfl rfl)
theorem dJ1_grow_13 : decode cJ1_grow 13 = .ok (.iconst 2, 1) := dk_5 (dk_at dksJ1_grow_0 13 rfl rfl)
theorem dJ1_grow_14 : decode cJ1_grow 14 = .ok (.iadd, 1) := dk_96 (dk_at dksJ1_grow_0 14 rfl rfl)
theorem dJ1_grow_15 : decode cJ1_grow 15 = .ok (.goto 6, 3) := dk_167 0 6 (dk_at dksJ1_grow_0 15 rfl rfl)
theorem dJ1_grow_18 : decode cJ1_grow 18 = .ok (.iload_n 2, 1) := dk_28 (dk_at dksJ1_grow_0 18 rfl rfl)
theorem dJ1_grow_19 : decode cJ1_grow 19 = .ok (.iconst 1, 1) := dk_4 (dk_at dksJ1_grow_0 19 rfl rfl)
theorem dJ1_grow_20 : decode cJ1_grow 20 = .ok (.ishr, 1) := dk_122 (dk_at dksJ1_grow_0 20 rfl rfl)
theorem dJ1_grow_21 : decode cJ1_grow 21 = .ok (.istore 4, 2) := dk_54 4 (dk_at dksJ1_grow_0 21 rfl rfl)
theorem dJ1_grow_23 : decode cJ1_grow 23 = .ok (.iload 4, 2) := dk_21 4 (dk_at dksJ1_grow_1 0 rfl rfl)
theorem dJ1_grow_25 : decode cJ1_grow 25 = .ok (.iload_n 1, 1) := dk_27 (dk_at dksJ1_grow_1 2 rfl rfl)
theorem dJ1_grow_26 : decode cJ1_grow 26 = .ok (.if_icmp .lt 15, 3) := dk_161 0 15 (dk_at dksJ1_grow_1 3 rfl rfl)
theorem dJ1_grow_29 : decode cJ1_grow 29 = .ok (.iload_n 2, 1) := dk_28 (dk_at dksJ1_grow_1 6 rfl rfl)
theorem dJ1_grow_30 : decode cJ1_grow 30 = .ok (.iload 4, 2) := dk_21 4 (dk_at dksJ1_grow_1 7 rfl rfl)
theorem dJ1_grow_32 : decode cJ1_grow 32 = .ok (.iadd, 1) := dk_96 (dk_at dksJ1_grow_1 9 rfl rfl)
theorem dJ1_grow_33 : decode cJ1_grow 33 = .ok (.dup, 1) := dk_89 (dk_at dksJ1_grow_1 10 rfl rfl)
theorem dJ1_grow_34 : decode cJ1_grow 34 = .ok (.istore_n 3, 1) := dk_62 (dk_at dksJ1_grow_1 11 rfl rfl)
theorem dJ1_grow_35 : decode cJ1_grow 35 = .ok (.ldc 9, 2) := dk_18 9 (dk_at dksJ1_grow_1 12 rfl rfl)
theorem dJ1_grow_37 : decode cJ1_grow 37 = .ok (.isub, 1) := dk_100 (dk_at dksJ1_grow_1 14 rfl rfl)
theorem dJ1_grow_38 : decode cJ1_grow 38 = .ok (.ifCond .le 11, 3) := dk_158 0 11 (dk_at dksJ1_grow_1 15 rfl rfl)
theorem dJ1_grow_41 : decode cJ1_grow 41 = .ok (.aload_n 0, 1) := dk_42 (dk_at dksJ1_grow_1 18 rfl rfl)
theorem dJ1_grow_42 : decode cJ1_grow 42 = .ok (.iload_n 1, 1) := dk_27 (dk_at dksJ1_grow_1 19 rfl rfl)
theorem dJ1_grow_43 : decode cJ1_grow 43 = .ok (.iload 4, 2) := dk_21 4 (dk_at dksJ1_grow_1 20 rfl rfl)
theorem dJ1_grow_45 : decode cJ1_grow 45 = .ok (.invokevirtual 10, 3) := dk_182 0 10 (dk_at dksJ1_grow_2 0 rfl rfl)
theorem dJ1_grow_48 : decode cJ1_grow 48 = .ok (.istore_n 3, 1) := dk_62 (dk_at dksJ1_grow_2 3 rfl rfl)
theorem dJ1_grow_49 : decode cJ1_grow 49 = .ok (.aload_n 0, 1) := dk_42 (dk_at dksJ1_grow_2 4 rfl rfl)
theorem dJ1_grow_50 : decode cJ1_grow 50 = .ok (.aload_n 0, 1) := dk_42 (dk_at dksJ1_grow_2 5 rfl rfl)
theorem dJ1_grow_51 : decode cJ1_grow 51 = .ok (.getfield 3, 3) := dk_180 0 3 (dk_at dksJ1_grow_2 6 rfl rfl)
theorem dJ1_grow_54 : decode cJ1_grow 54 = .ok (.iload_n 3, 1) := dk_29 (dk_at dksJ1_grow_2 9 rfl rfl)
theorem dJ1_grow_55 : decode cJ1_grow 55 = .ok (.invokestatic 14, 3) := dk_184 0 14 (dk_at dksJ1_grow_2 10 rfl rfl)
theorem dJ1_grow_58 : decode cJ1_grow 58 = .ok (.dup_x1, 1) := dk_90 (dk_at dksJ1_grow_2 13 rfl rfl)
theorem dJ1_grow_59 : decode cJ1_grow 59 = .ok (.putfield 3, 3) := dk_181 0 3 (dk_at dksJ1_grow_2 14 rfl rfl)
theorem dJ1_grow_62 : decode cJ1_grow 62 = .ok (.astore 5, 2) := dk_58 5 (dk_at dksJ1_grow_2 17 rfl rfl)
theorem dJ1_grow_64 : decode cJ1_grow 64 = .ok (.aload_n 0, 1) := dk_42 (dk_at dksJ1_grow_2 19 rfl rfl)
theorem dJ1_grow_65 : decode cJ1_grow 65 = .ok (.getfield 20, 3) := dk_180 0 20 (dk_at dksJ1_grow_2 20 rfl rfl)
theorem dJ1_grow_68 : decode cJ1_grow 68 = .ok (.aload_n 0, 1) := dk_42 (dk_at dksJ1_grow_2 23 rfl rfl)
theorem dJ1_grow_69 : decode cJ1_grow 69 = .ok (.getfield 24, 3) := dk_180 0 24 (dk_at dksJ1_grow_3 0 rfl rfl)
theorem dJ1_grow_72 : decode cJ1_grow 72 = .ok (.if_icmp .lt 24, 3) := dk_161 0 24 (dk_at dksJ1_grow_3 3 rfl rfl)
theorem dJ1_grow_75 : decode cJ1_grow 75 = .ok (.aload_n 0, 1) := dk_42 (dk_at dksJ1_grow_3 6 rfl rfl)
theorem dJ1_grow_76 : decode cJ1_grow 76 = .ok (.getfield 20, 3) := dk_180 0 20 (dk_at dksJ1_grow_3 7 rfl rfl)
theorem dJ1_grow_79 : decode cJ1_grow 79 = .ok (.aload_n 0, 1) := dk_42 (dk_at dksJ1_grow_3 10 rfl rfl)
theorem dJ1_grow_80 : decode cJ1_grow 80 = .ok (.getfield 24, 3) := dk_180 0 24 (dk_at dksJ1_grow_3 11 rfl rfl)
theorem dJ1_grow_83 : decode cJ1_grow 83 = .ok (.if_icmp .ne 81, 3) := dk_160 0 81 (dk_at dksJ1_grow_3 14 rfl rfl)
theorem dJ1_grow_86 : decode cJ1_grow 86 = .ok (.aload 5, 2) := dk_25 5 (dk_at dksJ1_grow_3 17 rfl rfl)
theorem dJ1_grow_88 : decode cJ1_grow 88 = .ok (.aload_n 0, 1) := dk_42 (dk_at dksJ1_grow_3 19 rfl rfl)
theorem dJ1_grow_89 : decode cJ1_grow 89 = .ok (.getfield 24, 3) := dk_180 0 24 (dk_at dksJ1_grow_3 20 rfl rfl)
theorem dJ1_grow_92 : decode cJ1_grow 92 = .ok (.aaload, 1) := dk_50 (dk_at dksJ1_grow_3 23 rfl rfl)
theorem dJ1_grow_93 : decode cJ1_grow 93 = .ok (.ifnull 71, 3) := dk_198 0 71 (dk_at dksJ1_grow_4 0 rfl rfl)
theorem dJ1_grow_96 : decode cJ1_grow 96 = .ok (.iload_n 3, 1) := dk_29 (dk_at dksJ1_grow_4 3 rfl rfl)
theorem dJ1_grow_97 : decode cJ1_grow 97 = .ok (.iload_n 2, 1) := dk_28 (dk_at dksJ1_grow_4 4 rfl rfl)
theorem dJ1_grow_98 : decode cJ1_grow 98 = .ok (.isub, 1) := dk_100 (dk_at dksJ1_grow_4 5 rfl rfl)
theorem dJ1_grow_99 : decode cJ1_grow 99 = .ok (.istore 6, 2) := dk_54 6 (dk_at dksJ1_grow_4 6 rfl rfl)
theorem dJ1_grow_101 : decode cJ1_grow 101 = .ok (.aload 5, 2) := dk_25 5 (dk_at dksJ1_grow_4 8 rfl rfl)
theorem dJ1_grow_103 : decode cJ1_grow 103 = .ok (.aload_n 0, 1) := dk_42 (dk_at dksJ1_grow_4 10 rfl rfl)
theorem dJ1_grow_104 : decode cJ1_grow 104 = .ok (.getfield 24, 3) := dk_180 0 24 (dk_at dksJ1_grow_4 11 rfl rfl)
theorem dJ1_grow_107 : decode cJ1_grow 107 = .ok (.aload 5, 2) := dk_25 5 (dk_at dksJ1_grow_4 14 rfl rfl)
theorem dJ1_grow_109 : decode cJ1_grow 109 = .ok (.aload_n 0, 1) := dk_42 (dk_at dksJ1_grow_4 16 rfl rfl)
theorem dJ1_grow_110 : decode cJ1_grow 110 = .ok (.getfield 24, 3) := dk_180 0 24 (dk_at dksJ1_grow_4 17 rfl rfl)
theorem dJ1_grow_113 : decode cJ1_grow 113 = .ok (.iload 6, 2) := dk_21 6 (dk_at dksJ1_grow_4 20 rfl rfl)
theorem dJ1_grow_115 : decode cJ1_grow 115 = .ok (.iadd, 1) := dk_96 (dk_at dksJ1_grow_4 22 rfl rfl)
theorem dJ1_grow_116 : decode cJ1_grow 116 = .ok (.iload_n 2, 1) := dk_28 (dk_at dksJ1_grow_4 23 rfl rfl)
theorem dJ1_grow_117 : decode cJ1_grow 117 = .ok (.aload_n 0, 1) := dk_42 (dk_at dksJ1_grow_5 0 rfl rfl)
theorem dJ1_grow_118 : decode cJ1_grow 118 = .ok (.getfield 24, 3) := dk_180 0 24 (dk_at dksJ1_grow_5 1 rfl rfl)
theorem dJ1_grow_121 : decode cJ1_grow 121 = .ok (.isub, 1) := dk_100 (dk_at dksJ1_grow_5 4 rfl rfl)
theorem dJ1_grow_122 : decode cJ1_grow 122 = .ok (.invokestatic 27, 3) := dk_184 0 27 (dk_at dksJ1_grow_5 5 rfl rfl)
theorem dJ1_grow_125 : decode cJ1_grow 125 = .ok (.aload_n 0, 1) := dk_42 (dk_at dksJ1_grow_5 8 rfl rfl)
theorem dJ1_grow_126 : decode cJ1_grow 126 = .ok (.getfield 24, 3) := dk_180 0 24 (dk_at dksJ1_grow_5 9 rfl rfl)
theorem dJ1_grow_129 : decode cJ1_grow 129 = .ok (.istore 7, 2) := dk_54 7 (dk_at dksJ1_grow_5 12 rfl rfl)
theorem dJ1_grow_131 : decode cJ1_grow 131 = .ok (.aload_n 0, 1) := dk_42 (dk_at dksJ1_grow_5 14 rfl rfl)
theorem dJ1_grow_132 : decode cJ1_grow 132 = .ok (.dup, 1) := dk_89 (dk_at dksJ1_grow_5 15 rfl rfl)
theorem dJ1_grow_133 : decode cJ1_grow 133 = .ok (.getfield 24, 3) := dk_180 0 24 (dk_at dksJ1_grow_5 16 rfl rfl)
theorem dJ1_grow_136 : decode cJ1_grow 136 = .ok (.iload 6, 2) := dk_21 6 (dk_at dksJ1_grow_5 19 rfl rfl)
theorem dJ1_grow_138 : decode cJ1_grow 138 = .ok (.iadd, 1) := dk_96 (dk_at dksJ1_grow_5 21 rfl rfl)
theorem dJ1_grow_139 : decode cJ1_grow 139 = .ok (.dup_x1, 1) := dk_90 (dk_at dksJ1_grow_5 22 rfl rfl)
theorem dJ1_grow_140 : decode cJ1_grow 140 = .ok (.putfield 24, 3) := dk_181 0 24 (dk_at dksJ1_grow_6 0 rfl rfl)
theorem dJ1_grow_143 : decode cJ1_grow 143 = .ok (.istore 8, 2) := dk_54 8 (dk_at dksJ1_grow_6 3 rfl rfl)
theorem dJ1_grow_145 : decode cJ1_grow 145 = .ok (.iload 7, 2) := dk_21 7 (dk_at dksJ1_grow_6 5 rfl rfl)
theorem dJ1_grow_147 : decode cJ1_grow 147 = .ok (.iload 8, 2) := dk_21 8 (dk_at dksJ1_grow_6 7 rfl rfl)
theorem dJ1_grow_149 : decode cJ1_grow 149 = .ok (.if_icmp .ge 15, 3) := dk_162 0 15 (dk_at dksJ1_grow_6 9 rfl rfl)
theorem dJ1_grow_152 : decode cJ1_grow 152 = .ok (.aload 5, 2) := dk_25 5 (dk_at dksJ1_grow_6 12 rfl rfl)
theorem dJ1_grow_154 : decode cJ1_grow 154 = .ok (.iload 7, 2) := dk_21 7 (dk_at dksJ1_grow_6 14 rfl rfl)
theorem dJ1_grow_156 : decode cJ1_grow 156 = .ok (.aconst_null, 1) := dk_1 (dk_at dksJ1_grow_6 16 rfl rfl)
theorem dJ1_grow_157 : decode cJ1_grow 157 = .ok (.aastore, 1) := dk_83 (dk_at dksJ1_grow_6 17 rfl rfl)
theorem dJ1_grow_158 : decode cJ1_grow 158 = .ok (.iinc 7 1, 3) := dk_132 7 1 (dk_at dksJ1_grow_6 18 rfl rfl)
theorem dJ1_grow_161 : decode cJ1_grow 161 = .ok (.goto (-16), 3) := dk_167 255 240 (dk_at dksJ1_grow_6 21 rfl rfl)
theorem dJ1_grow_164 : decode cJ1_grow 164 = .ok (.return_, 1) := dk_177 (dk_at dksJ1_grow_7 0 rfl rfl)
abbrev cJ1_newCapacity : ByteArray := prog_38_method_2_code
def yJ1_newCapacity : MethodName := ⟨RJ1, "newCapacity", "(II)I"⟩
def dkwJ1_newCapacity_2 : List UInt8 := [18, 9, 100, 156, 0, 9, 29, 28, 96, 167, 0, 5, 18, 9, 172]
abbrev dktJ1_newCapacity_2 : List UInt8 := dkwJ1_newCapacity_2 ++ []
def dkwJ1_newCapacity_1 : List UInt8 := [187, 0, 33, 89, 18, 35, 183, 0, 37, 191, 18, 41, 172, 27, 28, 164, 0, 6, 21, 4, 172, 29, 28, 96]
abbrev dktJ1_newCapacity_1 : List UInt8 := dkwJ1_newCapacity_1 ++ dktJ1_newCapacity_2
def dkwJ1_newCapacity_0 : List UInt8 := [42, 180, 0, 3, 190, 62, 29, 27, 96, 89, 54, 4, 18, 9, 100, 158, 0, 21, 21, 4, 156, 0, 13]
abbrev dktJ1_newCapacity_0 : List UInt8 := dkwJ1_newCapacity_0 ++ dktJ1_newCapacity_1
theorem dksJ1_newCapacity_0 : cJ1_newCapacity.data.toList.drop 0 = dktJ1_newCapacity_0 := by decide +kernel
theorem dksJ1_newCapacity_1 : cJ1_newCapacity.data.toList.drop 23 = dktJ1_newCapacity_1 := dk_seg dksJ1_newCapacity_0 23 rfl rfl
theorem dksJ1_newCapacity_2 : cJ1_newCapacity.data.toList.drop 47 = dktJ1_newCapacity_2 := dk_seg dksJ1_newCapacity_1 24 rfl rfl
theorem dJ1_newCapacity_0 : decode cJ1_newCapacity 0 = .ok (.aload_n 0, 1) := dk_42 (dk_at dksJ1_newCapacity_0 0 rfl rfl)
theorem dJ1_newCapacity_1 : decode cJ1_newCapacity 1 = .ok (.getfield 3, 3) := dk_180 0 3 (dk_at dksJ1_newCapacity_0 1 rfl rfl)
theorem dJ1_newCapacity_4 : decode cJ1_newCapacity 4 = .ok (.arraylength, 1) := dk_190 (dk_at dksJ1_newCapacity_0 4 rfl rfl)
theorem dJ1_newCapacity_5 : decode cJ1_newCapacity 5 = .ok (.istore_n 3, 1) := dk_62 (dk_at dksJ1_newCapacity_0 5 rfl rfl)
theorem dJ1_newCapacity_6 : decode cJ1_newCapacity 6 = .ok (.iload_n 3, 1) := dk_29 (dk_at dksJ1_newCapacity_0 6 rfl rfl)
theorem dJ1_newCapacity_7 : decode cJ1_newCapacity 7 = .ok (.iload_n 1, 1) := dk_27 (dk_at dksJ1_newCapacity_0 7 rfl rfl)
theorem dJ1_newCapacity_8 : decode cJ1_newCapacity 8 = .ok (.iadd, 1) := dk_96 (dk_at dksJ1_newCapacity_0 8 rfl rfl)
theorem dJ1_newCapacity_9 : decode cJ1_newCapacity 9 = .ok (.dup, 1) := dk_89 (dk_at dksJ1_newCapacity_0 9 rfl rfl)
theorem dJ1_newCapacity_10 : decode cJ1_newCapacity 10 = .ok (.istore 4, 2) := dk_54 4 (dk_at dksJ1_newCapacity_0 10 rfl rfl)
theorem dJ1_newCapacity_12 : decode cJ1_newCapacity 12 = .ok (.ldc 9, 2) := dk_18 9 (dk_at dksJ1_newCapacity_0 12 rfl rfl)
theorem dJ1_newCapacity_14 : decode cJ1_newCapacity 14 = .ok (.isub, 1) := dk_100 (dk_at dksJ1_newCapacity_0 14 rfl rfl)
theorem dJ1_newCapacity_15 : decode cJ1_newCapacity 15 = .ok (.ifCond .le 21, 3) := dk_158 0 21 (dk_at dksJ1_newCapacity_0 15 rfl rfl)
theorem dJ1_newCapacity_18 : decode cJ1_newCapacity 18 = .ok (.iload 4, 2) := dk_21 4 (dk_at dksJ1_newCapacity_0 18 rfl rfl)
theorem dJ1_newCapacity_20 : decode cJ1_newCapacity 20 = .ok (.ifCond .ge 13, 3) := dk_156 0 13 (dk_at dksJ1_newCapacity_0 20 rfl rfl)
theorem dJ1_newCapacity_23 : decode cJ1_newCapacity 23 = .ok (.new 33, 3) := dk_187 0 33 (dk_at dksJ1_newCapacity_1 0 rfl rfl)
theorem dJ1_newCapacity_26 : decode cJ1_newCapacity 26 = .ok (.dup, 1) := dk_89 (dk_at dksJ1_newCapacity_1 3 rfl rfl)
theorem dJ1_newCapacity_27 : decode cJ1_newCapacity 27 = .ok (.ldc 35, 2) := dk_18 35 (dk_at dksJ1_newCapacity_1 4 rfl rfl)
theorem dJ1_newCapacity_29 : decode cJ1_newCapacity 29 = .ok (.invokespecial 37, 3) := dk_183 0 37 (dk_at dksJ1_newCapacity_1 6 rfl rfl)
theorem dJ1_newCapacity_32 : decode cJ1_newCapacity 32 = .ok (.athrow, 1) := dk_191 (dk_at dksJ1_newCapacity_1 9 rfl rfl)
theorem dJ1_newCapacity_33 : decode cJ1_newCapacity 33 = .ok (.ldc 41, 2) := dk_18 41 (dk_at dksJ1_newCapacity_1 10 rfl rfl)
theorem dJ1_newCapacity_35 : decode cJ1_newCapacity 35 = .ok (.ireturn, 1) := dk_172 (dk_at dksJ1_newCapacity_1 12 rfl rfl)
theorem dJ1_newCapacity_36 : decode cJ1_newCapacity 36 = .ok (.iload_n 1, 1) := dk_27 (dk_at dksJ1_newCapacity_1 13 rfl rfl)
theorem dJ1_newCapacity_37 : decode cJ1_newCapacity 37 = .ok (.iload_n 2, 1) := dk_28 (dk_at dksJ1_newCapacity_1 14 rfl rfl)
theorem dJ1_newCapacity_38 : decode cJ1_newCapacity 38 = .ok (.if_icmp .le 6, 3) := dk_164 0 6 (dk_at dksJ1_newCapacity_1 15 rfl rfl)
theorem dJ1_newCapacity_41 : decode cJ1_newCapacity 41 = .ok (.iload 4, 2) := dk_21 4 (dk_at dksJ1_newCapacity_1 18 rfl rfl)
theorem dJ1_newCapacity_43 : decode cJ1_newCapacity 43 = .ok (.ireturn, 1) := dk_172 (dk_at dksJ1_newCapacity_1 20 rfl rfl)
theorem dJ1_newCapacity_44 : decode cJ1_newCapacity 44 = .ok (.iload_n 3, 1) := dk_29 (dk_at dksJ1_newCapacity_1 21 rfl rfl)
theorem dJ1_newCapacity_45 : decode cJ1_newCapacity 45 = .ok (.iload_n 2, 1) := dk_28 (dk_at dksJ1_newCapacity_1 22 rfl rfl)
theorem dJ1_newCapacity_46 : decode cJ1_newCapacity 46 = .ok (.iadd, 1) := dk_96 (dk_at dksJ1_newCapacity_1 23 rfl rfl)
theorem dJ1_newCapacity_47 : decode cJ1_newCapacity 47 = .ok (.ldc 9, 2) := dk_18 9 (dk_at dksJ1_newCapacity_2 0 rfl rfl)
theorem dJ1_newCapacity_49 : decode cJ1_newCapacity 49 = .ok (.isub, 1) := dk_100 (dk_at dksJ1_newCapacity_2 2 rfl rfl)
theorem dJ1_newCapacity_50 : decode cJ1_newCapacity 50 = .ok (.ifCond .ge 9, 3) := dk_156 0 9 (dk_at dksJ1_newCapacity_2 3 rfl rfl)
theorem dJ1_newCapacity_53 : decode cJ1_newCapacity 53 = .ok (.iload_n 3, 1) := dk_29 (dk_at dksJ1_newCapacity_2 6 rfl rfl)
theorem dJ1_newCapacity_54 : decode cJ1_newCapacity 54 = .ok (.iload_n 2, 1) := dk_28 (dk_at dksJ1_newCapacity_2 7 rfl rfl)
theorem dJ1_newCapacity_55 : decode cJ1_newCapacity 55 = .ok (.iadd, 1) := dk_96 (dk_at dksJ1_newCapacity_2 8 rfl rfl)
theorem dJ1_newCapacity_56 : decode cJ1_newCapacity 56 = .ok (.goto 5, 3) := dk_167 0 5 (dk_at dksJ1_newCapacity_2 9 rfl rfl)
theorem dJ1_newCapacity_59 : decode cJ1_newCapacity 59 = .ok (.ldc 9, 2) := dk_18 9 (dk_at dksJ1_newCapacity_2 12 rfl rfl)
theorem dJ1_newCapacity_61 : decode cJ1_newCapacity 61 = .ok (.ireturn, 1) := dk_172 (dk_at dksJ1_newCapacity_2 14 rfl rfl)
abbrev cJ1_isEmpty : ByteArray := prog_38_method_38_code
def yJ1_isEmpty : MethodName := ⟨RJ1, "isEmpty", "()Z"⟩
def dkwJ1_isEmpty_0 : List UInt8 := [42, 180, 0, 24, 42, 180, 0, 20, 160, 0, 7, 4, 167, 0, 4, 3, 172]
abbrev dktJ1_isEmpty_0 : List UInt8 := dkwJ1_isEmpty_0 ++ []
theorem dksJ1_isEmpty_0 : cJ1_isEmpty.data.toList.drop 0 = dktJ1_isEmpty_0 := by decide +kernel
theorem dJ1_isEmpty_0 : decode cJ1_isEmpty 0 = .ok (.aload_n 0, 1) := dk_42 (dk_at dksJ1_isEmpty_0 0 rfl rfl)
theorem dJ1_isEmpty_1 : decode cJ1_isEmpty 1 = .ok (.getfield 24, 3) := dk_180 0 24 (dk_at dksJ1_isEmpty_0 1 rfl rfl)
theorem dJ1_isEmpty_4 : decode cJ1_isEmpty 4 = .ok (.aload_n 0, 1) := dk_42 (dk_at dksJ1_isEmpty_0 4 rfl rfl)
theorem dJ1_isEmpty_5 : decode cJ1_isEmpty 5 = .ok (.getfield 20, 3) := dk_180 0 20 (dk_at dksJ1_isEmpty_0 5 rfl rfl)
theorem dJ1_isEmpty_8 : decode cJ1_isEmpty 8 = .ok (.if_icmp .ne 7, 3) := dk_160 0 7 (dk_at dksJ1_isEmpty_0 8 rfl rfl)
theorem dJ1_isEmpty_11 : decode cJ1_isEmpty 11 = .ok (.iconst 1, 1) := dk_4 (dk_at dksJ1_isEmpty_0 11 rfl rfl)
theorem dJ1_isEmpty_12 : decode cJ1_isEmpty 12 = .ok (.goto 4, 3) := dk_167 0 4 (dk_at dksJ1_isEmpty_0 12 rfl rfl)
theorem dJ1_isEmpty_15 : decode cJ1_isEmpty 15 = .ok (.iconst 0, 1) := dk_3 (dk_at dksJ1_isEmpty_0 15 rfl rfl)
theorem dJ1_isEmpty_16 : decode cJ1_isEmpty 16 = .ok (.ireturn, 1) := dk_172 (dk_at dksJ1_isEmpty_0 16 rfl rfl)
abbrev cJ1_pop : ByteArray := prog_38_method_35_code
def yJ1_pop : MethodName := ⟨RJ1, "pop", "()Ljava/lang/Object;"⟩
theorem dJ1_pop_0 : decode cJ1_pop 0 = .ok (.aload_n 0, 1) := by decide +kernel
theorem dJ1_pop_1 : decode cJ1_pop 1 = .ok (.invokevirtual 118, 3) := by decide +kernel
theorem dJ1_pop_4 : decode cJ1_pop 4 = .ok (.areturn, 1) := by decide +kernel
abbrev cJ1_removeFirst : ByteArray := prog_38_method_18_code
def yJ1_removeFirst : MethodName := ⟨RJ1, "removeFirst", "()Ljava/lang/Object;"⟩
def dkwJ1_removeFirst_0 : List UInt8 := [42, 182, 0, 93, 76, 43, 199, 0, 11, 187, 0, 97, 89, 183, 0, 99, 191, 43, 176]
abbrev dktJ1_removeFirst_0 : List UInt8 := dkwJ1_removeFirst_0 ++ []
theorem dksJ1_removeFirst_0 : cJ1_removeFirst.data.toList.drop 0 = dktJ1_removeFirst_0 := by decide +kernel
theorem dJ1_removeFirst_0 : decode cJ1_removeFirst 0 = .ok (.aload_n 0, 1) := dk_42 (dk_at dksJ1_removeFirst_0 0 rfl rfl)
theorem dJ1_removeFirst_1 : decode cJ1_removeFirst 1 = .ok (.invokevirtual 93, 3) := dk_182 0 93 (dk_at dksJ1_removeFirst_0 1 rfl rfl)
theorem dJ1_removeFirst_4 : decode cJ1_removeFirst 4 = .ok (.astore_n 1, 1) := dk_76 (dk_at dksJ1_removeFirst_0 4 rfl rfl)
theorem dJ1_removeFirst_5 : decode cJ1_removeFirst 5 = .ok (.aload_n 1, 1) := dk_43 (dk_at dksJ1_removeFirst_0 5 rfl rfl)
theorem dJ1_removeFirst_6 : decode cJ1_removeFirst 6 = .ok (.ifnonnull 11, 3) := dk_199 0 11 (dk_at dksJ1_removeFirst_0 6 rfl rfl)
theorem dJ1_removeFirst_9 : decode cJ1_removeFirst 9 = .ok (.new 97, 3) := dk_187 0 97 (dk_at dksJ1_removeFirst_0 9 rfl rfl)
theorem dJ1_removeFirst_12 : decode cJ1_removeFirst 12 = .ok (.dup, 1) := dk_89 (dk_at dksJ1_removeFirst_0 12 rfl rfl)
theorem dJ1_removeFirst_13 : decode cJ1_removeFirst 13 = .ok (.invokespecial 99, 3) := dk_183 0 99 (dk_at dksJ1_removeFirst_0 13 rfl rfl)
theorem dJ1_removeFirst_16 : decode cJ1_removeFirst 16 = .ok (.athrow, 1) := dk_191 (dk_at dksJ1_removeFirst_0 16 rfl rfl)
theorem dJ1_removeFirst_17 : decode cJ1_removeFirst 17 = .ok (.aload_n 1, 1) := dk_43 (dk_at dksJ1_removeFirst_0 17 rfl rfl)
theorem dJ1_removeFirst_18 : decode cJ1_removeFirst 18 = .ok (.areturn, 1) := dk_176 (dk_at dksJ1_removeFirst_0 18 rfl rfl)
abbrev cJ1_pollFirst : ByteArray := prog_38_method_20_code
def yJ1_pollFirst : MethodName := ⟨RJ1, "pollFirst", "()Ljava/lang/Object;"⟩
def dkwJ1_pollFirst_1 : List UInt8 := [42, 28, 43, 190, 184, 0, 74, 181, 0, 24, 45, 176]
abbrev dktJ1_pollFirst_1 : List UInt8 := dkwJ1_pollFirst_1 ++ []
def dkwJ1_pollFirst_0 : List UInt8 := [42, 180, 0, 3, 89, 76, 42, 180, 0, 24, 89, 61, 184, 0, 103, 78, 45, 198, 0, 17, 43, 28, 1, 83]
abbrev dktJ1_pollFirst_0 : List UInt8 := dkwJ1_pollFirst_0 ++ dktJ1_pollFirst_1
theorem dksJ1_pollFirst_0 : cJ1_pollFirst.data.toList.drop 0 = dktJ1_pollFirst_0 := by decide +kernel
theorem dksJ1_pollFirst_1 : cJ1_pollFirst.data.toList.drop 24 = dktJ1_pollFirst_1 := dk_seg dksJ1_pollFirst_0 24 rfl rfl
theorem dJ1_pollFirst_0 : decode cJ1_pollFirst 0 = .ok (.aload_n 0, 1) := dk_42 (dk_at dksJ1_pollFirst_0 0 rfl rfl)
theorem dJ1_pollFirst_1 : decode cJ1_pollFirst 1 = .ok (.getfield 3, 3) := dk_180 0 3 (dk_at dksJ1_pollFirst_0 1 rfl rfl)
theorem dJ1_pollFirst_4 : decode cJ1_pollFirst 4 = .ok (.dup, 1) := dk_89 (dk_at dksJ1_pollFirst_0 4 rfl rfl)
theorem dJ1_pollFirst_5 : decode cJ1_pollFirst 5 = .ok (.astore_n 1, 1) := dk_76 (dk_at dksJ1_pollFirst_0 5 rfl rfl)
theorem dJ1_pollFirst_6 : decode cJ1_pollFirst 6 = .ok (.aload_n 0, 1) := dk_42 (dk_at dksJ1_pollFirst_0 6 rfl rfl)
theorem dJ1_pollFirst_7 : decode cJ1_pollFirst 7 = .ok (.getfield 24, 3) := dk_180 0 24 (dk_at dksJ1_pollFirst_0 7 rfl rfl)
theorem dJ1_pollFirst_10 : decode cJ1_pollFirst 10 = .ok (.dup, 1) := dk_89 (dk_at dksJ1_pollFirst_0 10 rfl rfl)
theorem dJ1_pollFirst_11 : decode cJ1_pollFirst 11 = .ok (.istore_n 2, 1) := dk_61 (dk_at dksJ1_pollFirst_0 11 rfl rfl)
theorem dJ1_pollFirst_12 : decode cJ1_pollFirst 12 = .ok (.invokestatic 103, 3) := dk_184 0 103 (dk_at dksJ1_pollFirst_0 12 rfl rfl)
theorem dJ1_pollFirst_15 : decode cJ1_pollFirst 15 = .ok (.astore_n 3, 1) := dk_78 (dk_at dksJ1_pollFirst_0 15 rfl rfl)
theorem dJ1_pollFirst_16 : decode cJ1_pollFirst 16 = .ok (.aload_n 3, 1) := dk_45 (dk_at dksJ1_pollFirst_0 16 rfl rfl)
theorem dJ1_pollFirst_17 : decode cJ1_pollFirst 17 = .ok (.ifnull 17, 3) := dk_198 0 17 (dk_at dksJ1_pollFirst_0 17 rfl rfl)
theorem dJ1_pollFirst_20 : decode cJ1_pollFirst 20 = .ok (.aload_n 1, 1) := dk_43 (dk_at dksJ1_pollFirst_0 20 rfl rfl)
theorem dJ1_pollFirst_21 : decode cJ1_pollFirst 21 = .ok (.iload_n 2, 1) := dk_28 (dk_at dksJ1_pollFirst_0 21 rfl rfl)
theorem dJ1_pollFirst_22 : decode cJ1_pollFirst 22 = .ok (.aconst_null, 1) := dk_1 (dk_at dksJ1_pollFirst_0 22 rfl rfl)
theorem dJ1_pollFirst_23 : decode cJ1_pollFirst 23 = .ok (.aastore, 1) := dk_83 (dk_at dksJ1_pollFirst_0 23 rfl rfl)
theorem dJ1_pollFirst_24 : decode cJ1_pollFirst 24 = .ok (.aload_n 0, 1) := dk_42 (dk_at dksJ1_pollFirst_1 0 rfl rfl)
theorem dJ1_pollFirst_25 : decode cJ1_pollFirst 25 = .ok (.iload_n 2, 1) := dk_28 (dk_at dksJ1_pollFirst_1 1 rfl rfl)
theorem dJ1_pollFirst_26 : decode cJ1_pollFirst 26 = .ok (.aload_n 1, 1) := dk_43 (dk_at dksJ1_pollFirst_1 2 rfl rfl)
theorem dJ1_pollFirst_27 : decode cJ1_pollFirst 27 = .ok (.arraylength, 1) := dk_190 (dk_at dksJ1_pollFirst_1 3 rfl rfl)
theorem dJ1_pollFirst_28 : decode cJ1_pollFirst 28 = .ok (.invokestatic 74, 3) := dk_184 0 74 (dk_at dksJ1_pollFirst_1 4 rfl rfl)
theorem dJ1_pollFirst_31 : decode cJ1_pollFirst 31 = .ok (.putfield 24, 3) := dk_181 0 24 (dk_at dksJ1_pollFirst_1 7 rfl rfl)
theorem dJ1_pollFirst_34 : decode cJ1_pollFirst 34 = .ok (.aload_n 3, 1) := dk_45 (dk_at dksJ1_pollFirst_1 10 rfl rfl)
theorem dJ1_pollFirst_35 : decode cJ1_pollFirst 35 = .ok (.areturn, 1) := dk_176 (dk_at dksJ1_pollFirst_1 11 rfl rfl)
abbrev cJ1_inc : ByteArray := prog_38_method_6_code
def yJ1_inc : MethodName := ⟨RJ1, "inc", "(II)I"⟩
def dkwJ1_inc_0 : List UInt8 := [132, 0, 1, 26, 27, 161, 0, 5, 3, 59, 26, 172]
abbrev dktJ1_inc_0 : List UInt8 := dkwJ1_inc_0 ++ []
theorem dksJ1_inc_0 : cJ1_inc.data.toList.drop 0 = dktJ1_inc_0 := by decide +kernel
theorem dJ1_inc_0 : decode cJ1_inc 0 = .ok (.iinc 0 1, 3) := dk_132 0 1 (dk_at dksJ1_inc_0 0 rfl rfl)
theorem dJ1_inc_3 : decode cJ1_inc 3 = .ok (.iload_n 0, 1) := dk_26 (dk_at dksJ1_inc_0 3 rfl rfl)
theorem dJ1_inc_4 : decode cJ1_inc 4 = .ok (.iload_n 1, 1) := dk_27 (dk_at dksJ1_inc_0 4 rfl rfl)
theorem dJ1_inc_5 : decode cJ1_inc 5 = .ok (.if_icmp .lt 5, 3) := dk_161 0 5 (dk_at dksJ1_inc_0 5 rfl rfl)
theorem dJ1_inc_8 : decode cJ1_inc 8 = .ok (.iconst 0, 1) := dk_3 (dk_at dksJ1_inc_0 8 rfl rfl)
theorem dJ1_inc_9 : decode cJ1_inc 9 = .ok (.istore_n 0, 1) := dk_59 (dk_at dksJ1_inc_0 9 rfl rfl)
theorem dJ1_inc_10 : decode cJ1_inc 10 = .ok (.iload_n 0, 1) := dk_26 (dk_at dksJ1_inc_0 10 rfl rfl)
theorem dJ1_inc_11 : decode cJ1_inc 11 = .ok (.ireturn, 1) := dk_172 (dk_at dksJ1_inc_0 11 rfl rfl)
theorem q97 : (Jvm.Cond.initialized "java/util/ArrayDeque") ∈ lw_all := lw_g (lw_at lw_m1 4 rfl) rfl
theorem q163 : (Jvm.Cond.instantiable "java/util/ArrayDeque" (3 : Nat)) ∈ lw_all := lw_g (lw_at lw_m1 70 rfl) rfl
theorem q165 : (Jvm.Cond.instanceMethod ({ cls := "java/util/ArrayDeque", name := "<init>", desc := "(I)V" } : Jvm.MethodName)) ∈ lw_all := lw_g (lw_at lw_m1 72 rfl) rfl
theorem q166 : (Jvm.Cond.code ({ cls := "java/util/ArrayDeque", name := "<init>", desc := "(I)V" } : Jvm.MethodName) prog_38_method_4_code (2 : Nat) (Option.none : Option Jvm.ClassFile.FieldType)) ∈ lw_all := lw_g (lw_at lw_m1 73 rfl) rfl
theorem q167 : (Jvm.Cond.methodLink "java/util/ArrayDeque" (42 : Nat) ({ cls := "java/util/AbstractCollection", name := "<init>", desc := "()V" } : Jvm.MethodName)) ∈ lw_all := lw_g (lw_at lw_m1 74 rfl) rfl
theorem q171 : (Jvm.Cond.constant "java/util/ArrayDeque" (41 : Nat) (2147483647 : Int32)) ∈ lw_all := lw_g (lw_at lw_m1 78 rfl) rfl
theorem q172 : (Jvm.Cond.classLink "java/util/ArrayDeque" (47 : Nat) "java/lang/Object") ∈ lw_all := lw_g (lw_at lw_m1 79 rfl) rfl
theorem q174 : (Jvm.Cond.fieldLink "java/util/ArrayDeque" (3 : Nat) "java/util/ArrayDeque" "elements" "[Ljava/lang/Object;") ∈ lw_all := lw_g (lw_at lw_m1 81 rfl) rfl
theorem q175 : (Jvm.Cond.fieldLink "java/util/ArrayDeque" (24 : Nat) "java/util/ArrayDeque" "head" "I") ∈ lw_all := lw_g (lw_at lw_m1 82 rfl) rfl
theorem q176 : (Jvm.Cond.fieldLink "java/util/ArrayDeque" (20 : Nat) "java/util/ArrayDeque" "tail" "I") ∈ lw_all := lw_g (lw_at lw_m1 83 rfl) rfl
theorem q177 : (Jvm.Cond.lays "java/util/ArrayDeque" "java/util/ArrayDeque" "elements" "[Ljava/lang/Object;") ∈ lw_all := lw_g (lw_at lw_m1 84 rfl) rfl
theorem q178 : (Jvm.Cond.soleField "java/util/ArrayDeque" "elements") ∈ lw_all := lw_g (lw_at lw_m1 85 rfl) rfl
theorem q179 : (Jvm.Cond.lays "java/util/ArrayDeque" "java/util/ArrayDeque" "head" "I") ∈ lw_all := lw_g (lw_at lw_m1 86 rfl) rfl
theorem q180 : (Jvm.Cond.soleField "java/util/ArrayDeque" "head") ∈ lw_all := lw_g (lw_at lw_m1 87 rfl) rfl
theorem q181 : (Jvm.Cond.lays "java/util/ArrayDeque" "java/util/ArrayDeque" "tail" "I") ∈ lw_all := lw_g (lw_at lw_m1 88 rfl) rfl
theorem q182 : (Jvm.Cond.soleField "java/util/ArrayDeque" "tail") ∈ lw_all := lw_g (lw_at lw_m1 89 rfl) rfl
theorem q183 : (Jvm.Cond.superclass "java/util/ArrayDeque" "java/util/AbstractCollection") ∈ lw_all := lw_g (lw_at lw_m1 90 rfl) rfl
theorem q298 : (Jvm.Cond.instanceMethod ({ cls := "java/util/ArrayDeque", name := "size", desc := "()I" } : Jvm.MethodName)) ∈ lw_all := lw_g (lw_at lw_m1 205 rfl) rfl
theorem q299 : (Jvm.Cond.selects "java/util/ArrayDeque" ({ cls := "java/util/ArrayDeque", name := "size", desc := "()I" } : Jvm.MethodName) ({ cls := "java/util/ArrayDeque", name := "size", desc := "()I" } : Jvm.MethodName)) ∈ lw_all := lw_g (lw_at lw_m1 206 rfl) rfl
theorem q300 : (Jvm.Cond.code ({ cls := "java/util/ArrayDeque", name := "size", desc := "()I" } : Jvm.MethodName) prog_38_method_37_code (1 : Nat) (Option.some Jvm.ClassFile.FieldType.int)) ∈ lw_all := lw_g (lw_at lw_m1 207 rfl) rfl
theorem q301 : (Jvm.Cond.methodLink "java/util/ArrayDeque" (127 : Nat) ({ cls := "java/util/ArrayDeque", name := "sub", desc := "(III)I" } : Jvm.MethodName)) ∈ lw_all := lw_g (lw_at lw_m1 208 rfl) rfl
theorem q302 : (Jvm.Cond.static ({ cls := "java/util/ArrayDeque", name := "sub", desc := "(III)I" } : Jvm.MethodName)) ∈ lw_all := lw_g (lw_at lw_m1 209 rfl) rfl
theorem q303 : (Jvm.Cond.code ({ cls := "java/util/ArrayDeque", name := "sub", desc := "(III)I" } : Jvm.MethodName) prog_38_method_9_code (3 : Nat) (Option.some Jvm.ClassFile.FieldType.int)) ∈ lw_all := lw_g (lw_at lw_m1 210 rfl) rfl
theorem q305 : (Jvm.Cond.instanceMethod ({ cls := "java/util/ArrayDeque", name := "removeLast", desc := "()Ljava/lang/Object;" } : Jvm.MethodName)) ∈ lw_all := lw_g (lw_at lw_m1 212 rfl) rfl
theorem q306 : (Jvm.Cond.selects "java/util/ArrayDeque" ({ cls := "java/util/ArrayDeque", name := "removeLast", desc := "()Ljava/lang/Object;" } : Jvm.MethodName) ({ cls := "java/util/ArrayDeque", name := "removeLast", desc := "()Ljava/lang/Object;" } : Jvm.MethodName)) ∈ lw_all := lw_g (lw_at lw_m1 213 rfl) rfl
theorem q307 : (Jvm.Cond.code ({ cls := "java/util/ArrayDeque", name := "removeLast", desc := "()Ljava/lang/Object;" } : Jvm.MethodName) prog_38_method_19_code (2 : Nat) (Option.some (Jvm.ClassFile.FieldType.object "java/lang/Object"))) ∈ lw_all := lw_g (lw_at lw_m1 214 rfl) rfl
theorem q308 : (Jvm.Cond.methodLink "java/util/ArrayDeque" (100 : Nat) ({ cls := "java/util/ArrayDeque", name := "pollLast", desc := "()Ljava/lang/Object;" } : Jvm.MethodName)) ∈ lw_all := lw_g (lw_at lw_m1 215 rfl) rfl
theorem q309 : (Jvm.Cond.instanceMethod ({ cls := "java/util/ArrayDeque", name := "pollLast", desc := "()Ljava/lang/Object;" } : Jvm.MethodName)) ∈ lw_all := lw_g (lw_at lw_m1 216 rfl) rfl
theorem q310 : (Jvm.Cond.selects "java/util/ArrayDeque" ({ cls := "java/util/ArrayDeque", name := "pollLast", desc := "()Ljava/lang/Object;" } : Jvm.MethodName) ({ cls := "java/util/ArrayDeque", name := "pollLast", desc := "()Ljava/lang/Object;" } : Jvm.MethodName)) ∈ lw_all := lw_g (lw_at lw_m1 217 rfl) rfl
theorem q311 : (Jvm.Cond.code ({ cls := "java/util/ArrayDeque", name := "pollLast", desc := "()Ljava/lang/Object;" } : Jvm.MethodName) prog_38_method_21_code (4 : Nat) (Option.some (Jvm.ClassFile.FieldType.object "java/lang/Object"))) ∈ lw_all := lw_g (lw_at lw_m1 218 rfl) rfl
theorem q312 : (Jvm.Cond.methodLink "java/util/ArrayDeque" (68 : Nat) ({ cls := "java/util/ArrayDeque", name := "dec", desc := "(II)I" } : Jvm.MethodName)) ∈ lw_all := lw_g (lw_at lw_m1 219 rfl) rfl
theorem q313 : (Jvm.Cond.static ({ cls := "java/util/ArrayDeque", name := "dec", desc := "(II)I" } : Jvm.MethodName)) ∈ lw_all := lw_g (lw_at lw_m1 220 rfl) rfl
theorem q314 : (Jvm.Cond.code ({ cls := "java/util/ArrayDeque", name := "dec", desc := "(II)I" } : Jvm.MethodName) prog_38_method_7_code (2 : Nat) (Option.some Jvm.ClassFile.FieldType.int)) ∈ lw_all := lw_g (lw_at lw_m1 221 rfl) rfl
theorem q315 : (Jvm.Cond.methodLink "java/util/ArrayDeque" (103 : Nat) ({ cls := "java/util/ArrayDeque", name := "elementAt", desc := "([Ljava/lang/Object;I)Ljava/lang/Object;" } : Jvm.MethodName)) ∈ lw_all := lw_g (lw_at lw_m1 222 rfl) rfl
theorem q316 : (Jvm.Cond.static ({ cls := "java/util/ArrayDeque", name := "elementAt", desc := "([Ljava/lang/Object;I)Ljava/lang/Object;" } : Jvm.MethodName)) ∈ lw_all := lw_g (lw_at lw_m1 223 rfl) rfl
theorem q317 : (Jvm.Cond.code ({ cls := "java/util/ArrayDeque", name := "elementAt", desc := "([Ljava/lang/Object;I)Ljava/lang/Object;" } : Jvm.MethodName) prog_38_method_10_code (2 : Nat) (Option.some (Jvm.ClassFile.FieldType.object "java/lang/Object"))) ∈ lw_all := lw_g (lw_at lw_m1 224 rfl) rfl
theorem q337 : (Jvm.Cond.instanceMethod ({ cls := "java/util/ArrayDeque", name := "push", desc := "(Ljava/lang/Object;)V" } : Jvm.MethodName)) ∈ lw_all := lw_g (lw_at lw_m2 4 rfl) rfl
theorem q338 : (Jvm.Cond.selects "java/util/ArrayDeque" ({ cls := "java/util/ArrayDeque", name := "push", desc := "(Ljava/lang/Object;)V" } : Jvm.MethodName) ({ cls := "java/util/ArrayDeque", name := "push", desc := "(Ljava/lang/Object;)V" } : Jvm.MethodName)) ∈ lw_all := lw_g (lw_at lw_m2 5 rfl) rfl
theorem q339 : (Jvm.Cond.code ({ cls := "java/util/ArrayDeque", name := "push", desc := "(Ljava/lang/Object;)V" } : Jvm.MethodName) prog_38_method_34_code (2 : Nat) (Option.none : Option Jvm.ClassFile.FieldType)) ∈ lw_all := lw_g (lw_at lw_m2 6 rfl) rfl
theorem q340 : (Jvm.Cond.methodLink "java/util/ArrayDeque" (86 : Nat) ({ cls := "java/util/ArrayDeque", name := "addFirst", desc := "(Ljava/lang/Object;)V" } : Jvm.MethodName)) ∈ lw_all := lw_g (lw_at lw_m2 7 rfl) rfl
theorem q341 : (Jvm.Cond.instanceMethod ({ cls := "java/util/ArrayDeque", name := "addFirst", desc := "(Ljava/lang/Object;)V" } : Jvm.MethodName)) ∈ lw_all := lw_g (lw_at lw_m2 8 rfl) rfl
theorem q342 : (Jvm.Cond.selects "java/util/ArrayDeque" ({ cls := "java/util/ArrayDeque", name := "addFirst", desc := "(Ljava/lang/Object;)V" } : Jvm.MethodName) ({ cls := "java/util/ArrayDeque", name := "addFirst", desc := "(Ljava/lang/Object;)V" } : Jvm.MethodName)) ∈ lw_all := lw_g (lw_at lw_m2 9 rfl) rfl
theorem q343 : (Jvm.Cond.code ({ cls := "java/util/ArrayDeque", name := "addFirst", desc := "(Ljava/lang/Object;)V" } : Jvm.MethodName) prog_38_method_12_code (3 : Nat) (Option.none : Option Jvm.ClassFile.FieldType)) ∈ lw_all := lw_g (lw_at lw_m2 10 rfl) rfl
theorem q344 : (Jvm.Cond.methodLink "java/util/ArrayDeque" (71 : Nat) ({ cls := "java/util/ArrayDeque", name := "grow", desc := "(I)V" } : Jvm.MethodName)) ∈ lw_all := lw_g (lw_at lw_m2 11 rfl) rfl
theorem q345 : (Jvm.Cond.privateMethod ({ cls := "java/util/ArrayDeque", name := "grow", desc := "(I)V" } : Jvm.MethodName)) ∈ lw_tbl := lw_at lw_m2 12 rfl
theorem q346 : (Jvm.Cond.instanceMethod ({ cls := "java/util/ArrayDeque", name := "grow", desc := "(I)V" } : Jvm.MethodName)) ∈ lw_all := lw_g (lw_at lw_m2 13 rfl) rfl
theorem q347 : (Jvm.Cond.code ({ cls := "java/util/ArrayDeque", name := "grow", desc := "(I)V" } : Jvm.MethodName) prog_38_method_1_code (9 : Nat) (Option.none : Option Jvm.ClassFile.FieldType)) ∈ lw_all := lw_g (lw_at lw_m2 14 rfl) rfl
theorem q348 : (Jvm.Cond.constant "java/util/ArrayDeque" (9 : Nat) (2147483639 : Int32)) ∈ lw_all := lw_g (lw_at lw_m2 15 rfl) rfl
theorem q349 : (Jvm.Cond.methodLink "java/util/ArrayDeque" (10 : Nat) ({ cls := "java/util/ArrayDeque", name := "newCapacity", desc := "(II)I" } : Jvm.MethodName)) ∈ lw_all := lw_g (lw_at lw_m2 16 rfl) rfl
theorem q350 : (Jvm.Cond.privateMethod ({ cls := "java/util/ArrayDeque", name := "newCapacity", desc := "(II)I" } : Jvm.MethodName)) ∈ lw_tbl := lw_at lw_m2 17 rfl
theorem q351 : (Jvm.Cond.instanceMethod ({ cls := "java/util/ArrayDeque", name := "newCapacity", desc := "(II)I" } : Jvm.MethodName)) ∈ lw_all := lw_g (lw_at lw_m2 18 rfl) rfl
theorem q352 : (Jvm.Cond.code ({ cls := "java/util/ArrayDeque", name := "newCapacity", desc := "(II)I" } : Jvm.MethodName) prog_38_method_2_code (5 : Nat) (Option.some Jvm.ClassFile.FieldType.int)) ∈ lw_all := lw_g (lw_at lw_m2 19 rfl) rfl
theorem q353 : (Jvm.Cond.classLink "java/util/ArrayDeque" (33 : Nat) "java/lang/IllegalStateException") ∈ lw_all := lw_g (lw_at lw_m2 20 rfl) rfl
theorem q396 : (Jvm.Cond.stringRef "java/util/ArrayDeque" (35 : Nat) "Sorry, deque too big") ∈ lw_tbl := lw_at lw_m2 63 rfl
theorem q397 : (Jvm.Cond.methodLink "java/util/ArrayDeque" (37 : Nat) ({ cls := "java/lang/IllegalStateException", name := "<init>", desc := "(Ljava/lang/String;)V" } : Jvm.MethodName)) ∈ lw_all := lw_g (lw_at lw_m2 64 rfl) rfl
theorem q422 : (Jvm.Cond.methodLink "java/util/ArrayDeque" (14 : Nat) ({ cls := "java/util/Arrays", name := "copyOf", desc := "([Ljava/lang/Object;I)[Ljava/lang/Object;" } : Jvm.MethodName)) ∈ lw_all := lw_g (lw_at lw_m2 89 rfl) rfl
theorem q441 : (Jvm.Cond.selects "java/util/ArrayDeque" ({ cls := "java/lang/Object", name := "getClass", desc := "()Ljava/lang/Class;" } : Jvm.MethodName) ({ cls := "java/lang/Object", name := "getClass", desc := "()Ljava/lang/Class;" } : Jvm.MethodName)) ∈ lw_all := lw_g (lw_at lw_m2 108 rfl) rfl
theorem q455 : (Jvm.Cond.methodLink "java/util/ArrayDeque" (27 : Nat) ({ cls := "java/lang/System", name := "arraycopy", desc := "(Ljava/lang/Object;ILjava/lang/Object;II)V" } : Jvm.MethodName)) ∈ lw_all := lw_g (lw_at lw_m2 122 rfl) rfl
theorem q1372 : (Jvm.Cond.instanceMethod ({ cls := "java/util/ArrayDeque", name := "isEmpty", desc := "()Z" } : Jvm.MethodName)) ∈ lw_all := lw_g (lw_at lw_m6 79 rfl) rfl
theorem q1373 : (Jvm.Cond.selects "java/util/ArrayDeque" ({ cls := "java/util/ArrayDeque", name := "isEmpty", desc := "()Z" } : Jvm.MethodName) ({ cls := "java/util/ArrayDeque", name := "isEmpty", desc := "()Z" } : Jvm.MethodName)) ∈ lw_all := lw_g (lw_at lw_m6 80 rfl) rfl
theorem q1374 : (Jvm.Cond.code ({ cls := "java/util/ArrayDeque", name := "isEmpty", desc := "()Z" } : Jvm.MethodName) prog_38_method_38_code (1 : Nat) (Option.some Jvm.ClassFile.FieldType.boolean)) ∈ lw_all := lw_g (lw_at lw_m6 81 rfl) rfl
theorem q1376 : (Jvm.Cond.instanceMethod ({ cls := "java/util/ArrayDeque", name := "pop", desc := "()Ljava/lang/Object;" } : Jvm.MethodName)) ∈ lw_all := lw_g (lw_at lw_m6 83 rfl) rfl
theorem q1377 : (Jvm.Cond.selects "java/util/ArrayDeque" ({ cls := "java/util/ArrayDeque", name := "pop", desc := "()Ljava/lang/Object;" } : Jvm.MethodName) ({ cls := "java/util/ArrayDeque", name := "pop", desc := "()Ljava/lang/Object;" } : Jvm.MethodName)) ∈ lw_all := lw_g (lw_at lw_m6 84 rfl) rfl
theorem q1378 : (Jvm.Cond.code ({ cls := "java/util/ArrayDeque", name := "pop", desc := "()Ljava/lang/Object;" } : Jvm.MethodName) prog_38_method_35_code (1 : Nat) (Option.some (Jvm.ClassFile.FieldType.object "java/lang/Object"))) ∈ lw_all := lw_g (lw_at lw_m6 85 rfl) rfl
theorem q1379 : (Jvm.Cond.methodLink "java/util/ArrayDeque" (118 : Nat) ({ cls := "java/util/ArrayDeque", name := "removeFirst", desc := "()Ljava/lang/Object;" } : Jvm.MethodName)) ∈ lw_all := lw_g (lw_at lw_m6 86 rfl) rfl
theorem q1380 : (Jvm.Cond.instanceMethod ({ cls := "java/util/ArrayDeque", name := "removeFirst", desc := "()Ljava/lang/Object;" } : Jvm.MethodName)) ∈ lw_all := lw_g (lw_at lw_m6 87 rfl) rfl
theorem q1381 : (Jvm.Cond.selects "java/util/ArrayDeque" ({ cls := "java/util/ArrayDeque", name := "removeFirst", desc := "()Ljava/lang/Object;" } : Jvm.MethodName) ({ cls := "java/util/ArrayDeque", name := "removeFirst", desc := "()Ljava/lang/Object;" } : Jvm.MethodName)) ∈ lw_all := lw_g (lw_at lw_m6 88 rfl) rfl
theorem q1382 : (Jvm.Cond.code ({ cls := "java/util/ArrayDeque", name := "removeFirst", desc := "()Ljava/lang/Object;" } : Jvm.MethodName) prog_38_method_18_code (2 : Nat) (Option.some (Jvm.ClassFile.FieldType.object "java/lang/Object"))) ∈ lw_all := lw_g (lw_at lw_m6 89 rfl) rfl
theorem q1383 : (Jvm.Cond.methodLink "java/util/ArrayDeque" (93 : Nat) ({ cls := "java/util/ArrayDeque", name := "pollFirst", desc := "()Ljava/lang/Object;" } : Jvm.MethodName)) ∈ lw_all := lw_g (lw_at lw_m6 90 rfl) rfl
theorem q1384 : (Jvm.Cond.instanceMethod ({ cls := "java/util/ArrayDeque", name := "pollFirst", desc := "()Ljava/lang/Object;" } : Jvm.MethodName)) ∈ lw_all := lw_g (lw_at lw_m6 91 rfl) rfl
theorem q1385 : (Jvm.Cond.selects "java/util/ArrayDeque" ({ cls := "java/util/ArrayDeque", name := "pollFirst", desc := "()Ljava/lang/Object;" } : Jvm.MethodName) ({ cls := "java/util/ArrayDeque", name := "pollFirst", desc := "()Ljava/lang/Object;" } : Jvm.MethodName)) ∈ lw_all := lw_g (lw_at lw_m6 92 rfl) rfl
theorem q1386 : (Jvm.Cond.code ({ cls := "java/util/ArrayDeque", name := "pollFirst", desc := "()Ljava/lang/Object;" } : Jvm.MethodName) prog_38_method_20_code (4 : Nat) (Option.some (Jvm.ClassFile.FieldType.object "java/lang/Object"))) ∈ lw_all := lw_g (lw_at lw_m6 93 rfl) rfl
theorem q1387 : (Jvm.Cond.methodLink "java/util/ArrayDeque" (74 : Nat) ({ cls := "java/util/ArrayDeque", name := "inc", desc := "(II)I" } : Jvm.MethodName)) ∈ lw_all := lw_g (lw_at lw_m6 94 rfl) rfl
theorem q1388 : (Jvm.Cond.static ({ cls := "java/util/ArrayDeque", name := "inc", desc := "(II)I" } : Jvm.MethodName)) ∈ lw_all := lw_g (lw_at lw_m6 95 rfl) rfl
theorem q1389 : (Jvm.Cond.code ({ cls := "java/util/ArrayDeque", name := "inc", desc := "(II)I" } : Jvm.MethodName) prog_38_method_6_code (2 : Nat) (Option.some Jvm.ClassFile.FieldType.int)) ∈ lw_all := lw_g (lw_at lw_m6 96 rfl) rfl
theorem q1808 : (Jvm.Cond.castable "java/util/ArrayDeque" "java/lang/Object") ∈ lw_tbl := lw_at lw_m8 35 rfl
theorem in_J1 : ∀ w ∈ wsJ10, w ∈ lw_all := lw_in wsJ10 [177, 179, 181] (by decide +kernel) (by decide +kernel)
/-! java/lang/AbstractStringBuilder -/
set_option maxRecDepth 100000
def RJ2 : String := "java/lang/AbstractStringBuilder"
abbrev cJ2_init : ByteArray := prog_10_method_2_code
def yJ2_init : MethodName := ⟨RJ2, "<init>", "(I)V"⟩
def dkwJ2_init_1 : List UInt8 := [167, 0, 16, 42, 27, 184, 0, 26, 181, 0, 15, 42, 4, 181, 0, 22, 177]
abbrev dktJ2_init_1 : List UInt8 := dkwJ2_init_1 ++ []
def dkwJ2_init_0 : List UInt8 := [42, 183, 0, 3, 178, 0, 18, 153, 0, 18, 42, 27, 188, 8, 181, 0, 15, 42, 3, 181, 0, 22]
abbrev dktJ2_init_0 : List UInt8 := dkwJ2_init_0 ++ dktJ2_init_1
theorem dksJ2_init_0 : cJ2_init.data.toList.drop 0 = dktJ2_init_0 := by decide +kernel
theorem dksJ2_init_1 : cJ2_init.data.toList.drop 22 = dktJ2_init_1 := dk_seg dksJ2_init_0 22 rfl rfl
theorem dJ2_init_0 : decode cJ2_init 0 = .ok (.aload_n 0, 1) := dk_42 (dk_at dksJ2_init_0 0 rfl rfl)
theorem dJ2_init_1 : decode cJ2_init 1 = .ok (.invokespecial 3, 3) := dk_183 0 3 (dk_at dksJ2_init_0 1 rfl rfl)
theorem dJ2_init_4 : decode cJ2_init 4 = .ok (.getstatic 18, 3) := dk_178 0 18 (dk_at dksJ2_init_0 4 rfl rfl)
theorem dJ2_init_7 : decode cJ2_init 7 = .ok (.ifCond .eq 18, 3) := dk_153 0 18 (dk_at dksJ2_init_0 7 rfl rfl)
theorem dJ2_init_10 : decode cJ2_init 10 = .ok (.aload_n 0, 1) := dk_42 (dk_at dksJ2_init_0 10 rfl rfl)
theorem dJ2_init_11 : decode cJ2_init 11 = .ok (.iload_n 1, 1) := dk_27 (dk_at dksJ2_init_0 11 rfl rfl)
theorem dJ2_init_12 : decode cJ2_init 12 = .ok (.newarray .byte, 2) := dk_188_8 (dk_at dksJ2_init_0 12 rfl rfl)
theorem dJ2_init_14 : decode cJ2_init 14 = .ok (.putfield 15, 3) := dk_181 0 15 (dk_at dksJ2_init_0 14 rfl rfl)
theorem dJ2_init_17 : decode cJ2_init 17 = .ok (.aload_n 0, 1) := dk_42 (dk_at dksJ2_init_0 17 rfl rfl)
theorem dJ2_init_18 : decode cJ2_init 18 = .ok (.iconst 0, 1) := dk_3 (dk_at dksJ2_init_0 18 rfl rfl)
theorem dJ2_init_19 : decode cJ2_init 19 = .ok (.putfield 22, 3) := dk_181 0 22 (dk_at dksJ2_init_0 19 rfl rfl)
theorem dJ2_init_22 : decode cJ2_init 22 = .ok (.goto 16, 3) := dk_167 0 16 (dk_at dksJ2_init_1 0 rfl rfl)
theorem dJ2_init_25 : decode cJ2_init 25 = .ok (.aload_n 0, 1) := dk_42 (dk_at dksJ2_init_1 3 rfl rfl)
theorem dJ2_init_26 : decode cJ2_init 26 = .ok (.iload_n 1, 1) := dk_27 (dk_at dksJ2_init_1 4 rfl rfl)
theorem dJ2_init_27 : decode cJ2_init 27 = .ok (.invokestatic 26, 3) := dk_184 0 26 (dk_at dksJ2_init_1 5 rfl rfl)
theorem dJ2_init_30 : decode cJ2_init 30 = .ok (.putfield 15, 3) := dk_181 0 15 (dk_at dksJ2_init_1 8 rfl rfl)
theorem dJ2_init_33 : decode cJ2_init 33 = .ok (.aload_n 0, 1) := dk_42 (dk_at dksJ2_init_1 11 rfl rfl)
theorem dJ2_init_34 : decode cJ2_init 34 = .ok (.iconst 1, 1) := dk_4 (dk_at dksJ2_init_1 12 rfl rfl)
theorem dJ2_init_35 : decode cJ2_init 35 = .ok (.putfield 22, 3) := dk_181 0 22 (dk_at dksJ2_init_1 13 rfl rfl)
theorem dJ2_init_38 : decode cJ2_init 38 = .ok (.return_, 1) := dk_177 (dk_at dksJ2_init_1 16 rfl rfl)
abbrev cJ2_length : ByteArray := prog_10_method_6_code
def yJ2_length : MethodName := ⟨RJ2, "length", "()I"⟩
theorem dJ2_length_0 : decode cJ2_length 0 = .ok (.aload_n 0, 1) := by decide +kernel
theorem dJ2_length_1 : decode cJ2_length 1 = .ok (.getfield 79, 3) := by decide +kernel
theorem dJ2_length_4 : decode cJ2_length 4 = .ok (.ireturn, 1) := by decide +kernel
abbrev cJ2_setLength : ByteArray := prog_10_method_13_code
def yJ2_setLength : MethodName := ⟨RJ2, "setLength", "(I)V"⟩
def dkwJ2_setLength_3 : List UInt8 := [164, 0, 8, 42, 4, 181, 0, 73, 42, 27, 181, 0, 79, 177]
abbrev dktJ2_setLength_3 : List UInt8 := dkwJ2_setLength_3 ++ []
def dkwJ2_setLength_2 : List UInt8 := [167, 0, 31, 42, 180, 0, 15, 42, 180, 0, 79, 27, 184, 0, 137, 167, 0, 16, 42, 180, 0, 79, 27]
abbrev dktJ2_setLength_2 : List UInt8 := dkwJ2_setLength_2 ++ dktJ2_setLength_3
def dkwJ2_setLength_1 : List UInt8 := [162, 0, 40, 42, 182, 0, 83, 153, 0, 18, 42, 180, 0, 15, 42, 180, 0, 79, 27, 184, 0, 133]
abbrev dktJ2_setLength_1 : List UInt8 := dkwJ2_setLength_1 ++ dktJ2_setLength_2
def dkwJ2_setLength_0 : List UInt8 := [27, 156, 0, 12, 187, 0, 129, 89, 27, 183, 0, 131, 191, 42, 27, 182, 0, 100, 42, 180, 0, 79, 27]
abbrev dktJ2_setLength_0 : List UInt8 := dkwJ2_setLength_0 ++ dktJ2_setLength_1
theorem dksJ2_setLength_0 : cJ2_setLength.data.toList.drop 0 = dktJ2_setLength_0 := by decide +kernel
theorem dksJ2_setLength_1 : cJ2_setLength.data.toList.drop 23 = dktJ2_setLength_1 := dk_seg dksJ2_setLength_0 23 rfl rfl
theorem dksJ2_setLength_2 : cJ2_setLength.data.toList.drop 45 = dktJ2_setLength_2 := dk_seg dksJ2_setLength_1 22 rfl rfl
theorem dksJ2_setLength_3 : cJ2_setLength.data.toList.drop 68 = dktJ2_setLength_3 := dk_seg dksJ2_setLength_2 23 rfl rfl
theorem dJ2_setLength_0 : decode cJ2_setLength 0 = .ok (.iload_n 1, 1) := dk_27 (dk_at dksJ2_setLength_0 0 rfl rfl)
theorem dJ2_setLength_1 : decode cJ2_setLength 1 = .ok (.ifCond .ge 12, 3) := dk_156 0 12 (dk_at dksJ2_setLength_0 1 rfl rfl)
theorem dJ2_setLength_4 : decode cJ2_setLength 4 = .ok (.new 129, 3) := dk_187 0 129 (dk_at dksJ2_setLength_0 4 rfl rfl)
theorem dJ2_setLength_7 : decode cJ2_setLength 7 = .ok (.dup, 1) := dk_89 (dk_at dksJ2_setLength_0 7 rfl rfl)
theorem dJ2_setLength_8 : decode cJ2_setLength 8 = .ok (.iload_n 1, 1) := dk_27 (dk_at dksJ2_setLength_0 8 rfl rfl)
theorem dJ2_setLength_9 : decode cJ2_setLength 9 = .ok (.invokespecial 131, 3) := dk_183 0 131 (dk_at dksJ2_setLength_0 9 rfl rfl)
theorem dJ2_setLength_12 : decode cJ2_setLength 12 = .ok (.athrow, 1) := dk_191 (dk_at dksJ2_setLength_0 12 rfl rfl)
theorem dJ2_setLength_13 : decode cJ2_setLength 13 = .ok (.aload_n 0, 1) := dk_42 (dk_at dksJ2_setLength_0 13 rfl rfl)
theorem dJ2_setLength_14 : decode cJ2_setLength 14 = .ok (.iload_n 1, 1) := dk_27 (dk_at dksJ2_setLength_0 14 rfl rfl)
theorem dJ2_setLength_15 : decode cJ2_setLength 15 = .ok (.invokevirtual 100, 3) := dk_182 0 100 (dk_at dksJ2_setLength_0 15 rfl rfl)
theorem dJ2_setLength_18 : decode cJ2_setLength 18 = .ok (.aload_n 0, 1) := dk_42 (dk_at dksJ2_setLength_0 18 rfl rfl)
theorem dJ2_setLength_19 : decode cJ2_setLength 19 = .ok (.getfield 79, 3) := dk_180 0 79 (dk_at dksJ2_setLength_0 19 rfl rfl)
theorem dJ2_setLength_22 : decode cJ2_setLength 22 = .ok (.iload_n 1, 1) := dk_27 (dk_at dksJ2_setLength_0 22 rfl rfl)
theorem dJ2_setLength_23 : decode cJ2_setLength 23 = .ok (.if_icmp .ge 40, 3) := dk_162 0 40 (dk_at dksJ2_setLength_1 0 rfl rfl)
theorem dJ2_setLength_26 : decode cJ2_setLength 26 = .ok (.aload_n 0, 1) := dk_42 (dk_at dksJ2_setLength_1 3 rfl rfl)
theorem dJ2_setLength_27 : decode cJ2_setLength 27 = .ok (.invokevirtual 83, 3) := dk_182 0 83 (dk_at dksJ2_setLength_1 4 rfl rfl)
theorem dJ2_setLength_30 : decode cJ2_setLength 30 = .ok (.ifCond .eq 18, 3) := dk_153 0 18 (dk_at dksJ2_setLength_1 7 rfl rfl)
theorem dJ2_setLength_33 : decode cJ2_setLength 33 = .ok (.aload_n 0, 1) := dk_42 (dk_at dksJ2_setLength_1 10 rfl rfl)
theorem dJ2_setLength_34 : decode cJ2_setLength 34 = .ok (.getfield 15, 3) := dk_180 0 15 (dk_at dksJ2_setLength_1 11 rfl rfl)
theorem dJ2_setLength_37 : decode cJ2_setLength 37 = .ok (.aload_n 0, 1) := dk_42 (dk_at dksJ2_setLength_1 14 rfl rfl)
theorem dJ2_setLength_38 : decode cJ2_setLength 38 = .ok (.getfield 79, 3) := dk_180 0 79 (dk_at dksJ2_setLength_1 15 rfl rfl)
theorem dJ2_setLength_41 : decode cJ2_setLength 41 = .ok (.iload_n 1, 1) := dk_27 (dk_at dksJ2_setLength_1 18 rfl rfl)
theorem dJ2_setLength_42 : decode cJ2_setLength 42 = .ok (.invokestatic 133, 3) := dk_184 0 133 (dk_at dksJ2_setLength_1 19 rfl rfl)
theorem dJ2_setLength_45 : decode cJ2_setLength 45 = .ok (.goto 31, 3) := dk_167 0 31 (dk_at dksJ2_setLength_2 0 rfl rfl)
theorem dJ2_setLength_48 : decode cJ2_setLength 48 = .ok (.aload_n 0, 1) := dk_42 (dk_at dksJ2_setLength_2 3 rfl rfl)
theorem dJ2_setLength_49 : decode cJ2_setLength 49 = .ok (.getfield 15, 3) := dk_180 0 15 (dk_at dksJ2_setLength_2 4 rfl rfl)
theorem dJ2_setLength_52 : decode cJ2_setLength 52 = .ok (.aload_n 0, 1) := dk_42 (dk_at dksJ2_setLength_2 7 rfl rfl)
theorem dJ2_setLength_53 : decode cJ2_setLength 53 = .ok (.getfield 79, 3) := dk_180 0 79 (dk_at dksJ2_setLength_2 8 rfl rfl)
theorem dJ2_setLength_56 : decode cJ2_setLength 56 = .ok (.iload_n 1, 1) := dk_27 (dk_at dksJ2_setLength_2 11 rfl rfl)
theorem dJ2_setLength_57 : decode cJ2_setLength 57 = .ok (.invokestatic 137, 3) := dk_184 0 137 (dk_at dksJ2_setLength_2 12 rfl rfl)
theorem dJ2_setLength_60 : decode cJ2_setLength 60 = .ok (.goto 16, 3) := dk_167 0 16 (dk_at dksJ2_setLength_2 15 rfl rfl)
theorem dJ2_setLength_63 : decode cJ2_setLength 63 = .ok (.aload_n 0, 1) := dk_42 (dk_at dksJ2_setLength_2 18 rfl rfl)
theorem dJ2_setLength_64 : decode cJ2_setLength 64 = .ok (.getfield 79, 3) := dk_180 0 79 (dk_at dksJ2_setLength_2 19 rfl rfl)
theorem dJ2_setLength_67 : decode cJ2_setLength 67 = .ok (.iload_n 1, 1) := dk_27 (dk_at dksJ2_setLength_2 22 rfl rfl)
theorem dJ2_setLength_68 : decode cJ2_setLength 68 = .ok (.if_icmp .le 8, 3) := dk_164 0 8 (dk_at dksJ2_setLength_3 0 rfl rfl)
theorem dJ2_setLength_71 : decode cJ2_setLength 71 = .ok (.aload_n 0, 1) := dk_42 (dk_at dksJ2_setLength_3 3 rfl rfl)
theorem dJ2_setLength_72 : decode cJ2_setLength 72 = .ok (.iconst 1, 1) := dk_4 (dk_at dksJ2_setLength_3 4 rfl rfl)
theorem dJ2_setLength_73 : decode cJ2_setLength 73 = .ok (.putfield 73, 3) := dk_181 0 73 (dk_at dksJ2_setLength_3 5 rfl rfl)
theorem dJ2_setLength_76 : decode cJ2_setLength 76 = .ok (.aload_n 0, 1) := dk_42 (dk_at dksJ2_setLength_3 8 rfl rfl)
theorem dJ2_setLength_77 : decode cJ2_setLength 77 = .ok (.iload_n 1, 1) := dk_27 (dk_at dksJ2_setLength_3 9 rfl rfl)
theorem dJ2_setLength_78 : decode cJ2_setLength 78 = .ok (.putfield 79, 3) := dk_181 0 79 (dk_at dksJ2_setLength_3 10 rfl rfl)
theorem dJ2_setLength_81 : decode cJ2_setLength 81 = .ok (.return_, 1) := dk_177 (dk_at dksJ2_setLength_3 13 rfl rfl)
abbrev cJ2_append : ByteArray := prog_10_method_22_code
def yJ2_append : MethodName := ⟨RJ2, "append", "(Ljava/lang/String;)Ljava/lang/AbstractStringBuilder;"⟩
def dkwJ2_append_1 : List UInt8 := [42, 42, 180, 0, 79, 43, 182, 0, 208, 42, 89, 180, 0, 79, 28, 96, 181, 0, 79, 42, 176]
abbrev dktJ2_append_1 : List UInt8 := dkwJ2_append_1 ++ []
def dkwJ2_append_0 : List UInt8 := [43, 199, 0, 8, 42, 182, 0, 204, 176, 43, 182, 0, 32, 61, 42, 42, 180, 0, 79, 28, 96, 182, 0, 100]
abbrev dktJ2_append_0 : List UInt8 := dkwJ2_append_0 ++ dktJ2_append_1
theorem dksJ2_append_0 : cJ2_append.data.toList.drop 0 = dktJ2_append_0 := by decide +kernel
theorem dksJ2_append_1 : cJ2_append.data.toList.drop 24 = dktJ2_append_1 := dk_seg dksJ2_append_0 24 rfl rfl
theorem dJ2_append_0 : decode cJ2_append 0 = .ok (.aload_n 1, 1) := dk_43 (dk_at dksJ2_append_0 0 rfl rfl)
theorem dJ2_append_1 : decode cJ2_append 1 = .ok (.ifnonnull 8, 3) := dk_199 0 8 (dk_at dksJ2_append_0 1 rfl rfl)
theorem dJ2_append_4 : decode cJ2_append 4 = .ok (.aload_n 0, 1) := dk_42 (dk_at dksJ2_append_0 4 rfl rfl)
theorem dJ2_append_5 : decode cJ2_append 5 = .ok (.invokevirtual 204, 3) := dk_182 0 204 (dk_at dksJ2_append_0 5 rfl rfl)
theorem dJ2_append_8 : decode cJ2_append 8 = .ok (.areturn, 1) := dk_176 (dk_at dksJ2_append_0 8 rfl rfl)
theorem dJ2_append_9 : decode cJ2_append 9 = .ok (.aload_n 1, 1) := dk_43 (dk_at dksJ2_append_0 9 rfl rfl)
theorem dJ2_append_10 : decode cJ2_append 10 = .ok (.invokevirtual 32, 3) := dk_182 0 32 (dk_at dksJ2_append_0 10 rfl rfl)
theorem dJ2_append_13 : decode cJ2_append 13 = .ok (.istore_n 2, 1) := dk_61 (dk_at dksJ2_append_0 13 rfl rfl)
theorem dJ2_append_14 : decode cJ2_append 14 = .ok (.aload_n 0, 1) := dk_42 (dk_at dksJ2_append_0 14 rfl rfl)
theorem dJ2_append_15 : decode cJ2_append 15 = .ok (.aload_n 0, 1) := dk_42 (dk_at dksJ2_append_0 15 rfl rfl)
theorem dJ2_append_16 : decode cJ2_append 16 = .ok (.getfield 79, 3) := dk_180 0 79 (dk_at dksJ2_append_0 16 rfl rfl)
theorem dJ2_append_19 : decode cJ2_append 19 = .ok (.iload_n 2, 1) := dk_28 (dk_at dksJ2_append_0 19 rfl rfl)
theorem dJ2_append_20 : decode cJ2_append 20 = .ok (.iadd, 1) := dk_96 (dk_at dksJ2_append_0 20 rfl rfl)
theorem dJ2_append_21 : decode cJ2_append 21 = .ok (.invokevirtual 100, 3) := dk_182 0 100 (dk_at dksJ2_append_0 21 rfl rfl)
theorem dJ2_append_24 : decode cJ2_append 24 = .ok (.aload_n 0, 1) := dk_42 (dk_at dksJ2_append_1 0 rfl rfl)
theorem dJ2_append_25 : decode cJ2_append 25 = .ok (.aload_n 0, 1) := dk_42 (dk_at dksJ2_append_1 1 rfl rfl)
theorem dJ2_append_26 : decode cJ2_append 26 = .ok (.getfield 79, 3) := dk_180 0 79 (dk_at dksJ2_append_1 2 rfl rfl)
theorem dJ2_append_29 : decode cJ2_append 29 = .ok (.aload_n 1, 1) := dk_43 (dk_at dksJ2_append_1 5 rfl rfl)
theorem dJ2_append_30 : decode cJ2_append 30 = .ok (.invokevirtual 208, 3) := dk_182 0 208 (dk_at dksJ2_append_1 6 rfl rfl)
theorem dJ2_append_33 : decode cJ2_append 33 = .ok (.aload_n 0, 1) := dk_42 (dk_at dksJ2_append_1 9 rfl rfl)
theorem dJ2_append_34 : decode cJ2_append 34 = .ok (.dup, 1) := dk_89 (dk_at dksJ2_append_1 10 rfl rfl)
theorem dJ2_append_35 : decode cJ2_append 35 = .ok (.getfield 79, 3) := dk_180 0 79 (dk_at dksJ2_append_1 11 rfl rfl)
theorem dJ2_append_38 : decode cJ2_append 38 = .ok (.iload_n 2, 1) := dk_28 (dk_at dksJ2_append_1 14 rfl rfl)
theorem dJ2_append_39 : decode cJ2_append 39 = .ok (.iadd, 1) := dk_96 (dk_at dksJ2_append_1 15 rfl rfl)
theorem dJ2_append_40 : decode cJ2_append 40 = .ok (.putfield 79, 3) := dk_181 0 79 (dk_at dksJ2_append_1 16 rfl rfl)
theorem dJ2_append_43 : decode cJ2_append 43 = .ok (.aload_n 0, 1) := dk_42 (dk_at dksJ2_append_1 19 rfl rfl)
theorem dJ2_append_44 : decode cJ2_append 44 = .ok (.areturn, 1) := dk_176 (dk_at dksJ2_append_1 20 rfl rfl)
abbrev cJ2_appendNull : ByteArray := prog_10_method_26_code
def yJ2_appendNull : MethodName := ⟨RJ2, "appendNull", "()Ljava/lang/AbstractStringBuilder;"⟩
def dkwJ2_appendNull_3 : List UInt8 := [184, 0, 226, 60, 42, 27, 181, 0, 79, 42, 176]
abbrev dktJ2_appendNull_3 : List UInt8 := dkwJ2_appendNull_3 ++ []
def dkwJ2_appendNull_2 : List UInt8 := [16, 108, 84, 44, 27, 132, 1, 1, 16, 108, 84, 167, 0, 17, 44, 27, 16, 110, 16, 117, 16, 108, 16, 108]
abbrev dktJ2_appendNull_2 : List UInt8 := dkwJ2_appendNull_2 ++ dktJ2_appendNull_3
def dkwJ2_appendNull_1 : List UInt8 := [153, 0, 38, 44, 27, 132, 1, 1, 16, 110, 84, 44, 27, 132, 1, 1, 16, 117, 84, 44, 27, 132, 1, 1]
abbrev dktJ2_appendNull_1 : List UInt8 := dkwJ2_appendNull_1 ++ dktJ2_appendNull_2
def dkwJ2_appendNull_0 : List UInt8 := [42, 42, 180, 0, 79, 7, 96, 182, 0, 100, 42, 180, 0, 79, 60, 42, 180, 0, 15, 77, 42, 182, 0, 83]
abbrev dktJ2_appendNull_0 : List UInt8 := dkwJ2_appendNull_0 ++ dktJ2_appendNull_1
theorem dksJ2_appendNull_0 : cJ2_appendNull.data.toList.drop 0 = dktJ2_appendNull_0 := by decide +kernel
theorem dksJ2_appendNull_1 : cJ2_appendNull.data.toList.drop 24 = dktJ2_appendNull_1 := dk_seg dksJ2_appendNull_0 24 rfl rfl
theorem dksJ2_appendNull_2 : cJ2_appendNull.data.toList.drop 48 = dktJ2_appendNull_2 := dk_seg dksJ2_appendNull_1 24 rfl rfl
theorem dksJ2_appendNull_3 : cJ2_appendNull.data.toList.drop 72 = dktJ2_appendNull_3 := dk_seg dksJ2_appendNull_2 24 rfl rfl
theorem dJ2_appendNull_0 : decode cJ2_appendNull 0 = .ok (.aload_n 0, 1) := dk_42 (dk_at dksJ2_appendNull_0 0 rfl rfl)
theorem dJ2_appendNull_1 : decode cJ2_appendNull 1 = .ok (.aload_n 0, 1) := dk_42 (dk_at dksJ2_appendNull_0 1 rfl rfl)
theorem dJ2_appendNull_2 : decode cJ2_appendNull 2 = .ok (.getfield 79, 3) := dk_180 0 79 (dk_at dksJ2_appendNull_0 2 rfl rfl)
theorem dJ2_appendNull_5 : decode cJ2_appendNull 5 = .ok (.iconst 4, 1) := dk_7 (dk_at dksJ2_appendNull_0 5 rfl rfl)
theorem dJ2_appendNull_6 : decode cJ2_appendNull 6 = .ok (.iadd, 1) := dk_96 (dk_at dksJ2_appendNull_0 6 rfl rfl)
theorem dJ2_appendNull_7 : decode cJ2_appendNull 7 = .ok (.invokevirtual 100, 3) := dk_182 0 100 (dk_at dksJ2_appendNull_0 7 rfl rfl)
theorem dJ2_appendNull_10 : decode cJ2_appendNull 10 = .ok (.aload_n 0, 1) := dk_42 (dk_at dksJ2_appendNull_0 10 rfl rfl)
theorem dJ2_appendNull_11 : decode cJ2_appendNull 11 = .ok (.getfield 79, 3) := dk_180 0 79 (dk_at dksJ2_appendNull_0 11 rfl rfl)
theorem dJ2_appendNull_14 : decode cJ2_appendNull 14 = .ok (.istore_n 1, 1) := dk_60 (dk_at dksJ2_appendNull_0 14 rfl rfl)
theorem dJ2_appendNull_15 : decode cJ2_appendNull 15 = .ok (.aload_n 0, 1) := dk_42 (dk_at dksJ2_appendNull_0 15 rfl rfl)
theorem dJ2_appendNull_16 : decode cJ2_appendNull 16 = .ok (.getfield 15, 3) := dk_180 0 15 (dk_at dksJ2_appendNull_0 16 rfl rfl)
theorem dJ2_appendNull_19 : decode cJ2_appendNull 19 = .ok (.astore_n 2, 1) := dk_77 (dk_at dksJ2_appendNull_0 19 rfl rfl)
theorem dJ2_appendNull_20 : decode cJ2_appendNull 20 = .ok (.aload_n 0, 1) := dk_42 (dk_at dksJ2_appendNull_0 20 rfl rfl)
theorem dJ2_appendNull_21 : decode cJ2_appendNull 21 = .ok (.invokevirtual 83, 3) := dk_182 0 83 (dk_at dksJ2_appendNull_0 21 rfl rfl)
theorem dJ2_appendNull_24 : decode cJ2_appendNull 24 = .ok (.ifCond .eq 38, 3) := dk_153 0 38 (dk_at dksJ2_appendNull_1 0 rfl rfl)
theorem dJ2_appendNull_27 : decode cJ2_appendNull 27 = .ok (.aload_n 2, 1) := dk_44 (dk_at dksJ2_appendNull_1 3 rfl rfl)
theorem dJ2_appendNull_28 : decode cJ2_appendNull 28 = .ok (.iload_n 1, 1) := dk_27 (dk_at dksJ2_appendNull_1 4 rfl rfl)
theorem dJ2_appendNull_29 : decode cJ2_appendNull 29 = .ok (.iinc 1 1, 3) := dk_132 1 1 (dk_at dksJ2_appendNull_1 5 rfl rfl)
theorem dJ2_appendNull_32 : decode cJ2_appendNull 32 = .ok (.bipush 110, 2) := dk_16 110 (dk_at dksJ2_appendNull_1 8 rfl rfl)
theorem dJ2_appendNull_34 : decode cJ2_appendNull 34 = .ok (.bastore, 1) := dk_84 (dk_at dksJ2_appendNull_1 10 rfl rfl)
theorem dJ2_appendNull_35 : decode cJ2_appendNull 35 = .ok (.aload_n 2, 1) := dk_44 (dk_at dksJ2_appendNull_1 11 rfl rfl)
theorem dJ2_appendNull_36 : decode cJ2_appendNull 36 = .ok (.iload_n 1, 1) := dk_27 (dk_at dksJ2_appendNull_1 12 rfl rfl)
theorem dJ2_appendNull_37 : decode cJ2_appendNull 37 = .ok (.iinc 1 1, 3) := dk_132 1 1 (dk_at dksJ2_appendNull_1 13 rfl rfl)
theorem dJ2_appendNull_40 : decode cJ2_appendNull 40 = .ok (.bipush 117, 2) := dk_16 117 (dk_at dksJ2_appendNull_1 16 rfl rfl)
theorem dJ2_appendNull_42 : decode cJ2_appendNull 42 = .ok (.bastore, 1) := dk_84 (dk_at dksJ2_appendNull_1 18 rfl rfl)
theorem dJ2_appendNull_43 : decode cJ2_appendNull 43 = .ok (.aload_n 2, 1) := dk_44 (dk_at dksJ2_appendNull_1 19 rfl rfl)
theorem dJ2_appendNull_44 : decode cJ2_appendNull 44 = .ok (.iload_n 1, 1) := dk_27 (dk_at dksJ2_appendNull_1 20 rfl rfl)
theorem dJ2_appendNull_45 : decode cJ2_appendNull 45 = .ok (.iinc 1 1, 3) := dk_132 1 1 (dk_at dksJ2_appendNull_1 21 rfl rfl)
theorem dJ2_appendNull_48 : decode cJ2_appendNull 48 = .ok (.bipush 108, 2) := dk_16 108 (dk_at dksJ2_appendNull_2 0 rfl rfl)
theorem dJ2_appendNull_50 : decode cJ2_appendNull 50 = .ok (.bastore, 1) := dk_84 (dk_at dksJ2_appendNull_2 2 rfl rfl)
theorem dJ2_appendNull_51 : decode cJ2_appendNull 51 = .ok (.aload_n 2, 1) := dk_44 (dk_at dksJ2_appendNull_2 3 rfl rfl)
theorem dJ2_appendNull_52 : decode cJ2_appendNull 52 = .ok (.iload_n 1, 1) := dk_27 (dk_at dksJ2_appendNull_2 4 rfl rfl)
theorem dJ2_appendNull_53 : decode cJ2_appendNull 53 = .ok (.iinc 1 1, 3) := dk_132 1 1 (dk_at dksJ2_appendNull_2 5 rfl rfl)
theorem dJ2_appendNull_56 : decode cJ2_appendNull 56 = .ok (.bipush 108, 2) := dk_16 108 (dk_at dksJ2_appendNull_2 8 rfl rfl)
theorem dJ2_appendNull_58 : decode cJ2_appendNull 58 = .ok (.bastore, 1) := dk_84 (dk_at dksJ2_appendNull_2 10 rfl rfl)
theorem dJ2_appendNull_59 : decode cJ2_appendNull 59 = .ok (.goto 17, 3) := dk_167 0 17 (dk_at dksJ2_appendNull_2 11 rfl rfl)
theorem dJ2_appendNull_62 : decode cJ2_appendNull 62 = .ok (.aload_n 2, 1) := dk_44 (dk_at dksJ2_appendNull_2 14 rfl rfl)
theorem dJ2_appendNull_63 : decode cJ2_appendNull 63 = .ok (.iload_n 1, 1) := dk_27 (dk_at dksJ2_appendNull_2 15 rfl rfl)
theorem dJ2_appendNull_64 : decode cJ2_appendNull 64 = .ok (.bipush 110, 2) := dk_16 110 (dk_at dksJ2_appendNull_2 16 rfl rfl)
theorem dJ2_appendNull_66 : decode cJ2_appendNull 66 = .ok (.bipush 117, 2) := dk_16 117 (dk_at dksJ2_appendNull_2 18 rfl rfl)
theorem dJ2_appendNull_68 : decode cJ2_appendNull 68 = .ok (.bipush 108, 2) := dk_16 108 (dk_at dksJ2_appendNull_2 20 rfl rfl)
theorem dJ2_appendNull_70 : decode cJ2_appendNull 70 = .ok (.bipush 108, 2) := dk_16 108 (dk_at dksJ2_appendNull_2 22 rfl rfl)
theorem dJ2_appendNull_72 : decode cJ2_appendNull 72 = .ok (.invokestatic 226, 3) := dk_184 0 226 (dk_at dksJ2_appendNull_3 0 rfl rfl)
theorem dJ2_appendNull_75 : decode cJ2_appendNull 75 = .ok (.istore_n 1, 1) := dk_60 (dk_at dksJ2_appendNull_3 3 rfl rfl)
theorem dJ2_appendNull_76 : decode cJ2_appendNull 76 = .ok (.aload_n 0, 1) := dk_42 (dk_at dksJ2_appendNull_3 4 rfl rfl)
theorem dJ2_appendNull_77 : decode cJ2_appendNull 77 = .ok (.iload_n 1, 1) := dk_27 (dk_at dksJ2_appendNull_3 5 rfl rfl)
theorem dJ2_appendNull_78 : decode cJ2_appendNull 78 = .ok (.putfield 79, 3) := dk_181 0 79 (dk_at dksJ2_appendNull_3 6 rfl rfl)
theorem dJ2_appendNull_81 : decode cJ2_appendNull 81 = .ok (.aload_n 0, 1) := dk_42 (dk_at dksJ2_appendNull_3 9 rfl rfl)
theorem dJ2_appendNull_82 : decode cJ2_appendNull 82 = .ok (.areturn, 1) := dk_176 (dk_at dksJ2_appendNull_3 10 rfl rfl)
abbrev cJ2_ensureCapacityInternal : ByteArray := prog_10_method_9_code
def yJ2_ensureCapacityInternal : MethodName := ⟨RJ2, "ensureCapacityInternal", "(I)V"⟩
def dkwJ2_ensureCapacityInternal_1 : List UInt8 := [182, 0, 104, 42, 180, 0, 22, 120, 184, 0, 108, 181, 0, 15, 177]
abbrev dktJ2_ensureCapacityInternal_1 : List UInt8 := dkwJ2_ensureCapacityInternal_1 ++ []
def dkwJ2_ensureCapacityInternal_0 : List UInt8 := [42, 180, 0, 15, 190, 42, 180, 0, 22, 122, 61, 27, 28, 100, 158, 0, 24, 42, 42, 180, 0, 15, 42, 27]
abbrev dktJ2_ensureCapacityInternal_0 : List UInt8 := dkwJ2_ensureCapacityInternal_0 ++ dktJ2_ensureCapacityInternal_1
theorem dksJ2_ensureCapacityInternal_0 : cJ2_ensureCapacityInternal.data.toList.drop 0 = dktJ2_ensureCapacityInternal_0 := by decide +kernel
theorem dksJ2_ensureCapacityInternal_1 : cJ2_ensureCapacityInternal.data.toList.drop 24 = dktJ2_ensureCapacityInternal_1 := dk_seg dksJ2_ensureCapacityInternal_0 24 rfl rfl
theorem dJ2_ensureCapacityInternal_0 : decode cJ2_ensureCapacityInternal 0 = .ok (.aload_n 0, 1) := dk_42 (dk_at dksJ2_ensureCapacityInternal_0 0 rfl rfl)
theorem dJ2_ensureCapacityInternal_1 : decode cJ2_ensureCapacityInternal 1 = .ok (.getfield 15, 3) := dk_180 0 15 (dk_at dksJ2_ensureCapacityInternal_0 1 rfl rfl)
theorem dJ2_ensureCapacityInternal_4 : decode cJ2_ensureCapacityInternal 4 = .ok (.arraylength, 1) := dk_190 (dk_at dksJ2_ensureCapacityInternal_0 4 rfl rfl)
theorem dJ2_ensureCapacityInternal_5 : decode cJ2_ensureCapacityInternal 5 = .ok (.aload_n 0, 1) := dk_42 (dk_at dksJ2_ensureCapacityInternal_0 5 rfl rfl)
theorem dJ2_ensureCapacityInternal_6 : decode cJ2_ensureCapacityInternal 6 = .ok (.getfield 22, 3) := dk_180 0 22 (dk_at dksJ2_ensureCapacityInternal_0 6 rfl rfl)
theorem dJ2_ensureCapacityInternal_9 : decode cJ2_ensureCapacityInternal 9 = .ok (.ishr, 1) := dk_122 (dk_at dksJ2_ensureCapacityInternal_0 9 rfl rfl)
theorem dJ2_ensureCapacityInternal_10 : decode cJ2_ensureCapacityInternal 10 = .ok (.istore_n 2, 1) := dk_61 (dk_at dksJ2_ensureCapacityInternal_0 10 rfl rfl)
theorem dJ2_ensureCapacityInternal_11 : decode cJ2_ensureCapacityInternal 11 = .ok (.iload_n 1, 1) := dk_27 (dk_at dksJ2_ensureCapacityInternal_0 11 rfl rfl)
theorem dJ2_ensureCapacityInternal_12 : decode cJ2_ensureCapacityInternal 12 = .ok (.iload_n 2, 1) := dk_28 (dk_at dksJ2_ensureCapacityInternal_0 12 rfl rfl)
theorem dJ2_ensureCapacityInternal_13 : decode cJ2_ensureCapacityInternal 13 = .ok (.isub, 1) := dk_100 (dk_at dksJ2_ensureCapacityInternal_0 13 rfl rfl)
theorem dJ2_ensureCapacityInternal_14 : decode cJ2_ensureCapacityInternal 14 = .ok (.ifCond .le 24, 3) := dk_158 0 24 (dk_at dksJ2_ensureCapacityInternal_0 14 rfl rfl)
theorem dJ2_ensureCapacityInternal_17 : decode cJ2_ensureCapacityInternal 17 = .ok (.aload_n 0, 1) := dk_42 (dk_at dksJ2_ensureCapacityInternal_0 17 rfl rfl)
theorem dJ2_ensureCapacityInternal_18 : decode cJ2_ensureCapacityInternal 18 = .ok (.aload_n 0, 1) := dk_42 (dk_at dksJ2_ensureCapacityInternal_0 18 rfl rfl)
theorem dJ2_ensureCapacityInternal_19 : decode cJ2_ensureCapacityInternal 19 = .ok (.getfield 15, 3) := dk_180 0 15 (dk_at dksJ2_ensureCapacityInternal_0 19 rfl rfl)
theorem dJ2_ensureCapacityInternal_22 : decode cJ2_ensureCapacityInternal 22 = .ok (.aload_n 0, 1) := dk_42 (dk_at dksJ2_ensureCapacityInternal_0 22 rfl rfl)
theorem dJ2_ensureCapacityInternal_23 : decode cJ2_ensureCapacityInternal 23 = .ok (.iload_n 1, 1) := dk_27 (dk_at dksJ2_ensureCapacityInternal_0 23 rfl rfl)
theorem dJ2_ensureCapacityInternal_24 : decode cJ2_ensureCapacityInternal 24 = .ok (.invokevirtual 104, 3) := dk_182 0 104 (dk_at dksJ2_ensureCapacityInternal_1 0 rfl rfl)
theorem dJ2_ensureCapacityInternal_27 : decode cJ2_ensureCapacityInternal 27 = .ok (.aload_n 0, 1) := dk_42 (dk_at dksJ2_ensureCapacityInternal_1 3 rfl rfl)
theorem dJ2_ensureCapacityInternal_28 : decode cJ2_ensureCapacityInternal 28 = .ok (.getfield 22, 3) := dk_180 0 22 (dk_at dksJ2_ensureCapacityInternal_1 4 rfl rfl)
theorem dJ2_ensureCapacityInternal_31 : decode cJ2_ensureCapacityInternal 31 = .ok (.ishl, 1) := dk_120 (dk_at dksJ2_ensureCapacityInternal_1 7 rfl rfl)
theorem dJ2_ensureCapacityInternal_32 : decode cJ2_ensureCapacityInternal 32 = .ok (.invokestatic 108, 3) := dk_184 0 108 (dk_at dksJ2_ensureCapacityInternal_1 8 rfl rfl)
theorem dJ2_ensureCapacityInternal_35 : decode cJ2_ensureCapacityInternal 35 = .ok (.putfield 15, 3) := dk_181 0 15 (dk_at dksJ2_ensureCapacityInternal_1 11 rfl rfl)
theorem dJ2_ensureCapacityInternal_38 : decode cJ2_ensureCapacityInternal 38 = .ok (.return_, 1) := dk_177 (dk_at dksJ2_ensureCapacityInternal_1 14 rfl rfl)
abbrev cJ2_newCapacity : ByteArray := prog_10_method_10_code
def yJ2_newCapacity : MethodName := ⟨RJ2, "newCapacity", "(I)I"⟩
def dkwJ2_newCapacity_2 : List UInt8 := [183, 0, 124, 191, 21, 5, 42, 180, 0, 22, 122, 172]
abbrev dktJ2_newCapacity_2 : List UInt8 := dkwJ2_newCapacity_2 ++ []
def dkwJ2_newCapacity_1 : List UInt8 := [180, 0, 22, 120, 96, 184, 0, 114, 54, 5, 21, 5, 18, 39, 160, 0, 13, 187, 0, 120, 89, 18, 122]
abbrev dktJ2_newCapacity_1 : List UInt8 := dkwJ2_newCapacity_1 ++ dktJ2_newCapacity_2
def dkwJ2_newCapacity_0 : List UInt8 := [42, 180, 0, 15, 190, 61, 27, 42, 180, 0, 22, 120, 62, 29, 28, 100, 54, 4, 28, 21, 4, 28, 5, 42]
abbrev dktJ2_newCapacity_0 : List UInt8 := dkwJ2_newCapacity_0 ++ dktJ2_newCapacity_1
theorem dksJ2_newCapacity_0 : cJ2_newCapacity.data.toList.drop 0 = dktJ2_newCapacity_0 := by decide +kernel
theorem dksJ2_newCapacity_1 : cJ2_newCapacity.data.toList.drop 24 = dktJ2_newCapacity_1 := dk_seg dksJ2_newCapacity_0 24 rfl rfl
theorem dksJ2_newCapacity_2 : cJ2_newCapacity.data.toList.drop 47 = dktJ2_newCapacity_2 := dk_seg dksJ2_newCapacity_1 23 rfl rfl
theorem dJ2_newCapacity_0 : decode cJ2_newCapacity 0 = .ok (.aload_n 0, 1) := dk_42 (dk_at dksJ2_newCapacity_0 0 rfl rfl)
theorem dJ2_newCapacity_1 : decode cJ2_newCapacity 1 = .ok (.getfield 15, 3) := dk_180 0 15 (dk_at dksJ2_newCapacity_0 1 rfl rfl)
theorem dJ2_newCapacity_4 : decode cJ2_newCapacity 4 = .ok (.arraylength, 1) := dk_190 (dk_at dksJ2_newCapacity_0 4 rfl rfl)
theorem dJ2_newCapacity_5 : decode cJ2_newCapacity 5 = .ok (.istore_n 2, 1) := dk_61 (dk_at dksJ2_newCapacity_0 5 rfl rfl)
theorem dJ2_newCapacity_6 : decode cJ2_newCapacity 6 = .ok (.iload_n 1, 1) := dk_27 (dk_at dksJ2_newCapacity_0 6 rfl rfl)
theorem dJ2_newCapacity_7 : decode cJ2_newCapacity 7 = .ok (.aload_n 0, 1) := dk_42 (dk_at dksJ2_newCapacity_0 7 rfl rfl)
theorem dJ2_newCapacity_8 : decode cJ2_newCapacity 8 = .ok (.getfield 22, 3) := dk_180 0 22 (dk_at dksJ2_newCapacity_0 8 rfl rfl)
theorem dJ2_newCapacity_11 : decode cJ2_newCapacity 11 = .ok (.ishl, 1) := dk_120 (dk_at dksJ2_newCapacity_0 11 rfl rfl)
theorem dJ2_newCapacity_12 : decode cJ2_newCapacity 12 = .ok (.istore_n 3, 1) := dk_62 (dk_at dksJ2_newCapacity_0 12 rfl rfl)
theorem dJ2_newCapacity_13 : decode cJ2_newCapacity 13 = .ok (.iload_n 3, 1) := dk_29 (dk_at dksJ2_newCapacity_0 13 rfl rfl)
theorem dJ2_newCapacity_14 : decode cJ2_newCapacity 14 = .ok (.iload_n 2, 1) := dk_28 (dk_at dksJ2_newCapacity_0 14 rfl rfl)
theorem dJ2_newCapacity_15 : decode cJ2_newCapacity 15 = .ok (.isub, 1) := dk_100 (dk_at dksJ2_newCapacity_0 15 rfl rfl)
theorem dJ2_newCapacity_16 : decode cJ2_newCapacity 16 = .ok (.istore 4, 2) := dk_54 4 (dk_at dksJ2_newCapacity_0 16 rfl rfl)
theorem dJ2_newCapacity_18 : decode cJ2_newCapacity 18 = .ok (.iload_n 2, 1) := dk_28 (dk_at dksJ2_newCapacity_0 18 rfl rfl)
theorem dJ2_newCapacity_19 : decode cJ2_newCapacity 19 = .ok (.iload 4, 2) := dk_21 4 (dk_at dksJ2_newCapacity_0 19 rfl rfl)
theorem dJ2_newCapacity_21 : decode cJ2_newCapacity 21 = .ok (.iload_n 2, 1) := dk_28 (dk_at dksJ2_newCapacity_0 21 rfl rfl)
theorem dJ2_newCapacity_22 : decode cJ2_newCapacity 22 = .ok (.iconst 2, 1) := dk_5 (dk_at dksJ2_newCapacity_0 22 rfl rfl)
theorem dJ2_newCapacity_23 : decode cJ2_newCapacity 23 = .ok (.aload_n 0, 1) := dk_42 (dk_at dksJ2_newCapacity_0 23 rfl rfl)
theorem dJ2_newCapacity_24 : decode cJ2_newCapacity 24 = .ok (.getfield 22, 3) := dk_180 0 22 (dk_at dksJ2_newCapacity_1 0 rfl rfl)
theorem dJ2_newCapacity_27 : decode cJ2_newCapacity 27 = .ok (.ishl, 1) := dk_120 (dk_at dksJ2_newCapacity_1 3 rfl rfl)
theorem dJ2_newCapacity_28 : decode cJ2_newCapacity 28 = .ok (.iadd, 1) := dk_96 (dk_at dksJ2_newCapacity_1 4 rfl rfl)
theorem dJ2_newCapacity_29 : decode cJ2_newCapacity 29 = .ok (.invokestatic 114, 3) := dk_184 0 114 (dk_at dksJ2_newCapacity_1 5 rfl rfl)
theorem dJ2_newCapacity_32 : decode cJ2_newCapacity 32 = .ok (.istore 5, 2) := dk_54 5 (dk_at dksJ2_newCapacity_1 8 rfl rfl)
theorem dJ2_newCapacity_34 : decode cJ2_newCapacity 34 = .ok (.iload 5, 2) := dk_21 5 (dk_at dksJ2_newCapacity_1 10 rfl rfl)
theorem dJ2_newCapacity_36 : decode cJ2_newCapacity 36 = .ok (.ldc 39, 2) := dk_18 39 (dk_at dksJ2_newCapacity_1 12 rfl rfl)
theorem dJ2_newCapacity_38 : decode cJ2_newCapacity 38 = .ok (.if_icmp .ne 13, 3) := dk_160 0 13 (dk_at dksJ2_newCapacity_1 14 rfl rfl)
theorem dJ2_newCapacity_41 : decode cJ2_newCapacity 41 = .ok (.new 120, 3) := dk_187 0 120 (dk_at dksJ2_newCapacity_1 17 rfl rfl)
theorem dJ2_newCapacity_44 : decode cJ2_newCapacity 44 = .ok (.dup, 1) := dk_89 (dk_at dksJ2_newCapacity_1 20 rfl rfl)
theorem dJ2_newCapacity_45 : decode cJ2_newCapacity 45 = .ok (.ldc 122, 2) := dk_18 122 (dk_at dksJ2_newCapacity_1 21 rfl rfl)
theorem dJ2_newCapacity_47 : decode cJ2_newCapacity 47 = .ok (.invokespecial 124, 3) := dk_183 0 124 (dk_at dksJ2_newCapacity_2 0 rfl rfl)
theorem dJ2_newCapacity_50 : decode cJ2_newCapacity 50 = .ok (.athrow, 1) := dk_191 (dk_at dksJ2_newCapacity_2 3 rfl rfl)
theorem dJ2_newCapacity_51 : decode cJ2_newCapacity 51 = .ok (.iload 5, 2) := dk_21 5 (dk_at dksJ2_newCapacity_2 4 rfl rfl)
theorem dJ2_newCapacity_53 : decode cJ2_newCapacity 53 = .ok (.aload_n 0, 1) := dk_42 (dk_at dksJ2_newCapacity_2 6 rfl rfl)
theorem dJ2_newCapacity_54 : decode cJ2_newCapacity 54 = .ok (.getfield 22, 3) := dk_180 0 22 (dk_at dksJ2_newCapacity_2 7 rfl rfl)
theorem dJ2_newCapacity_57 : decode cJ2_newCapacity 57 = .ok (.ishr, 1) := dk_122 (dk_at dksJ2_newCapacity_2 10 rfl rfl)
theorem dJ2_newCapacity_58 : decode cJ2_newCapacity 58 = .ok (.ireturn, 1) := dk_172 (dk_at dksJ2_newCapacity_2 11 rfl rfl)
abbrev cJ2_isLatin1 : ByteArray := prog_10_method_68_code
def yJ2_isLatin1 : MethodName := ⟨RJ2, "isLatin1", "()Z"⟩
def dkwJ2_isLatin1_0 : List UInt8 := [178, 0, 18, 153, 0, 14, 42, 180, 0, 22, 154, 0, 7, 4, 167, 0, 4, 3, 172]
abbrev dktJ2_isLatin1_0 : List UInt8 := dkwJ2_isLatin1_0 ++ []
theorem dksJ2_isLatin1_0 : cJ2_isLatin1.data.toList.drop 0 = dktJ2_isLatin1_0 := by decide +kernel
theorem dJ2_isLatin1_0 : decode cJ2_isLatin1 0 = .ok (.getstatic 18, 3) := dk_178 0 18 (dk_at dksJ2_isLatin1_0 0 rfl rfl)
theorem dJ2_isLatin1_3 : decode cJ2_isLatin1 3 = .ok (.ifCond .eq 14, 3) := dk_153 0 14 (dk_at dksJ2_isLatin1_0 3 rfl rfl)
theorem dJ2_isLatin1_6 : decode cJ2_isLatin1 6 = .ok (.aload_n 0, 1) := dk_42 (dk_at dksJ2_isLatin1_0 6 rfl rfl)
theorem dJ2_isLatin1_7 : decode cJ2_isLatin1 7 = .ok (.getfield 22, 3) := dk_180 0 22 (dk_at dksJ2_isLatin1_0 7 rfl rfl)
theorem dJ2_isLatin1_10 : decode cJ2_isLatin1 10 = .ok (.ifCond .ne 7, 3) := dk_154 0 7 (dk_at dksJ2_isLatin1_0 10 rfl rfl)
theorem dJ2_isLatin1_13 : decode cJ2_isLatin1 13 = .ok (.iconst 1, 1) := dk_4 (dk_at dksJ2_isLatin1_0 13 rfl rfl)
theorem dJ2_isLatin1_14 : decode cJ2_isLatin1 14 = .ok (.goto 4, 3) := dk_167 0 4 (dk_at dksJ2_isLatin1_0 14 rfl rfl)
theorem dJ2_isLatin1_17 : decode cJ2_isLatin1 17 = .ok (.iconst 0, 1) := dk_3 (dk_at dksJ2_isLatin1_0 17 rfl rfl)
theorem dJ2_isLatin1_18 : decode cJ2_isLatin1 18 = .ok (.ireturn, 1) := dk_172 (dk_at dksJ2_isLatin1_0 18 rfl rfl)
abbrev cJ2_putStringAt : ByteArray := prog_10_method_73_code
def yJ2_putStringAt : MethodName := ⟨RJ2, "putStringAt", "(ILjava/lang/String;)V"⟩
def dkwJ2_putStringAt_0 : List UInt8 := [42, 44, 182, 1, 141, 44, 42, 180, 0, 15, 27, 42, 180, 0, 22, 182, 1, 143, 177]
abbrev dktJ2_putStringAt_0 : List UInt8 := dkwJ2_putStringAt_0 ++ []
theorem dksJ2_putStringAt_0 : cJ2_putStringAt.data.toList.drop 0 = dktJ2_putStringAt_0 := by decide +kernel
theorem dJ2_putStringAt_0 : decode cJ2_putStringAt 0 = .ok (.aload_n 0, 1) := dk_42 (dk_at dksJ2_putStringAt_0 0 rfl rfl)
theorem dJ2_putStringAt_1 : decode cJ2_putStringAt 1 = .ok (.aload_n 2, 1) := dk_44 (dk_at dksJ2_putStringAt_0 1 rfl rfl)
theorem dJ2_putStringAt_2 : decode cJ2_putStringAt 2 = .ok (.invokevirtual 397, 3) := dk_182 1 141 (dk_at dksJ2_putStringAt_0 2 rfl rfl)
theorem dJ2_putStringAt_5 : decode cJ2_putStringAt 5 = .ok (.aload_n 2, 1) := dk_44 (dk_at dksJ2_putStringAt_0 5 rfl rfl)
theorem dJ2_putStringAt_6 : decode cJ2_putStringAt 6 = .ok (.aload_n 0, 1) := dk_42 (dk_at dksJ2_putStringAt_0 6 rfl rfl)
theorem dJ2_putStringAt_7 : decode cJ2_putStringAt 7 = .ok (.getfield 15, 3) := dk_180 0 15 (dk_at dksJ2_putStringAt_0 7 rfl rfl)
theorem dJ2_putStringAt_10 : decode cJ2_putStringAt 10 = .ok (.iload_n 1, 1) := dk_27 (dk_at dksJ2_putStringAt_0 10 rfl rfl)
theorem dJ2_putStringAt_11 : decode cJ2_putStringAt 11 = .ok (.aload_n 0, 1) := dk_42 (dk_at dksJ2_putStringAt_0 11 rfl rfl)
theorem dJ2_putStringAt_12 : decode cJ2_putStringAt 12 = .ok (.getfield 22, 3) := dk_180 0 22 (dk_at dksJ2_putStringAt_0 12 rfl rfl)
theorem dJ2_putStringAt_15 : decode cJ2_putStringAt 15 = .ok (.invokevirtual 399, 3) := dk_182 1 143 (dk_at dksJ2_putStringAt_0 15 rfl rfl)
theorem dJ2_putStringAt_18 : decode cJ2_putStringAt 18 = .ok (.return_, 1) := dk_177 (dk_at dksJ2_putStringAt_0 18 rfl rfl)
abbrev cJ2_inflateIfNeededFor : ByteArray := prog_10_method_71_code
def yJ2_inflateIfNeededFor : MethodName := ⟨RJ2, "inflateIfNeededFor", "(Ljava/lang/String;)V"⟩
def dkwJ2_inflateIfNeededFor_0 : List UInt8 := [178, 0, 18, 153, 0, 18, 42, 180, 0, 22, 43, 182, 0, 40, 159, 0, 7, 42, 182, 0, 195, 177]
abbrev dktJ2_inflateIfNeededFor_0 : List UInt8 := dkwJ2_inflateIfNeededFor_0 ++ []
theorem dksJ2_inflateIfNeededFor_0 : cJ2_inflateIfNeededFor.data.toList.drop 0 = dktJ2_inflateIfNeededFor_0 := by decide +kernel
theorem dJ2_inflateIfNeededFor_0 : decode cJ2_inflateIfNeededFor 0 = .ok (.getstatic 18, 3) := dk_178 0 18 (dk_at dksJ2_inflateIfNeededFor_0 0 rfl rfl)
theorem dJ2_inflateIfNeededFor_3 : decode cJ2_inflateIfNeededFor 3 = .ok (.ifCond .eq 18, 3) := dk_153 0 18 (dk_at dksJ2_inflateIfNeededFor_0 3 rfl rfl)
theorem dJ2_inflateIfNeededFor_6 : decode cJ2_inflateIfNeededFor 6 = .ok (.aload_n 0, 1) := dk_42 (dk_at dksJ2_inflateIfNeededFor_0 6 rfl rfl)
theorem dJ2_inflateIfNeededFor_7 : decode cJ2_inflateIfNeededFor 7 = .ok (.getfield 22, 3) := dk_180 0 22 (dk_at dksJ2_inflateIfNeededFor_0 7 rfl rfl)
theorem dJ2_inflateIfNeededFor_10 : decode cJ2_inflateIfNeededFor 10 = .ok (.aload_n 1, 1) := dk_43 (dk_at dksJ2_inflateIfNeededFor_0 10 rfl rfl)
theorem dJ2_inflateIfNeededFor_11 : decode cJ2_inflateIfNeededFor 11 = .ok (.invokevirtual 40, 3) := dk_182 0 40 (dk_at dksJ2_inflateIfNeededFor_0 11 rfl rfl)
theorem dJ2_inflateIfNeededFor_14 : decode cJ2_inflateIfNeededFor 14 = .ok (.if_icmp .eq 7, 3) := dk_159 0 7 (dk_at dksJ2_inflateIfNeededFor_0 14 rfl rfl)
theorem dJ2_inflateIfNeededFor_17 : decode cJ2_inflateIfNeededFor 17 = .ok (.aload_n 0, 1) := dk_42 (dk_at dksJ2_inflateIfNeededFor_0 17 rfl rfl)
theorem dJ2_inflateIfNeededFor_18 : decode cJ2_inflateIfNeededFor 18 = .ok (.invokevirtual 195, 3) := dk_182 0 195 (dk_at dksJ2_inflateIfNeededFor_0 18 rfl rfl)
theorem dJ2_inflateIfNeededFor_21 : decode cJ2_inflateIfNeededFor 21 = .ok (.return_, 1) := dk_177 (dk_at dksJ2_inflateIfNeededFor_0 21 rfl rfl)
abbrev cJ2_inflate : ByteArray := prog_10_method_11_code
def yJ2_inflate : MethodName := ⟨RJ2, "inflate", "()V"⟩
def dkwJ2_inflate_1 : List UInt8 := [42, 180, 0, 79, 184, 0, 125, 42, 43, 181, 0, 15, 42, 4, 181, 0, 22, 177]
abbrev dktJ2_inflate_1 : List UInt8 := dkwJ2_inflate_1 ++ []
def dkwJ2_inflate_0 : List UInt8 := [42, 182, 0, 83, 154, 0, 4, 177, 42, 180, 0, 15, 190, 184, 0, 26, 76, 42, 180, 0, 15, 3, 43, 3]
abbrev dktJ2_inflate_0 : List UInt8 := dkwJ2_inflate_0 ++ dktJ2_inflate_1
theorem dksJ2_inflate_0 : cJ2_inflate.data.toList.drop 0 = dktJ2_inflate_0 := by decide +kernel
theorem dksJ2_inflate_1 : cJ2_inflate.data.toList.drop 24 = dktJ2_inflate_1 := dk_seg dksJ2_inflate_0 24 rfl rfl
theorem dJ2_inflate_0 : decode cJ2_inflate 0 = .ok (.aload_n 0, 1) := dk_42 (dk_at dksJ2_inflate_0 0 rfl rfl)
theorem dJ2_inflate_1 : decode cJ2_inflate 1 = .ok (.invokevirtual 83, 3) := dk_182 0 83 (dk_at dksJ2_inflate_0 1 rfl rfl)
theorem dJ2_inflate_4 : decode cJ2_inflate 4 = .ok (.ifCond .ne 4, 3) := dk_154 0 4 (dk_at dksJ2_inflate_0 4 rfl rfl)
theorem dJ2_inflate_7 : decode cJ2_inflate 7 = .ok (.return_, 1) := dk_177 (dk_at dksJ2_inflate_0 7 rfl rfl)
theorem dJ2_inflate_8 : decode cJ2_inflate 8 = .ok (.aload_n 0, 1) := dk_42 (dk_at dksJ2_inflate_0 8 rfl rfl)
theorem dJ2_inflate_9 : decode cJ2_inflate 9 = .ok (.getfield 15, 3) := dk_180 0 15 (dk_at dksJ2_inflate_0 9 rfl rfl)
theorem dJ2_inflate_12 : decode cJ2_inflate 12 = .ok (.arraylength, 1) := dk_190 (dk_at dksJ2_inflate_0 12 rfl rfl)
theorem dJ2_inflate_13 : decode cJ2_inflate 13 = .ok (.invokestatic 26, 3) := dk_184 0 26 (dk_at dksJ2_inflate_0 13 rfl rfl)
theorem dJ2_inflate_16 : decode cJ2_inflate 16 = .ok (.astore_n 1, 1) := dk_76 (dk_at dksJ2_inflate_0 16 rfl rfl)
theorem dJ2_inflate_17 : decode cJ2_inflate 17 = .ok (.aload_n 0, 1) := dk_42 (dk_at dksJ2_inflate_0 17 rfl rfl)
theorem dJ2_inflate_18 : decode cJ2_inflate 18 = .ok (.getfield 15, 3) := dk_180 0 15 (dk_at dksJ2_inflate_0 18 rfl rfl)
theorem dJ2_inflate_21 : decode cJ2_inflate 21 = .ok (.iconst 0, 1) := dk_3 (dk_at dksJ2_inflate_0 21 rfl rfl)
theorem dJ2_inflate_22 : decode cJ2_inflate 22 = .ok (.aload_n 1, 1) := dk_43 (dk_at dksJ2_inflate_0 22 rfl rfl)
theorem dJ2_inflate_23 : decode cJ2_inflate 23 = .ok (.iconst 0, 1) := dk_3 (dk_at dksJ2_inflate_0 23 rfl rfl)
theorem dJ2_inflate_24 : decode cJ2_inflate 24 = .ok (.aload_n 0, 1) := dk_42 (dk_at dksJ2_inflate_1 0 rfl rfl)
theorem dJ2_inflate_25 : decode cJ2_inflate 25 = .ok (.getfield 79, 3) := dk_180 0 79 (dk_at dksJ2_inflate_1 1 rfl rfl)
theorem dJ2_inflate_28 : decode cJ2_inflate 28 = .ok (.invokestatic 125, 3) := dk_184 0 125 (dk_at dksJ2_inflate_1 4 rfl rfl)
theorem dJ2_inflate_31 : decode cJ2_inflate 31 = .ok (.aload_n 0, 1) := dk_42 (dk_at dksJ2_inflate_1 7 rfl rfl)
theorem dJ2_inflate_32 : decode cJ2_inflate 32 = .ok (.aload_n 1, 1) := dk_43 (dk_at dksJ2_inflate_1 8 rfl rfl)
theorem dJ2_inflate_33 : decode cJ2_inflate 33 = .ok (.putfield 15, 3) := dk_181 0 15 (dk_at dksJ2_inflate_1 9 rfl rfl)
theorem dJ2_inflate_36 : decode cJ2_inflate 36 = .ok (.aload_n 0, 1) := dk_42 (dk_at dksJ2_inflate_1 12 rfl rfl)
theorem dJ2_inflate_37 : decode cJ2_inflate 37 = .ok (.iconst 1, 1) := dk_4 (dk_at dksJ2_inflate_1 13 rfl rfl)
theorem dJ2_inflate_38 : decode cJ2_inflate 38 = .ok (.putfield 22, 3) := dk_181 0 22 (dk_at dksJ2_inflate_1 14 rfl rfl)
theorem dJ2_inflate_41 : decode cJ2_inflate 41 = .ok (.return_, 1) := dk_177 (dk_at dksJ2_inflate_1 17 rfl rfl)
abbrev cJ2_append_2 : ByteArray := prog_10_method_32_code
def yJ2_append_2 : MethodName := ⟨RJ2, "append", "(I)Ljava/lang/AbstractStringBuilder;"⟩
def dkwJ2_append_2_2 : List UInt8 := [42, 29, 181, 0, 79, 42, 176]
abbrev dktJ2_append_2_2 : List UInt8 := dkwJ2_append_2_2 ++ []
def dkwJ2_append_2_1 : List UInt8 := [27, 29, 42, 180, 0, 15, 184, 0, 248, 87, 167, 0, 14, 27, 28, 29, 42, 180, 0, 15, 184, 0, 251, 87]
abbrev dktJ2_append_2_1 : List UInt8 := dkwJ2_append_2_1 ++ dktJ2_append_2_2
def dkwJ2_append_2_0 : List UInt8 := [42, 180, 0, 79, 61, 28, 27, 184, 0, 245, 96, 62, 42, 29, 182, 0, 100, 42, 182, 0, 83, 153, 0, 16]
abbrev dktJ2_append_2_0 : List UInt8 := dkwJ2_append_2_0 ++ dktJ2_append_2_1
theorem dksJ2_append_2_0 : cJ2_append_2.data.toList.drop 0 = dktJ2_append_2_0 := by decide +kernel
theorem dksJ2_append_2_1 : cJ2_append_2.data.toList.drop 24 = dktJ2_append_2_1 := dk_seg dksJ2_append_2_0 24 rfl rfl
theorem dksJ2_append_2_2 : cJ2_append_2.data.toList.drop 48 = dktJ2_append_2_2 := dk_seg dksJ2_append_2_1 24 rfl rfl
theorem dJ2_append_2_0 : decode cJ2_append_2 0 = .ok (.aload_n 0, 1) := dk_42 (dk_at dksJ2_append_2_0 0 rfl rfl)
theorem dJ2_append_2_1 : decode cJ2_append_2 1 = .ok (.getfield 79, 3) := dk_180 0 79 (dk_at dksJ2_append_2_0 1 rfl rfl)
theorem dJ2_append_2_4 : decode cJ2_append_2 4 = .ok (.istore_n 2, 1) := dk_61 (dk_at dksJ2_append_2_0 4 rfl rfl)
theorem dJ2_append_2_5 : decode cJ2_append_2 5 = .ok (.iload_n 2, 1) := dk_28 (dk_at dksJ2_append_2_0 5 rfl rfl)
theorem dJ2_append_2_6 : decode cJ2_append_2 6 = .ok (.iload_n 1, 1) := dk_27 (dk_at dksJ2_append_2_0 6 rfl rfl)
theorem dJ2_append_2_7 : decode cJ2_append_2 7 = .ok (.invokestatic 245, 3) := dk_184 0 245 (dk_at dksJ2_append_2_0 7 rfl rfl)
theorem dJ2_append_2_10 : decode cJ2_append_2 10 = .ok (.iadd, 1) := dk_96 (dk_at dksJ2_append_2_0 10 rfl rfl)
theorem dJ2_append_2_11 : decode cJ2_append_2 11 = .ok (.istore_n 3, 1) := dk_62 (dk_at dksJ2_append_2_0 11 rfl rfl)
theorem dJ2_append_2_12 : decode cJ2_append_2 12 = .ok (.aload_n 0, 1) := dk_42 (dk_at dksJ2_append_2_0 12 rfl rfl)
theorem dJ2_append_2_13 : decode cJ2_append_2 13 = .ok (.iload_n 3, 1) := dk_29 (dk_at dksJ2_append_2_0 13 rfl rfl)
theorem dJ2_append_2_14 : decode cJ2_append_2 14 = .ok (.invokevirtual 100, 3) := dk_182 0 100 (dk_at dksJ2_append_2_0 14 rfl rfl)
theorem dJ2_append_2_17 : decode cJ2_append_2 17 = .ok (.aload_n 0, 1) := dk_42 (dk_at dksJ2_append_2_0 17 rfl rfl)
theorem dJ2_append_2_18 : decode cJ2_append_2 18 = .ok (.invokevirtual 83, 3) := dk_182 0 83 (dk_at dksJ2_append_2_0 18 rfl rfl)
theorem dJ2_append_2_21 : decode cJ2_append_2 21 = .ok (.ifCond .eq 16, 3) := dk_153 0 16 (dk_at dksJ2_append_2_0 21 rfl rfl)
theorem dJ2_append_2_24 : decode cJ2_append_2 24 = .ok (.iload_n 1, 1) := dk_27 (dk_at dksJ2_append_2_1 0 rfl rfl)
theorem dJ2_append_2_25 : decode cJ2_append_2 25 = .ok (.iload_n 3, 1) := dk_29 (dk_at dksJ2_append_2_1 1 rfl rfl)
theorem dJ2_append_2_26 : decode cJ2_append_2 26 = .ok (.aload_n 0, 1) := dk_42 (dk_at dksJ2_append_2_1 2 rfl rfl)
theorem dJ2_append_2_27 : decode cJ2_append_2 27 = .ok (.getfield 15, 3) := dk_180 0 15 (dk_at dksJ2_append_2_1 3 rfl rfl)
theorem dJ2_append_2_30 : decode cJ2_append_2 30 = .ok (.invokestatic 248, 3) := dk_184 0 248 (dk_at dksJ2_append_2_1 6 rfl rfl)
theorem dJ2_append_2_33 : decode cJ2_append_2 33 = .ok (.pop, 1) := dk_87 (dk_at dksJ2_append_2_1 9 rfl rfl)
theorem dJ2_append_2_34 : decode cJ2_append_2 34 = .ok (.goto 14, 3) := dk_167 0 14 (dk_at dksJ2_append_2_1 10 rfl rfl)
theorem dJ2_append_2_37 : decode cJ2_append_2 37 = .ok (.iload_n 1, 1) := dk_27 (dk_at dksJ2_append_2_1 13 rfl rfl)
theorem dJ2_append_2_38 : decode cJ2_append_2 38 = .ok (.iload_n 2, 1) := dk_28 (dk_at dksJ2_append_2_1 14 rfl rfl)
theorem dJ2_append_2_39 : decode cJ2_append_2 39 = .ok (.iload_n 3, 1) := dk_29 (dk_at dksJ2_append_2_1 15 rfl rfl)
theorem dJ2_append_2_40 : decode cJ2_append_2 40 = .ok (.aload_n 0, 1) := dk_42 (dk_at dksJ2_append_2_1 16 rfl rfl)
theorem dJ2_append_2_41 : decode cJ2_append_2 41 = .ok (.getfield 15, 3) := dk_180 0 15 (dk_at dksJ2_append_2_1 17 rfl rfl)
theorem dJ2_append_2_44 : decode cJ2_append_2 44 = .ok (.invokestatic 251, 3) := dk_184 0 251 (dk_at dksJ2_append_2_1 20 rfl rfl)
theorem dJ2_append_2_47 : decode cJ2_append_2 47 = .ok (.pop, 1) := dk_87 (dk_at dksJ2_append_2_1 23 rfl rfl)
theorem dJ2_append_2_48 : decode cJ2_append_2 48 = .ok (.aload_n 0, 1) := dk_42 (dk_at dksJ2_append_2_2 0 rfl rfl)
theorem dJ2_append_2_49 : decode cJ2_append_2 49 = .ok (.iload_n 3, 1) := dk_29 (dk_at dksJ2_append_2_2 1 rfl rfl)
theorem dJ2_append_2_50 : decode cJ2_append_2 50 = .ok (.putfield 79, 3) := dk_181 0 79 (dk_at dksJ2_append_2_2 2 rfl rfl)
theorem dJ2_append_2_53 : decode cJ2_append_2 53 = .ok (.aload_n 0, 1) := dk_42 (dk_at dksJ2_append_2_2 5 rfl rfl)
theorem dJ2_append_2_54 : decode cJ2_append_2 54 = .ok (.areturn, 1) := dk_176 (dk_at dksJ2_append_2_2 6 rfl rfl)
abbrev cJ2_getValue : ByteArray := prog_10_method_64_code
def yJ2_getValue : MethodName := ⟨RJ2, "getValue", "()[B"⟩
theorem dJ2_getValue_0 : decode cJ2_getValue 0 = .ok (.aload_n 0, 1) := by decide +kernel
theorem dJ2_getValue_1 : decode cJ2_getValue 1 = .ok (.getfield 15, 3) := by decide +kernel
theorem dJ2_getValue_4 : decode cJ2_getValue 4 = .ok (.areturn, 1) := by decide +kernel
abbrev cJ2_charAt : ByteArray := prog_10_method_14_code
def yJ2_charAt : MethodName := ⟨RJ2, "charAt", "(I)C"⟩
def dkwJ2_charAt_1 : List UInt8 := [21, 4, 184, 0, 144, 28, 154, 0, 12, 45, 27, 51, 17, 0, 255, 126, 146, 172, 45, 27, 184, 0, 148, 172]
abbrev dktJ2_charAt_1 : List UInt8 := dkwJ2_charAt_1 ++ []
def dkwJ2_charAt_0 : List UInt8 := [42, 180, 0, 22, 61, 42, 180, 0, 15, 78, 42, 180, 0, 79, 45, 190, 28, 122, 184, 0, 138, 54, 4, 27]
abbrev dktJ2_charAt_0 : List UInt8 := dkwJ2_charAt_0 ++ dktJ2_charAt_1
theorem dksJ2_charAt_0 : cJ2_charAt.data.toList.drop 0 = dktJ2_charAt_0 := by decide +kernel
theorem dksJ2_charAt_1 : cJ2_charAt.data.toList.drop 24 = dktJ2_charAt_1 := dk_seg dksJ2_charAt_0 24 rfl rfl
theorem dJ2_charAt_0 : decode cJ2_charAt 0 = .ok (.aload_n 0, 1) := dk_42 (dk_at dksJ2_charAt_0 0 rfl rfl)
theorem dJ2_charAt_1 : decode cJ2_charAt 1 = .ok (.getfield 22, 3) := dk_180 0 22 (dk_at dksJ2_charAt_0 1 rfl rfl)
theorem dJ2_charAt_4 : decode cJ2_charAt 4 = .ok (.istore_n 2, 1) := dk_61 (dk_at dksJ2_charAt_0 4 rfl rfl)
theorem dJ2_charAt_5 : decode cJ2_charAt 5 = .ok (.aload_n 0, 1) := dk_42 (dk_at dksJ2_charAt_0 5 rfl rfl)
theorem dJ2_charAt_6 : decode cJ2_charAt 6 = .ok (.getfield 15, 3) := dk_180 0 15 (dk_at dksJ2_charAt_0 6 rfl rfl)
theorem dJ2_charAt_9 : decode cJ2_charAt 9 = .ok (.astore_n 3, 1) := dk_78 (dk_at dksJ2_charAt_0 9 rfl rfl)
theorem dJ2_charAt_10 : decode cJ2_charAt 10 = .ok (.aload_n 0, 1) := dk_42 (dk_at dksJ2_charAt_0 10 rfl rfl)
theorem dJ2_charAt_11 : decode cJ2_charAt 11 = .ok (.getfield 79, 3) := dk_180 0 79 (dk_at dksJ2_charAt_0 11 rfl rfl)
theorem dJ2_charAt_14 : decode cJ2_charAt 14 = .ok (.aload_n 3, 1) := dk_45 (dk_at dksJ2_charAt_0 14 rfl rfl)
theorem dJ2_charAt_15 : decode cJ2_charAt 15 = .ok (.arraylength, 1) := dk_190 (dk_at dksJ2_charAt_0 15 rfl rfl)
theorem dJ2_charAt_16 : decode cJ2_charAt 16 = .ok (.iload_n 2, 1) := dk_28 (dk_at dksJ2_charAt_0 16 rfl rfl)
theorem dJ2_charAt_17 : decode cJ2_charAt 17 = .ok (.ishr, 1) := dk_122 (dk_at dksJ2_charAt_0 17 rfl rfl)
theorem dJ2_charAt_18 : decode cJ2_charAt 18 = .ok (.invokestatic 138, 3) := dk_184 0 138 (dk_at dksJ2_charAt_0 18 rfl rfl)
theorem dJ2_charAt_21 : decode cJ2_charAt 21 = .ok (.istore 4, 2) := dk_54 4 (dk_at dksJ2_charAt_0 21 rfl rfl)
theorem dJ2_charAt_23 : decode cJ2_charAt 23 = .ok (.iload_n 1, 1) := dk_27 (dk_at dksJ2_charAt_0 23 rfl rfl)
theorem dJ2_charAt_24 : decode cJ2_charAt 24 = .ok (.iload 4, 2) := dk_21 4 (dk_at dksJ2_charAt_1 0 rfl rfl)
theorem dJ2_charAt_26 : decode cJ2_charAt 26 = .ok (.invokestatic 144, 3) := dk_184 0 144 (dk_at dksJ2_charAt_1 2 rfl rfl)
theorem dJ2_charAt_29 : decode cJ2_charAt 29 = .ok (.iload_n 2, 1) := dk_28 (dk_at dksJ2_charAt_1 5 rfl rfl)
theorem dJ2_charAt_30 : decode cJ2_charAt 30 = .ok (.ifCond .ne 12, 3) := dk_154 0 12 (dk_at dksJ2_charAt_1 6 rfl rfl)
theorem dJ2_charAt_33 : decode cJ2_charAt 33 = .ok (.aload_n 3, 1) := dk_45 (dk_at dksJ2_charAt_1 9 rfl rfl)
theorem dJ2_charAt_34 : decode cJ2_charAt 34 = .ok (.iload_n 1, 1) := dk_27 (dk_at dksJ2_charAt_1 10 rfl rfl)
theorem dJ2_charAt_35 : decode cJ2_charAt 35 = .ok (.baload, 1) := dk_51 (dk_at dksJ2_charAt_1 11 rfl rfl)
theorem dJ2_charAt_36 : decode cJ2_charAt 36 = .ok (.sipush 255, 3) := dk_17 0 255 (dk_at dksJ2_charAt_1 12 rfl rfl)
theorem dJ2_charAt_39 : decode cJ2_charAt 39 = .ok (.iand, 1) := dk_126 (dk_at dksJ2_charAt_1 15 rfl rfl)
theorem dJ2_charAt_40 : decode cJ2_charAt 40 = .ok (.i2c, 1) := dk_146 (dk_at dksJ2_charAt_1 16 rfl rfl)
theorem dJ2_charAt_41 : decode cJ2_charAt 41 = .ok (.ireturn, 1) := dk_172 (dk_at dksJ2_charAt_1 17 rfl rfl)
theorem dJ2_charAt_42 : decode cJ2_charAt 42 = .ok (.aload_n 3, 1) := dk_45 (dk_at dksJ2_charAt_1 18 rfl rfl)
theorem dJ2_charAt_43 : decode cJ2_charAt 43 = .ok (.iload_n 1, 1) := dk_27 (dk_at dksJ2_charAt_1 19 rfl rfl)
theorem dJ2_charAt_44 : decode cJ2_charAt 44 = .ok (.invokestatic 148, 3) := dk_184 0 148 (dk_at dksJ2_charAt_1 20 rfl rfl)
theorem dJ2_charAt_47 : decode cJ2_charAt 47 = .ok (.ireturn, 1) := dk_172 (dk_at dksJ2_charAt_1 23 rfl rfl)
abbrev cJ2_append_3 : ByteArray := prog_10_method_31_code
def yJ2_append_3 : MethodName := ⟨RJ2, "append", "(C)Ljava/lang/AbstractStringBuilder;"⟩
def dkwJ2_append_3_3 : List UInt8 := [181, 0, 79, 27, 184, 0, 197, 42, 176]
abbrev dktJ2_append_3_3 : List UInt8 := dkwJ2_append_3_3 ++ []
def dkwJ2_append_3_2 : List UInt8 := [182, 0, 83, 153, 0, 7, 42, 182, 0, 195, 42, 180, 0, 15, 42, 89, 180, 0, 79, 90, 4, 96]
abbrev dktJ2_append_3_2 : List UInt8 := dkwJ2_append_3_2 ++ dktJ2_append_3_3
def dkwJ2_append_3_1 : List UInt8 := [42, 180, 0, 15, 42, 89, 180, 0, 79, 90, 4, 96, 181, 0, 79, 27, 145, 84, 167, 0, 33, 42]
abbrev dktJ2_append_3_1 : List UInt8 := dkwJ2_append_3_1 ++ dktJ2_append_3_2
def dkwJ2_append_3_0 : List UInt8 := [42, 42, 180, 0, 79, 4, 96, 182, 0, 100, 42, 182, 0, 83, 153, 0, 31, 27, 184, 0, 191, 153, 0, 24]
abbrev dktJ2_append_3_0 : List UInt8 := dkwJ2_append_3_0 ++ dktJ2_append_3_1
theorem dksJ2_append_3_0 : cJ2_append_3.data.toList.drop 0 = dktJ2_append_3_0 := by decide +kernel
theorem dksJ2_append_3_1 : cJ2_append_3.data.toList.drop 24 = dktJ2_append_3_1 := dk_seg dksJ2_append_3_0 24 rfl rfl
theorem dksJ2_append_3_2 : cJ2_append_3.data.toList.drop 46 = dktJ2_append_3_2 := dk_seg dksJ2_append_3_1 22 rfl rfl
theorem dksJ2_append_3_3 : cJ2_append_3.data.toList.drop 68 = dktJ2_append_3_3 := dk_seg dksJ2_append_3_2 22 rfl rfl
theorem dJ2_append_3_0 : decode cJ2_append_3 0 = .ok (.aload_n 0, 1) := dk_42 (dk_at dksJ2_append_3_0 0 rfl rfl)
theorem dJ2_append_3_1 : decode cJ2_append_3 1 = .ok (.aload_n 0, 1) := dk_42 (dk_at dksJ2_append_3_0 1 rfl rfl)
theorem dJ2_append_3_2 : decode cJ2_append_3 2 = .ok (.getfield 79, 3) := dk_180 0 79 (dk_at dksJ2_append_3_0 2 rfl rfl)
theorem dJ2_append_3_5 : decode cJ2_append_3 5 = .ok (.iconst 1, 1) := dk_4 (dk_at dksJ2_append_3_0 5 rfl rfl)
theorem dJ2_append_3_6 : decode cJ2_append_3 6 = .ok (.iadd, 1) := dk_96 (dk_at dksJ2_append_3_0 6 rfl rfl)
theorem dJ2_append_3_7 : decode cJ2_append_3 7 = .ok (.invokevirtual 100, 3) := dk_182 0 100 (dk_at dksJ2_append_3_0 7 rfl rfl)
theorem dJ2_append_3_10 : decode cJ2_append_3 10 = .ok (.aload_n 0, 1) := dk_42 (dk_at dksJ2_append_3_0 10 rfl rfl)
theorem dJ2_append_3_11 : decode cJ2_append_3 11 = .ok (.invokevirtual 83, 3) := dk_182 0 83 (dk_at dksJ2_append_3_0 11 rfl rfl)
theorem dJ2_append_3_14 : decode cJ2_append_3 14 = .ok (.ifCond .eq 31, 3) := dk_153 0 31 (dk_at dksJ2_append_3_0 14 rfl rfl)
theorem dJ2_append_3_17 : decode cJ2_append_3 17 = .ok (.iload_n 1, 1) := dk_27 (dk_at dksJ2_append_3_0 17 rfl rfl)
theorem dJ2_append_3_18 : decode cJ2_append_3 18 = .ok (.invokestatic 191, 3) := dk_184 0 191 (dk_at dksJ2_append_3_0 18 rfl rfl)
theorem dJ2_append_3_21 : decode cJ2_append_3 21 = .ok (.ifCond .eq 24, 3) := dk_153 0 24 (dk_at dksJ2_append_3_0 21 rfl rfl)
theorem dJ2_append_3_24 : decode cJ2_append_3 24 = .ok (.aload_n 0, 1) := dk_42 (dk_at dksJ2_append_3_1 0 rfl rfl)
theorem dJ2_append_3_25 : decode cJ2_append_3 25 = .ok (.getfield 15, 3) := dk_180 0 15 (dk_at dksJ2_append_3_1 1 rfl rfl)
theorem dJ2_append_3_28 : decode cJ2_append_3 28 = .ok (.aload_n 0, 1) := dk_42 (dk_at dksJ2_append_3_1 4 rfl rfl)
theorem dJ2_append_3_29 : decode cJ2_append_3 29 = .ok (.dup, 1) := dk_89 (dk_at dksJ2_append_3_1 5 rfl rfl)
theorem dJ2_append_3_30 : decode cJ2_append_3 30 = .ok (.getfield 79, 3) := dk_180 0 79 (dk_at dksJ2_append_3_1 6 rfl rfl)
theorem dJ2_append_3_33 : decode cJ2_append_3 33 = .ok (.dup_x1, 1) := dk_90 (dk_at dksJ2_append_3_1 9 rfl rfl)
theorem dJ2_append_3_34 : decode cJ2_append_3 34 = .ok (.iconst 1, 1) := dk_4 (dk_at dksJ2_append_3_1 10 rfl rfl)
theorem dJ2_append_3_35 : decode cJ2_append_3 35 = .ok (.iadd, 1) := dk_96 (dk_at dksJ2_append_3_1 11 rfl rfl)
theorem dJ2_append_3_36 : decode cJ2_append_3 36 = .ok (.putfield 79, 3) := dk_181 0 79 (dk_at dksJ2_append_3_1 12 rfl rfl)
theorem dJ2_append_3_39 : decode cJ2_append_3 39 = .ok (.iload_n 1, 1) := dk_27 (dk_at dksJ2_append_3_1 15 rfl rfl)
theorem dJ2_append_3_40 : decode cJ2_append_3 40 = .ok (.i2b, 1) := dk_145 (dk_at dksJ2_append_3_1 16 rfl rfl)
theorem dJ2_append_3_41 : decode cJ2_append_3 41 = .ok (.bastore, 1) := dk_84 (dk_at dksJ2_append_3_1 17 rfl rfl)
theorem dJ2_append_3_42 : decode cJ2_append_3 42 = .ok (.goto 33, 3) := dk_167 0 33 (dk_at dksJ2_append_3_1 18 rfl rfl)
theorem dJ2_append_3_45 : decode cJ2_append_3 45 = .ok (.aload_n 0, 1) := dk_42 (dk_at dksJ2_append_3_1 21 rfl rfl)
theorem dJ2_append_3_46 : decode cJ2_append_3 46 = .ok (.invokevirtual 83, 3) := dk_182 0 83 (dk_at dksJ2_append_3_2 0 rfl rfl)
theorem dJ2_append_3_49 : decode cJ2_append_3 49 = .ok (.ifCond .eq 7, 3) := dk_153 0 7 (dk_at dksJ2_append_3_2 3 rfl rfl)
theorem dJ2_append_3_52 : decode cJ2_append_3 52 = .ok (.aload_n 0, 1) := dk_42 (dk_at dksJ2_append_3_2 6 rfl rfl)
theorem dJ2_append_3_53 : decode cJ2_append_3 53 = .ok (.invokevirtual 195, 3) := dk_182 0 195 (dk_at dksJ2_append_3_2 7 rfl rfl)
theorem dJ2_append_3_56 : decode cJ2_append_3 56 = .ok (.aload_n 0, 1) := dk_42 (dk_at dksJ2_append_3_2 10 rfl rfl)
theorem dJ2_append_3_57 : decode cJ2_append_3 57 = .ok (.getfield 15, 3) := dk_180 0 15 (dk_at dksJ2_append_3_2 11 rfl rfl)
theorem dJ2_append_3_60 : decode cJ2_append_3 60 = .ok (.aload_n 0, 1) := dk_42 (dk_at dksJ2_append_3_2 14 rfl rfl)
theorem dJ2_append_3_61 : decode cJ2_append_3 61 = .ok (.dup, 1) := dk_89 (dk_at dksJ2_append_3_2 15 rfl rfl)
theorem dJ2_append_3_62 : decode cJ2_append_3 62 = .ok (.getfield 79, 3) := dk_180 0 79 (dk_at dksJ2_append_3_2 16 rfl rfl)
theorem dJ2_append_3_65 : decode cJ2_append_3 65 = .ok (.dup_x1, 1) := dk_90 (dk_at dksJ2_append_3_2 19 rfl rfl)
theorem dJ2_append_3_66 : decode cJ2_append_3 66 = .ok (.iconst 1, 1) := dk_4 (dk_at dksJ2_append_3_2 20 rfl rfl)
theorem dJ2_append_3_67 : decode cJ2_append_3 67 = .ok (.iadd, 1) := dk_96 (dk_at dksJ2_append_3_2 21 rfl rfl)
theorem dJ2_append_3_68 : decode cJ2_append_3 68 = .ok (.putfield 79, 3) := dk_181 0 79 (dk_at dksJ2_append_3_3 0 rfl rfl)
theorem dJ2_append_3_71 : decode cJ2_append_3 71 = .ok (.iload_n 1, 1) := dk_27 (dk_at dksJ2_append_3_3 3 rfl rfl)
theorem dJ2_append_3_72 : decode cJ2_append_3 72 = .ok (.invokestatic 197, 3) := dk_184 0 197 (dk_at dksJ2_append_3_3 4 rfl rfl)
theorem dJ2_append_3_75 : decode cJ2_append_3 75 = .ok (.aload_n 0, 1) := dk_42 (dk_at dksJ2_append_3_3 7 rfl rfl)
theorem dJ2_append_3_76 : decode cJ2_append_3 76 = .ok (.areturn, 1) := dk_176 (dk_at dksJ2_append_3_3 8 rfl rfl)
theorem q98 : (Jvm.Cond.initialized "java/lang/AbstractStringBuilder") ∈ lw_all := lw_g (lw_at lw_m1 5 rfl) rfl
theorem q221 : (Jvm.Cond.instanceMethod ({ cls := "java/lang/AbstractStringBuilder", name := "<init>", desc := "(I)V" } : Jvm.MethodName)) ∈ lw_all := lw_g (lw_at lw_m1 128 rfl) rfl
theorem q222 : (Jvm.Cond.code ({ cls := "java/lang/AbstractStringBuilder", name := "<init>", desc := "(I)V" } : Jvm.MethodName) prog_10_method_2_code (2 : Nat) (Option.none : Option Jvm.ClassFile.FieldType)) ∈ lw_all := lw_g (lw_at lw_m1 129 rfl) rfl
theorem q223 : (Jvm.Cond.methodLink "java/lang/AbstractStringBuilder" (3 : Nat) ({ cls := "java/lang/Object", name := "<init>", desc := "()V" } : Jvm.MethodName)) ∈ lw_all := lw_g (lw_at lw_m1 130 rfl) rfl
theorem q224 : (Jvm.Cond.fieldLink "java/lang/AbstractStringBuilder" (18 : Nat) "java/lang/String" "COMPACT_STRINGS" "Z") ∈ lw_all := lw_g (lw_at lw_m1 131 rfl) rfl
theorem q226 : (Jvm.Cond.methodLink "java/lang/AbstractStringBuilder" (26 : Nat) ({ cls := "java/lang/StringUTF16", name := "newBytesFor", desc := "(I)[B" } : Jvm.MethodName)) ∈ lw_all := lw_g (lw_at lw_m1 133 rfl) rfl
theorem q233 : (Jvm.Cond.fieldLink "java/lang/AbstractStringBuilder" (15 : Nat) "java/lang/AbstractStringBuilder" "value" "[B") ∈ lw_all := lw_g (lw_at lw_m1 140 rfl) rfl
theorem q234 : (Jvm.Cond.fieldLink "java/lang/AbstractStringBuilder" (22 : Nat) "java/lang/AbstractStringBuilder" "coder" "B") ∈ lw_all := lw_g (lw_at lw_m1 141 rfl) rfl
theorem q235 : (Jvm.Cond.fieldLink "java/lang/AbstractStringBuilder" (73 : Nat) "java/lang/AbstractStringBuilder" "maybeLatin1" "Z") ∈ lw_all := lw_g (lw_at lw_m1 142 rfl) rfl
theorem q237 : (Jvm.Cond.fieldLink "java/lang/AbstractStringBuilder" (79 : Nat) "java/lang/AbstractStringBuilder" "count" "I") ∈ lw_all := lw_g (lw_at lw_m1 144 rfl) rfl
theorem q239 : (Jvm.Cond.soleField "java/lang/AbstractStringBuilder" "value") ∈ lw_all := lw_g (lw_at lw_m1 146 rfl) rfl
theorem q241 : (Jvm.Cond.soleField "java/lang/AbstractStringBuilder" "coder") ∈ lw_all := lw_g (lw_at lw_m1 148 rfl) rfl
theorem q243 : (Jvm.Cond.soleField "java/lang/AbstractStringBuilder" "maybeLatin1") ∈ lw_all := lw_g (lw_at lw_m1 150 rfl) rfl
theorem q245 : (Jvm.Cond.soleField "java/lang/AbstractStringBuilder" "count") ∈ lw_all := lw_g (lw_at lw_m1 152 rfl) rfl
theorem q562 : (Jvm.Cond.instanceMethod ({ cls := "java/lang/AbstractStringBuilder", name := "length", desc := "()I" } : Jvm.MethodName)) ∈ lw_all := lw_g (lw_at lw_m2 229 rfl) rfl
theorem q563 : (Jvm.Cond.code ({ cls := "java/lang/AbstractStringBuilder", name := "length", desc := "()I" } : Jvm.MethodName) prog_10_method_6_code (1 : Nat) (Option.some Jvm.ClassFile.FieldType.int)) ∈ lw_all := lw_g (lw_at lw_m2 230 rfl) rfl
theorem q569 : (Jvm.Cond.instanceMethod ({ cls := "java/lang/AbstractStringBuilder", name := "setLength", desc := "(I)V" } : Jvm.MethodName)) ∈ lw_all := lw_g (lw_at lw_m2 236 rfl) rfl
theorem q570 : (Jvm.Cond.code ({ cls := "java/lang/AbstractStringBuilder", name := "setLength", desc := "(I)V" } : Jvm.MethodName) prog_10_method_13_code (2 : Nat) (Option.none : Option Jvm.ClassFile.FieldType)) ∈ lw_all := lw_g (lw_at lw_m2 237 rfl) rfl
theorem q571 : (Jvm.Cond.classLink "java/lang/AbstractStringBuilder" (129 : Nat) "java/lang/StringIndexOutOfBoundsException") ∈ lw_all := lw_g (lw_at lw_m2 238 rfl) rfl
theorem q573 : (Jvm.Cond.methodLink "java/lang/AbstractStringBuilder" (131 : Nat) ({ cls := "java/lang/StringIndexOutOfBoundsException", name := "<init>", desc := "(I)V" } : Jvm.MethodName)) ∈ lw_all := lw_g (lw_at lw_m3 0 rfl) rfl
theorem q586 : (Jvm.Cond.instanceMethod ({ cls := "java/lang/AbstractStringBuilder", name := "append", desc := "(Ljava/lang/String;)Ljava/lang/AbstractStringBuilder;" } : Jvm.MethodName)) ∈ lw_all := lw_g (lw_at lw_m3 13 rfl) rfl
theorem q587 : (Jvm.Cond.code ({ cls := "java/lang/AbstractStringBuilder", name := "append", desc := "(Ljava/lang/String;)Ljava/lang/AbstractStringBuilder;" } : Jvm.MethodName) prog_10_method_22_code (3 : Nat) (Option.some (Jvm.ClassFile.FieldType.object "java/lang/AbstractStringBuilder"))) ∈ lw_all := lw_g (lw_at lw_m3 14 rfl) rfl
theorem q588 : (Jvm.Cond.methodLink "java/lang/AbstractStringBuilder" (204 : Nat) ({ cls := "java/lang/AbstractStringBuilder", name := "appendNull", desc := "()Ljava/lang/AbstractStringBuilder;" } : Jvm.MethodName)) ∈ lw_all := lw_g (lw_at lw_m3 15 rfl) rfl
theorem q589 : (Jvm.Cond.privateMethod ({ cls := "java/lang/AbstractStringBuilder", name := "appendNull", desc := "()Ljava/lang/AbstractStringBuilder;" } : Jvm.MethodName)) ∈ lw_tbl := lw_at lw_m3 16 rfl
theorem q590 : (Jvm.Cond.instanceMethod ({ cls := "java/lang/AbstractStringBuilder", name := "appendNull", desc := "()Ljava/lang/AbstractStringBuilder;" } : Jvm.MethodName)) ∈ lw_all := lw_g (lw_at lw_m3 17 rfl) rfl
theorem q591 : (Jvm.Cond.code ({ cls := "java/lang/AbstractStringBuilder", name := "appendNull", desc := "()Ljava/lang/AbstractStringBuilder;" } : Jvm.MethodName) prog_10_method_26_code (3 : Nat) (Option.some (Jvm.ClassFile.FieldType.object "java/lang/AbstractStringBuilder"))) ∈ lw_all := lw_g (lw_at lw_m3 18 rfl) rfl
theorem q592 : (Jvm.Cond.methodLink "java/lang/AbstractStringBuilder" (100 : Nat) ({ cls := "java/lang/AbstractStringBuilder", name := "ensureCapacityInternal", desc := "(I)V" } : Jvm.MethodName)) ∈ lw_all := lw_g (lw_at lw_m3 19 rfl) rfl
theorem q593 : (Jvm.Cond.privateMethod ({ cls := "java/lang/AbstractStringBuilder", name := "ensureCapacityInternal", desc := "(I)V" } : Jvm.MethodName)) ∈ lw_tbl := lw_at lw_m3 20 rfl
theorem q594 : (Jvm.Cond.instanceMethod ({ cls := "java/lang/AbstractStringBuilder", name := "ensureCapacityInternal", desc := "(I)V" } : Jvm.MethodName)) ∈ lw_all := lw_g (lw_at lw_m3 21 rfl) rfl
theorem q595 : (Jvm.Cond.code ({ cls := "java/lang/AbstractStringBuilder", name := "ensureCapacityInternal", desc := "(I)V" } : Jvm.MethodName) prog_10_method_9_code (3 : Nat) (Option.none : Option Jvm.ClassFile.FieldType)) ∈ lw_all := lw_g (lw_at lw_m3 22 rfl) rfl
theorem q596 : (Jvm.Cond.methodLink "java/lang/AbstractStringBuilder" (104 : Nat) ({ cls := "java/lang/AbstractStringBuilder", name := "newCapacity", desc := "(I)I" } : Jvm.MethodName)) ∈ lw_all := lw_g (lw_at lw_m3 23 rfl) rfl
theorem q597 : (Jvm.Cond.privateMethod ({ cls := "java/lang/AbstractStringBuilder", name := "newCapacity", desc := "(I)I" } : Jvm.MethodName)) ∈ lw_tbl := lw_at lw_m3 24 rfl
theorem q598 : (Jvm.Cond.instanceMethod ({ cls := "java/lang/AbstractStringBuilder", name := "newCapacity", desc := "(I)I" } : Jvm.MethodName)) ∈ lw_all := lw_g (lw_at lw_m3 25 rfl) rfl
theorem q599 : (Jvm.Cond.code ({ cls := "java/lang/AbstractStringBuilder", name := "newCapacity", desc := "(I)I" } : Jvm.MethodName) prog_10_method_10_code (6 : Nat) (Option.some Jvm.ClassFile.FieldType.int)) ∈ lw_all := lw_g (lw_at lw_m3 26 rfl) rfl
theorem q600 : (Jvm.Cond.methodLink "java/lang/AbstractStringBuilder" (114 : Nat) ({ cls := "jdk/internal/util/ArraysSupport", name := "newLength", desc := "(III)I" } : Jvm.MethodName)) ∈ lw_all := lw_g (lw_at lw_m3 27 rfl) rfl
theorem q608 : (Jvm.Cond.constant "java/lang/AbstractStringBuilder" (39 : Nat) (2147483647 : Int32)) ∈ lw_all := lw_g (lw_at lw_m3 35 rfl) rfl
theorem q609 : (Jvm.Cond.methodLink "java/lang/AbstractStringBuilder" (108 : Nat) ({ cls := "java/util/Arrays", name := "copyOf", desc := "([BI)[B" } : Jvm.MethodName)) ∈ lw_all := lw_g (lw_at lw_m3 36 rfl) rfl
theorem q617 : (Jvm.Cond.methodLink "java/lang/AbstractStringBuilder" (83 : Nat) ({ cls := "java/lang/AbstractStringBuilder", name := "isLatin1", desc := "()Z" } : Jvm.MethodName)) ∈ lw_all := lw_g (lw_at lw_m3 44 rfl) rfl
theorem q618 : (Jvm.Cond.instanceMethod ({ cls := "java/lang/AbstractStringBuilder", name := "isLatin1", desc := "()Z" } : Jvm.MethodName)) ∈ lw_all := lw_g (lw_at lw_m3 45 rfl) rfl
theorem q619 : (Jvm.Cond.sameMethod "java/lang/AbstractStringBuilder" "java/lang/AbstractStringBuilder" "isLatin1" "()Z") ∈ lw_all := lw_g (lw_at lw_m3 46 rfl) rfl
theorem q621 : (Jvm.Cond.code ({ cls := "java/lang/AbstractStringBuilder", name := "isLatin1", desc := "()Z" } : Jvm.MethodName) prog_10_method_68_code (1 : Nat) (Option.some Jvm.ClassFile.FieldType.boolean)) ∈ lw_all := lw_g (lw_at lw_m3 48 rfl) rfl
theorem q622 : (Jvm.Cond.methodLink "java/lang/AbstractStringBuilder" (226 : Nat) ({ cls := "java/lang/StringUTF16", name := "putCharsAt", desc := "([BICCCC)I" } : Jvm.MethodName)) ∈ lw_all := lw_g (lw_at lw_m3 49 rfl) rfl
theorem q648 : (Jvm.Cond.methodLink "java/lang/AbstractStringBuilder" (32 : Nat) ({ cls := "java/lang/String", name := "length", desc := "()I" } : Jvm.MethodName)) ∈ lw_all := lw_g (lw_at lw_m3 75 rfl) rfl
theorem q657 : (Jvm.Cond.methodLink "java/lang/AbstractStringBuilder" (208 : Nat) ({ cls := "java/lang/AbstractStringBuilder", name := "putStringAt", desc := "(ILjava/lang/String;)V" } : Jvm.MethodName)) ∈ lw_all := lw_g (lw_at lw_m3 84 rfl) rfl
theorem q658 : (Jvm.Cond.privateMethod ({ cls := "java/lang/AbstractStringBuilder", name := "putStringAt", desc := "(ILjava/lang/String;)V" } : Jvm.MethodName)) ∈ lw_tbl := lw_at lw_m3 85 rfl
theorem q659 : (Jvm.Cond.instanceMethod ({ cls := "java/lang/AbstractStringBuilder", name := "putStringAt", desc := "(ILjava/lang/String;)V" } : Jvm.MethodName)) ∈ lw_all := lw_g (lw_at lw_m3 86 rfl) rfl
theorem q660 : (Jvm.Cond.code ({ cls := "java/lang/AbstractStringBuilder", name := "putStringAt", desc := "(ILjava/lang/String;)V" } : Jvm.MethodName) prog_10_method_73_code (3 : Nat) (Option.none : Option Jvm.ClassFile.FieldType)) ∈ lw_all := lw_g (lw_at lw_m3 87 rfl) rfl
theorem q661 : (Jvm.Cond.methodLink "java/lang/AbstractStringBuilder" (397 : Nat) ({ cls := "java/lang/AbstractStringBuilder", name := "inflateIfNeededFor", desc := "(Ljava/lang/String;)V" } : Jvm.MethodName)) ∈ lw_all := lw_g (lw_at lw_m3 88 rfl) rfl
theorem q662 : (Jvm.Cond.privateMethod ({ cls := "java/lang/AbstractStringBuilder", name := "inflateIfNeededFor", desc := "(Ljava/lang/String;)V" } : Jvm.MethodName)) ∈ lw_tbl := lw_at lw_m3 89 rfl
theorem q663 : (Jvm.Cond.instanceMethod ({ cls := "java/lang/AbstractStringBuilder", name := "inflateIfNeededFor", desc := "(Ljava/lang/String;)V" } : Jvm.MethodName)) ∈ lw_all := lw_g (lw_at lw_m3 90 rfl) rfl
theorem q664 : (Jvm.Cond.code ({ cls := "java/lang/AbstractStringBuilder", name := "inflateIfNeededFor", desc := "(Ljava/lang/String;)V" } : Jvm.MethodName) prog_10_method_71_code (2 : Nat) (Option.none : Option Jvm.ClassFile.FieldType)) ∈ lw_all := lw_g (lw_at lw_m3 91 rfl) rfl
theorem q665 : (Jvm.Cond.methodLink "java/lang/AbstractStringBuilder" (40 : Nat) ({ cls := "java/lang/String", name := "coder", desc := "()B" } : Jvm.MethodName)) ∈ lw_all := lw_g (lw_at lw_m3 92 rfl) rfl
theorem q666 : (Jvm.Cond.methodLink "java/lang/AbstractStringBuilder" (195 : Nat) ({ cls := "java/lang/AbstractStringBuilder", name := "inflate", desc := "()V" } : Jvm.MethodName)) ∈ lw_all := lw_g (lw_at lw_m3 93 rfl) rfl
theorem q667 : (Jvm.Cond.privateMethod ({ cls := "java/lang/AbstractStringBuilder", name := "inflate", desc := "()V" } : Jvm.MethodName)) ∈ lw_tbl := lw_at lw_m3 94 rfl
theorem q668 : (Jvm.Cond.instanceMethod ({ cls := "java/lang/AbstractStringBuilder", name := "inflate", desc := "()V" } : Jvm.MethodName)) ∈ lw_all := lw_g (lw_at lw_m3 95 rfl) rfl
theorem q669 : (Jvm.Cond.code ({ cls := "java/lang/AbstractStringBuilder", name := "inflate", desc := "()V" } : Jvm.MethodName) prog_10_method_11_code (2 : Nat) (Option.none : Option Jvm.ClassFile.FieldType)) ∈ lw_all := lw_g (lw_at lw_m3 96 rfl) rfl
theorem q670 : (Jvm.Cond.methodLink "java/lang/AbstractStringBuilder" (125 : Nat) ({ cls := "java/lang/StringLatin1", name := "inflate", desc := "([BI[BII)V" } : Jvm.MethodName)) ∈ lw_all := lw_g (lw_at lw_m3 97 rfl) rfl
theorem q685 : (Jvm.Cond.methodLink "java/lang/AbstractStringBuilder" (399 : Nat) ({ cls := "java/lang/String", name := "getBytes", desc := "([BIB)V" } : Jvm.MethodName)) ∈ lw_all := lw_g (lw_at lw_m3 112 rfl) rfl
theorem q696 : (Jvm.Cond.instanceMethod ({ cls := "java/lang/AbstractStringBuilder", name := "append", desc := "(I)Ljava/lang/AbstractStringBuilder;" } : Jvm.MethodName)) ∈ lw_all := lw_g (lw_at lw_m3 123 rfl) rfl
theorem q697 : (Jvm.Cond.code ({ cls := "java/lang/AbstractStringBuilder", name := "append", desc := "(I)Ljava/lang/AbstractStringBuilder;" } : Jvm.MethodName) prog_10_method_32_code (4 : Nat) (Option.some (Jvm.ClassFile.FieldType.object "java/lang/AbstractStringBuilder"))) ∈ lw_all := lw_g (lw_at lw_m3 124 rfl) rfl
theorem q698 : (Jvm.Cond.methodLink "java/lang/AbstractStringBuilder" (245 : Nat) ({ cls := "java/lang/Integer", name := "stringSize", desc := "(I)I" } : Jvm.MethodName)) ∈ lw_all := lw_g (lw_at lw_m3 125 rfl) rfl
theorem q701 : (Jvm.Cond.methodLink "java/lang/AbstractStringBuilder" (248 : Nat) ({ cls := "java/lang/Integer", name := "getChars", desc := "(II[B)I" } : Jvm.MethodName)) ∈ lw_all := lw_g (lw_at lw_m3 128 rfl) rfl
theorem q708 : (Jvm.Cond.methodLink "java/lang/AbstractStringBuilder" (251 : Nat) ({ cls := "java/lang/StringUTF16", name := "getChars", desc := "(III[B)I" } : Jvm.MethodName)) ∈ lw_all := lw_g (lw_at lw_m3 135 rfl) rfl
theorem q730 : (Jvm.Cond.instanceMethod ({ cls := "java/lang/AbstractStringBuilder", name := "getValue", desc := "()[B" } : Jvm.MethodName)) ∈ lw_all := lw_g (lw_at lw_m3 157 rfl) rfl
theorem q731 : (Jvm.Cond.sameMethod "java/lang/AbstractStringBuilder" "java/lang/AbstractStringBuilder" "getValue" "()[B") ∈ lw_all := lw_g (lw_at lw_m3 158 rfl) rfl
theorem q733 : (Jvm.Cond.code ({ cls := "java/lang/AbstractStringBuilder", name := "getValue", desc := "()[B" } : Jvm.MethodName) prog_10_method_64_code (1 : Nat) (Option.some (Jvm.ClassFile.FieldType.array Jvm.ClassFile.FieldType.byte))) ∈ lw_all := lw_g (lw_at lw_m3 160 rfl) rfl
theorem q803 : (Jvm.Cond.methodLink "java/lang/AbstractStringBuilder" (133 : Nat) ({ cls := "java/lang/StringLatin1", name := "fillNull", desc := "([BII)V" } : Jvm.MethodName)) ∈ lw_all := lw_g (lw_at lw_m3 230 rfl) rfl
theorem q838 : (Jvm.Cond.methodLink "java/lang/AbstractStringBuilder" (137 : Nat) ({ cls := "java/lang/StringUTF16", name := "fillNull", desc := "([BII)V" } : Jvm.MethodName)) ∈ lw_all := lw_g (lw_at lw_m4 25 rfl) rfl
theorem q905 : (Jvm.Cond.instanceMethod ({ cls := "java/lang/AbstractStringBuilder", name := "charAt", desc := "(I)C" } : Jvm.MethodName)) ∈ lw_all := lw_g (lw_at lw_m4 92 rfl) rfl
theorem q906 : (Jvm.Cond.code ({ cls := "java/lang/AbstractStringBuilder", name := "charAt", desc := "(I)C" } : Jvm.MethodName) prog_10_method_14_code (5 : Nat) (Option.some Jvm.ClassFile.FieldType.char)) ∈ lw_all := lw_g (lw_at lw_m4 93 rfl) rfl
theorem q907 : (Jvm.Cond.methodLink "java/lang/AbstractStringBuilder" (138 : Nat) ({ cls := "java/lang/Math", name := "min", desc := "(II)I" } : Jvm.MethodName)) ∈ lw_all := lw_g (lw_at lw_m4 94 rfl) rfl
theorem q908 : (Jvm.Cond.methodLink "java/lang/AbstractStringBuilder" (144 : Nat) ({ cls := "java/lang/String", name := "checkIndex", desc := "(II)V" } : Jvm.MethodName)) ∈ lw_all := lw_g (lw_at lw_m4 95 rfl) rfl
theorem q914 : (Jvm.Cond.methodLink "java/lang/AbstractStringBuilder" (148 : Nat) ({ cls := "java/lang/StringUTF16", name := "getChar", desc := "([BI)C" } : Jvm.MethodName)) ∈ lw_all := lw_g (lw_at lw_m4 101 rfl) rfl
theorem q1246 : (Jvm.Cond.instanceMethod ({ cls := "java/lang/AbstractStringBuilder", name := "append", desc := "(C)Ljava/lang/AbstractStringBuilder;" } : Jvm.MethodName)) ∈ lw_all := lw_g (lw_at lw_m5 193 rfl) rfl
theorem q1247 : (Jvm.Cond.code ({ cls := "java/lang/AbstractStringBuilder", name := "append", desc := "(C)Ljava/lang/AbstractStringBuilder;" } : Jvm.MethodName) prog_10_method_31_code (2 : Nat) (Option.some (Jvm.ClassFile.FieldType.object "java/lang/AbstractStringBuilder"))) ∈ lw_all := lw_g (lw_at lw_m5 194 rfl) rfl
theorem q1248 : (Jvm.Cond.methodLink "java/lang/AbstractStringBuilder" (191 : Nat) ({ cls := "java/lang/StringLatin1", name := "canEncode", desc := "(C)Z" } : Jvm.MethodName)) ∈ lw_all := lw_g (lw_at lw_m5 195 rfl) rfl
theorem q1251 : (Jvm.Cond.methodLink "java/lang/AbstractStringBuilder" (197 : Nat) ({ cls := "java/lang/StringUTF16", name := "putCharSB", desc := "([BII)V" } : Jvm.MethodName)) ∈ lw_all := lw_g (lw_at lw_m5 198 rfl) rfl
theorem q1789 : (Jvm.Cond.sameMethod "java/lang/AbstractStringBuilder" "java/lang/AbstractStringBuilder" "length" "()I") ∈ lw_all := lw_g (lw_at lw_m8 16 rfl) rfl
theorem q1790 : (Jvm.Cond.sameMethod "java/lang/AbstractStringBuilder" "java/lang/AbstractStringBuilder" "setLength" "(I)V") ∈ lw_all := lw_g (lw_at lw_m8 17 rfl) rfl
theorem q1791 : (Jvm.Cond.sameMethod "java/lang/AbstractStringBuilder" "java/lang/AbstractStringBuilder" "append" "(Ljava/lang/String;)Ljava/lang/AbstractStringBuilder;") ∈ lw_all := lw_g (lw_at lw_m8 18 rfl) rfl
theorem q1792 : (Jvm.Cond.sameMethod "java/lang/AbstractStringBuilder" "java/lang/AbstractStringBuilder" "appendNull" "()Ljava/lang/AbstractStringBuilder;") ∈ lw_all := lw_g (lw_at lw_m8 19 rfl) rfl
theorem q1793 : (Jvm.Cond.sameMethod "java/lang/AbstractStringBuilder" "java/lang/AbstractStringBuilder" "ensureCapacityInternal" "(I)V") ∈ lw_all := lw_g (lw_at lw_m8 20 rfl) rfl
theorem q1794 : (Jvm.Cond.sameMethod "java/lang/AbstractStringBuilder" "java/lang/AbstractStringBuilder" "newCapacity" "(I)I") ∈ lw_all := lw_g (lw_at lw_m8 21 rfl) rfl
theorem q1795 : (Jvm.Cond.sameMethod "java/lang/AbstractStringBuilder" "java/lang/AbstractStringBuilder" "putStringAt" "(ILjava/lang/String;)V") ∈ lw_all := lw_g (lw_at lw_m8 22 rfl) rfl
theorem q1796 : (Jvm.Cond.sameMethod "java/lang/AbstractStringBuilder" "java/lang/AbstractStringBuilder" "inflateIfNeededFor" "(Ljava/lang/String;)V") ∈ lw_all := lw_g (lw_at lw_m8 23 rfl) rfl
theorem q1797 : (Jvm.Cond.sameMethod "java/lang/AbstractStringBuilder" "java/lang/AbstractStringBuilder" "inflate" "()V") ∈ lw_all := lw_g (lw_at lw_m8 24 rfl) rfl
theorem q1798 : (Jvm.Cond.sameMethod "java/lang/AbstractStringBuilder" "java/lang/AbstractStringBuilder" "append" "(I)Ljava/lang/AbstractStringBuilder;") ∈ lw_all := lw_g (lw_at lw_m8 25 rfl) rfl
theorem q1800 : (Jvm.Cond.sameMethod "java/lang/AbstractStringBuilder" "java/lang/AbstractStringBuilder" "charAt" "(I)C") ∈ lw_all := lw_g (lw_at lw_m8 27 rfl) rfl
theorem q1802 : (Jvm.Cond.sameMethod "java/lang/AbstractStringBuilder" "java/lang/AbstractStringBuilder" "append" "(C)Ljava/lang/AbstractStringBuilder;") ∈ lw_all := lw_g (lw_at lw_m8 29 rfl) rfl
/-! java/lang/StringBuilder -/
set_option maxRecDepth 100000
def RJ3 : String := "java/lang/StringBuilder"
def TJ3 : u_T := fun k => match k with
  | 0 => ("java/lang/AbstractStringBuilder", "value", "[B", false)
  | 1 => ("java/lang/AbstractStringBuilder", "coder", "B", false)
  | 2 => ("java/lang/AbstractStringBuilder", "maybeLatin1", "Z", false)
  | _ => ("java/lang/AbstractStringBuilder", "count", "I", false)
def tyJ3 : Nat → FieldType := fun k => match k with
  | 0 => .array .byte
  | 1 => .byte
  | 2 => .boolean
  | _ => .int
abbrev wsJ30 : List Cond := u_ws RJ3 TJ3 4
theorem nmJ3 : ∀ a, a < 4 → ∀ b, b < 4 → a ≠ b → (TJ3 a).2.1 ≠ (TJ3 b).2.1 := by decide +kernel
theorem tyJ3_ok : ∀ k, k < 4 → parseFieldDescriptor (TJ3 k).2.2.1 = some (tyJ3 k) := by decide +kernel
abbrev cJ3_init : ByteArray := prog_27_method_2_code
def yJ3_init : MethodName := ⟨RJ3, "<init>", "(I)V"⟩
def dkwJ3_init_0 : List UInt8 := [42, 27, 183, 0, 1, 177]
abbrev dktJ3_init_0 : List UInt8 := dkwJ3_init_0 ++ []
theorem dksJ3_init_0 : cJ3_init.data.toList.drop 0 = dktJ3_init_0 := by decide +kernel
theorem dJ3_init_0 : decode cJ3_init 0 = .ok (.aload_n 0, 1) := dk_42 (dk_at dksJ3_init_0 0 rfl rfl)
theorem dJ3_init_1 : decode cJ3_init 1 = .ok (.iload_n 1, 1) := dk_27 (dk_at dksJ3_init_0 1 rfl rfl)
theorem dJ3_init_2 : decode cJ3_init 2 = .ok (.invokespecial 1, 3) := dk_183 0 1 (dk_at dksJ3_init_0 2 rfl rfl)
theorem dJ3_init_5 : decode cJ3_init 5 = .ok (.return_, 1) := dk_177 (dk_at dksJ3_init_0 5 rfl rfl)
abbrev cJ3_length : ByteArray := prog_27_method_93_code
def yJ3_length : MethodName := ⟨RJ3, "length", "()I"⟩
theorem dJ3_length_0 : decode cJ3_length 0 = .ok (.aload_n 0, 1) := by decide +kernel
theorem dJ3_length_1 : decode cJ3_length 1 = .ok (.invokespecial 343, 3) := by decide +kernel
theorem dJ3_length_4 : decode cJ3_length 4 = .ok (.ireturn, 1) := by decide +kernel
abbrev cJ3_setLength : ByteArray := prog_27_method_89_code
def yJ3_setLength : MethodName := ⟨RJ3, "setLength", "(I)V"⟩
def dkwJ3_setLength_0 : List UInt8 := [42, 27, 183, 1, 77, 177]
abbrev dktJ3_setLength_0 : List UInt8 := dkwJ3_setLength_0 ++ []
theorem dksJ3_setLength_0 : cJ3_setLength.data.toList.drop 0 = dktJ3_setLength_0 := by decide +kernel
theorem dJ3_setLength_0 : decode cJ3_setLength 0 = .ok (.aload_n 0, 1) := dk_42 (dk_at dksJ3_setLength_0 0 rfl rfl)
theorem dJ3_setLength_1 : decode cJ3_setLength 1 = .ok (.iload_n 1, 1) := dk_27 (dk_at dksJ3_setLength_0 1 rfl rfl)
theorem dJ3_setLength_2 : decode cJ3_setLength 2 = .ok (.invokespecial 333, 3) := dk_183 1 77 (dk_at dksJ3_setLength_0 2 rfl rfl)
theorem dJ3_setLength_5 : decode cJ3_setLength 5 = .ok (.return_, 1) := dk_177 (dk_at dksJ3_setLength_0 5 rfl rfl)
abbrev cJ3_init_2 : ByteArray := prog_27_method_1_code
def yJ3_init_2 : MethodName := ⟨RJ3, "<init>", "()V"⟩
def dkwJ3_init_2_0 : List UInt8 := [42, 16, 16, 183, 0, 1, 177]
abbrev dktJ3_init_2_0 : List UInt8 := dkwJ3_init_2_0 ++ []
theorem dksJ3_init_2_0 : cJ3_init_2.data.toList.drop 0 = dktJ3_init_2_0 := by decide +kernel
theorem dJ3_init_2_0 : decode cJ3_init_2 0 = .ok (.aload_n 0, 1) := dk_42 (dk_at dksJ3_init_2_0 0 rfl rfl)
theorem dJ3_init_2_1 : decode cJ3_init_2 1 = .ok (.bipush 16, 2) := dk_16 16 (dk_at dksJ3_init_2_0 1 rfl rfl)
theorem dJ3_init_2_3 : decode cJ3_init_2 3 = .ok (.invokespecial 1, 3) := dk_183 0 1 (dk_at dksJ3_init_2_0 3 rfl rfl)
theorem dJ3_init_2_6 : decode cJ3_init_2 6 = .ok (.return_, 1) := dk_177 (dk_at dksJ3_init_2_0 6 rfl rfl)
abbrev cJ3_append : ByteArray := prog_27_method_7_code
def yJ3_append : MethodName := ⟨RJ3, "append", "(Ljava/lang/String;)Ljava/lang/StringBuilder;"⟩
def dkwJ3_append_0 : List UInt8 := [42, 43, 183, 0, 29, 87, 42, 176]
abbrev dktJ3_append_0 : List UInt8 := dkwJ3_append_0 ++ []
theorem dksJ3_append_0 : cJ3_append.data.toList.drop 0 = dktJ3_append_0 := by decide +kernel
theorem dJ3_append_0 : decode cJ3_append 0 = .ok (.aload_n 0, 1) := dk_42 (dk_at dksJ3_append_0 0 rfl rfl)
theorem dJ3_append_1 : decode cJ3_append 1 = .ok (.aload_n 1, 1) := dk_43 (dk_at dksJ3_append_0 1 rfl rfl)
theorem dJ3_append_2 : decode cJ3_append 2 = .ok (.invokespecial 29, 3) := dk_183 0 29 (dk_at dksJ3_append_0 2 rfl rfl)
theorem dJ3_append_5 : decode cJ3_append 5 = .ok (.pop, 1) := dk_87 (dk_at dksJ3_append_0 5 rfl rfl)
theorem dJ3_append_6 : decode cJ3_append 6 = .ok (.aload_n 0, 1) := dk_42 (dk_at dksJ3_append_0 6 rfl rfl)
theorem dJ3_append_7 : decode cJ3_append 7 = .ok (.areturn, 1) := dk_176 (dk_at dksJ3_append_0 7 rfl rfl)
abbrev cJ3_append_2 : ByteArray := prog_27_method_15_code
def yJ3_append_2 : MethodName := ⟨RJ3, "append", "(I)Ljava/lang/StringBuilder;"⟩
def dkwJ3_append_2_0 : List UInt8 := [42, 27, 183, 0, 53, 87, 42, 176]
abbrev dktJ3_append_2_0 : List UInt8 := dkwJ3_append_2_0 ++ []
theorem dksJ3_append_2_0 : cJ3_append_2.data.toList.drop 0 = dktJ3_append_2_0 := by decide +kernel
theorem dJ3_append_2_0 : decode cJ3_append_2 0 = .ok (.aload_n 0, 1) := dk_42 (dk_at dksJ3_append_2_0 0 rfl rfl)
theorem dJ3_append_2_1 : decode cJ3_append_2 1 = .ok (.iload_n 1, 1) := dk_27 (dk_at dksJ3_append_2_0 1 rfl rfl)
theorem dJ3_append_2_2 : decode cJ3_append_2 2 = .ok (.invokespecial 53, 3) := dk_183 0 53 (dk_at dksJ3_append_2_0 2 rfl rfl)
theorem dJ3_append_2_5 : decode cJ3_append_2 5 = .ok (.pop, 1) := dk_87 (dk_at dksJ3_append_2_0 5 rfl rfl)
theorem dJ3_append_2_6 : decode cJ3_append_2 6 = .ok (.aload_n 0, 1) := dk_42 (dk_at dksJ3_append_2_0 6 rfl rfl)
theorem dJ3_append_2_7 : decode cJ3_append_2 7 = .ok (.areturn, 1) := dk_176 (dk_at dksJ3_append_2_0 7 rfl rfl)
abbrev cJ3_toString : ByteArray := prog_27_method_42_code
def yJ3_toString : MethodName := ⟨RJ3, "toString", "()Ljava/lang/String;"⟩
def dkwJ3_toString_0 : List UInt8 := [187, 0, 18, 89, 42, 183, 0, 137, 176]
abbrev dktJ3_toString_0 : List UInt8 := dkwJ3_toString_0 ++ []
theorem dksJ3_toString_0 : cJ3_toString.data.toList.drop 0 = dktJ3_toString_0 := by decide +kernel
theorem dJ3_toString_0 : decode cJ3_toString 0 = .ok (.new 18, 3) := dk_187 0 18 (dk_at dksJ3_toString_0 0 rfl rfl)
theorem dJ3_toString_3 : decode cJ3_toString 3 = .ok (.dup, 1) := dk_89 (dk_at dksJ3_toString_0 3 rfl rfl)
theorem dJ3_toString_4 : decode cJ3_toString 4 = .ok (.aload_n 0, 1) := dk_42 (dk_at dksJ3_toString_0 4 rfl rfl)
theorem dJ3_toString_5 : decode cJ3_toString 5 = .ok (.invokespecial 137, 3) := dk_183 0 137 (dk_at dksJ3_toString_0 5 rfl rfl)
theorem dJ3_toString_8 : decode cJ3_toString 8 = .ok (.areturn, 1) := dk_176 (dk_at dksJ3_toString_0 8 rfl rfl)
abbrev cJ3_charAt : ByteArray := prog_27_method_88_code
def yJ3_charAt : MethodName := ⟨RJ3, "charAt", "(I)C"⟩
def dkwJ3_charAt_0 : List UInt8 := [42, 27, 183, 1, 73, 172]
abbrev dktJ3_charAt_0 : List UInt8 := dkwJ3_charAt_0 ++ []
theorem dksJ3_charAt_0 : cJ3_charAt.data.toList.drop 0 = dktJ3_charAt_0 := by decide +kernel
theorem dJ3_charAt_0 : decode cJ3_charAt 0 = .ok (.aload_n 0, 1) := dk_42 (dk_at dksJ3_charAt_0 0 rfl rfl)
theorem dJ3_charAt_1 : decode cJ3_charAt 1 = .ok (.iload_n 1, 1) := dk_27 (dk_at dksJ3_charAt_0 1 rfl rfl)
theorem dJ3_charAt_2 : decode cJ3_charAt 2 = .ok (.invokespecial 329, 3) := dk_183 1 73 (dk_at dksJ3_charAt_0 2 rfl rfl)
theorem dJ3_charAt_5 : decode cJ3_charAt 5 = .ok (.ireturn, 1) := dk_172 (dk_at dksJ3_charAt_0 5 rfl rfl)
abbrev cJ3_append_3 : ByteArray := prog_27_method_14_code
def yJ3_append_3 : MethodName := ⟨RJ3, "append", "(C)Ljava/lang/StringBuilder;"⟩
def dkwJ3_append_3_0 : List UInt8 := [42, 27, 183, 0, 50, 87, 42, 176]
abbrev dktJ3_append_3_0 : List UInt8 := dkwJ3_append_3_0 ++ []
theorem dksJ3_append_3_0 : cJ3_append_3.data.toList.drop 0 = dktJ3_append_3_0 := by decide +kernel
theorem dJ3_append_3_0 : decode cJ3_append_3 0 = .ok (.aload_n 0, 1) := dk_42 (dk_at dksJ3_append_3_0 0 rfl rfl)
theorem dJ3_append_3_1 : decode cJ3_append_3 1 = .ok (.iload_n 1, 1) := dk_27 (dk_at dksJ3_append_3_0 1 rfl rfl)
theorem dJ3_append_3_2 : decode cJ3_append_3 2 = .ok (.invokespecial 50, 3) := dk_183 0 50 (dk_at dksJ3_append_3_0 2 rfl rfl)
theorem dJ3_append_3_5 : decode cJ3_append_3 5 = .ok (.pop, 1) := dk_87 (dk_at dksJ3_append_3_0 5 rfl rfl)
theorem dJ3_append_3_6 : decode cJ3_append_3 6 = .ok (.aload_n 0, 1) := dk_42 (dk_at dksJ3_append_3_0 6 rfl rfl)
theorem dJ3_append_3_7 : decode cJ3_append_3 7 = .ok (.areturn, 1) := dk_176 (dk_at dksJ3_append_3_0 7 rfl rfl)
theorem q99 : (Jvm.Cond.initialized "java/lang/StringBuilder") ∈ lw_all := lw_g (lw_at lw_m1 6 rfl) rfl
theorem q216 : (Jvm.Cond.instantiable "java/lang/StringBuilder" (4 : Nat)) ∈ lw_all := lw_g (lw_at lw_m1 123 rfl) rfl
theorem q218 : (Jvm.Cond.instanceMethod ({ cls := "java/lang/StringBuilder", name := "<init>", desc := "(I)V" } : Jvm.MethodName)) ∈ lw_all := lw_g (lw_at lw_m1 125 rfl) rfl
theorem q219 : (Jvm.Cond.code ({ cls := "java/lang/StringBuilder", name := "<init>", desc := "(I)V" } : Jvm.MethodName) prog_27_method_2_code (2 : Nat) (Option.none : Option Jvm.ClassFile.FieldType)) ∈ lw_all := lw_g (lw_at lw_m1 126 rfl) rfl
theorem q220 : (Jvm.Cond.methodLink "java/lang/StringBuilder" (1 : Nat) ({ cls := "java/lang/AbstractStringBuilder", name := "<init>", desc := "(I)V" } : Jvm.MethodName)) ∈ lw_all := lw_g (lw_at lw_m1 127 rfl) rfl
theorem q238 : (Jvm.Cond.lays "java/lang/StringBuilder" "java/lang/AbstractStringBuilder" "value" "[B") ∈ lw_all := lw_g (lw_at lw_m1 145 rfl) rfl
theorem q240 : (Jvm.Cond.lays "java/lang/StringBuilder" "java/lang/AbstractStringBuilder" "coder" "B") ∈ lw_all := lw_g (lw_at lw_m1 147 rfl) rfl
theorem q242 : (Jvm.Cond.lays "java/lang/StringBuilder" "java/lang/AbstractStringBuilder" "maybeLatin1" "Z") ∈ lw_all := lw_g (lw_at lw_m1 149 rfl) rfl
theorem q244 : (Jvm.Cond.lays "java/lang/StringBuilder" "java/lang/AbstractStringBuilder" "count" "I") ∈ lw_all := lw_g (lw_at lw_m1 151 rfl) rfl
theorem q246 : (Jvm.Cond.superclass "java/lang/StringBuilder" "java/lang/AbstractStringBuilder") ∈ lw_all := lw_g (lw_at lw_m1 153 rfl) rfl
theorem q438 : (Jvm.Cond.selects "java/lang/StringBuilder" ({ cls := "java/lang/Object", name := "getClass", desc := "()Ljava/lang/Class;" } : Jvm.MethodName) ({ cls := "java/lang/Object", name := "getClass", desc := "()Ljava/lang/Class;" } : Jvm.MethodName)) ∈ lw_all := lw_g (lw_at lw_m2 105 rfl) rfl
theorem q558 : (Jvm.Cond.instanceMethod ({ cls := "java/lang/StringBuilder", name := "length", desc := "()I" } : Jvm.MethodName)) ∈ lw_all := lw_g (lw_at lw_m2 225 rfl) rfl
theorem q559 : (Jvm.Cond.selects "java/lang/StringBuilder" ({ cls := "java/lang/StringBuilder", name := "length", desc := "()I" } : Jvm.MethodName) ({ cls := "java/lang/StringBuilder", name := "length", desc := "()I" } : Jvm.MethodName)) ∈ lw_all := lw_g (lw_at lw_m2 226 rfl) rfl
theorem q560 : (Jvm.Cond.code ({ cls := "java/lang/StringBuilder", name := "length", desc := "()I" } : Jvm.MethodName) prog_27_method_93_code (1 : Nat) (Option.some Jvm.ClassFile.FieldType.int)) ∈ lw_all := lw_g (lw_at lw_m2 227 rfl) rfl
theorem q561 : (Jvm.Cond.methodLink "java/lang/StringBuilder" (343 : Nat) ({ cls := "java/lang/AbstractStringBuilder", name := "length", desc := "()I" } : Jvm.MethodName)) ∈ lw_all := lw_g (lw_at lw_m2 228 rfl) rfl
theorem q565 : (Jvm.Cond.instanceMethod ({ cls := "java/lang/StringBuilder", name := "setLength", desc := "(I)V" } : Jvm.MethodName)) ∈ lw_all := lw_g (lw_at lw_m2 232 rfl) rfl
theorem q566 : (Jvm.Cond.selects "java/lang/StringBuilder" ({ cls := "java/lang/StringBuilder", name := "setLength", desc := "(I)V" } : Jvm.MethodName) ({ cls := "java/lang/StringBuilder", name := "setLength", desc := "(I)V" } : Jvm.MethodName)) ∈ lw_all := lw_g (lw_at lw_m2 233 rfl) rfl
theorem q567 : (Jvm.Cond.code ({ cls := "java/lang/StringBuilder", name := "setLength", desc := "(I)V" } : Jvm.MethodName) prog_27_method_89_code (2 : Nat) (Option.none : Option Jvm.ClassFile.FieldType)) ∈ lw_all := lw_g (lw_at lw_m2 234 rfl) rfl
theorem q568 : (Jvm.Cond.methodLink "java/lang/StringBuilder" (333 : Nat) ({ cls := "java/lang/AbstractStringBuilder", name := "setLength", desc := "(I)V" } : Jvm.MethodName)) ∈ lw_all := lw_g (lw_at lw_m2 235 rfl) rfl
theorem q578 : (Jvm.Cond.instanceMethod ({ cls := "java/lang/StringBuilder", name := "<init>", desc := "()V" } : Jvm.MethodName)) ∈ lw_all := lw_g (lw_at lw_m3 5 rfl) rfl
theorem q579 : (Jvm.Cond.code ({ cls := "java/lang/StringBuilder", name := "<init>", desc := "()V" } : Jvm.MethodName) prog_27_method_1_code (1 : Nat) (Option.none : Option Jvm.ClassFile.FieldType)) ∈ lw_all := lw_g (lw_at lw_m3 6 rfl) rfl
theorem q582 : (Jvm.Cond.instanceMethod ({ cls := "java/lang/StringBuilder", name := "append", desc := "(Ljava/lang/String;)Ljava/lang/StringBuilder;" } : Jvm.MethodName)) ∈ lw_all := lw_g (lw_at lw_m3 9 rfl) rfl
theorem q583 : (Jvm.Cond.selects "java/lang/StringBuilder" ({ cls := "java/lang/StringBuilder", name := "append", desc := "(Ljava/lang/String;)Ljava/lang/StringBuilder;" } : Jvm.MethodName) ({ cls := "java/lang/StringBuilder", name := "append", desc := "(Ljava/lang/String;)Ljava/lang/StringBuilder;" } : Jvm.MethodName)) ∈ lw_all := lw_g (lw_at lw_m3 10 rfl) rfl
theorem q584 : (Jvm.Cond.code ({ cls := "java/lang/StringBuilder", name := "append", desc := "(Ljava/lang/String;)Ljava/lang/StringBuilder;" } : Jvm.MethodName) prog_27_method_7_code (2 : Nat) (Option.some (Jvm.ClassFile.FieldType.object "java/lang/StringBuilder"))) ∈ lw_all := lw_g (lw_at lw_m3 11 rfl) rfl
theorem q585 : (Jvm.Cond.methodLink "java/lang/StringBuilder" (29 : Nat) ({ cls := "java/lang/AbstractStringBuilder", name := "append", desc := "(Ljava/lang/String;)Ljava/lang/AbstractStringBuilder;" } : Jvm.MethodName)) ∈ lw_all := lw_g (lw_at lw_m3 12 rfl) rfl
theorem q620 : (Jvm.Cond.selects "java/lang/StringBuilder" ({ cls := "java/lang/AbstractStringBuilder", name := "isLatin1", desc := "()Z" } : Jvm.MethodName) ({ cls := "java/lang/AbstractStringBuilder", name := "isLatin1", desc := "()Z" } : Jvm.MethodName)) ∈ lw_all := lw_g (lw_at lw_m3 47 rfl) rfl
theorem q692 : (Jvm.Cond.instanceMethod ({ cls := "java/lang/StringBuilder", name := "append", desc := "(I)Ljava/lang/StringBuilder;" } : Jvm.MethodName)) ∈ lw_all := lw_g (lw_at lw_m3 119 rfl) rfl
theorem q693 : (Jvm.Cond.selects "java/lang/StringBuilder" ({ cls := "java/lang/StringBuilder", name := "append", desc := "(I)Ljava/lang/StringBuilder;" } : Jvm.MethodName) ({ cls := "java/lang/StringBuilder", name := "append", desc := "(I)Ljava/lang/StringBuilder;" } : Jvm.MethodName)) ∈ lw_all := lw_g (lw_at lw_m3 120 rfl) rfl
theorem q694 : (Jvm.Cond.code ({ cls := "java/lang/StringBuilder", name := "append", desc := "(I)Ljava/lang/StringBuilder;" } : Jvm.MethodName) prog_27_method_15_code (2 : Nat) (Option.some (Jvm.ClassFile.FieldType.object "java/lang/StringBuilder"))) ∈ lw_all := lw_g (lw_at lw_m3 121 rfl) rfl
theorem q695 : (Jvm.Cond.methodLink "java/lang/StringBuilder" (53 : Nat) ({ cls := "java/lang/AbstractStringBuilder", name := "append", desc := "(I)Ljava/lang/AbstractStringBuilder;" } : Jvm.MethodName)) ∈ lw_all := lw_g (lw_at lw_m3 122 rfl) rfl
theorem q717 : (Jvm.Cond.instanceMethod ({ cls := "java/lang/StringBuilder", name := "toString", desc := "()Ljava/lang/String;" } : Jvm.MethodName)) ∈ lw_all := lw_g (lw_at lw_m3 144 rfl) rfl
theorem q718 : (Jvm.Cond.selects "java/lang/StringBuilder" ({ cls := "java/lang/StringBuilder", name := "toString", desc := "()Ljava/lang/String;" } : Jvm.MethodName) ({ cls := "java/lang/StringBuilder", name := "toString", desc := "()Ljava/lang/String;" } : Jvm.MethodName)) ∈ lw_all := lw_g (lw_at lw_m3 145 rfl) rfl
theorem q719 : (Jvm.Cond.code ({ cls := "java/lang/StringBuilder", name := "toString", desc := "()Ljava/lang/String;" } : Jvm.MethodName) prog_27_method_42_code (1 : Nat) (Option.some (Jvm.ClassFile.FieldType.object "java/lang/String"))) ∈ lw_all := lw_g (lw_at lw_m3 146 rfl) rfl
theorem q720 : (Jvm.Cond.classLink "java/lang/StringBuilder" (18 : Nat) "java/lang/String") ∈ lw_all := lw_g (lw_at lw_m3 147 rfl) rfl
theorem q722 : (Jvm.Cond.methodLink "java/lang/StringBuilder" (137 : Nat) ({ cls := "java/lang/String", name := "<init>", desc := "(Ljava/lang/StringBuilder;)V" } : Jvm.MethodName)) ∈ lw_all := lw_g (lw_at lw_m3 149 rfl) rfl
theorem q732 : (Jvm.Cond.selects "java/lang/StringBuilder" ({ cls := "java/lang/AbstractStringBuilder", name := "getValue", desc := "()[B" } : Jvm.MethodName) ({ cls := "java/lang/AbstractStringBuilder", name := "getValue", desc := "()[B" } : Jvm.MethodName)) ∈ lw_all := lw_g (lw_at lw_m3 159 rfl) rfl
theorem q901 : (Jvm.Cond.instanceMethod ({ cls := "java/lang/StringBuilder", name := "charAt", desc := "(I)C" } : Jvm.MethodName)) ∈ lw_all := lw_g (lw_at lw_m4 88 rfl) rfl
theorem q902 : (Jvm.Cond.selects "java/lang/StringBuilder" ({ cls := "java/lang/StringBuilder", name := "charAt", desc := "(I)C" } : Jvm.MethodName) ({ cls := "java/lang/StringBuilder", name := "charAt", desc := "(I)C" } : Jvm.MethodName)) ∈ lw_all := lw_g (lw_at lw_m4 89 rfl) rfl
theorem q903 : (Jvm.Cond.code ({ cls := "java/lang/StringBuilder", name := "charAt", desc := "(I)C" } : Jvm.MethodName) prog_27_method_88_code (2 : Nat) (Option.some Jvm.ClassFile.FieldType.char)) ∈ lw_all := lw_g (lw_at lw_m4 90 rfl) rfl
theorem q904 : (Jvm.Cond.methodLink "java/lang/StringBuilder" (329 : Nat) ({ cls := "java/lang/AbstractStringBuilder", name := "charAt", desc := "(I)C" } : Jvm.MethodName)) ∈ lw_all := lw_g (lw_at lw_m4 91 rfl) rfl
theorem q930 : (Jvm.Cond.castable "java/lang/StringBuilder" "java/lang/CharSequence") ∈ lw_tbl := lw_at lw_m4 117 rfl
theorem q931 : (Jvm.Cond.selects "java/lang/StringBuilder" ({ cls := "java/lang/CharSequence", name := "length", desc := "()I" } : Jvm.MethodName) ({ cls := "java/lang/StringBuilder", name := "length", desc := "()I" } : Jvm.MethodName)) ∈ lw_all := lw_g (lw_at lw_m4 118 rfl) rfl
theorem q932 : (Jvm.Cond.unhidden "java/lang/StringBuilder" "length" "()I") ∈ lw_tbl := lw_at lw_m4 119 rfl
theorem q933 : (Jvm.Cond.publicMethod ({ cls := "java/lang/StringBuilder", name := "length", desc := "()I" } : Jvm.MethodName)) ∈ lw_tbl := lw_at lw_m4 120 rfl
theorem q958 : (Jvm.Cond.selects "java/lang/StringBuilder" ({ cls := "java/lang/CharSequence", name := "charAt", desc := "(I)C" } : Jvm.MethodName) ({ cls := "java/lang/StringBuilder", name := "charAt", desc := "(I)C" } : Jvm.MethodName)) ∈ lw_all := lw_g (lw_at lw_m4 145 rfl) rfl
theorem q959 : (Jvm.Cond.unhidden "java/lang/StringBuilder" "charAt" "(I)C") ∈ lw_tbl := lw_at lw_m4 146 rfl
theorem q960 : (Jvm.Cond.publicMethod ({ cls := "java/lang/StringBuilder", name := "charAt", desc := "(I)C" } : Jvm.MethodName)) ∈ lw_tbl := lw_at lw_m4 147 rfl
theorem q1242 : (Jvm.Cond.instanceMethod ({ cls := "java/lang/StringBuilder", name := "append", desc := "(C)Ljava/lang/StringBuilder;" } : Jvm.MethodName)) ∈ lw_all := lw_g (lw_at lw_m5 189 rfl) rfl
theorem q1243 : (Jvm.Cond.selects "java/lang/StringBuilder" ({ cls := "java/lang/StringBuilder", name := "append", desc := "(C)Ljava/lang/StringBuilder;" } : Jvm.MethodName) ({ cls := "java/lang/StringBuilder", name := "append", desc := "(C)Ljava/lang/StringBuilder;" } : Jvm.MethodName)) ∈ lw_all := lw_g (lw_at lw_m5 190 rfl) rfl
theorem q1244 : (Jvm.Cond.code ({ cls := "java/lang/StringBuilder", name := "append", desc := "(C)Ljava/lang/StringBuilder;" } : Jvm.MethodName) prog_27_method_14_code (2 : Nat) (Option.some (Jvm.ClassFile.FieldType.object "java/lang/StringBuilder"))) ∈ lw_all := lw_g (lw_at lw_m5 191 rfl) rfl
theorem q1245 : (Jvm.Cond.methodLink "java/lang/StringBuilder" (50 : Nat) ({ cls := "java/lang/AbstractStringBuilder", name := "append", desc := "(C)Ljava/lang/AbstractStringBuilder;" } : Jvm.MethodName)) ∈ lw_all := lw_g (lw_at lw_m5 192 rfl) rfl
theorem q1303 : (Jvm.Cond.selects "java/lang/StringBuilder" ({ cls := "java/lang/CharSequence", name := "toString", desc := "()Ljava/lang/String;" } : Jvm.MethodName) ({ cls := "java/lang/StringBuilder", name := "toString", desc := "()Ljava/lang/String;" } : Jvm.MethodName)) ∈ lw_all := lw_g (lw_at lw_m6 10 rfl) rfl
theorem q1304 : (Jvm.Cond.unhidden "java/lang/StringBuilder" "toString" "()Ljava/lang/String;") ∈ lw_tbl := lw_at lw_m6 11 rfl
theorem q1305 : (Jvm.Cond.publicMethod ({ cls := "java/lang/StringBuilder", name := "toString", desc := "()Ljava/lang/String;" } : Jvm.MethodName)) ∈ lw_tbl := lw_at lw_m6 12 rfl
theorem q1799 : (Jvm.Cond.selects "java/lang/StringBuilder" ({ cls := "java/lang/AbstractStringBuilder", name := "length", desc := "()I" } : Jvm.MethodName) ({ cls := "java/lang/StringBuilder", name := "length", desc := "()I" } : Jvm.MethodName)) ∈ lw_all := lw_g (lw_at lw_m8 26 rfl) rfl
theorem q1809 : (Jvm.Cond.castable "java/lang/StringBuilder" "java/lang/Object") ∈ lw_tbl := lw_at lw_m8 36 rfl
theorem in_J3 : ∀ w ∈ wsJ30, w ∈ lw_all := lw_in wsJ30 [238, 240, 242, 244] (by decide +kernel) (by decide +kernel)
/-! java/lang/String -/
set_option maxRecDepth 100000
def RJ4 : String := "java/lang/String"
def TJ4 : u_T := fun k => match k with
  | 0 => ("java/lang/String", "value", "[B", true)
  | 1 => ("java/lang/String", "coder", "B", true)
  | 2 => ("java/lang/String", "hash", "I", false)
  | _ => ("java/lang/String", "hashIsZero", "Z", false)
def tyJ4 : Nat → FieldType := fun k => match k with
  | 0 => .array .byte
  | 1 => .byte
  | 2 => .int
  | _ => .boolean
abbrev wsJ40 : List Cond := u_ws RJ4 TJ4 4
theorem nmJ4 : ∀ a, a < 4 → ∀ b, b < 4 → a ≠ b → (TJ4 a).2.1 ≠ (TJ4 b).2.1 := by decide +kernel
theorem tyJ4_ok : ∀ k, k < 4 → parseFieldDescriptor (TJ4 k).2.2.1 = some (tyJ4 k) := by decide +kernel
abbrev cJ4_checkBoundsBeginEnd : ByteArray := prog_26_method_158_code
def yJ4_checkBoundsBeginEnd : MethodName := ⟨RJ4, "checkBoundsBeginEnd", "(III)V"⟩
def dkwJ4_checkBoundsBeginEnd_0 : List UInt8 := [26, 27, 28, 178, 4, 29, 184, 4, 38, 87, 177]
abbrev dktJ4_checkBoundsBeginEnd_0 : List UInt8 := dkwJ4_checkBoundsBeginEnd_0 ++ []
theorem dksJ4_checkBoundsBeginEnd_0 : cJ4_checkBoundsBeginEnd.data.toList.drop 0 = dktJ4_checkBoundsBeginEnd_0 := by decide +kernel
theorem dJ4_checkBoundsBeginEnd_0 : decode cJ4_checkBoundsBeginEnd 0 = .ok (.iload_n 0, 1) := dk_26 (dk_at dksJ4_checkBoundsBeginEnd_0 0 rfl rfl)
theorem dJ4_checkBoundsBeginEnd_1 : decode cJ4_checkBoundsBeginEnd 1 = .ok (.iload_n 1, 1) := dk_27 (dk_at dksJ4_checkBoundsBeginEnd_0 1 rfl rfl)
theorem dJ4_checkBoundsBeginEnd_2 : decode cJ4_checkBoundsBeginEnd 2 = .ok (.iload_n 2, 1) := dk_28 (dk_at dksJ4_checkBoundsBeginEnd_0 2 rfl rfl)
theorem dJ4_checkBoundsBeginEnd_3 : decode cJ4_checkBoundsBeginEnd 3 = .ok (.getstatic 1053, 3) := dk_178 4 29 (dk_at dksJ4_checkBoundsBeginEnd_0 3 rfl rfl)
theorem dJ4_checkBoundsBeginEnd_6 : decode cJ4_checkBoundsBeginEnd 6 = .ok (.invokestatic 1062, 3) := dk_184 4 38 (dk_at dksJ4_checkBoundsBeginEnd_0 6 rfl rfl)
theorem dJ4_checkBoundsBeginEnd_9 : decode cJ4_checkBoundsBeginEnd 9 = .ok (.pop, 1) := dk_87 (dk_at dksJ4_checkBoundsBeginEnd_0 9 rfl rfl)
theorem dJ4_checkBoundsBeginEnd_10 : decode cJ4_checkBoundsBeginEnd 10 = .ok (.return_, 1) := dk_177 (dk_at dksJ4_checkBoundsBeginEnd_0 10 rfl rfl)
abbrev cJ4_length : ByteArray := prog_26_method_54_code
def yJ4_length : MethodName := ⟨RJ4, "length", "()I"⟩
def dkwJ4_length_0 : List UInt8 := [42, 180, 0, 9, 190, 42, 182, 1, 79, 122, 172]
abbrev dktJ4_length_0 : List UInt8 := dkwJ4_length_0 ++ []
theorem dksJ4_length_0 : cJ4_length.data.toList.drop 0 = dktJ4_length_0 := by decide +kernel
theorem dJ4_length_0 : decode cJ4_length 0 = .ok (.aload_n 0, 1) := dk_42 (dk_at dksJ4_length_0 0 rfl rfl)
theorem dJ4_length_1 : decode cJ4_length 1 = .ok (.getfield 9, 3) := dk_180 0 9 (dk_at dksJ4_length_0 1 rfl rfl)
theorem dJ4_length_4 : decode cJ4_length 4 = .ok (.arraylength, 1) := dk_190 (dk_at dksJ4_length_0 4 rfl rfl)
theorem dJ4_length_5 : decode cJ4_length 5 = .ok (.aload_n 0, 1) := dk_42 (dk_at dksJ4_length_0 5 rfl rfl)
theorem dJ4_length_6 : decode cJ4_length 6 = .ok (.invokevirtual 335, 3) := dk_182 1 79 (dk_at dksJ4_length_0 6 rfl rfl)
theorem dJ4_length_9 : decode cJ4_length 9 = .ok (.ishr, 1) := dk_122 (dk_at dksJ4_length_0 9 rfl rfl)
theorem dJ4_length_10 : decode cJ4_length 10 = .ok (.ireturn, 1) := dk_172 (dk_at dksJ4_length_0 10 rfl rfl)
abbrev cJ4_coder : ByteArray := prog_26_method_152_code
def yJ4_coder : MethodName := ⟨RJ4, "coder", "()B"⟩
def dkwJ4_coder_0 : List UInt8 := [178, 0, 38, 153, 0, 10, 42, 180, 0, 15, 167, 0, 4, 4, 172]
abbrev dktJ4_coder_0 : List UInt8 := dkwJ4_coder_0 ++ []
theorem dksJ4_coder_0 : cJ4_coder.data.toList.drop 0 = dktJ4_coder_0 := by decide +kernel
theorem dJ4_coder_0 : decode cJ4_coder 0 = .ok (.getstatic 38, 3) := dk_178 0 38 (dk_at dksJ4_coder_0 0 rfl rfl)
theorem dJ4_coder_3 : decode cJ4_coder 3 = .ok (.ifCond .eq 10, 3) := dk_153 0 10 (dk_at dksJ4_coder_0 3 rfl rfl)
theorem dJ4_coder_6 : decode cJ4_coder 6 = .ok (.aload_n 0, 1) := dk_42 (dk_at dksJ4_coder_0 6 rfl rfl)
theorem dJ4_coder_7 : decode cJ4_coder 7 = .ok (.getfield 15, 3) := dk_180 0 15 (dk_at dksJ4_coder_0 7 rfl rfl)
theorem dJ4_coder_10 : decode cJ4_coder 10 = .ok (.goto 4, 3) := dk_167 0 4 (dk_at dksJ4_coder_0 10 rfl rfl)
theorem dJ4_coder_13 : decode cJ4_coder 13 = .ok (.iconst 1, 1) := dk_4 (dk_at dksJ4_coder_0 13 rfl rfl)
theorem dJ4_coder_14 : decode cJ4_coder 14 = .ok (.ireturn, 1) := dk_172 (dk_at dksJ4_coder_0 14 rfl rfl)
abbrev cJ4_checkBoundsOffCount : ByteArray := prog_26_method_157_code
def yJ4_checkBoundsOffCount : MethodName := ⟨RJ4, "checkBoundsOffCount", "(III)I"⟩
def dkwJ4_checkBoundsOffCount_0 : List UInt8 := [26, 27, 28, 178, 4, 29, 184, 4, 41, 172]
abbrev dktJ4_checkBoundsOffCount_0 : List UInt8 := dkwJ4_checkBoundsOffCount_0 ++ []
theorem dksJ4_checkBoundsOffCount_0 : cJ4_checkBoundsOffCount.data.toList.drop 0 = dktJ4_checkBoundsOffCount_0 := by decide +kernel
theorem dJ4_checkBoundsOffCount_0 : decode cJ4_checkBoundsOffCount 0 = .ok (.iload_n 0, 1) := dk_26 (dk_at dksJ4_checkBoundsOffCount_0 0 rfl rfl)
theorem dJ4_checkBoundsOffCount_1 : decode cJ4_checkBoundsOffCount 1 = .ok (.iload_n 1, 1) := dk_27 (dk_at dksJ4_checkBoundsOffCount_0 1 rfl rfl)
theorem dJ4_checkBoundsOffCount_2 : decode cJ4_checkBoundsOffCount 2 = .ok (.iload_n 2, 1) := dk_28 (dk_at dksJ4_checkBoundsOffCount_0 2 rfl rfl)
theorem dJ4_checkBoundsOffCount_3 : decode cJ4_checkBoundsOffCount 3 = .ok (.getstatic 1053, 3) := dk_178 4 29 (dk_at dksJ4_checkBoundsOffCount_0 3 rfl rfl)
theorem dJ4_checkBoundsOffCount_6 : decode cJ4_checkBoundsOffCount 6 = .ok (.invokestatic 1065, 3) := dk_184 4 41 (dk_at dksJ4_checkBoundsOffCount_0 6 rfl rfl)
theorem dJ4_checkBoundsOffCount_9 : decode cJ4_checkBoundsOffCount 9 = .ok (.ireturn, 1) := dk_172 (dk_at dksJ4_checkBoundsOffCount_0 9 rfl rfl)
abbrev cJ4_getBytes : ByteArray := prog_26_method_147_code
def yJ4_getBytes : MethodName := ⟨RJ4, "getBytes", "([BIB)V"⟩
def dkwJ4_getBytes_1 : List UInt8 := [184, 0, 212, 167, 0, 18, 42, 180, 0, 9, 3, 43, 28, 42, 180, 0, 9, 190, 184, 0, 106, 177]
abbrev dktJ4_getBytes_1 : List UInt8 := dkwJ4_getBytes_1 ++ []
def dkwJ4_getBytes_0 : List UInt8 := [42, 182, 1, 79, 29, 160, 0, 23, 42, 180, 0, 9, 3, 43, 28, 29, 120, 42, 180, 0, 9, 190]
abbrev dktJ4_getBytes_0 : List UInt8 := dkwJ4_getBytes_0 ++ dktJ4_getBytes_1
theorem dksJ4_getBytes_0 : cJ4_getBytes.data.toList.drop 0 = dktJ4_getBytes_0 := by decide +kernel
theorem dksJ4_getBytes_1 : cJ4_getBytes.data.toList.drop 22 = dktJ4_getBytes_1 := dk_seg dksJ4_getBytes_0 22 rfl rfl
theorem dJ4_getBytes_0 : decode cJ4_getBytes 0 = .ok (.aload_n 0, 1) := dk_42 (dk_at dksJ4_getBytes_0 0 rfl rfl)
theorem dJ4_getBytes_1 : decode cJ4_getBytes 1 = .ok (.invokevirtual 335, 3) := dk_182 1 79 (dk_at dksJ4_getBytes_0 1 rfl rfl)
theorem dJ4_getBytes_4 : decode cJ4_getBytes 4 = .ok (.iload_n 3, 1) := dk_29 (dk_at dksJ4_getBytes_0 4 rfl rfl)
theorem dJ4_getBytes_5 : decode cJ4_getBytes 5 = .ok (.if_icmp .ne 23, 3) := dk_160 0 23 (dk_at dksJ4_getBytes_0 5 rfl rfl)
theorem dJ4_getBytes_8 : decode cJ4_getBytes 8 = .ok (.aload_n 0, 1) := dk_42 (dk_at dksJ4_getBytes_0 8 rfl rfl)
theorem dJ4_getBytes_9 : decode cJ4_getBytes 9 = .ok (.getfield 9, 3) := dk_180 0 9 (dk_at dksJ4_getBytes_0 9 rfl rfl)
theorem dJ4_getBytes_12 : decode cJ4_getBytes 12 = .ok (.iconst 0, 1) := dk_3 (dk_at dksJ4_getBytes_0 12 rfl rfl)
theorem dJ4_getBytes_13 : decode cJ4_getBytes 13 = .ok (.aload_n 1, 1) := dk_43 (dk_at dksJ4_getBytes_0 13 rfl rfl)
theorem dJ4_getBytes_14 : decode cJ4_getBytes 14 = .ok (.iload_n 2, 1) := dk_28 (dk_at dksJ4_getBytes_0 14 rfl rfl)
theorem dJ4_getBytes_15 : decode cJ4_getBytes 15 = .ok (.iload_n 3, 1) := dk_29 (dk_at dksJ4_getBytes_0 15 rfl rfl)
theorem dJ4_getBytes_16 : decode cJ4_getBytes 16 = .ok (.ishl, 1) := dk_120 (dk_at dksJ4_getBytes_0 16 rfl rfl)
theorem dJ4_getBytes_17 : decode cJ4_getBytes 17 = .ok (.aload_n 0, 1) := dk_42 (dk_at dksJ4_getBytes_0 17 rfl rfl)
theorem dJ4_getBytes_18 : decode cJ4_getBytes 18 = .ok (.getfield 9, 3) := dk_180 0 9 (dk_at dksJ4_getBytes_0 18 rfl rfl)
theorem dJ4_getBytes_21 : decode cJ4_getBytes 21 = .ok (.arraylength, 1) := dk_190 (dk_at dksJ4_getBytes_0 21 rfl rfl)
theorem dJ4_getBytes_22 : decode cJ4_getBytes 22 = .ok (.invokestatic 212, 3) := dk_184 0 212 (dk_at dksJ4_getBytes_1 0 rfl rfl)
theorem dJ4_getBytes_25 : decode cJ4_getBytes 25 = .ok (.goto 18, 3) := dk_167 0 18 (dk_at dksJ4_getBytes_1 3 rfl rfl)
theorem dJ4_getBytes_28 : decode cJ4_getBytes 28 = .ok (.aload_n 0, 1) := dk_42 (dk_at dksJ4_getBytes_1 6 rfl rfl)
theorem dJ4_getBytes_29 : decode cJ4_getBytes 29 = .ok (.getfield 9, 3) := dk_180 0 9 (dk_at dksJ4_getBytes_1 7 rfl rfl)
theorem dJ4_getBytes_32 : decode cJ4_getBytes 32 = .ok (.iconst 0, 1) := dk_3 (dk_at dksJ4_getBytes_1 10 rfl rfl)
theorem dJ4_getBytes_33 : decode cJ4_getBytes 33 = .ok (.aload_n 1, 1) := dk_43 (dk_at dksJ4_getBytes_1 11 rfl rfl)
theorem dJ4_getBytes_34 : decode cJ4_getBytes 34 = .ok (.iload_n 2, 1) := dk_28 (dk_at dksJ4_getBytes_1 12 rfl rfl)
theorem dJ4_getBytes_35 : decode cJ4_getBytes 35 = .ok (.aload_n 0, 1) := dk_42 (dk_at dksJ4_getBytes_1 13 rfl rfl)
theorem dJ4_getBytes_36 : decode cJ4_getBytes 36 = .ok (.getfield 9, 3) := dk_180 0 9 (dk_at dksJ4_getBytes_1 14 rfl rfl)
theorem dJ4_getBytes_39 : decode cJ4_getBytes 39 = .ok (.arraylength, 1) := dk_190 (dk_at dksJ4_getBytes_1 17 rfl rfl)
theorem dJ4_getBytes_40 : decode cJ4_getBytes 40 = .ok (.invokestatic 106, 3) := dk_184 0 106 (dk_at dksJ4_getBytes_1 18 rfl rfl)
theorem dJ4_getBytes_43 : decode cJ4_getBytes 43 = .ok (.return_, 1) := dk_177 (dk_at dksJ4_getBytes_1 21 rfl rfl)
abbrev cJ4_init : ByteArray := prog_26_method_53_code
def yJ4_init : MethodName := ⟨RJ4, "<init>", "(Ljava/lang/StringBuilder;)V"⟩
def dkwJ4_init_0 : List UInt8 := [42, 43, 1, 183, 1, 233, 177]
abbrev dktJ4_init_0 : List UInt8 := dkwJ4_init_0 ++ []
theorem dksJ4_init_0 : cJ4_init.data.toList.drop 0 = dktJ4_init_0 := by decide +kernel
theorem dJ4_init_0 : decode cJ4_init 0 = .ok (.aload_n 0, 1) := dk_42 (dk_at dksJ4_init_0 0 rfl rfl)
theorem dJ4_init_1 : decode cJ4_init 1 = .ok (.aload_n 1, 1) := dk_43 (dk_at dksJ4_init_0 1 rfl rfl)
theorem dJ4_init_2 : decode cJ4_init 2 = .ok (.aconst_null, 1) := dk_1 (dk_at dksJ4_init_0 2 rfl rfl)
theorem dJ4_init_3 : decode cJ4_init 3 = .ok (.invokespecial 489, 3) := dk_183 1 233 (dk_at dksJ4_init_0 3 rfl rfl)
theorem dJ4_init_6 : decode cJ4_init 6 = .ok (.return_, 1) := dk_177 (dk_at dksJ4_init_0 6 rfl rfl)
abbrev cJ4_init_2 : ByteArray := prog_26_method_150_code
def yJ4_init_2 : MethodName := ⟨RJ4, "<init>", "(Ljava/lang/AbstractStringBuilder;Ljava/lang/Void;)V"⟩
def dkwJ4_init_2_4 : List UInt8 := [181, 0, 9, 177]
abbrev dktJ4_init_2_4 : List UInt8 := dkwJ4_init_2_4 ++ []
def dkwJ4_init_2_3 : List UInt8 := [184, 0, 47, 181, 0, 15, 177, 42, 4, 181, 0, 15, 42, 45, 3, 21, 4, 4, 120, 184, 0, 54]
abbrev dktJ4_init_2_3 : List UInt8 := dkwJ4_init_2_3 ++ dktJ4_init_2_4
def dkwJ4_init_2_2 : List UInt8 := [180, 4, 24, 153, 0, 28, 42, 45, 3, 21, 4, 184, 4, 27, 181, 0, 9, 42, 42, 180, 0, 9, 21, 4]
abbrev dktJ4_init_2_2 : List UInt8 := dkwJ4_init_2_2 ++ dktJ4_init_2_3
def dkwJ4_init_2_1 : List UInt8 := [181, 0, 15, 42, 45, 3, 21, 4, 184, 0, 54, 181, 0, 9, 167, 0, 59, 178, 0, 38, 153, 0, 35, 43]
abbrev dktJ4_init_2_1 : List UInt8 := dkwJ4_init_2_1 ++ dktJ4_init_2_2
def dkwJ4_init_2_0 : List UInt8 := [42, 183, 0, 1, 43, 182, 2, 40, 78, 43, 182, 2, 37, 54, 4, 43, 182, 4, 23, 153, 0, 22, 42, 3]
abbrev dktJ4_init_2_0 : List UInt8 := dkwJ4_init_2_0 ++ dktJ4_init_2_1
theorem dksJ4_init_2_0 : cJ4_init_2.data.toList.drop 0 = dktJ4_init_2_0 := by decide +kernel
theorem dksJ4_init_2_1 : cJ4_init_2.data.toList.drop 24 = dktJ4_init_2_1 := dk_seg dksJ4_init_2_0 24 rfl rfl
theorem dksJ4_init_2_2 : cJ4_init_2.data.toList.drop 48 = dktJ4_init_2_2 := dk_seg dksJ4_init_2_1 24 rfl rfl
theorem dksJ4_init_2_3 : cJ4_init_2.data.toList.drop 72 = dktJ4_init_2_3 := dk_seg dksJ4_init_2_2 24 rfl rfl
theorem dksJ4_init_2_4 : cJ4_init_2.data.toList.drop 94 = dktJ4_init_2_4 := dk_seg dksJ4_init_2_3 22 rfl rfl
theorem dJ4_init_2_0 : decode cJ4_init_2 0 = .ok (.aload_n 0, 1) := dk_42 (dk_at dksJ4_init_2_0 0 rfl rfl)
theorem dJ4_init_2_1 : decode cJ4_init_2 1 = .ok (.invokespecial 1, 3) := dk_183 0 1 (dk_at dksJ4_init_2_0 1 rfl rfl)
theorem dJ4_init_2_4 : decode cJ4_init_2 4 = .ok (.aload_n 1, 1) := dk_43 (dk_at dksJ4_init_2_0 4 rfl rfl)
theorem dJ4_init_2_5 : decode cJ4_init_2 5 = .ok (.invokevirtual 552, 3) := dk_182 2 40 (dk_at dksJ4_init_2_0 5 rfl rfl)
theorem dJ4_init_2_8 : decode cJ4_init_2 8 = .ok (.astore_n 3, 1) := dk_78 (dk_at dksJ4_init_2_0 8 rfl rfl)
theorem dJ4_init_2_9 : decode cJ4_init_2 9 = .ok (.aload_n 1, 1) := dk_43 (dk_at dksJ4_init_2_0 9 rfl rfl)
theorem dJ4_init_2_10 : decode cJ4_init_2 10 = .ok (.invokevirtual 549, 3) := dk_182 2 37 (dk_at dksJ4_init_2_0 10 rfl rfl)
theorem dJ4_init_2_13 : decode cJ4_init_2 13 = .ok (.istore 4, 2) := dk_54 4 (dk_at dksJ4_init_2_0 13 rfl rfl)
theorem dJ4_init_2_15 : decode cJ4_init_2 15 = .ok (.aload_n 1, 1) := dk_43 (dk_at dksJ4_init_2_0 15 rfl rfl)
theorem dJ4_init_2_16 : decode cJ4_init_2 16 = .ok (.invokevirtual 1047, 3) := dk_182 4 23 (dk_at dksJ4_init_2_0 16 rfl rfl)
theorem dJ4_init_2_19 : decode cJ4_init_2 19 = .ok (.ifCond .eq 22, 3) := dk_153 0 22 (dk_at dksJ4_init_2_0 19 rfl rfl)
theorem dJ4_init_2_22 : decode cJ4_init_2 22 = .ok (.aload_n 0, 1) := dk_42 (dk_at dksJ4_init_2_0 22 rfl rfl)
theorem dJ4_init_2_23 : decode cJ4_init_2 23 = .ok (.iconst 0, 1) := dk_3 (dk_at dksJ4_init_2_0 23 rfl rfl)
theorem dJ4_init_2_24 : decode cJ4_init_2 24 = .ok (.putfield 15, 3) := dk_181 0 15 (dk_at dksJ4_init_2_1 0 rfl rfl)
theorem dJ4_init_2_27 : decode cJ4_init_2 27 = .ok (.aload_n 0, 1) := dk_42 (dk_at dksJ4_init_2_1 3 rfl rfl)
theorem dJ4_init_2_28 : decode cJ4_init_2 28 = .ok (.aload_n 3, 1) := dk_45 (dk_at dksJ4_init_2_1 4 rfl rfl)
theorem dJ4_init_2_29 : decode cJ4_init_2 29 = .ok (.iconst 0, 1) := dk_3 (dk_at dksJ4_init_2_1 5 rfl rfl)
theorem dJ4_init_2_30 : decode cJ4_init_2 30 = .ok (.iload 4, 2) := dk_21 4 (dk_at dksJ4_init_2_1 6 rfl rfl)
theorem dJ4_init_2_32 : decode cJ4_init_2 32 = .ok (.invokestatic 54, 3) := dk_184 0 54 (dk_at dksJ4_init_2_1 8 rfl rfl)
theorem dJ4_init_2_35 : decode cJ4_init_2 35 = .ok (.putfield 9, 3) := dk_181 0 9 (dk_at dksJ4_init_2_1 11 rfl rfl)
theorem dJ4_init_2_38 : decode cJ4_init_2 38 = .ok (.goto 59, 3) := dk_167 0 59 (dk_at dksJ4_init_2_1 14 rfl rfl)
theorem dJ4_init_2_41 : decode cJ4_init_2 41 = .ok (.getstatic 38, 3) := dk_178 0 38 (dk_at dksJ4_init_2_1 17 rfl rfl)
theorem dJ4_init_2_44 : decode cJ4_init_2 44 = .ok (.ifCond .eq 35, 3) := dk_153 0 35 (dk_at dksJ4_init_2_1 20 rfl rfl)
theorem dJ4_init_2_47 : decode cJ4_init_2 47 = .ok (.aload_n 1, 1) := dk_43 (dk_at dksJ4_init_2_1 23 rfl rfl)
theorem dJ4_init_2_48 : decode cJ4_init_2 48 = .ok (.getfield 1048, 3) := dk_180 4 24 (dk_at dksJ4_init_2_2 0 rfl rfl)
theorem dJ4_init_2_51 : decode cJ4_init_2 51 = .ok (.ifCond .eq 28, 3) := dk_153 0 28 (dk_at dksJ4_init_2_2 3 rfl rfl)
theorem dJ4_init_2_54 : decode cJ4_init_2 54 = .ok (.aload_n 0, 1) := dk_42 (dk_at dksJ4_init_2_2 6 rfl rfl)
theorem dJ4_init_2_55 : decode cJ4_init_2 55 = .ok (.aload_n 3, 1) := dk_45 (dk_at dksJ4_init_2_2 7 rfl rfl)
theorem dJ4_init_2_56 : decode cJ4_init_2 56 = .ok (.iconst 0, 1) := dk_3 (dk_at dksJ4_init_2_2 8 rfl rfl)
theorem dJ4_init_2_57 : decode cJ4_init_2 57 = .ok (.iload 4, 2) := dk_21 4 (dk_at dksJ4_init_2_2 9 rfl rfl)
theorem dJ4_init_2_59 : decode cJ4_init_2 59 = .ok (.invokestatic 1051, 3) := dk_184 4 27 (dk_at dksJ4_init_2_2 11 rfl rfl)
theorem dJ4_init_2_62 : decode cJ4_init_2 62 = .ok (.putfield 9, 3) := dk_181 0 9 (dk_at dksJ4_init_2_2 14 rfl rfl)
theorem dJ4_init_2_65 : decode cJ4_init_2 65 = .ok (.aload_n 0, 1) := dk_42 (dk_at dksJ4_init_2_2 17 rfl rfl)
theorem dJ4_init_2_66 : decode cJ4_init_2 66 = .ok (.aload_n 0, 1) := dk_42 (dk_at dksJ4_init_2_2 18 rfl rfl)
theorem dJ4_init_2_67 : decode cJ4_init_2 67 = .ok (.getfield 9, 3) := dk_180 0 9 (dk_at dksJ4_init_2_2 19 rfl rfl)
theorem dJ4_init_2_70 : decode cJ4_init_2 70 = .ok (.iload 4, 2) := dk_21 4 (dk_at dksJ4_init_2_2 22 rfl rfl)
theorem dJ4_init_2_72 : decode cJ4_init_2 72 = .ok (.invokestatic 47, 3) := dk_184 0 47 (dk_at dksJ4_init_2_3 0 rfl rfl)
theorem dJ4_init_2_75 : decode cJ4_init_2 75 = .ok (.putfield 15, 3) := dk_181 0 15 (dk_at dksJ4_init_2_3 3 rfl rfl)
theorem dJ4_init_2_78 : decode cJ4_init_2 78 = .ok (.return_, 1) := dk_177 (dk_at dksJ4_init_2_3 6 rfl rfl)
theorem dJ4_init_2_79 : decode cJ4_init_2 79 = .ok (.aload_n 0, 1) := dk_42 (dk_at dksJ4_init_2_3 7 rfl rfl)
theorem dJ4_init_2_80 : decode cJ4_init_2 80 = .ok (.iconst 1, 1) := dk_4 (dk_at dksJ4_init_2_3 8 rfl rfl)
theorem dJ4_init_2_81 : decode cJ4_init_2 81 = .ok (.putfield 15, 3) := dk_181 0 15 (dk_at dksJ4_init_2_3 9 rfl rfl)
theorem dJ4_init_2_84 : decode cJ4_init_2 84 = .ok (.aload_n 0, 1) := dk_42 (dk_at dksJ4_init_2_3 12 rfl rfl)
theorem dJ4_init_2_85 : decode cJ4_init_2 85 = .ok (.aload_n 3, 1) := dk_45 (dk_at dksJ4_init_2_3 13 rfl rfl)
theorem dJ4_init_2_86 : decode cJ4_init_2 86 = .ok (.iconst 0, 1) := dk_3 (dk_at dksJ4_init_2_3 14 rfl rfl)
theorem dJ4_init_2_87 : decode cJ4_init_2 87 = .ok (.iload 4, 2) := dk_21 4 (dk_at dksJ4_init_2_3 15 rfl rfl)
theorem dJ4_init_2_89 : decode cJ4_init_2 89 = .ok (.iconst 1, 1) := dk_4 (dk_at dksJ4_init_2_3 17 rfl rfl)
theorem dJ4_init_2_90 : decode cJ4_init_2 90 = .ok (.ishl, 1) := dk_120 (dk_at dksJ4_init_2_3 18 rfl rfl)
theorem dJ4_init_2_91 : decode cJ4_init_2 91 = .ok (.invokestatic 54, 3) := dk_184 0 54 (dk_at dksJ4_init_2_3 19 rfl rfl)
theorem dJ4_init_2_94 : decode cJ4_init_2 94 = .ok (.putfield 9, 3) := dk_181 0 9 (dk_at dksJ4_init_2_4 0 rfl rfl)
theorem dJ4_init_2_97 : decode cJ4_init_2 97 = .ok (.return_, 1) := dk_177 (dk_at dksJ4_init_2_4 3 rfl rfl)
abbrev cJ4_checkIndex : ByteArray := prog_26_method_155_code
def yJ4_checkIndex : MethodName := ⟨RJ4, "checkIndex", "(II)V"⟩
def dkwJ4_checkIndex_0 : List UInt8 := [26, 27, 178, 4, 29, 184, 4, 35, 87, 177]
abbrev dktJ4_checkIndex_0 : List UInt8 := dkwJ4_checkIndex_0 ++ []
theorem dksJ4_checkIndex_0 : cJ4_checkIndex.data.toList.drop 0 = dktJ4_checkIndex_0 := by decide +kernel
theorem dJ4_checkIndex_0 : decode cJ4_checkIndex 0 = .ok (.iload_n 0, 1) := dk_26 (dk_at dksJ4_checkIndex_0 0 rfl rfl)
theorem dJ4_checkIndex_1 : decode cJ4_checkIndex 1 = .ok (.iload_n 1, 1) := dk_27 (dk_at dksJ4_checkIndex_0 1 rfl rfl)
theorem dJ4_checkIndex_2 : decode cJ4_checkIndex 2 = .ok (.getstatic 1053, 3) := dk_178 4 29 (dk_at dksJ4_checkIndex_0 2 rfl rfl)
theorem dJ4_checkIndex_5 : decode cJ4_checkIndex 5 = .ok (.invokestatic 1059, 3) := dk_184 4 35 (dk_at dksJ4_checkIndex_0 5 rfl rfl)
theorem dJ4_checkIndex_8 : decode cJ4_checkIndex 8 = .ok (.pop, 1) := dk_87 (dk_at dksJ4_checkIndex_0 8 rfl rfl)
theorem dJ4_checkIndex_9 : decode cJ4_checkIndex 9 = .ok (.return_, 1) := dk_177 (dk_at dksJ4_checkIndex_0 9 rfl rfl)
abbrev cJ4_charAt : ByteArray := prog_26_method_56_code
def yJ4_charAt : MethodName := ⟨RJ4, "charAt", "(I)C"⟩
def dkwJ4_charAt_1 : List UInt8 := [172]
abbrev dktJ4_charAt_1 : List UInt8 := dkwJ4_charAt_1 ++ []
def dkwJ4_charAt_0 : List UInt8 := [42, 182, 1, 236, 153, 0, 12, 42, 180, 0, 9, 27, 184, 1, 239, 172, 42, 180, 0, 9, 27, 184, 1, 242]
abbrev dktJ4_charAt_0 : List UInt8 := dkwJ4_charAt_0 ++ dktJ4_charAt_1
theorem dksJ4_charAt_0 : cJ4_charAt.data.toList.drop 0 = dktJ4_charAt_0 := by decide +kernel
theorem dksJ4_charAt_1 : cJ4_charAt.data.toList.drop 24 = dktJ4_charAt_1 := dk_seg dksJ4_charAt_0 24 rfl rfl
theorem dJ4_charAt_0 : decode cJ4_charAt 0 = .ok (.aload_n 0, 1) := dk_42 (dk_at dksJ4_charAt_0 0 rfl rfl)
theorem dJ4_charAt_1 : decode cJ4_charAt 1 = .ok (.invokevirtual 492, 3) := dk_182 1 236 (dk_at dksJ4_charAt_0 1 rfl rfl)
theorem dJ4_charAt_4 : decode cJ4_charAt 4 = .ok (.ifCond .eq 12, 3) := dk_153 0 12 (dk_at dksJ4_charAt_0 4 rfl rfl)
theorem dJ4_charAt_7 : decode cJ4_charAt 7 = .ok (.aload_n 0, 1) := dk_42 (dk_at dksJ4_charAt_0 7 rfl rfl)
theorem dJ4_charAt_8 : decode cJ4_charAt 8 = .ok (.getfield 9, 3) := dk_180 0 9 (dk_at dksJ4_charAt_0 8 rfl rfl)
theorem dJ4_charAt_11 : decode cJ4_charAt 11 = .ok (.iload_n 1, 1) := dk_27 (dk_at dksJ4_charAt_0 11 rfl rfl)
theorem dJ4_charAt_12 : decode cJ4_charAt 12 = .ok (.invokestatic 495, 3) := dk_184 1 239 (dk_at dksJ4_charAt_0 12 rfl rfl)
theorem dJ4_charAt_15 : decode cJ4_charAt 15 = .ok (.ireturn, 1) := dk_172 (dk_at dksJ4_charAt_0 15 rfl rfl)
theorem dJ4_charAt_16 : decode cJ4_charAt 16 = .ok (.aload_n 0, 1) := dk_42 (dk_at dksJ4_charAt_0 16 rfl rfl)
theorem dJ4_charAt_17 : decode cJ4_charAt 17 = .ok (.getfield 9, 3) := dk_180 0 9 (dk_at dksJ4_charAt_0 17 rfl rfl)
theorem dJ4_charAt_20 : decode cJ4_charAt 20 = .ok (.iload_n 1, 1) := dk_27 (dk_at dksJ4_charAt_0 20 rfl rfl)
theorem dJ4_charAt_21 : decode cJ4_charAt 21 = .ok (.invokestatic 498, 3) := dk_184 1 242 (dk_at dksJ4_charAt_0 21 rfl rfl)
theorem dJ4_charAt_24 : decode cJ4_charAt 24 = .ok (.ireturn, 1) := dk_172 (dk_at dksJ4_charAt_1 0 rfl rfl)
abbrev cJ4_isLatin1 : ByteArray := prog_26_method_154_code
def yJ4_isLatin1 : MethodName := ⟨RJ4, "isLatin1", "()Z"⟩
def dkwJ4_isLatin1_0 : List UInt8 := [178, 0, 38, 153, 0, 14, 42, 180, 0, 15, 154, 0, 7, 4, 167, 0, 4, 3, 172]
abbrev dktJ4_isLatin1_0 : List UInt8 := dkwJ4_isLatin1_0 ++ []
theorem dksJ4_isLatin1_0 : cJ4_isLatin1.data.toList.drop 0 = dktJ4_isLatin1_0 := by decide +kernel
theorem dJ4_isLatin1_0 : decode cJ4_isLatin1 0 = .ok (.getstatic 38, 3) := dk_178 0 38 (dk_at dksJ4_isLatin1_0 0 rfl rfl)
theorem dJ4_isLatin1_3 : decode cJ4_isLatin1 3 = .ok (.ifCond .eq 14, 3) := dk_153 0 14 (dk_at dksJ4_isLatin1_0 3 rfl rfl)
theorem dJ4_isLatin1_6 : decode cJ4_isLatin1 6 = .ok (.aload_n 0, 1) := dk_42 (dk_at dksJ4_isLatin1_0 6 rfl rfl)
theorem dJ4_isLatin1_7 : decode cJ4_isLatin1 7 = .ok (.getfield 15, 3) := dk_180 0 15 (dk_at dksJ4_isLatin1_0 7 rfl rfl)
theorem dJ4_isLatin1_10 : decode cJ4_isLatin1 10 = .ok (.ifCond .ne 7, 3) := dk_154 0 7 (dk_at dksJ4_isLatin1_0 10 rfl rfl)
theorem dJ4_isLatin1_13 : decode cJ4_isLatin1 13 = .ok (.iconst 1, 1) := dk_4 (dk_at dksJ4_isLatin1_0 13 rfl rfl)
theorem dJ4_isLatin1_14 : decode cJ4_isLatin1 14 = .ok (.goto 4, 3) := dk_167 0 4 (dk_at dksJ4_isLatin1_0 14 rfl rfl)
theorem dJ4_isLatin1_17 : decode cJ4_isLatin1 17 = .ok (.iconst 0, 1) := dk_3 (dk_at dksJ4_isLatin1_0 17 rfl rfl)
theorem dJ4_isLatin1_18 : decode cJ4_isLatin1 18 = .ok (.ireturn, 1) := dk_172 (dk_at dksJ4_isLatin1_0 18 rfl rfl)
abbrev cJ4_equals : ByteArray := prog_26_method_66_code
def yJ4_equals : MethodName := ⟨RJ4, "equals", "(Ljava/lang/Object;)Z"⟩
def dkwJ4_equals_2 : List UInt8 := [184, 2, 29, 153, 0, 7, 4, 167, 0, 4, 3, 172]
abbrev dktJ4_equals_2 : List UInt8 := dkwJ4_equals_2 ++ []
def dkwJ4_equals_1 : List UInt8 := [153, 0, 14, 42, 180, 0, 15, 44, 180, 0, 15, 160, 0, 21, 42, 180, 0, 9, 44, 180, 0, 9]
abbrev dktJ4_equals_1 : List UInt8 := dkwJ4_equals_1 ++ dktJ4_equals_2
def dkwJ4_equals_0 : List UInt8 := [42, 43, 166, 0, 5, 4, 172, 43, 193, 0, 10, 153, 0, 43, 43, 192, 0, 10, 77, 178, 0, 38]
abbrev dktJ4_equals_0 : List UInt8 := dkwJ4_equals_0 ++ dktJ4_equals_1
theorem dksJ4_equals_0 : cJ4_equals.data.toList.drop 0 = dktJ4_equals_0 := by decide +kernel
theorem dksJ4_equals_1 : cJ4_equals.data.toList.drop 22 = dktJ4_equals_1 := dk_seg dksJ4_equals_0 22 rfl rfl
theorem dksJ4_equals_2 : cJ4_equals.data.toList.drop 44 = dktJ4_equals_2 := dk_seg dksJ4_equals_1 22 rfl rfl
theorem dJ4_equals_0 : decode cJ4_equals 0 = .ok (.aload_n 0, 1) := dk_42 (dk_at dksJ4_equals_0 0 rfl rfl)
theorem dJ4_equals_1 : decode cJ4_equals 1 = .ok (.aload_n 1, 1) := dk_43 (dk_at dksJ4_equals_0 1 rfl rfl)
theorem dJ4_equals_2 : decode cJ4_equals 2 = .ok (.if_acmp .ne 5, 3) := dk_166 0 5 (dk_at dksJ4_equals_0 2 rfl rfl)
theorem dJ4_equals_5 : decode cJ4_equals 5 = .ok (.iconst 1, 1) := dk_4 (dk_at dksJ4_equals_0 5 rfl rfl)
theorem dJ4_equals_6 : decode cJ4_equals 6 = .ok (.ireturn, 1) := dk_172 (dk_at dksJ4_equals_0 6 rfl rfl)
theorem dJ4_equals_7 : decode cJ4_equals 7 = .ok (.aload_n 1, 1) := dk_43 (dk_at dksJ4_equals_0 7 rfl rfl)
theorem dJ4_equals_8 : decode cJ4_equals 8 = .ok (.instanceof 10, 3) := dk_193 0 10 (dk_at dksJ4_equals_0 8 rfl rfl)
theorem dJ4_equals_11 : decode cJ4_equals 11 = .ok (.ifCond .eq 43, 3) := dk_153 0 43 (dk_at dksJ4_equals_0 11 rfl rfl)
theorem dJ4_equals_14 : decode cJ4_equals 14 = .ok (.aload_n 1, 1) := dk_43 (dk_at dksJ4_equals_0 14 rfl rfl)
theorem dJ4_equals_15 : decode cJ4_equals 15 = .ok (.checkcast 10, 3) := dk_192 0 10 (dk_at dksJ4_equals_0 15 rfl rfl)
theorem dJ4_equals_18 : decode cJ4_equals 18 = .ok (.astore_n 2, 1) := dk_77 (dk_at dksJ4_equals_0 18 rfl rfl)
theorem dJ4_equals_19 : decode cJ4_equals 19 = .ok (.getstatic 38, 3) := dk_178 0 38 (dk_at dksJ4_equals_0 19 rfl rfl)
theorem dJ4_equals_22 : decode cJ4_equals 22 = .ok (.ifCond .eq 14, 3) := dk_153 0 14 (dk_at dksJ4_equals_1 0 rfl rfl)
theorem dJ4_equals_25 : decode cJ4_equals 25 = .ok (.aload_n 0, 1) := dk_42 (dk_at dksJ4_equals_1 3 rfl rfl)
theorem dJ4_equals_26 : decode cJ4_equals 26 = .ok (.getfield 15, 3) := dk_180 0 15 (dk_at dksJ4_equals_1 4 rfl rfl)
theorem dJ4_equals_29 : decode cJ4_equals 29 = .ok (.aload_n 2, 1) := dk_44 (dk_at dksJ4_equals_1 7 rfl rfl)
theorem dJ4_equals_30 : decode cJ4_equals 30 = .ok (.getfield 15, 3) := dk_180 0 15 (dk_at dksJ4_equals_1 8 rfl rfl)
theorem dJ4_equals_33 : decode cJ4_equals 33 = .ok (.if_icmp .ne 21, 3) := dk_160 0 21 (dk_at dksJ4_equals_1 11 rfl rfl)
theorem dJ4_equals_36 : decode cJ4_equals 36 = .ok (.aload_n 0, 1) := dk_42 (dk_at dksJ4_equals_1 14 rfl rfl)
theorem dJ4_equals_37 : decode cJ4_equals 37 = .ok (.getfield 9, 3) := dk_180 0 9 (dk_at dksJ4_equals_1 15 rfl rfl)
theorem dJ4_equals_40 : decode cJ4_equals 40 = .ok (.aload_n 2, 1) := dk_44 (dk_at dksJ4_equals_1 18 rfl rfl)
theorem dJ4_equals_41 : decode cJ4_equals 41 = .ok (.getfield 9, 3) := dk_180 0 9 (dk_at dksJ4_equals_1 19 rfl rfl)
theorem dJ4_equals_44 : decode cJ4_equals 44 = .ok (.invokestatic 541, 3) := dk_184 2 29 (dk_at dksJ4_equals_2 0 rfl rfl)
theorem dJ4_equals_47 : decode cJ4_equals 47 = .ok (.ifCond .eq 7, 3) := dk_153 0 7 (dk_at dksJ4_equals_2 3 rfl rfl)
theorem dJ4_equals_50 : decode cJ4_equals 50 = .ok (.iconst 1, 1) := dk_4 (dk_at dksJ4_equals_2 6 rfl rfl)
theorem dJ4_equals_51 : decode cJ4_equals 51 = .ok (.goto 4, 3) := dk_167 0 4 (dk_at dksJ4_equals_2 7 rfl rfl)
theorem dJ4_equals_54 : decode cJ4_equals 54 = .ok (.iconst 0, 1) := dk_3 (dk_at dksJ4_equals_2 10 rfl rfl)
theorem dJ4_equals_55 : decode cJ4_equals 55 = .ok (.ireturn, 1) := dk_172 (dk_at dksJ4_equals_2 11 rfl rfl)
abbrev cJ4_toString : ByteArray := prog_26_method_126_code
def yJ4_toString : MethodName := ⟨RJ4, "toString", "()Ljava/lang/String;"⟩
theorem dJ4_toString_0 : decode cJ4_toString 0 = .ok (.aload_n 0, 1) := by decide +kernel
theorem dJ4_toString_1 : decode cJ4_toString 1 = .ok (.areturn, 1) := by decide +kernel
abbrev cJ4_hashCode : ByteArray := prog_26_method_78_code
def yJ4_hashCode : MethodName := ⟨RJ4, "hashCode", "()I"⟩
def dkwJ4_hashCode_2 : List UInt8 := [181, 0, 23, 167, 0, 8, 42, 27, 181, 0, 19, 27, 172]
abbrev dktJ4_hashCode_2 : List UInt8 := dkwJ4_hashCode_2 ++ []
def dkwJ4_hashCode_1 : List UInt8 := [180, 0, 9, 184, 2, 116, 167, 0, 10, 42, 180, 0, 9, 184, 2, 120, 60, 27, 154, 0, 11, 42, 4]
abbrev dktJ4_hashCode_1 : List UInt8 := dkwJ4_hashCode_1 ++ dktJ4_hashCode_2
def dkwJ4_hashCode_0 : List UInt8 := [42, 180, 0, 19, 60, 27, 154, 0, 52, 42, 180, 0, 23, 154, 0, 45, 42, 182, 1, 236, 153, 0, 13, 42]
abbrev dktJ4_hashCode_0 : List UInt8 := dkwJ4_hashCode_0 ++ dktJ4_hashCode_1
theorem dksJ4_hashCode_0 : cJ4_hashCode.data.toList.drop 0 = dktJ4_hashCode_0 := by decide +kernel
theorem dksJ4_hashCode_1 : cJ4_hashCode.data.toList.drop 24 = dktJ4_hashCode_1 := dk_seg dksJ4_hashCode_0 24 rfl rfl
theorem dksJ4_hashCode_2 : cJ4_hashCode.data.toList.drop 47 = dktJ4_hashCode_2 := dk_seg dksJ4_hashCode_1 23 rfl rfl
theorem dJ4_hashCode_0 : decode cJ4_hashCode 0 = .ok (.aload_n 0, 1) := dk_42 (dk_at dksJ4_hashCode_0 0 rfl rfl)
theorem dJ4_hashCode_1 : decode cJ4_hashCode 1 = .ok (.getfield 19, 3) := dk_180 0 19 (dk_at dksJ4_hashCode_0 1 rfl rfl)
theorem dJ4_hashCode_4 : decode cJ4_hashCode 4 = .ok (.istore_n 1, 1) := dk_60 (dk_at dksJ4_hashCode_0 4 rfl rfl)
theorem dJ4_hashCode_5 : decode cJ4_hashCode 5 = .ok (.iload_n 1, 1) := dk_27 (dk_at dksJ4_hashCode_0 5 rfl rfl)
theorem dJ4_hashCode_6 : decode cJ4_hashCode 6 = .ok (.ifCond .ne 52, 3) := dk_154 0 52 (dk_at dksJ4_hashCode_0 6 rfl rfl)
theorem dJ4_hashCode_9 : decode cJ4_hashCode 9 = .ok (.aload_n 0, 1) := dk_42 (dk_at dksJ4_hashCode_0 9 rfl rfl)
theorem dJ4_hashCode_10 : decode cJ4_hashCode 10 = .ok (.getfield 23, 3) := dk_180 0 23 (dk_at dksJ4_hashCode_0 10 rfl rfl)
theorem dJ4_hashCode_13 : decode cJ4_hashCode 13 = .ok (.ifCond .ne 45, 3) := dk_154 0 45 (dk_at dksJ4_hashCode_0 13 rfl rfl)
theorem dJ4_hashCode_16 : decode cJ4_hashCode 16 = .ok (.aload_n 0, 1) := dk_42 (dk_at dksJ4_hashCode_0 16 rfl rfl)
theorem dJ4_hashCode_17 : decode cJ4_hashCode 17 = .ok (.invokevirtual 492, 3) := dk_182 1 236 (dk_at dksJ4_hashCode_0 17 rfl rfl)
theorem dJ4_hashCode_20 : decode cJ4_hashCode 20 = .ok (.ifCond .eq 13, 3) := dk_153 0 13 (dk_at dksJ4_hashCode_0 20 rfl rfl)
theorem dJ4_hashCode_23 : decode cJ4_hashCode 23 = .ok (.aload_n 0, 1) := dk_42 (dk_at dksJ4_hashCode_0 23 rfl rfl)
theorem dJ4_hashCode_24 : decode cJ4_hashCode 24 = .ok (.getfield 9, 3) := dk_180 0 9 (dk_at dksJ4_hashCode_1 0 rfl rfl)
theorem dJ4_hashCode_27 : decode cJ4_hashCode 27 = .ok (.invokestatic 628, 3) := dk_184 2 116 (dk_at dksJ4_hashCode_1 3 rfl rfl)
theorem dJ4_hashCode_30 : decode cJ4_hashCode 30 = .ok (.goto 10, 3) := dk_167 0 10 (dk_at dksJ4_hashCode_1 6 rfl rfl)
theorem dJ4_hashCode_33 : decode cJ4_hashCode 33 = .ok (.aload_n 0, 1) := dk_42 (dk_at dksJ4_hashCode_1 9 rfl rfl)
theorem dJ4_hashCode_34 : decode cJ4_hashCode 34 = .ok (.getfield 9, 3) := dk_180 0 9 (dk_at dksJ4_hashCode_1 10 rfl rfl)
theorem dJ4_hashCode_37 : decode cJ4_hashCode 37 = .ok (.invokestatic 632, 3) := dk_184 2 120 (dk_at dksJ4_hashCode_1 13 rfl rfl)
theorem dJ4_hashCode_40 : decode cJ4_hashCode 40 = .ok (.istore_n 1, 1) := dk_60 (dk_at dksJ4_hashCode_1 16 rfl rfl)
theorem dJ4_hashCode_41 : decode cJ4_hashCode 41 = .ok (.iload_n 1, 1) := dk_27 (dk_at dksJ4_hashCode_1 17 rfl rfl)
theorem dJ4_hashCode_42 : decode cJ4_hashCode 42 = .ok (.ifCond .ne 11, 3) := dk_154 0 11 (dk_at dksJ4_hashCode_1 18 rfl rfl)
theorem dJ4_hashCode_45 : decode cJ4_hashCode 45 = .ok (.aload_n 0, 1) := dk_42 (dk_at dksJ4_hashCode_1 21 rfl rfl)
theorem dJ4_hashCode_46 : decode cJ4_hashCode 46 = .ok (.iconst 1, 1) := dk_4 (dk_at dksJ4_hashCode_1 22 rfl rfl)
theorem dJ4_hashCode_47 : decode cJ4_hashCode 47 = .ok (.putfield 23, 3) := dk_181 0 23 (dk_at dksJ4_hashCode_2 0 rfl rfl)
theorem dJ4_hashCode_50 : decode cJ4_hashCode 50 = .ok (.goto 8, 3) := dk_167 0 8 (dk_at dksJ4_hashCode_2 3 rfl rfl)
theorem dJ4_hashCode_53 : decode cJ4_hashCode 53 = .ok (.aload_n 0, 1) := dk_42 (dk_at dksJ4_hashCode_2 6 rfl rfl)
theorem dJ4_hashCode_54 : decode cJ4_hashCode 54 = .ok (.iload_n 1, 1) := dk_27 (dk_at dksJ4_hashCode_2 7 rfl rfl)
theorem dJ4_hashCode_55 : decode cJ4_hashCode 55 = .ok (.putfield 19, 3) := dk_181 0 19 (dk_at dksJ4_hashCode_2 8 rfl rfl)
theorem dJ4_hashCode_58 : decode cJ4_hashCode 58 = .ok (.iload_n 1, 1) := dk_27 (dk_at dksJ4_hashCode_2 11 rfl rfl)
theorem dJ4_hashCode_59 : decode cJ4_hashCode 59 = .ok (.ireturn, 1) := dk_172 (dk_at dksJ4_hashCode_2 12 rfl rfl)
theorem q100 : (Jvm.Cond.initialized "java/lang/String") ∈ lw_all := lw_g (lw_at lw_m1 7 rfl) rfl
theorem q225 : (Jvm.Cond.laysStatic "java/lang/String" "COMPACT_STRINGS" "Z") ∈ lw_tbl := lw_at lw_m1 132 rfl
theorem q236 : (Jvm.Cond.fieldLink "java/lang/String" (1048 : Nat) "java/lang/AbstractStringBuilder" "maybeLatin1" "Z") ∈ lw_all := lw_g (lw_at lw_m1 143 rfl) rfl
theorem q437 : (Jvm.Cond.selects "java/lang/String" ({ cls := "java/lang/Object", name := "getClass", desc := "()Ljava/lang/Class;" } : Jvm.MethodName) ({ cls := "java/lang/Object", name := "getClass", desc := "()Ljava/lang/Class;" } : Jvm.MethodName)) ∈ lw_all := lw_g (lw_at lw_m2 104 rfl) rfl
theorem q632 : (Jvm.Cond.static ({ cls := "java/lang/String", name := "checkBoundsBeginEnd", desc := "(III)V" } : Jvm.MethodName)) ∈ lw_all := lw_g (lw_at lw_m3 59 rfl) rfl
theorem q633 : (Jvm.Cond.code ({ cls := "java/lang/String", name := "checkBoundsBeginEnd", desc := "(III)V" } : Jvm.MethodName) prog_26_method_158_code (3 : Nat) (Option.none : Option Jvm.ClassFile.FieldType)) ∈ lw_all := lw_g (lw_at lw_m3 60 rfl) rfl
theorem q634 : (Jvm.Cond.fieldLink "java/lang/String" (1053 : Nat) "jdk/internal/util/Preconditions" "SIOOBE_FORMATTER" "Ljava/util/function/BiFunction;") ∈ lw_all := lw_g (lw_at lw_m3 61 rfl) rfl
theorem q636 : (Jvm.Cond.methodLink "java/lang/String" (1062 : Nat) ({ cls := "jdk/internal/util/Preconditions", name := "checkFromToIndex", desc := "(IIILjava/util/function/BiFunction;)I" } : Jvm.MethodName)) ∈ lw_all := lw_g (lw_at lw_m3 63 rfl) rfl
theorem q649 : (Jvm.Cond.instanceMethod ({ cls := "java/lang/String", name := "length", desc := "()I" } : Jvm.MethodName)) ∈ lw_all := lw_g (lw_at lw_m3 76 rfl) rfl
theorem q650 : (Jvm.Cond.selects "java/lang/String" ({ cls := "java/lang/String", name := "length", desc := "()I" } : Jvm.MethodName) ({ cls := "java/lang/String", name := "length", desc := "()I" } : Jvm.MethodName)) ∈ lw_all := lw_g (lw_at lw_m3 77 rfl) rfl
theorem q651 : (Jvm.Cond.code ({ cls := "java/lang/String", name := "length", desc := "()I" } : Jvm.MethodName) prog_26_method_54_code (1 : Nat) (Option.some Jvm.ClassFile.FieldType.int)) ∈ lw_all := lw_g (lw_at lw_m3 78 rfl) rfl
theorem q652 : (Jvm.Cond.methodLink "java/lang/String" (335 : Nat) ({ cls := "java/lang/String", name := "coder", desc := "()B" } : Jvm.MethodName)) ∈ lw_all := lw_g (lw_at lw_m3 79 rfl) rfl
theorem q653 : (Jvm.Cond.instanceMethod ({ cls := "java/lang/String", name := "coder", desc := "()B" } : Jvm.MethodName)) ∈ lw_all := lw_g (lw_at lw_m3 80 rfl) rfl
theorem q654 : (Jvm.Cond.selects "java/lang/String" ({ cls := "java/lang/String", name := "coder", desc := "()B" } : Jvm.MethodName) ({ cls := "java/lang/String", name := "coder", desc := "()B" } : Jvm.MethodName)) ∈ lw_all := lw_g (lw_at lw_m3 81 rfl) rfl
theorem q655 : (Jvm.Cond.code ({ cls := "java/lang/String", name := "coder", desc := "()B" } : Jvm.MethodName) prog_26_method_152_code (1 : Nat) (Option.some Jvm.ClassFile.FieldType.byte)) ∈ lw_all := lw_g (lw_at lw_m3 82 rfl) rfl
theorem q656 : (Jvm.Cond.fieldLink "java/lang/String" (38 : Nat) "java/lang/String" "COMPACT_STRINGS" "Z") ∈ lw_all := lw_g (lw_at lw_m3 83 rfl) rfl
theorem q680 : (Jvm.Cond.static ({ cls := "java/lang/String", name := "checkBoundsOffCount", desc := "(III)I" } : Jvm.MethodName)) ∈ lw_all := lw_g (lw_at lw_m3 107 rfl) rfl
theorem q681 : (Jvm.Cond.code ({ cls := "java/lang/String", name := "checkBoundsOffCount", desc := "(III)I" } : Jvm.MethodName) prog_26_method_157_code (3 : Nat) (Option.some Jvm.ClassFile.FieldType.int)) ∈ lw_all := lw_g (lw_at lw_m3 108 rfl) rfl
theorem q682 : (Jvm.Cond.methodLink "java/lang/String" (1065 : Nat) ({ cls := "jdk/internal/util/Preconditions", name := "checkFromIndexSize", desc := "(IIILjava/util/function/BiFunction;)I" } : Jvm.MethodName)) ∈ lw_all := lw_g (lw_at lw_m3 109 rfl) rfl
theorem q686 : (Jvm.Cond.instanceMethod ({ cls := "java/lang/String", name := "getBytes", desc := "([BIB)V" } : Jvm.MethodName)) ∈ lw_all := lw_g (lw_at lw_m3 113 rfl) rfl
theorem q687 : (Jvm.Cond.selects "java/lang/String" ({ cls := "java/lang/String", name := "getBytes", desc := "([BIB)V" } : Jvm.MethodName) ({ cls := "java/lang/String", name := "getBytes", desc := "([BIB)V" } : Jvm.MethodName)) ∈ lw_all := lw_g (lw_at lw_m3 114 rfl) rfl
theorem q688 : (Jvm.Cond.code ({ cls := "java/lang/String", name := "getBytes", desc := "([BIB)V" } : Jvm.MethodName) prog_26_method_147_code (4 : Nat) (Option.none : Option Jvm.ClassFile.FieldType)) ∈ lw_all := lw_g (lw_at lw_m3 115 rfl) rfl
theorem q689 : (Jvm.Cond.methodLink "java/lang/String" (212 : Nat) ({ cls := "java/lang/System", name := "arraycopy", desc := "(Ljava/lang/Object;ILjava/lang/Object;II)V" } : Jvm.MethodName)) ∈ lw_all := lw_g (lw_at lw_m3 116 rfl) rfl
theorem q690 : (Jvm.Cond.methodLink "java/lang/String" (106 : Nat) ({ cls := "java/lang/StringLatin1", name := "inflate", desc := "([BI[BII)V" } : Jvm.MethodName)) ∈ lw_all := lw_g (lw_at lw_m3 117 rfl) rfl
theorem q721 : (Jvm.Cond.instantiable "java/lang/String" (4 : Nat)) ∈ lw_all := lw_g (lw_at lw_m3 148 rfl) rfl
theorem q723 : (Jvm.Cond.instanceMethod ({ cls := "java/lang/String", name := "<init>", desc := "(Ljava/lang/StringBuilder;)V" } : Jvm.MethodName)) ∈ lw_all := lw_g (lw_at lw_m3 150 rfl) rfl
theorem q724 : (Jvm.Cond.code ({ cls := "java/lang/String", name := "<init>", desc := "(Ljava/lang/StringBuilder;)V" } : Jvm.MethodName) prog_26_method_53_code (2 : Nat) (Option.none : Option Jvm.ClassFile.FieldType)) ∈ lw_all := lw_g (lw_at lw_m3 151 rfl) rfl
theorem q725 : (Jvm.Cond.methodLink "java/lang/String" (489 : Nat) ({ cls := "java/lang/String", name := "<init>", desc := "(Ljava/lang/AbstractStringBuilder;Ljava/lang/Void;)V" } : Jvm.MethodName)) ∈ lw_all := lw_g (lw_at lw_m3 152 rfl) rfl
theorem q726 : (Jvm.Cond.instanceMethod ({ cls := "java/lang/String", name := "<init>", desc := "(Ljava/lang/AbstractStringBuilder;Ljava/lang/Void;)V" } : Jvm.MethodName)) ∈ lw_all := lw_g (lw_at lw_m3 153 rfl) rfl
theorem q727 : (Jvm.Cond.code ({ cls := "java/lang/String", name := "<init>", desc := "(Ljava/lang/AbstractStringBuilder;Ljava/lang/Void;)V" } : Jvm.MethodName) prog_26_method_150_code (5 : Nat) (Option.none : Option Jvm.ClassFile.FieldType)) ∈ lw_all := lw_g (lw_at lw_m3 154 rfl) rfl
theorem q728 : (Jvm.Cond.methodLink "java/lang/String" (1 : Nat) ({ cls := "java/lang/Object", name := "<init>", desc := "()V" } : Jvm.MethodName)) ∈ lw_all := lw_g (lw_at lw_m3 155 rfl) rfl
theorem q729 : (Jvm.Cond.methodLink "java/lang/String" (552 : Nat) ({ cls := "java/lang/AbstractStringBuilder", name := "getValue", desc := "()[B" } : Jvm.MethodName)) ∈ lw_all := lw_g (lw_at lw_m3 156 rfl) rfl
theorem q734 : (Jvm.Cond.methodLink "java/lang/String" (549 : Nat) ({ cls := "java/lang/AbstractStringBuilder", name := "length", desc := "()I" } : Jvm.MethodName)) ∈ lw_all := lw_g (lw_at lw_m3 161 rfl) rfl
theorem q735 : (Jvm.Cond.methodLink "java/lang/String" (1047 : Nat) ({ cls := "java/lang/AbstractStringBuilder", name := "isLatin1", desc := "()Z" } : Jvm.MethodName)) ∈ lw_all := lw_g (lw_at lw_m3 162 rfl) rfl
theorem q736 : (Jvm.Cond.methodLink "java/lang/String" (54 : Nat) ({ cls := "java/util/Arrays", name := "copyOfRange", desc := "([BII)[B" } : Jvm.MethodName)) ∈ lw_all := lw_g (lw_at lw_m3 163 rfl) rfl
theorem q766 : (Jvm.Cond.methodLink "java/lang/String" (1051 : Nat) ({ cls := "java/lang/StringUTF16", name := "compress", desc := "([BII)[B" } : Jvm.MethodName)) ∈ lw_all := lw_g (lw_at lw_m3 193 rfl) rfl
theorem q776 : (Jvm.Cond.methodLink "java/lang/String" (47 : Nat) ({ cls := "java/lang/StringUTF16", name := "coderFromArrayLen", desc := "([BI)B" } : Jvm.MethodName)) ∈ lw_all := lw_g (lw_at lw_m3 203 rfl) rfl
theorem q779 : (Jvm.Cond.fieldLink "java/lang/String" (9 : Nat) "java/lang/String" "value" "[B") ∈ lw_all := lw_g (lw_at lw_m3 206 rfl) rfl
theorem q780 : (Jvm.Cond.fieldLink "java/lang/String" (15 : Nat) "java/lang/String" "coder" "B") ∈ lw_all := lw_g (lw_at lw_m3 207 rfl) rfl
theorem q781 : (Jvm.Cond.fieldLink "java/lang/String" (19 : Nat) "java/lang/String" "hash" "I") ∈ lw_all := lw_g (lw_at lw_m3 208 rfl) rfl
theorem q782 : (Jvm.Cond.fieldLink "java/lang/String" (23 : Nat) "java/lang/String" "hashIsZero" "Z") ∈ lw_all := lw_g (lw_at lw_m3 209 rfl) rfl
theorem q783 : (Jvm.Cond.laysFinal "java/lang/String" "java/lang/String" "value" "[B") ∈ lw_all := lw_g (lw_at lw_m3 210 rfl) rfl
theorem q784 : (Jvm.Cond.soleField "java/lang/String" "value") ∈ lw_all := lw_g (lw_at lw_m3 211 rfl) rfl
theorem q785 : (Jvm.Cond.laysFinal "java/lang/String" "java/lang/String" "coder" "B") ∈ lw_all := lw_g (lw_at lw_m3 212 rfl) rfl
theorem q786 : (Jvm.Cond.soleField "java/lang/String" "coder") ∈ lw_all := lw_g (lw_at lw_m3 213 rfl) rfl
theorem q787 : (Jvm.Cond.lays "java/lang/String" "java/lang/String" "hash" "I") ∈ lw_all := lw_g (lw_at lw_m3 214 rfl) rfl
theorem q788 : (Jvm.Cond.soleField "java/lang/String" "hash") ∈ lw_all := lw_g (lw_at lw_m3 215 rfl) rfl
theorem q789 : (Jvm.Cond.lays "java/lang/String" "java/lang/String" "hashIsZero" "Z") ∈ lw_all := lw_g (lw_at lw_m3 216 rfl) rfl
theorem q790 : (Jvm.Cond.soleField "java/lang/String" "hashIsZero") ∈ lw_all := lw_g (lw_at lw_m3 217 rfl) rfl
theorem q791 : (Jvm.Cond.superclass "java/lang/String" "java/lang/Object") ∈ lw_all := lw_g (lw_at lw_m3 218 rfl) rfl
theorem q909 : (Jvm.Cond.static ({ cls := "java/lang/String", name := "checkIndex", desc := "(II)V" } : Jvm.MethodName)) ∈ lw_all := lw_g (lw_at lw_m4 96 rfl) rfl
theorem q910 : (Jvm.Cond.code ({ cls := "java/lang/String", name := "checkIndex", desc := "(II)V" } : Jvm.MethodName) prog_26_method_155_code (2 : Nat) (Option.none : Option Jvm.ClassFile.FieldType)) ∈ lw_all := lw_g (lw_at lw_m4 97 rfl) rfl
theorem q911 : (Jvm.Cond.methodLink "java/lang/String" (1059 : Nat) ({ cls := "jdk/internal/util/Preconditions", name := "checkIndex", desc := "(IILjava/util/function/BiFunction;)I" } : Jvm.MethodName)) ∈ lw_all := lw_g (lw_at lw_m4 98 rfl) rfl
theorem q926 : (Jvm.Cond.castable "java/lang/String" "java/lang/CharSequence") ∈ lw_tbl := lw_at lw_m4 113 rfl
theorem q927 : (Jvm.Cond.selects "java/lang/String" ({ cls := "java/lang/CharSequence", name := "length", desc := "()I" } : Jvm.MethodName) ({ cls := "java/lang/String", name := "length", desc := "()I" } : Jvm.MethodName)) ∈ lw_all := lw_g (lw_at lw_m4 114 rfl) rfl
theorem q928 : (Jvm.Cond.unhidden "java/lang/String" "length" "()I") ∈ lw_tbl := lw_at lw_m4 115 rfl
theorem q929 : (Jvm.Cond.publicMethod ({ cls := "java/lang/String", name := "length", desc := "()I" } : Jvm.MethodName)) ∈ lw_tbl := lw_at lw_m4 116 rfl
theorem q938 : (Jvm.Cond.selects "java/lang/String" ({ cls := "java/lang/CharSequence", name := "charAt", desc := "(I)C" } : Jvm.MethodName) ({ cls := "java/lang/String", name := "charAt", desc := "(I)C" } : Jvm.MethodName)) ∈ lw_all := lw_g (lw_at lw_m4 125 rfl) rfl
theorem q939 : (Jvm.Cond.unhidden "java/lang/String" "charAt" "(I)C") ∈ lw_tbl := lw_at lw_m4 126 rfl
theorem q940 : (Jvm.Cond.instanceMethod ({ cls := "java/lang/String", name := "charAt", desc := "(I)C" } : Jvm.MethodName)) ∈ lw_all := lw_g (lw_at lw_m4 127 rfl) rfl
theorem q941 : (Jvm.Cond.publicMethod ({ cls := "java/lang/String", name := "charAt", desc := "(I)C" } : Jvm.MethodName)) ∈ lw_tbl := lw_at lw_m4 128 rfl
theorem q942 : (Jvm.Cond.code ({ cls := "java/lang/String", name := "charAt", desc := "(I)C" } : Jvm.MethodName) prog_26_method_56_code (2 : Nat) (Option.some Jvm.ClassFile.FieldType.char)) ∈ lw_all := lw_g (lw_at lw_m4 129 rfl) rfl
theorem q943 : (Jvm.Cond.methodLink "java/lang/String" (492 : Nat) ({ cls := "java/lang/String", name := "isLatin1", desc := "()Z" } : Jvm.MethodName)) ∈ lw_all := lw_g (lw_at lw_m4 130 rfl) rfl
theorem q944 : (Jvm.Cond.instanceMethod ({ cls := "java/lang/String", name := "isLatin1", desc := "()Z" } : Jvm.MethodName)) ∈ lw_all := lw_g (lw_at lw_m4 131 rfl) rfl
theorem q945 : (Jvm.Cond.selects "java/lang/String" ({ cls := "java/lang/String", name := "isLatin1", desc := "()Z" } : Jvm.MethodName) ({ cls := "java/lang/String", name := "isLatin1", desc := "()Z" } : Jvm.MethodName)) ∈ lw_all := lw_g (lw_at lw_m4 132 rfl) rfl
theorem q946 : (Jvm.Cond.code ({ cls := "java/lang/String", name := "isLatin1", desc := "()Z" } : Jvm.MethodName) prog_26_method_154_code (1 : Nat) (Option.some Jvm.ClassFile.FieldType.boolean)) ∈ lw_all := lw_g (lw_at lw_m4 133 rfl) rfl
theorem q947 : (Jvm.Cond.methodLink "java/lang/String" (495 : Nat) ({ cls := "java/lang/StringLatin1", name := "charAt", desc := "([BI)C" } : Jvm.MethodName)) ∈ lw_all := lw_g (lw_at lw_m4 134 rfl) rfl
theorem q951 : (Jvm.Cond.methodLink "java/lang/String" (498 : Nat) ({ cls := "java/lang/StringUTF16", name := "charAt", desc := "([BI)C" } : Jvm.MethodName)) ∈ lw_all := lw_g (lw_at lw_m4 138 rfl) rfl
theorem q1284 : (Jvm.Cond.instanceMethod ({ cls := "java/lang/String", name := "equals", desc := "(Ljava/lang/Object;)Z" } : Jvm.MethodName)) ∈ lw_all := lw_g (lw_at lw_m5 231 rfl) rfl
theorem q1285 : (Jvm.Cond.selects "java/lang/String" ({ cls := "java/lang/String", name := "equals", desc := "(Ljava/lang/Object;)Z" } : Jvm.MethodName) ({ cls := "java/lang/String", name := "equals", desc := "(Ljava/lang/Object;)Z" } : Jvm.MethodName)) ∈ lw_all := lw_g (lw_at lw_m5 232 rfl) rfl
theorem q1286 : (Jvm.Cond.code ({ cls := "java/lang/String", name := "equals", desc := "(Ljava/lang/Object;)Z" } : Jvm.MethodName) prog_26_method_66_code (3 : Nat) (Option.some Jvm.ClassFile.FieldType.boolean)) ∈ lw_all := lw_g (lw_at lw_m5 233 rfl) rfl
theorem q1287 : (Jvm.Cond.classLink "java/lang/String" (10 : Nat) "java/lang/String") ∈ lw_all := lw_g (lw_at lw_m5 234 rfl) rfl
theorem q1288 : (Jvm.Cond.methodLink "java/lang/String" (541 : Nat) ({ cls := "java/lang/StringLatin1", name := "equals", desc := "([B[B)Z" } : Jvm.MethodName)) ∈ lw_all := lw_g (lw_at lw_m5 235 rfl) rfl
theorem q1298 : (Jvm.Cond.selects "java/lang/String" ({ cls := "java/lang/CharSequence", name := "toString", desc := "()Ljava/lang/String;" } : Jvm.MethodName) ({ cls := "java/lang/String", name := "toString", desc := "()Ljava/lang/String;" } : Jvm.MethodName)) ∈ lw_all := lw_g (lw_at lw_m6 5 rfl) rfl
theorem q1299 : (Jvm.Cond.unhidden "java/lang/String" "toString" "()Ljava/lang/String;") ∈ lw_tbl := lw_at lw_m6 6 rfl
theorem q1300 : (Jvm.Cond.instanceMethod ({ cls := "java/lang/String", name := "toString", desc := "()Ljava/lang/String;" } : Jvm.MethodName)) ∈ lw_all := lw_g (lw_at lw_m6 7 rfl) rfl
theorem q1301 : (Jvm.Cond.publicMethod ({ cls := "java/lang/String", name := "toString", desc := "()Ljava/lang/String;" } : Jvm.MethodName)) ∈ lw_tbl := lw_at lw_m6 8 rfl
theorem q1302 : (Jvm.Cond.code ({ cls := "java/lang/String", name := "toString", desc := "()Ljava/lang/String;" } : Jvm.MethodName) prog_26_method_126_code (1 : Nat) (Option.some (Jvm.ClassFile.FieldType.object "java/lang/String"))) ∈ lw_all := lw_g (lw_at lw_m6 9 rfl) rfl
theorem q1307 : (Jvm.Cond.instanceMethod ({ cls := "java/lang/String", name := "hashCode", desc := "()I" } : Jvm.MethodName)) ∈ lw_all := lw_g (lw_at lw_m6 14 rfl) rfl
theorem q1308 : (Jvm.Cond.selects "java/lang/String" ({ cls := "java/lang/String", name := "hashCode", desc := "()I" } : Jvm.MethodName) ({ cls := "java/lang/String", name := "hashCode", desc := "()I" } : Jvm.MethodName)) ∈ lw_all := lw_g (lw_at lw_m6 15 rfl) rfl
theorem q1309 : (Jvm.Cond.code ({ cls := "java/lang/String", name := "hashCode", desc := "()I" } : Jvm.MethodName) prog_26_method_78_code (2 : Nat) (Option.some Jvm.ClassFile.FieldType.int)) ∈ lw_all := lw_g (lw_at lw_m6 16 rfl) rfl
theorem q1310 : (Jvm.Cond.methodLink "java/lang/String" (628 : Nat) ({ cls := "java/lang/StringLatin1", name := "hashCode", desc := "([B)I" } : Jvm.MethodName)) ∈ lw_all := lw_g (lw_at lw_m6 17 rfl) rfl
theorem q1359 : (Jvm.Cond.methodLink "java/lang/String" (632 : Nat) ({ cls := "java/lang/StringUTF16", name := "hashCode", desc := "([B)I" } : Jvm.MethodName)) ∈ lw_all := lw_g (lw_at lw_m6 66 rfl) rfl
theorem q1816 : (Jvm.Cond.castable "java/lang/String" "java/lang/Object") ∈ lw_tbl := lw_at lw_m8 43 rfl
theorem in_J4 : ∀ w ∈ wsJ40, w ∈ lw_all := lw_in wsJ40 [783, 785, 787, 789] (by decide +kernel) (by decide +kernel)
/-! java/lang/StringUTF16 -/
set_option maxRecDepth 100000
def RJ5 : String := "java/lang/StringUTF16"
abbrev cJ5_newBytesFor : ByteArray := prog_30_method_2_code
def yJ5_newBytesFor : MethodName := ⟨RJ5, "newBytesFor", "(I)[B"⟩
def dkwJ5_newBytesFor_0 : List UInt8 := [26, 184, 0, 11, 188, 8, 176]
abbrev dktJ5_newBytesFor_0 : List UInt8 := dkwJ5_newBytesFor_0 ++ []
theorem dksJ5_newBytesFor_0 : cJ5_newBytesFor.data.toList.drop 0 = dktJ5_newBytesFor_0 := by decide +kernel
theorem dJ5_newBytesFor_0 : decode cJ5_newBytesFor 0 = .ok (.iload_n 0, 1) := dk_26 (dk_at dksJ5_newBytesFor_0 0 rfl rfl)
theorem dJ5_newBytesFor_1 : decode cJ5_newBytesFor 1 = .ok (.invokestatic 11, 3) := dk_184 0 11 (dk_at dksJ5_newBytesFor_0 1 rfl rfl)
theorem dJ5_newBytesFor_4 : decode cJ5_newBytesFor 4 = .ok (.newarray .byte, 2) := dk_188_8 (dk_at dksJ5_newBytesFor_0 4 rfl rfl)
theorem dJ5_newBytesFor_6 : decode cJ5_newBytesFor 6 = .ok (.areturn, 1) := dk_176 (dk_at dksJ5_newBytesFor_0 6 rfl rfl)
abbrev cJ5_newBytesLength : ByteArray := prog_30_method_3_code
def yJ5_newBytesLength : MethodName := ⟨RJ5, "newBytesLength", "(I)I"⟩
def dkwJ5_newBytesLength_2 : List UInt8 := [182, 0, 32, 182, 0, 37, 183, 0, 41, 191, 26, 4, 120, 172]
abbrev dktJ5_newBytesLength_2 : List UInt8 := dkwJ5_newBytesLength_2 ++ []
def dkwJ5_newBytesLength_1 : List UInt8 := [187, 0, 23, 89, 183, 0, 25, 18, 26, 182, 0, 28, 26, 182, 0, 32, 18, 35, 182, 0, 28, 18, 20]
abbrev dktJ5_newBytesLength_1 : List UInt8 := dkwJ5_newBytesLength_1 ++ dktJ5_newBytesLength_2
def dkwJ5_newBytesLength_0 : List UInt8 := [26, 156, 0, 11, 187, 0, 17, 89, 183, 0, 19, 191, 26, 18, 20, 161, 0, 40, 187, 0, 21, 89]
abbrev dktJ5_newBytesLength_0 : List UInt8 := dkwJ5_newBytesLength_0 ++ dktJ5_newBytesLength_1
theorem dksJ5_newBytesLength_0 : cJ5_newBytesLength.data.toList.drop 0 = dktJ5_newBytesLength_0 := by decide +kernel
theorem dksJ5_newBytesLength_1 : cJ5_newBytesLength.data.toList.drop 22 = dktJ5_newBytesLength_1 := dk_seg dksJ5_newBytesLength_0 22 rfl rfl
theorem dksJ5_newBytesLength_2 : cJ5_newBytesLength.data.toList.drop 45 = dktJ5_newBytesLength_2 := dk_seg dksJ5_newBytesLength_1 23 rfl rfl
theorem dJ5_newBytesLength_0 : decode cJ5_newBytesLength 0 = .ok (.iload_n 0, 1) := dk_26 (dk_at dksJ5_newBytesLength_0 0 rfl rfl)
theorem dJ5_newBytesLength_1 : decode cJ5_newBytesLength 1 = .ok (.ifCond .ge 11, 3) := dk_156 0 11 (dk_at dksJ5_newBytesLength_0 1 rfl rfl)
theorem dJ5_newBytesLength_4 : decode cJ5_newBytesLength 4 = .ok (.new 17, 3) := dk_187 0 17 (dk_at dksJ5_newBytesLength_0 4 rfl rfl)
theorem dJ5_newBytesLength_7 : decode cJ5_newBytesLength 7 = .ok (.dup, 1) := dk_89 (dk_at dksJ5_newBytesLength_0 7 rfl rfl)
theorem dJ5_newBytesLength_8 : decode cJ5_newBytesLength 8 = .ok (.invokespecial 19, 3) := dk_183 0 19 (dk_at dksJ5_newBytesLength_0 8 rfl rfl)
theorem dJ5_newBytesLength_11 : decode cJ5_newBytesLength 11 = .ok (.athrow, 1) := dk_191 (dk_at dksJ5_newBytesLength_0 11 rfl rfl)
theorem dJ5_newBytesLength_12 : decode cJ5_newBytesLength 12 = .ok (.iload_n 0, 1) := dk_26 (dk_at dksJ5_newBytesLength_0 12 rfl rfl)
theorem dJ5_newBytesLength_13 : decode cJ5_newBytesLength 13 = .ok (.ldc 20, 2) := dk_18 20 (dk_at dksJ5_newBytesLength_0 13 rfl rfl)
theorem dJ5_newBytesLength_15 : decode cJ5_newBytesLength 15 = .ok (.if_icmp .lt 40, 3) := dk_161 0 40 (dk_at dksJ5_newBytesLength_0 15 rfl rfl)
theorem dJ5_newBytesLength_18 : decode cJ5_newBytesLength 18 = .ok (.new 21, 3) := dk_187 0 21 (dk_at dksJ5_newBytesLength_0 18 rfl rfl)
theorem dJ5_newBytesLength_21 : decode cJ5_newBytesLength 21 = .ok (.dup, 1) := dk_89 (dk_at dksJ5_newBytesLength_0 21 rfl rfl)
theorem dJ5_newBytesLength_22 : decode cJ5_newBytesLength 22 = .ok (.new 23, 3) := dk_187 0 23 (dk_at dksJ5_newBytesLength_1 0 rfl rfl)
theorem dJ5_newBytesLength_25 : decode cJ5_newBytesLength 25 = .ok (.dup, 1) := dk_89 (dk_at dksJ5_newBytesLength_1 3 rfl rfl)
theorem dJ5_newBytesLength_26 : decode cJ5_newBytesLength 26 = .ok (.invokespecial 25, 3) := dk_183 0 25 (dk_at dksJ5_newBytesLength_1 4 rfl rfl)
theorem dJ5_newBytesLength_29 : decode cJ5_newBytesLength 29 = .ok (.ldc 26, 2) := dk_18 26 (dk_at dksJ5_newBytesLength_1 7 rfl rfl)
theorem dJ5_newBytesLength_31 : decode cJ5_newBytesLength 31 = .ok (.invokevirtual 28, 3) := dk_182 0 28 (dk_at dksJ5_newBytesLength_1 9 rfl rfl)
theorem dJ5_newBytesLength_34 : decode cJ5_newBytesLength 34 = .ok (.iload_n 0, 1) := dk_26 (dk_at dksJ5_newBytesLength_1 12 rfl rfl)
theorem dJ5_newBytesLength_35 : decode cJ5_newBytesLength 35 = .ok (.invokevirtual 32, 3) := dk_182 0 32 (dk_at dksJ5_newBytesLength_1 13 rfl rfl)
theorem dJ5_newBytesLength_38 : decode cJ5_newBytesLength 38 = .ok (.ldc 35, 2) := dk_18 35 (dk_at dksJ5_newBytesLength_1 16 rfl rfl)
theorem dJ5_newBytesLength_40 : decode cJ5_newBytesLength 40 = .ok (.invokevirtual 28, 3) := dk_182 0 28 (dk_at dksJ5_newBytesLength_1 18 rfl rfl)
theorem dJ5_newBytesLength_43 : decode cJ5_newBytesLength 43 = .ok (.ldc 20, 2) := dk_18 20 (dk_at dksJ5_newBytesLength_1 21 rfl rfl)
theorem dJ5_newBytesLength_45 : decode cJ5_newBytesLength 45 = .ok (.invokevirtual 32, 3) := dk_182 0 32 (dk_at dksJ5_newBytesLength_2 0 rfl rfl)
theorem dJ5_newBytesLength_48 : decode cJ5_newBytesLength 48 = .ok (.invokevirtual 37, 3) := dk_182 0 37 (dk_at dksJ5_newBytesLength_2 3 rfl rfl)
theorem dJ5_newBytesLength_51 : decode cJ5_newBytesLength 51 = .ok (.invokespecial 41, 3) := dk_183 0 41 (dk_at dksJ5_newBytesLength_2 6 rfl rfl)
theorem dJ5_newBytesLength_54 : decode cJ5_newBytesLength 54 = .ok (.athrow, 1) := dk_191 (dk_at dksJ5_newBytesLength_2 9 rfl rfl)
theorem dJ5_newBytesLength_55 : decode cJ5_newBytesLength 55 = .ok (.iload_n 0, 1) := dk_26 (dk_at dksJ5_newBytesLength_2 10 rfl rfl)
theorem dJ5_newBytesLength_56 : decode cJ5_newBytesLength 56 = .ok (.iconst 1, 1) := dk_4 (dk_at dksJ5_newBytesLength_2 11 rfl rfl)
theorem dJ5_newBytesLength_57 : decode cJ5_newBytesLength 57 = .ok (.ishl, 1) := dk_120 (dk_at dksJ5_newBytesLength_2 12 rfl rfl)
theorem dJ5_newBytesLength_58 : decode cJ5_newBytesLength 58 = .ok (.ireturn, 1) := dk_172 (dk_at dksJ5_newBytesLength_2 13 rfl rfl)
abbrev cJ5_putCharsAt : ByteArray := prog_30_method_81_code
def yJ5_putCharsAt : MethodName := ⟨RJ5, "putCharsAt", "([BICCCC)I"⟩
def dkwJ5_putCharsAt_3 : List UInt8 := [21, 6, 172]
abbrev dktJ5_putCharsAt_3 : List UInt8 := dkwJ5_putCharsAt_3 ++ []
def dkwJ5_putCharsAt_2 : List UInt8 := [184, 0, 111, 178, 0, 44, 154, 0, 17, 27, 21, 6, 159, 0, 11, 187, 0, 52, 89, 183, 0, 66, 191]
abbrev dktJ5_putCharsAt_2 : List UInt8 := dkwJ5_putCharsAt_2 ++ dktJ5_putCharsAt_3
def dkwJ5_putCharsAt_1 : List UInt8 := [132, 1, 1, 29, 184, 0, 111, 42, 27, 132, 1, 1, 21, 4, 184, 0, 111, 42, 27, 132, 1, 1, 21, 5]
abbrev dktJ5_putCharsAt_1 : List UInt8 := dkwJ5_putCharsAt_1 ++ dktJ5_putCharsAt_2
def dkwJ5_putCharsAt_0 : List UInt8 := [27, 7, 96, 54, 6, 27, 21, 6, 42, 184, 0, 96, 42, 27, 132, 1, 1, 28, 184, 0, 111, 42, 27]
abbrev dktJ5_putCharsAt_0 : List UInt8 := dkwJ5_putCharsAt_0 ++ dktJ5_putCharsAt_1
theorem dksJ5_putCharsAt_0 : cJ5_putCharsAt.data.toList.drop 0 = dktJ5_putCharsAt_0 := by decide +kernel
theorem dksJ5_putCharsAt_1 : cJ5_putCharsAt.data.toList.drop 23 = dktJ5_putCharsAt_1 := dk_seg dksJ5_putCharsAt_0 23 rfl rfl
theorem dksJ5_putCharsAt_2 : cJ5_putCharsAt.data.toList.drop 47 = dktJ5_putCharsAt_2 := dk_seg dksJ5_putCharsAt_1 24 rfl rfl
theorem dksJ5_putCharsAt_3 : cJ5_putCharsAt.data.toList.drop 70 = dktJ5_putCharsAt_3 := dk_seg dksJ5_putCharsAt_2 23 rfl rfl
theorem dJ5_putCharsAt_0 : decode cJ5_putCharsAt 0 = .ok (.iload_n 1, 1) := dk_27 (dk_at dksJ5_putCharsAt_0 0 rfl rfl)
theorem dJ5_putCharsAt_1 : decode cJ5_putCharsAt 1 = .ok (.iconst 4, 1) := dk_7 (dk_at dksJ5_putCharsAt_0 1 rfl rfl)
theorem dJ5_putCharsAt_2 : decode cJ5_putCharsAt 2 = .ok (.iadd, 1) := dk_96 (dk_at dksJ5_putCharsAt_0 2 rfl rfl)
theorem dJ5_putCharsAt_3 : decode cJ5_putCharsAt 3 = .ok (.istore 6, 2) := dk_54 6 (dk_at dksJ5_putCharsAt_0 3 rfl rfl)
theorem dJ5_putCharsAt_5 : decode cJ5_putCharsAt 5 = .ok (.iload_n 1, 1) := dk_27 (dk_at dksJ5_putCharsAt_0 5 rfl rfl)
theorem dJ5_putCharsAt_6 : decode cJ5_putCharsAt 6 = .ok (.iload 6, 2) := dk_21 6 (dk_at dksJ5_putCharsAt_0 6 rfl rfl)
theorem dJ5_putCharsAt_8 : decode cJ5_putCharsAt 8 = .ok (.aload_n 0, 1) := dk_42 (dk_at dksJ5_putCharsAt_0 8 rfl rfl)
theorem dJ5_putCharsAt_9 : decode cJ5_putCharsAt 9 = .ok (.invokestatic 96, 3) := dk_184 0 96 (dk_at dksJ5_putCharsAt_0 9 rfl rfl)
theorem dJ5_putCharsAt_12 : decode cJ5_putCharsAt 12 = .ok (.aload_n 0, 1) := dk_42 (dk_at dksJ5_putCharsAt_0 12 rfl rfl)
theorem dJ5_putCharsAt_13 : decode cJ5_putCharsAt 13 = .ok (.iload_n 1, 1) := dk_27 (dk_at dksJ5_putCharsAt_0 13 rfl rfl)
theorem dJ5_putCharsAt_14 : decode cJ5_putCharsAt 14 = .ok (.iinc 1 1, 3) := dk_132 1 1 (dk_at dksJ5_putCharsAt_0 14 rfl rfl)
theorem dJ5_putCharsAt_17 : decode cJ5_putCharsAt 17 = .ok (.iload_n 2, 1) := dk_28 (dk_at dksJ5_putCharsAt_0 17 rfl rfl)
theorem dJ5_putCharsAt_18 : decode cJ5_putCharsAt 18 = .ok (.invokestatic 111, 3) := dk_184 0 111 (dk_at dksJ5_putCharsAt_0 18 rfl rfl)
theorem dJ5_putCharsAt_21 : decode cJ5_putCharsAt 21 = .ok (.aload_n 0, 1) := dk_42 (dk_at dksJ5_putCharsAt_0 21 rfl rfl)
theorem dJ5_putCharsAt_22 : decode cJ5_putCharsAt 22 = .ok (.iload_n 1, 1) := dk_27 (dk_at dksJ5_putCharsAt_0 22 rfl rfl)
theorem dJ5_putCharsAt_23 : decode cJ5_putCharsAt 23 = .ok (.iinc 1 1, 3) := dk_132 1 1 (dk_at dksJ5_putCharsAt_1 0 rfl rfl)
theorem dJ5_putCharsAt_26 : decode cJ5_putCharsAt 26 = .ok (.iload_n 3, 1) := dk_29 (dk_at dksJ5_putCharsAt_1 3 rfl rfl)
theorem dJ5_putCharsAt_27 : decode cJ5_putCharsAt 27 = .ok (.invokestatic 111, 3) := dk_184 0 111 (dk_at dksJ5_putCharsAt_1 4 rfl rfl)
theorem dJ5_putCharsAt_30 : decode cJ5_putCharsAt 30 = .ok (.aload_n 0, 1) := dk_42 (dk_at dksJ5_putCharsAt_1 7 rfl rfl)
theorem dJ5_putCharsAt_31 : decode cJ5_putCharsAt 31 = .ok (.iload_n 1, 1) := dk_27 (dk_at dksJ5_putCharsAt_1 8 rfl rfl)
theorem dJ5_putCharsAt_32 : decode cJ5_putCharsAt 32 = .ok (.iinc 1 1, 3) := dk_132 1 1 (dk_at dksJ5_putCharsAt_1 9 rfl rfl)
theorem dJ5_putCharsAt_35 : decode cJ5_putCharsAt 35 = .ok (.iload 4, 2) := dk_21 4 (dk_at dksJ5_putCharsAt_1 12 rfl rfl)
theorem dJ5_putCharsAt_37 : decode cJ5_putCharsAt 37 = .ok (.invokestatic 111, 3) := dk_184 0 111 (dk_at dksJ5_putCharsAt_1 14 rfl rfl)
theorem dJ5_putCharsAt_40 : decode cJ5_putCharsAt 40 = .ok (.aload_n 0, 1) := dk_42 (dk_at dksJ5_putCharsAt_1 17 rfl rfl)
theorem dJ5_putCharsAt_41 : decode cJ5_putCharsAt 41 = .ok (.iload_n 1, 1) := dk_27 (dk_at dksJ5_putCharsAt_1 18 rfl rfl)
theorem dJ5_putCharsAt_42 : decode cJ5_putCharsAt 42 = .ok (.iinc 1 1, 3) := dk_132 1 1 (dk_at dksJ5_putCharsAt_1 19 rfl rfl)
theorem dJ5_putCharsAt_45 : decode cJ5_putCharsAt 45 = .ok (.iload 5, 2) := dk_21 5 (dk_at dksJ5_putCharsAt_1 22 rfl rfl)
theorem dJ5_putCharsAt_47 : decode cJ5_putCharsAt 47 = .ok (.invokestatic 111, 3) := dk_184 0 111 (dk_at dksJ5_putCharsAt_2 0 rfl rfl)
theorem dJ5_putCharsAt_50 : decode cJ5_putCharsAt 50 = .ok (.getstatic 44, 3) := dk_178 0 44 (dk_at dksJ5_putCharsAt_2 3 rfl rfl)
theorem dJ5_putCharsAt_53 : decode cJ5_putCharsAt 53 = .ok (.ifCond .ne 17, 3) := dk_154 0 17 (dk_at dksJ5_putCharsAt_2 6 rfl rfl)
theorem dJ5_putCharsAt_56 : decode cJ5_putCharsAt 56 = .ok (.iload_n 1, 1) := dk_27 (dk_at dksJ5_putCharsAt_2 9 rfl rfl)
theorem dJ5_putCharsAt_57 : decode cJ5_putCharsAt 57 = .ok (.iload 6, 2) := dk_21 6 (dk_at dksJ5_putCharsAt_2 10 rfl rfl)
theorem dJ5_putCharsAt_59 : decode cJ5_putCharsAt 59 = .ok (.if_icmp .eq 11, 3) := dk_159 0 11 (dk_at dksJ5_putCharsAt_2 12 rfl rfl)
theorem dJ5_putCharsAt_62 : decode cJ5_putCharsAt 62 = .ok (.new 52, 3) := dk_187 0 52 (dk_at dksJ5_putCharsAt_2 15 rfl rfl)
theorem dJ5_putCharsAt_65 : decode cJ5_putCharsAt 65 = .ok (.dup, 1) := dk_89 (dk_at dksJ5_putCharsAt_2 18 rfl rfl)
theorem dJ5_putCharsAt_66 : decode cJ5_putCharsAt 66 = .ok (.invokespecial 66, 3) := dk_183 0 66 (dk_at dksJ5_putCharsAt_2 19 rfl rfl)
theorem dJ5_putCharsAt_69 : decode cJ5_putCharsAt 69 = .ok (.athrow, 1) := dk_191 (dk_at dksJ5_putCharsAt_2 22 rfl rfl)
theorem dJ5_putCharsAt_70 : decode cJ5_putCharsAt 70 = .ok (.iload 6, 2) := dk_21 6 (dk_at dksJ5_putCharsAt_3 0 rfl rfl)
theorem dJ5_putCharsAt_72 : decode cJ5_putCharsAt 72 = .ok (.ireturn, 1) := dk_172 (dk_at dksJ5_putCharsAt_3 2 rfl rfl)
abbrev cJ5_checkBoundsBeginEnd : ByteArray := prog_30_method_93_code
def yJ5_checkBoundsBeginEnd : MethodName := ⟨RJ5, "checkBoundsBeginEnd", "(II[B)V"⟩
def dkwJ5_checkBoundsBeginEnd_0 : List UInt8 := [26, 27, 44, 184, 0, 48, 184, 0, 241, 177]
abbrev dktJ5_checkBoundsBeginEnd_0 : List UInt8 := dkwJ5_checkBoundsBeginEnd_0 ++ []
theorem dksJ5_checkBoundsBeginEnd_0 : cJ5_checkBoundsBeginEnd.data.toList.drop 0 = dktJ5_checkBoundsBeginEnd_0 := by decide +kernel
theorem dJ5_checkBoundsBeginEnd_0 : decode cJ5_checkBoundsBeginEnd 0 = .ok (.iload_n 0, 1) := dk_26 (dk_at dksJ5_checkBoundsBeginEnd_0 0 rfl rfl)
theorem dJ5_checkBoundsBeginEnd_1 : decode cJ5_checkBoundsBeginEnd 1 = .ok (.iload_n 1, 1) := dk_27 (dk_at dksJ5_checkBoundsBeginEnd_0 1 rfl rfl)
theorem dJ5_checkBoundsBeginEnd_2 : decode cJ5_checkBoundsBeginEnd 2 = .ok (.aload_n 2, 1) := dk_44 (dk_at dksJ5_checkBoundsBeginEnd_0 2 rfl rfl)
theorem dJ5_checkBoundsBeginEnd_3 : decode cJ5_checkBoundsBeginEnd 3 = .ok (.invokestatic 48, 3) := dk_184 0 48 (dk_at dksJ5_checkBoundsBeginEnd_0 3 rfl rfl)
theorem dJ5_checkBoundsBeginEnd_6 : decode cJ5_checkBoundsBeginEnd 6 = .ok (.invokestatic 241, 3) := dk_184 0 241 (dk_at dksJ5_checkBoundsBeginEnd_0 6 rfl rfl)
theorem dJ5_checkBoundsBeginEnd_9 : decode cJ5_checkBoundsBeginEnd 9 = .ok (.return_, 1) := dk_177 (dk_at dksJ5_checkBoundsBeginEnd_0 9 rfl rfl)
abbrev cJ5_length : ByteArray := prog_30_method_6_code
def yJ5_length : MethodName := ⟨RJ5, "length", "([B)I"⟩
def dkwJ5_length_0 : List UInt8 := [42, 190, 4, 122, 172]
abbrev dktJ5_length_0 : List UInt8 := dkwJ5_length_0 ++ []
theorem dksJ5_length_0 : cJ5_length.data.toList.drop 0 = dktJ5_length_0 := by decide +kernel
theorem dJ5_length_0 : decode cJ5_length 0 = .ok (.aload_n 0, 1) := dk_42 (dk_at dksJ5_length_0 0 rfl rfl)
theorem dJ5_length_1 : decode cJ5_length 1 = .ok (.arraylength, 1) := dk_190 (dk_at dksJ5_length_0 1 rfl rfl)
theorem dJ5_length_2 : decode cJ5_length 2 = .ok (.iconst 1, 1) := dk_4 (dk_at dksJ5_length_0 2 rfl rfl)
theorem dJ5_length_3 : decode cJ5_length 3 = .ok (.ishr, 1) := dk_122 (dk_at dksJ5_length_0 3 rfl rfl)
theorem dJ5_length_4 : decode cJ5_length 4 = .ok (.ireturn, 1) := dk_172 (dk_at dksJ5_length_0 4 rfl rfl)
abbrev cJ5_putChar : ByteArray := prog_30_method_4_code
def yJ5_putChar : MethodName := ⟨RJ5, "putChar", "([BII)V"⟩
def dkwJ5_putChar_2 : List UInt8 := [178, 0, 63, 122, 145, 84, 177]
abbrev dktJ5_putChar_2 : List UInt8 := dkwJ5_putChar_2 ++ []
def dkwJ5_putChar_1 : List UInt8 := [183, 0, 56, 191, 27, 4, 120, 60, 42, 27, 132, 1, 1, 28, 178, 0, 59, 122, 145, 84, 42, 27, 28]
abbrev dktJ5_putChar_1 : List UInt8 := dkwJ5_putChar_1 ++ dktJ5_putChar_2
def dkwJ5_putChar_0 : List UInt8 := [178, 0, 44, 154, 0, 25, 27, 155, 0, 11, 27, 42, 184, 0, 48, 161, 0, 13, 187, 0, 52, 89, 18, 54]
abbrev dktJ5_putChar_0 : List UInt8 := dkwJ5_putChar_0 ++ dktJ5_putChar_1
theorem dksJ5_putChar_0 : cJ5_putChar.data.toList.drop 0 = dktJ5_putChar_0 := by decide +kernel
theorem dksJ5_putChar_1 : cJ5_putChar.data.toList.drop 24 = dktJ5_putChar_1 := dk_seg dksJ5_putChar_0 24 rfl rfl
theorem dksJ5_putChar_2 : cJ5_putChar.data.toList.drop 47 = dktJ5_putChar_2 := dk_seg dksJ5_putChar_1 23 rfl rfl
theorem dJ5_putChar_0 : decode cJ5_putChar 0 = .ok (.getstatic 44, 3) := dk_178 0 44 (dk_at dksJ5_putChar_0 0 rfl rfl)
theorem dJ5_putChar_3 : decode cJ5_putChar 3 = .ok (.ifCond .ne 25, 3) := dk_154 0 25 (dk_at dksJ5_putChar_0 3 rfl rfl)
theorem dJ5_putChar_6 : decode cJ5_putChar 6 = .ok (.iload_n 1, 1) := dk_27 (dk_at dksJ5_putChar_0 6 rfl rfl)
theorem dJ5_putChar_7 : decode cJ5_putChar 7 = .ok (.ifCond .lt 11, 3) := dk_155 0 11 (dk_at dksJ5_putChar_0 7 rfl rfl)
theorem dJ5_putChar_10 : decode cJ5_putChar 10 = .ok (.iload_n 1, 1) := dk_27 (dk_at dksJ5_putChar_0 10 rfl rfl)
theorem dJ5_putChar_11 : decode cJ5_putChar 11 = .ok (.aload_n 0, 1) := dk_42 (dk_at dksJ5_putChar_0 11 rfl rfl)
theorem dJ5_putChar_12 : decode cJ5_putChar 12 = .ok (.invokestatic 48, 3) := dk_184 0 48 (dk_at dksJ5_putChar_0 12 rfl rfl)
theorem dJ5_putChar_15 : decode cJ5_putChar 15 = .ok (.if_icmp .lt 13, 3) := dk_161 0 13 (dk_at dksJ5_putChar_0 15 rfl rfl)
theorem dJ5_putChar_18 : decode cJ5_putChar 18 = .ok (.new 52, 3) := dk_187 0 52 (dk_at dksJ5_putChar_0 18 rfl rfl)
theorem dJ5_putChar_21 : decode cJ5_putChar 21 = .ok (.dup, 1) := dk_89 (dk_at dksJ5_putChar_0 21 rfl rfl)
theorem dJ5_putChar_22 : decode cJ5_putChar 22 = .ok (.ldc 54, 2) := dk_18 54 (dk_at dksJ5_putChar_0 22 rfl rfl)
theorem dJ5_putChar_24 : decode cJ5_putChar 24 = .ok (.invokespecial 56, 3) := dk_183 0 56 (dk_at dksJ5_putChar_1 0 rfl rfl)
theorem dJ5_putChar_27 : decode cJ5_putChar 27 = .ok (.athrow, 1) := dk_191 (dk_at dksJ5_putChar_1 3 rfl rfl)
theorem dJ5_putChar_28 : decode cJ5_putChar 28 = .ok (.iload_n 1, 1) := dk_27 (dk_at dksJ5_putChar_1 4 rfl rfl)
theorem dJ5_putChar_29 : decode cJ5_putChar 29 = .ok (.iconst 1, 1) := dk_4 (dk_at dksJ5_putChar_1 5 rfl rfl)
theorem dJ5_putChar_30 : decode cJ5_putChar 30 = .ok (.ishl, 1) := dk_120 (dk_at dksJ5_putChar_1 6 rfl rfl)
theorem dJ5_putChar_31 : decode cJ5_putChar 31 = .ok (.istore_n 1, 1) := dk_60 (dk_at dksJ5_putChar_1 7 rfl rfl)
theorem dJ5_putChar_32 : decode cJ5_putChar 32 = .ok (.aload_n 0, 1) := dk_42 (dk_at dksJ5_putChar_1 8 rfl rfl)
theorem dJ5_putChar_33 : decode cJ5_putChar 33 = .ok (.iload_n 1, 1) := dk_27 (dk_at dksJ5_putChar_1 9 rfl rfl)
theorem dJ5_putChar_34 : decode cJ5_putChar 34 = .ok (.iinc 1 1, 3) := dk_132 1 1 (dk_at dksJ5_putChar_1 10 rfl rfl)
theorem dJ5_putChar_37 : decode cJ5_putChar 37 = .ok (.iload_n 2, 1) := dk_28 (dk_at dksJ5_putChar_1 13 rfl rfl)
theorem dJ5_putChar_38 : decode cJ5_putChar 38 = .ok (.getstatic 59, 3) := dk_178 0 59 (dk_at dksJ5_putChar_1 14 rfl rfl)
theorem dJ5_putChar_41 : decode cJ5_putChar 41 = .ok (.ishr, 1) := dk_122 (dk_at dksJ5_putChar_1 17 rfl rfl)
theorem dJ5_putChar_42 : decode cJ5_putChar 42 = .ok (.i2b, 1) := dk_145 (dk_at dksJ5_putChar_1 18 rfl rfl)
theorem dJ5_putChar_43 : decode cJ5_putChar 43 = .ok (.bastore, 1) := dk_84 (dk_at dksJ5_putChar_1 19 rfl rfl)
theorem dJ5_putChar_44 : decode cJ5_putChar 44 = .ok (.aload_n 0, 1) := dk_42 (dk_at dksJ5_putChar_1 20 rfl rfl)
theorem dJ5_putChar_45 : decode cJ5_putChar 45 = .ok (.iload_n 1, 1) := dk_27 (dk_at dksJ5_putChar_1 21 rfl rfl)
theorem dJ5_putChar_46 : decode cJ5_putChar 46 = .ok (.iload_n 2, 1) := dk_28 (dk_at dksJ5_putChar_1 22 rfl rfl)
theorem dJ5_putChar_47 : decode cJ5_putChar 47 = .ok (.getstatic 63, 3) := dk_178 0 63 (dk_at dksJ5_putChar_2 0 rfl rfl)
theorem dJ5_putChar_50 : decode cJ5_putChar 50 = .ok (.ishr, 1) := dk_122 (dk_at dksJ5_putChar_2 3 rfl rfl)
theorem dJ5_putChar_51 : decode cJ5_putChar 51 = .ok (.i2b, 1) := dk_145 (dk_at dksJ5_putChar_2 4 rfl rfl)
theorem dJ5_putChar_52 : decode cJ5_putChar 52 = .ok (.bastore, 1) := dk_84 (dk_at dksJ5_putChar_2 5 rfl rfl)
theorem dJ5_putChar_53 : decode cJ5_putChar 53 = .ok (.return_, 1) := dk_177 (dk_at dksJ5_putChar_2 6 rfl rfl)
abbrev cJ5_inflate : ByteArray := prog_30_method_86_code
def yJ5_inflate : MethodName := ⟨RJ5, "inflate", "([BI[BII)V"⟩
def dkwJ5_inflate_1 : List UInt8 := [132, 1, 1, 51, 17, 0, 255, 126, 184, 0, 111, 132, 5, 1, 167, 255, 228, 177]
abbrev dktJ5_inflate_1 : List UInt8 := dkwJ5_inflate_1 ++ []
def dkwJ5_inflate_0 : List UInt8 := [29, 21, 4, 44, 184, 0, 173, 3, 54, 5, 21, 5, 21, 4, 162, 0, 27, 44, 29, 132, 3, 1, 42, 27]
abbrev dktJ5_inflate_0 : List UInt8 := dkwJ5_inflate_0 ++ dktJ5_inflate_1
theorem dksJ5_inflate_0 : cJ5_inflate.data.toList.drop 0 = dktJ5_inflate_0 := by decide +kernel
theorem dksJ5_inflate_1 : cJ5_inflate.data.toList.drop 24 = dktJ5_inflate_1 := dk_seg dksJ5_inflate_0 24 rfl rfl
theorem dJ5_inflate_0 : decode cJ5_inflate 0 = .ok (.iload_n 3, 1) := dk_29 (dk_at dksJ5_inflate_0 0 rfl rfl)
theorem dJ5_inflate_1 : decode cJ5_inflate 1 = .ok (.iload 4, 2) := dk_21 4 (dk_at dksJ5_inflate_0 1 rfl rfl)
theorem dJ5_inflate_3 : decode cJ5_inflate 3 = .ok (.aload_n 2, 1) := dk_44 (dk_at dksJ5_inflate_0 3 rfl rfl)
theorem dJ5_inflate_4 : decode cJ5_inflate 4 = .ok (.invokestatic 173, 3) := dk_184 0 173 (dk_at dksJ5_inflate_0 4 rfl rfl)
theorem dJ5_inflate_7 : decode cJ5_inflate 7 = .ok (.iconst 0, 1) := dk_3 (dk_at dksJ5_inflate_0 7 rfl rfl)
theorem dJ5_inflate_8 : decode cJ5_inflate 8 = .ok (.istore 5, 2) := dk_54 5 (dk_at dksJ5_inflate_0 8 rfl rfl)
theorem dJ5_inflate_10 : decode cJ5_inflate 10 = .ok (.iload 5, 2) := dk_21 5 (dk_at dksJ5_inflate_0 10 rfl rfl)
theorem dJ5_inflate_12 : decode cJ5_inflate 12 = .ok (.iload 4, 2) := dk_21 4 (dk_at dksJ5_inflate_0 12 rfl rfl)
theorem dJ5_inflate_14 : decode cJ5_inflate 14 = .ok (.if_icmp .ge 27, 3) := dk_162 0 27 (dk_at dksJ5_inflate_0 14 rfl rfl)
theorem dJ5_inflate_17 : decode cJ5_inflate 17 = .ok (.aload_n 2, 1) := dk_44 (dk_at dksJ5_inflate_0 17 rfl rfl)
theorem dJ5_inflate_18 : decode cJ5_inflate 18 = .ok (.iload_n 3, 1) := dk_29 (dk_at dksJ5_inflate_0 18 rfl rfl)
theorem dJ5_inflate_19 : decode cJ5_inflate 19 = .ok (.iinc 3 1, 3) := dk_132 3 1 (dk_at dksJ5_inflate_0 19 rfl rfl)
theorem dJ5_inflate_22 : decode cJ5_inflate 22 = .ok (.aload_n 0, 1) := dk_42 (dk_at dksJ5_inflate_0 22 rfl rfl)
theorem dJ5_inflate_23 : decode cJ5_inflate 23 = .ok (.iload_n 1, 1) := dk_27 (dk_at dksJ5_inflate_0 23 rfl rfl)
theorem dJ5_inflate_24 : decode cJ5_inflate 24 = .ok (.iinc 1 1, 3) := dk_132 1 1 (dk_at dksJ5_inflate_1 0 rfl rfl)
theorem dJ5_inflate_27 : decode cJ5_inflate 27 = .ok (.baload, 1) := dk_51 (dk_at dksJ5_inflate_1 3 rfl rfl)
theorem dJ5_inflate_28 : decode cJ5_inflate 28 = .ok (.sipush 255, 3) := dk_17 0 255 (dk_at dksJ5_inflate_1 4 rfl rfl)
theorem dJ5_inflate_31 : decode cJ5_inflate 31 = .ok (.iand, 1) := dk_126 (dk_at dksJ5_inflate_1 7 rfl rfl)
theorem dJ5_inflate_32 : decode cJ5_inflate 32 = .ok (.invokestatic 111, 3) := dk_184 0 111 (dk_at dksJ5_inflate_1 8 rfl rfl)
theorem dJ5_inflate_35 : decode cJ5_inflate 35 = .ok (.iinc 5 1, 3) := dk_132 5 1 (dk_at dksJ5_inflate_1 11 rfl rfl)
theorem dJ5_inflate_38 : decode cJ5_inflate 38 = .ok (.goto (-28), 3) := dk_167 255 228 (dk_at dksJ5_inflate_1 14 rfl rfl)
theorem dJ5_inflate_41 : decode cJ5_inflate 41 = .ok (.return_, 1) := dk_177 (dk_at dksJ5_inflate_1 17 rfl rfl)
abbrev cJ5_checkBoundsOffCount : ByteArray := prog_30_method_94_code
def yJ5_checkBoundsOffCount : MethodName := ⟨RJ5, "checkBoundsOffCount", "(II[B)V"⟩
def dkwJ5_checkBoundsOffCount_0 : List UInt8 := [26, 27, 44, 184, 0, 48, 184, 1, 163, 87, 177]
abbrev dktJ5_checkBoundsOffCount_0 : List UInt8 := dkwJ5_checkBoundsOffCount_0 ++ []
theorem dksJ5_checkBoundsOffCount_0 : cJ5_checkBoundsOffCount.data.toList.drop 0 = dktJ5_checkBoundsOffCount_0 := by decide +kernel
theorem dJ5_checkBoundsOffCount_0 : decode cJ5_checkBoundsOffCount 0 = .ok (.iload_n 0, 1) := dk_26 (dk_at dksJ5_checkBoundsOffCount_0 0 rfl rfl)
theorem dJ5_checkBoundsOffCount_1 : decode cJ5_checkBoundsOffCount 1 = .ok (.iload_n 1, 1) := dk_27 (dk_at dksJ5_checkBoundsOffCount_0 1 rfl rfl)
theorem dJ5_checkBoundsOffCount_2 : decode cJ5_checkBoundsOffCount 2 = .ok (.aload_n 2, 1) := dk_44 (dk_at dksJ5_checkBoundsOffCount_0 2 rfl rfl)
theorem dJ5_checkBoundsOffCount_3 : decode cJ5_checkBoundsOffCount 3 = .ok (.invokestatic 48, 3) := dk_184 0 48 (dk_at dksJ5_checkBoundsOffCount_0 3 rfl rfl)
theorem dJ5_checkBoundsOffCount_6 : decode cJ5_checkBoundsOffCount 6 = .ok (.invokestatic 419, 3) := dk_184 1 163 (dk_at dksJ5_checkBoundsOffCount_0 6 rfl rfl)
theorem dJ5_checkBoundsOffCount_9 : decode cJ5_checkBoundsOffCount 9 = .ok (.pop, 1) := dk_87 (dk_at dksJ5_checkBoundsOffCount_0 9 rfl rfl)
theorem dJ5_checkBoundsOffCount_10 : decode cJ5_checkBoundsOffCount 10 = .ok (.return_, 1) := dk_177 (dk_at dksJ5_checkBoundsOffCount_0 10 rfl rfl)
abbrev cJ5_getChars : ByteArray := prog_30_method_77_code
def yJ5_getChars : MethodName := ⟨RJ5, "getChars", "(III[B)I"⟩
def dkwJ5_getChars_1 : List UInt8 := [159, 0, 11, 187, 0, 52, 89, 183, 0, 66, 191, 21, 4, 172]
abbrev dktJ5_getChars_1 : List UInt8 := dkwJ5_getChars_1 ++ []
def dkwJ5_getChars_0 : List UInt8 := [27, 28, 45, 184, 0, 96, 26, 28, 45, 184, 1, 137, 54, 4, 178, 0, 44, 154, 0, 17, 27, 21, 4]
abbrev dktJ5_getChars_0 : List UInt8 := dkwJ5_getChars_0 ++ dktJ5_getChars_1
theorem dksJ5_getChars_0 : cJ5_getChars.data.toList.drop 0 = dktJ5_getChars_0 := by decide +kernel
theorem dksJ5_getChars_1 : cJ5_getChars.data.toList.drop 23 = dktJ5_getChars_1 := dk_seg dksJ5_getChars_0 23 rfl rfl
theorem dJ5_getChars_0 : decode cJ5_getChars 0 = .ok (.iload_n 1, 1) := dk_27 (dk_at dksJ5_getChars_0 0 rfl rfl)
theorem dJ5_getChars_1 : decode cJ5_getChars 1 = .ok (.iload_n 2, 1) := dk_28 (dk_at dksJ5_getChars_0 1 rfl rfl)
theorem dJ5_getChars_2 : decode cJ5_getChars 2 = .ok (.aload_n 3, 1) := dk_45 (dk_at dksJ5_getChars_0 2 rfl rfl)
theorem dJ5_getChars_3 : decode cJ5_getChars 3 = .ok (.invokestatic 96, 3) := dk_184 0 96 (dk_at dksJ5_getChars_0 3 rfl rfl)
theorem dJ5_getChars_6 : decode cJ5_getChars 6 = .ok (.iload_n 0, 1) := dk_26 (dk_at dksJ5_getChars_0 6 rfl rfl)
theorem dJ5_getChars_7 : decode cJ5_getChars 7 = .ok (.iload_n 2, 1) := dk_28 (dk_at dksJ5_getChars_0 7 rfl rfl)
theorem dJ5_getChars_8 : decode cJ5_getChars 8 = .ok (.aload_n 3, 1) := dk_45 (dk_at dksJ5_getChars_0 8 rfl rfl)
theorem dJ5_getChars_9 : decode cJ5_getChars 9 = .ok (.invokestatic 393, 3) := dk_184 1 137 (dk_at dksJ5_getChars_0 9 rfl rfl)
theorem dJ5_getChars_12 : decode cJ5_getChars 12 = .ok (.istore 4, 2) := dk_54 4 (dk_at dksJ5_getChars_0 12 rfl rfl)
theorem dJ5_getChars_14 : decode cJ5_getChars 14 = .ok (.getstatic 44, 3) := dk_178 0 44 (dk_at dksJ5_getChars_0 14 rfl rfl)
theorem dJ5_getChars_17 : decode cJ5_getChars 17 = .ok (.ifCond .ne 17, 3) := dk_154 0 17 (dk_at dksJ5_getChars_0 17 rfl rfl)
theorem dJ5_getChars_20 : decode cJ5_getChars 20 = .ok (.iload_n 1, 1) := dk_27 (dk_at dksJ5_getChars_0 20 rfl rfl)
theorem dJ5_getChars_21 : decode cJ5_getChars 21 = .ok (.iload 4, 2) := dk_21 4 (dk_at dksJ5_getChars_0 21 rfl rfl)
theorem dJ5_getChars_23 : decode cJ5_getChars 23 = .ok (.if_icmp .eq 11, 3) := dk_159 0 11 (dk_at dksJ5_getChars_1 0 rfl rfl)
theorem dJ5_getChars_26 : decode cJ5_getChars 26 = .ok (.new 52, 3) := dk_187 0 52 (dk_at dksJ5_getChars_1 3 rfl rfl)
theorem dJ5_getChars_29 : decode cJ5_getChars 29 = .ok (.dup, 1) := dk_89 (dk_at dksJ5_getChars_1 6 rfl rfl)
theorem dJ5_getChars_30 : decode cJ5_getChars 30 = .ok (.invokespecial 66, 3) := dk_183 0 66 (dk_at dksJ5_getChars_1 7 rfl rfl)
theorem dJ5_getChars_33 : decode cJ5_getChars 33 = .ok (.athrow, 1) := dk_191 (dk_at dksJ5_getChars_1 10 rfl rfl)
theorem dJ5_getChars_34 : decode cJ5_getChars 34 = .ok (.iload 4, 2) := dk_21 4 (dk_at dksJ5_getChars_1 11 rfl rfl)
theorem dJ5_getChars_36 : decode cJ5_getChars 36 = .ok (.ireturn, 1) := dk_172 (dk_at dksJ5_getChars_1 13 rfl rfl)
abbrev cJ5_getChars_2 : ByteArray := prog_30_method_89_code
def yJ5_getChars_2 : MethodName := ⟨RJ5, "getChars", "(II[B)I"⟩
def dkwJ5_getChars_2_5 : List UInt8 := [132, 5, 255, 21, 5, 16, 45, 184, 0, 111, 21, 5, 172]
abbrev dktJ5_getChars_2_5 : List UInt8 := dkwJ5_getChars_2_5 ++ []
def dkwJ5_getChars_2_4 : List UInt8 := [162, 0, 18, 44, 132, 5, 255, 21, 5, 178, 1, 151, 26, 116, 51, 184, 0, 111, 21, 6, 153, 0, 14, 44]
abbrev dktJ5_getChars_2_4 : List UInt8 := dkwJ5_getChars_2_4 ++ dktJ5_getChars_2_5
def dkwJ5_getChars_2_3 : List UInt8 := [184, 0, 111, 167, 255, 205, 44, 132, 5, 255, 21, 5, 178, 1, 147, 26, 116, 51, 184, 0, 111, 26, 16, 247]
abbrev dktJ5_getChars_2_3 : List UInt8 := dkwJ5_getChars_2_3 ++ dktJ5_getChars_2_4
def dkwJ5_getChars_2_2 : List UInt8 := [21, 5, 178, 1, 147, 21, 4, 51, 184, 0, 111, 44, 132, 5, 255, 21, 5, 178, 1, 151, 21, 4, 51]
abbrev dktJ5_getChars_2_2 : List UInt8 := dkwJ5_getChars_2_2 ++ dktJ5_getChars_2_3
def dkwJ5_getChars_2_1 : List UInt8 := [16, 156, 163, 0, 51, 26, 16, 100, 108, 62, 29, 16, 100, 104, 26, 100, 54, 4, 29, 59, 44, 132, 5, 255]
abbrev dktJ5_getChars_2_1 : List UInt8 := dkwJ5_getChars_2_1 ++ dktJ5_getChars_2_2
def dkwJ5_getChars_2_0 : List UInt8 := [27, 54, 5, 26, 156, 0, 7, 4, 167, 0, 4, 3, 54, 6, 21, 6, 154, 0, 6, 26, 116, 59, 26]
abbrev dktJ5_getChars_2_0 : List UInt8 := dkwJ5_getChars_2_0 ++ dktJ5_getChars_2_1
theorem dksJ5_getChars_2_0 : cJ5_getChars_2.data.toList.drop 0 = dktJ5_getChars_2_0 := by decide +kernel
theorem dksJ5_getChars_2_1 : cJ5_getChars_2.data.toList.drop 23 = dktJ5_getChars_2_1 := dk_seg dksJ5_getChars_2_0 23 rfl rfl
theorem dksJ5_getChars_2_2 : cJ5_getChars_2.data.toList.drop 47 = dktJ5_getChars_2_2 := dk_seg dksJ5_getChars_2_1 24 rfl rfl
theorem dksJ5_getChars_2_3 : cJ5_getChars_2.data.toList.drop 70 = dktJ5_getChars_2_3 := dk_seg dksJ5_getChars_2_2 23 rfl rfl
theorem dksJ5_getChars_2_4 : cJ5_getChars_2.data.toList.drop 94 = dktJ5_getChars_2_4 := dk_seg dksJ5_getChars_2_3 24 rfl rfl
theorem dksJ5_getChars_2_5 : cJ5_getChars_2.data.toList.drop 118 = dktJ5_getChars_2_5 := dk_seg dksJ5_getChars_2_4 24 rfl rfl
theorem dJ5_getChars_2_0 : decode cJ5_getChars_2 0 = .ok (.iload_n 1, 1) := dk_27 (dk_at dksJ5_getChars_2_0 0 rfl rfl)
theorem dJ5_getChars_2_1 : decode cJ5_getChars_2 1 = .ok (.istore 5, 2) := dk_54 5 (dk_at dksJ5_getChars_2_0 1 rfl rfl)
theorem dJ5_getChars_2_3 : decode cJ5_getChars_2 3 = .ok (.iload_n 0, 1) := dk_26 (dk_at dksJ5_getChars_2_0 3 rfl rfl)
theorem dJ5_getChars_2_4 : decode cJ5_getChars_2 4 = .ok (.ifCond .ge 7, 3) := dk_156 0 7 (dk_at dksJ5_getChars_2_0 4 rfl rfl)
theorem dJ5_getChars_2_7 : decode cJ5_getChars_2 7 = .ok (.iconst 1, 1) := dk_4 (dk_at dksJ5_getChars_2_0 7 rfl rfl)
theorem dJ5_getChars_2_8 : decode cJ5_getChars_2 8 = .ok (.goto 4, 3) := dk_167 0 4 (dk_at dksJ5_getChars_2_0 8 rfl rfl)
theorem dJ5_getChars_2_11 : decode cJ5_getChars_2 11 = .ok (.iconst 0, 1) := dk_3 (dk_at dksJ5_getChars_2_0 11 rfl rfl)
theorem dJ5_getChars_2_12 : decode cJ5_getChars_2 12 = .ok (.istore 6, 2) := dk_54 6 (dk_at dksJ5_getChars_2_0 12 rfl rfl)
theorem dJ5_getChars_2_14 : decode cJ5_getChars_2 14 = .ok (.iload 6, 2) := dk_21 6 (dk_at dksJ5_getChars_2_0 14 rfl rfl)
theorem dJ5_getChars_2_16 : decode cJ5_getChars_2 16 = .ok (.ifCond .ne 6, 3) := dk_154 0 6 (dk_at dksJ5_getChars_2_0 16 rfl rfl)
theorem dJ5_getChars_2_19 : decode cJ5_getChars_2 19 = .ok (.iload_n 0, 1) := dk_26 (dk_at dksJ5_getChars_2_0 19 rfl rfl)
theorem dJ5_getChars_2_20 : decode cJ5_getChars_2 20 = .ok (.ineg, 1) := dk_116 (dk_at dksJ5_getChars_2_0 20 rfl rfl)
theorem dJ5_getChars_2_21 : decode cJ5_getChars_2 21 = .ok (.istore_n 0, 1) := dk_59 (dk_at dksJ5_getChars_2_0 21 rfl rfl)
theorem dJ5_getChars_2_22 : decode cJ5_getChars_2 22 = .ok (.iload_n 0, 1) := dk_26 (dk_at dksJ5_getChars_2_0 22 rfl rfl)
theorem dJ5_getChars_2_23 : decode cJ5_getChars_2 23 = .ok (.bipush (-100), 2) := dk_16 156 (dk_at dksJ5_getChars_2_1 0 rfl rfl)
theorem dJ5_getChars_2_25 : decode cJ5_getChars_2 25 = .ok (.if_icmp .gt 51, 3) := dk_163 0 51 (dk_at dksJ5_getChars_2_1 2 rfl rfl)
theorem dJ5_getChars_2_28 : decode cJ5_getChars_2 28 = .ok (.iload_n 0, 1) := dk_26 (dk_at dksJ5_getChars_2_1 5 rfl rfl)
theorem dJ5_getChars_2_29 : decode cJ5_getChars_2 29 = .ok (.bipush 100, 2) := dk_16 100 (dk_at dksJ5_getChars_2_1 6 rfl rfl)
theorem dJ5_getChars_2_31 : decode cJ5_getChars_2 31 = .ok (.idiv, 1) := dk_108 (dk_at dksJ5_getChars_2_1 8 rfl rfl)
theorem dJ5_getChars_2_32 : decode cJ5_getChars_2 32 = .ok (.istore_n 3, 1) := dk_62 (dk_at dksJ5_getChars_2_1 9 rfl rfl)
theorem dJ5_getChars_2_33 : decode cJ5_getChars_2 33 = .ok (.iload_n 3, 1) := dk_29 (dk_at dksJ5_getChars_2_1 10 rfl rfl)
theorem dJ5_getChars_2_34 : decode cJ5_getChars_2 34 = .ok (.bipush 100, 2) := dk_16 100 (dk_at dksJ5_getChars_2_1 11 rfl rfl)
theorem dJ5_getChars_2_36 : decode cJ5_getChars_2 36 = .ok (.imul, 1) := dk_104 (dk_at dksJ5_getChars_2_1 13 rfl rfl)
theorem dJ5_getChars_2_37 : decode cJ5_getChars_2 37 = .ok (.iload_n 0, 1) := dk_26 (dk_at dksJ5_getChars_2_1 14 rfl rfl)
theorem dJ5_getChars_2_38 : decode cJ5_getChars_2 38 = .ok (.isub, 1) := dk_100 (dk_at dksJ5_getChars_2_1 15 rfl rfl)
theorem dJ5_getChars_2_39 : decode cJ5_getChars_2 39 = .ok (.istore 4, 2) := dk_54 4 (dk_at dksJ5_getChars_2_1 16 rfl rfl)
theorem dJ5_getChars_2_41 : decode cJ5_getChars_2 41 = .ok (.iload_n 3, 1) := dk_29 (dk_at dksJ5_getChars_2_1 18 rfl rfl)
theorem dJ5_getChars_2_42 : decode cJ5_getChars_2 42 = .ok (.istore_n 0, 1) := dk_59 (dk_at dksJ5_getChars_2_1 19 rfl rfl)
theorem dJ5_getChars_2_43 : decode cJ5_getChars_2 43 = .ok (.aload_n 2, 1) := dk_44 (dk_at dksJ5_getChars_2_1 20 rfl rfl)
theorem dJ5_getChars_2_44 : decode cJ5_getChars_2 44 = .ok (.iinc 5 (-1), 3) := dk_132 5 255 (dk_at dksJ5_getChars_2_1 21 rfl rfl)
theorem dJ5_getChars_2_47 : decode cJ5_getChars_2 47 = .ok (.iload 5, 2) := dk_21 5 (dk_at dksJ5_getChars_2_2 0 rfl rfl)
theorem dJ5_getChars_2_49 : decode cJ5_getChars_2 49 = .ok (.getstatic 403, 3) := dk_178 1 147 (dk_at dksJ5_getChars_2_2 2 rfl rfl)
theorem dJ5_getChars_2_52 : decode cJ5_getChars_2 52 = .ok (.iload 4, 2) := dk_21 4 (dk_at dksJ5_getChars_2_2 5 rfl rfl)
theorem dJ5_getChars_2_54 : decode cJ5_getChars_2 54 = .ok (.baload, 1) := dk_51 (dk_at dksJ5_getChars_2_2 7 rfl rfl)
theorem dJ5_getChars_2_55 : decode cJ5_getChars_2 55 = .ok (.invokestatic 111, 3) := dk_184 0 111 (dk_at dksJ5_getChars_2_2 8 rfl rfl)
theorem dJ5_getChars_2_58 : decode cJ5_getChars_2 58 = .ok (.aload_n 2, 1) := dk_44 (dk_at dksJ5_getChars_2_2 11 rfl rfl)
theorem dJ5_getChars_2_59 : decode cJ5_getChars_2 59 = .ok (.iinc 5 (-1), 3) := dk_132 5 255 (dk_at dksJ5_getChars_2_2 12 rfl rfl)
theorem dJ5_getChars_2_62 : decode cJ5_getChars_2 62 = .ok (.iload 5, 2) := dk_21 5 (dk_at dksJ5_getChars_2_2 15 rfl rfl)
theorem dJ5_getChars_2_64 : decode cJ5_getChars_2 64 = .ok (.getstatic 407, 3) := dk_178 1 151 (dk_at dksJ5_getChars_2_2 17 rfl rfl)
theorem dJ5_getChars_2_67 : decode cJ5_getChars_2 67 = .ok (.iload 4, 2) := dk_21 4 (dk_at dksJ5_getChars_2_2 20 rfl rfl)
theorem dJ5_getChars_2_69 : decode cJ5_getChars_2 69 = .ok (.baload, 1) := dk_51 (dk_at dksJ5_getChars_2_2 22 rfl rfl)
theorem dJ5_getChars_2_70 : decode cJ5_getChars_2 70 = .ok (.invokestatic 111, 3) := dk_184 0 111 (dk_at dksJ5_getChars_2_3 0 rfl rfl)
theorem dJ5_getChars_2_73 : decode cJ5_getChars_2 73 = .ok (.goto (-51), 3) := dk_167 255 205 (dk_at dksJ5_getChars_2_3 3 rfl rfl)
theorem dJ5_getChars_2_76 : decode cJ5_getChars_2 76 = .ok (.aload_n 2, 1) := dk_44 (dk_at dksJ5_getChars_2_3 6 rfl rfl)
theorem dJ5_getChars_2_77 : decode cJ5_getChars_2 77 = .ok (.iinc 5 (-1), 3) := dk_132 5 255 (dk_at dksJ5_getChars_2_3 7 rfl rfl)
theorem dJ5_getChars_2_80 : decode cJ5_getChars_2 80 = .ok (.iload 5, 2) := dk_21 5 (dk_at dksJ5_getChars_2_3 10 rfl rfl)
theorem dJ5_getChars_2_82 : decode cJ5_getChars_2 82 = .ok (.getstatic 403, 3) := dk_178 1 147 (dk_at dksJ5_getChars_2_3 12 rfl rfl)
theorem dJ5_getChars_2_85 : decode cJ5_getChars_2 85 = .ok (.iload_n 0, 1) := dk_26 (dk_at dksJ5_getChars_2_3 15 rfl rfl)
theorem dJ5_getChars_2_86 : decode cJ5_getChars_2 86 = .ok (.ineg, 1) := dk_116 (dk_at dksJ5_getChars_2_3 16 rfl rfl)
theorem dJ5_getChars_2_87 : decode cJ5_getChars_2 87 = .ok (.baload, 1) := dk_51 (dk_at dksJ5_getChars_2_3 17 rfl rfl)
theorem dJ5_getChars_2_88 : decode cJ5_getChars_2 88 = .ok (.invokestatic 111, 3) := dk_184 0 111 (dk_at dksJ5_getChars_2_3 18 rfl rfl)
theorem dJ5_getChars_2_91 : decode cJ5_getChars_2 91 = .ok (.iload_n 0, 1) := dk_26 (dk_at dksJ5_getChars_2_3 21 rfl rfl)
theorem dJ5_getChars_2_92 : decode cJ5_getChars_2 92 = .ok (.bipush (-9), 2) := dk_16 247 (dk_at dksJ5_getChars_2_3 22 rfl rfl)
theorem dJ5_getChars_2_94 : decode cJ5_getChars_2 94 = .ok (.if_icmp .ge 18, 3) := dk_162 0 18 (dk_at dksJ5_getChars_2_4 0 rfl rfl)
theorem dJ5_getChars_2_97 : decode cJ5_getChars_2 97 = .ok (.aload_n 2, 1) := dk_44 (dk_at dksJ5_getChars_2_4 3 rfl rfl)
theorem dJ5_getChars_2_98 : decode cJ5_getChars_2 98 = .ok (.iinc 5 (-1), 3) := dk_132 5 255 (dk_at dksJ5_getChars_2_4 4 rfl rfl)
theorem dJ5_getChars_2_101 : decode cJ5_getChars_2 101 = .ok (.iload 5, 2) := dk_21 5 (dk_at dksJ5_getChars_2_4 7 rfl rfl)
theorem dJ5_getChars_2_103 : decode cJ5_getChars_2 103 = .ok (.getstatic 407, 3) := dk_178 1 151 (dk_at dksJ5_getChars_2_4 9 rfl rfl)
theorem dJ5_getChars_2_106 : decode cJ5_getChars_2 106 = .ok (.iload_n 0, 1) := dk_26 (dk_at dksJ5_getChars_2_4 12 rfl rfl)
theorem dJ5_getChars_2_107 : decode cJ5_getChars_2 107 = .ok (.ineg, 1) := dk_116 (dk_at dksJ5_getChars_2_4 13 rfl rfl)
theorem dJ5_getChars_2_108 : decode cJ5_getChars_2 108 = .ok (.baload, 1) := dk_51 (dk_at dksJ5_getChars_2_4 14 rfl rfl)
theorem dJ5_getChars_2_109 : decode cJ5_getChars_2 109 = .ok (.invokestatic 111, 3) := dk_184 0 111 (dk_at dksJ5_getChars_2_4 15 rfl rfl)
theorem dJ5_getChars_2_112 : decode cJ5_getChars_2 112 = .ok (.iload 6, 2) := dk_21 6 (dk_at dksJ5_getChars_2_4 18 rfl rfl)
theorem dJ5_getChars_2_114 : decode cJ5_getChars_2 114 = .ok (.ifCond .eq 14, 3) := dk_153 0 14 (dk_at dksJ5_getChars_2_4 20 rfl rfl)
theorem dJ5_getChars_2_117 : decode cJ5_getChars_2 117 = .ok (.aload_n 2, 1) := dk_44 (dk_at dksJ5_getChars_2_4 23 rfl rfl)
theorem dJ5_getChars_2_118 : decode cJ5_getChars_2 118 = .ok (.iinc 5 (-1), 3) := dk_132 5 255 (dk_at dksJ5_getChars_2_5 0 rfl rfl)
theorem dJ5_getChars_2_121 : decode cJ5_getChars_2 121 = .ok (.iload 5, 2) := dk_21 5 (dk_at dksJ5_getChars_2_5 3 rfl rfl)
theorem dJ5_getChars_2_123 : decode cJ5_getChars_2 123 = .ok (.bipush 45, 2) := dk_16 45 (dk_at dksJ5_getChars_2_5 5 rfl rfl)
theorem dJ5_getChars_2_125 : decode cJ5_getChars_2 125 = .ok (.invokestatic 111, 3) := dk_184 0 111 (dk_at dksJ5_getChars_2_5 7 rfl rfl)
theorem dJ5_getChars_2_128 : decode cJ5_getChars_2 128 = .ok (.iload 5, 2) := dk_21 5 (dk_at dksJ5_getChars_2_5 10 rfl rfl)
theorem dJ5_getChars_2_130 : decode cJ5_getChars_2 130 = .ok (.ireturn, 1) := dk_172 (dk_at dksJ5_getChars_2_5 12 rfl rfl)
abbrev cJ5_compress : ByteArray := prog_30_method_17_code
def yJ5_compress : MethodName := ⟨RJ5, "compress", "([BII)[B"⟩
def dkwJ5_compress_2 : List UInt8 := [25, 5, 3, 45, 3, 28, 184, 0, 123, 28, 159, 0, 6, 25, 5, 176, 45, 176]
abbrev dktJ5_compress_2 : List UInt8 := dkwJ5_compress_2 ++ []
def dkwJ5_compress_1 : List UInt8 := [27, 28, 96, 184, 0, 11, 184, 0, 126, 58, 5, 25, 5, 21, 4, 184, 0, 71, 17, 0, 255, 163, 0, 16]
abbrev dktJ5_compress_1 : List UInt8 := dkwJ5_compress_1 ++ dktJ5_compress_2
def dkwJ5_compress_0 : List UInt8 := [28, 188, 8, 78, 42, 27, 45, 3, 28, 184, 0, 123, 54, 4, 21, 4, 28, 159, 0, 47, 42, 27, 4, 120]
abbrev dktJ5_compress_0 : List UInt8 := dkwJ5_compress_0 ++ dktJ5_compress_1
theorem dksJ5_compress_0 : cJ5_compress.data.toList.drop 0 = dktJ5_compress_0 := by decide +kernel
theorem dksJ5_compress_1 : cJ5_compress.data.toList.drop 24 = dktJ5_compress_1 := dk_seg dksJ5_compress_0 24 rfl rfl
theorem dksJ5_compress_2 : cJ5_compress.data.toList.drop 48 = dktJ5_compress_2 := dk_seg dksJ5_compress_1 24 rfl rfl
theorem dJ5_compress_0 : decode cJ5_compress 0 = .ok (.iload_n 2, 1) := dk_28 (dk_at dksJ5_compress_0 0 rfl rfl)
theorem dJ5_compress_1 : decode cJ5_compress 1 = .ok (.newarray .byte, 2) := dk_188_8 (dk_at dksJ5_compress_0 1 rfl rfl)
theorem dJ5_compress_3 : decode cJ5_compress 3 = .ok (.astore_n 3, 1) := dk_78 (dk_at dksJ5_compress_0 3 rfl rfl)
theorem dJ5_compress_4 : decode cJ5_compress 4 = .ok (.aload_n 0, 1) := dk_42 (dk_at dksJ5_compress_0 4 rfl rfl)
theorem dJ5_compress_5 : decode cJ5_compress 5 = .ok (.iload_n 1, 1) := dk_27 (dk_at dksJ5_compress_0 5 rfl rfl)
theorem dJ5_compress_6 : decode cJ5_compress 6 = .ok (.aload_n 3, 1) := dk_45 (dk_at dksJ5_compress_0 6 rfl rfl)
theorem dJ5_compress_7 : decode cJ5_compress 7 = .ok (.iconst 0, 1) := dk_3 (dk_at dksJ5_compress_0 7 rfl rfl)
theorem dJ5_compress_8 : decode cJ5_compress 8 = .ok (.iload_n 2, 1) := dk_28 (dk_at dksJ5_compress_0 8 rfl rfl)
theorem dJ5_compress_9 : decode cJ5_compress 9 = .ok (.invokestatic 123, 3) := dk_184 0 123 (dk_at dksJ5_compress_0 9 rfl rfl)
theorem dJ5_compress_12 : decode cJ5_compress 12 = .ok (.istore 4, 2) := dk_54 4 (dk_at dksJ5_compress_0 12 rfl rfl)
theorem dJ5_compress_14 : decode cJ5_compress 14 = .ok (.iload 4, 2) := dk_21 4 (dk_at dksJ5_compress_0 14 rfl rfl)
theorem dJ5_compress_16 : decode cJ5_compress 16 = .ok (.iload_n 2, 1) := dk_28 (dk_at dksJ5_compress_0 16 rfl rfl)
theorem dJ5_compress_17 : decode cJ5_compress 17 = .ok (.if_icmp .eq 47, 3) := dk_159 0 47 (dk_at dksJ5_compress_0 17 rfl rfl)
theorem dJ5_compress_20 : decode cJ5_compress 20 = .ok (.aload_n 0, 1) := dk_42 (dk_at dksJ5_compress_0 20 rfl rfl)
theorem dJ5_compress_21 : decode cJ5_compress 21 = .ok (.iload_n 1, 1) := dk_27 (dk_at dksJ5_compress_0 21 rfl rfl)
theorem dJ5_compress_22 : decode cJ5_compress 22 = .ok (.iconst 1, 1) := dk_4 (dk_at dksJ5_compress_0 22 rfl rfl)
theorem dJ5_compress_23 : decode cJ5_compress 23 = .ok (.ishl, 1) := dk_120 (dk_at dksJ5_compress_0 23 rfl rfl)
theorem dJ5_compress_24 : decode cJ5_compress 24 = .ok (.iload_n 1, 1) := dk_27 (dk_at dksJ5_compress_1 0 rfl rfl)
theorem dJ5_compress_25 : decode cJ5_compress 25 = .ok (.iload_n 2, 1) := dk_28 (dk_at dksJ5_compress_1 1 rfl rfl)
theorem dJ5_compress_26 : decode cJ5_compress 26 = .ok (.iadd, 1) := dk_96 (dk_at dksJ5_compress_1 2 rfl rfl)
theorem dJ5_compress_27 : decode cJ5_compress 27 = .ok (.invokestatic 11, 3) := dk_184 0 11 (dk_at dksJ5_compress_1 3 rfl rfl)
theorem dJ5_compress_30 : decode cJ5_compress 30 = .ok (.invokestatic 126, 3) := dk_184 0 126 (dk_at dksJ5_compress_1 6 rfl rfl)
theorem dJ5_compress_33 : decode cJ5_compress 33 = .ok (.astore 5, 2) := dk_58 5 (dk_at dksJ5_compress_1 9 rfl rfl)
theorem dJ5_compress_35 : decode cJ5_compress 35 = .ok (.aload 5, 2) := dk_25 5 (dk_at dksJ5_compress_1 11 rfl rfl)
theorem dJ5_compress_37 : decode cJ5_compress 37 = .ok (.iload 4, 2) := dk_21 4 (dk_at dksJ5_compress_1 13 rfl rfl)
theorem dJ5_compress_39 : decode cJ5_compress 39 = .ok (.invokestatic 71, 3) := dk_184 0 71 (dk_at dksJ5_compress_1 15 rfl rfl)
theorem dJ5_compress_42 : decode cJ5_compress 42 = .ok (.sipush 255, 3) := dk_17 0 255 (dk_at dksJ5_compress_1 18 rfl rfl)
theorem dJ5_compress_45 : decode cJ5_compress 45 = .ok (.if_icmp .gt 16, 3) := dk_163 0 16 (dk_at dksJ5_compress_1 21 rfl rfl)
theorem dJ5_compress_48 : decode cJ5_compress 48 = .ok (.aload 5, 2) := dk_25 5 (dk_at dksJ5_compress_2 0 rfl rfl)
theorem dJ5_compress_50 : decode cJ5_compress 50 = .ok (.iconst 0, 1) := dk_3 (dk_at dksJ5_compress_2 2 rfl rfl)
theorem dJ5_compress_51 : decode cJ5_compress 51 = .ok (.aload_n 3, 1) := dk_45 (dk_at dksJ5_compress_2 3 rfl rfl)
theorem dJ5_compress_52 : decode cJ5_compress 52 = .ok (.iconst 0, 1) := dk_3 (dk_at dksJ5_compress_2 4 rfl rfl)
theorem dJ5_compress_53 : decode cJ5_compress 53 = .ok (.iload_n 2, 1) := dk_28 (dk_at dksJ5_compress_2 5 rfl rfl)
theorem dJ5_compress_54 : decode cJ5_compress 54 = .ok (.invokestatic 123, 3) := dk_184 0 123 (dk_at dksJ5_compress_2 6 rfl rfl)
theorem dJ5_compress_57 : decode cJ5_compress 57 = .ok (.iload_n 2, 1) := dk_28 (dk_at dksJ5_compress_2 9 rfl rfl)
theorem dJ5_compress_58 : decode cJ5_compress 58 = .ok (.if_icmp .eq 6, 3) := dk_159 0 6 (dk_at dksJ5_compress_2 10 rfl rfl)
theorem dJ5_compress_61 : decode cJ5_compress 61 = .ok (.aload 5, 2) := dk_25 5 (dk_at dksJ5_compress_2 13 rfl rfl)
theorem dJ5_compress_63 : decode cJ5_compress 63 = .ok (.areturn, 1) := dk_176 (dk_at dksJ5_compress_2 15 rfl rfl)
theorem dJ5_compress_64 : decode cJ5_compress 64 = .ok (.aload_n 3, 1) := dk_45 (dk_at dksJ5_compress_2 16 rfl rfl)
theorem dJ5_compress_65 : decode cJ5_compress 65 = .ok (.areturn, 1) := dk_176 (dk_at dksJ5_compress_2 17 rfl rfl)
abbrev cJ5_compress_2 : ByteArray := prog_30_method_22_code
def yJ5_compress_2 : MethodName := ⟨RJ5, "compress", "([BI[BII)I"⟩
def dkwJ5_compress_2_2 : List UInt8 := [132, 5, 1, 167, 255, 216, 21, 4, 172]
abbrev dktJ5_compress_2_2 : List UInt8 := dkwJ5_compress_2_2 ++ []
def dkwJ5_compress_2_1 : List UInt8 := [21, 6, 17, 0, 255, 164, 0, 6, 21, 5, 172, 44, 29, 21, 6, 145, 84, 132, 1, 1, 132, 3, 1]
abbrev dktJ5_compress_2_1 : List UInt8 := dkwJ5_compress_2_1 ++ dktJ5_compress_2_2
def dkwJ5_compress_2_0 : List UInt8 := [27, 21, 4, 42, 184, 0, 173, 3, 54, 5, 21, 5, 21, 4, 162, 0, 39, 42, 27, 184, 0, 71, 54, 6]
abbrev dktJ5_compress_2_0 : List UInt8 := dkwJ5_compress_2_0 ++ dktJ5_compress_2_1
theorem dksJ5_compress_2_0 : cJ5_compress_2.data.toList.drop 0 = dktJ5_compress_2_0 := by decide +kernel
theorem dksJ5_compress_2_1 : cJ5_compress_2.data.toList.drop 24 = dktJ5_compress_2_1 := dk_seg dksJ5_compress_2_0 24 rfl rfl
theorem dksJ5_compress_2_2 : cJ5_compress_2.data.toList.drop 47 = dktJ5_compress_2_2 := dk_seg dksJ5_compress_2_1 23 rfl rfl
theorem dJ5_compress_2_0 : decode cJ5_compress_2 0 = .ok (.iload_n 1, 1) := dk_27 (dk_at dksJ5_compress_2_0 0 rfl rfl)
theorem dJ5_compress_2_1 : decode cJ5_compress_2 1 = .ok (.iload 4, 2) := dk_21 4 (dk_at dksJ5_compress_2_0 1 rfl rfl)
theorem dJ5_compress_2_3 : decode cJ5_compress_2 3 = .ok (.aload_n 0, 1) := dk_42 (dk_at dksJ5_compress_2_0 3 rfl rfl)
theorem dJ5_compress_2_4 : decode cJ5_compress_2 4 = .ok (.invokestatic 173, 3) := dk_184 0 173 (dk_at dksJ5_compress_2_0 4 rfl rfl)
theorem dJ5_compress_2_7 : decode cJ5_compress_2 7 = .ok (.iconst 0, 1) := dk_3 (dk_at dksJ5_compress_2_0 7 rfl rfl)
theorem dJ5_compress_2_8 : decode cJ5_compress_2 8 = .ok (.istore 5, 2) := dk_54 5 (dk_at dksJ5_compress_2_0 8 rfl rfl)
theorem dJ5_compress_2_10 : decode cJ5_compress_2 10 = .ok (.iload 5, 2) := dk_21 5 (dk_at dksJ5_compress_2_0 10 rfl rfl)
theorem dJ5_compress_2_12 : decode cJ5_compress_2 12 = .ok (.iload 4, 2) := dk_21 4 (dk_at dksJ5_compress_2_0 12 rfl rfl)
theorem dJ5_compress_2_14 : decode cJ5_compress_2 14 = .ok (.if_icmp .ge 39, 3) := dk_162 0 39 (dk_at dksJ5_compress_2_0 14 rfl rfl)
theorem dJ5_compress_2_17 : decode cJ5_compress_2 17 = .ok (.aload_n 0, 1) := dk_42 (dk_at dksJ5_compress_2_0 17 rfl rfl)
theorem dJ5_compress_2_18 : decode cJ5_compress_2 18 = .ok (.iload_n 1, 1) := dk_27 (dk_at dksJ5_compress_2_0 18 rfl rfl)
theorem dJ5_compress_2_19 : decode cJ5_compress_2 19 = .ok (.invokestatic 71, 3) := dk_184 0 71 (dk_at dksJ5_compress_2_0 19 rfl rfl)
theorem dJ5_compress_2_22 : decode cJ5_compress_2 22 = .ok (.istore 6, 2) := dk_54 6 (dk_at dksJ5_compress_2_0 22 rfl rfl)
theorem dJ5_compress_2_24 : decode cJ5_compress_2 24 = .ok (.iload 6, 2) := dk_21 6 (dk_at dksJ5_compress_2_1 0 rfl rfl)
theorem dJ5_compress_2_26 : decode cJ5_compress_2 26 = .ok (.sipush 255, 3) := dk_17 0 255 (dk_at dksJ5_compress_2_1 2 rfl rfl)
theorem dJ5_compress_2_29 : decode cJ5_compress_2 29 = .ok (.if_icmp .le 6, 3) := dk_164 0 6 (dk_at dksJ5_compress_2_1 5 rfl rfl)
theorem dJ5_compress_2_32 : decode cJ5_compress_2 32 = .ok (.iload 5, 2) := dk_21 5 (dk_at dksJ5_compress_2_1 8 rfl rfl)
theorem dJ5_compress_2_34 : decode cJ5_compress_2 34 = .ok (.ireturn, 1) := dk_172 (dk_at dksJ5_compress_2_1 10 rfl rfl)
theorem dJ5_compress_2_35 : decode cJ5_compress_2 35 = .ok (.aload_n 2, 1) := dk_44 (dk_at dksJ5_compress_2_1 11 rfl rfl)
theorem dJ5_compress_2_36 : decode cJ5_compress_2 36 = .ok (.iload_n 3, 1) := dk_29 (dk_at dksJ5_compress_2_1 12 rfl rfl)
theorem dJ5_compress_2_37 : decode cJ5_compress_2 37 = .ok (.iload 6, 2) := dk_21 6 (dk_at dksJ5_compress_2_1 13 rfl rfl)
theorem dJ5_compress_2_39 : decode cJ5_compress_2 39 = .ok (.i2b, 1) := dk_145 (dk_at dksJ5_compress_2_1 15 rfl rfl)
theorem dJ5_compress_2_40 : decode cJ5_compress_2 40 = .ok (.bastore, 1) := dk_84 (dk_at dksJ5_compress_2_1 16 rfl rfl)
theorem dJ5_compress_2_41 : decode cJ5_compress_2 41 = .ok (.iinc 1 1, 3) := dk_132 1 1 (dk_at dksJ5_compress_2_1 17 rfl rfl)
theorem dJ5_compress_2_44 : decode cJ5_compress_2 44 = .ok (.iinc 3 1, 3) := dk_132 3 1 (dk_at dksJ5_compress_2_1 20 rfl rfl)
theorem dJ5_compress_2_47 : decode cJ5_compress_2 47 = .ok (.iinc 5 1, 3) := dk_132 5 1 (dk_at dksJ5_compress_2_2 0 rfl rfl)
theorem dJ5_compress_2_50 : decode cJ5_compress_2 50 = .ok (.goto (-40), 3) := dk_167 255 216 (dk_at dksJ5_compress_2_2 3 rfl rfl)
theorem dJ5_compress_2_53 : decode cJ5_compress_2 53 = .ok (.iload 4, 2) := dk_21 4 (dk_at dksJ5_compress_2_2 6 rfl rfl)
theorem dJ5_compress_2_55 : decode cJ5_compress_2 55 = .ok (.ireturn, 1) := dk_172 (dk_at dksJ5_compress_2_2 8 rfl rfl)
abbrev cJ5_getChar : ByteArray := prog_30_method_5_code
def yJ5_getChar : MethodName := ⟨RJ5, "getChar", "([BI)C"⟩
def dkwJ5_getChar_2 : List UInt8 := [51, 17, 0, 255, 126, 178, 0, 63, 120, 128, 146, 172]
abbrev dktJ5_getChar_2 : List UInt8 := dkwJ5_getChar_2 ++ []
def dkwJ5_getChar_1 : List UInt8 := [183, 0, 56, 191, 27, 4, 120, 60, 42, 27, 132, 1, 1, 51, 17, 0, 255, 126, 178, 0, 59, 120, 42, 27]
abbrev dktJ5_getChar_1 : List UInt8 := dkwJ5_getChar_1 ++ dktJ5_getChar_2
def dkwJ5_getChar_0 : List UInt8 := [178, 0, 44, 154, 0, 25, 27, 155, 0, 11, 27, 42, 184, 0, 48, 161, 0, 13, 187, 0, 52, 89, 18, 54]
abbrev dktJ5_getChar_0 : List UInt8 := dkwJ5_getChar_0 ++ dktJ5_getChar_1
theorem dksJ5_getChar_0 : cJ5_getChar.data.toList.drop 0 = dktJ5_getChar_0 := by decide +kernel
theorem dksJ5_getChar_1 : cJ5_getChar.data.toList.drop 24 = dktJ5_getChar_1 := dk_seg dksJ5_getChar_0 24 rfl rfl
theorem dksJ5_getChar_2 : cJ5_getChar.data.toList.drop 48 = dktJ5_getChar_2 := dk_seg dksJ5_getChar_1 24 rfl rfl
theorem dJ5_getChar_0 : decode cJ5_getChar 0 = .ok (.getstatic 44, 3) := dk_178 0 44 (dk_at dksJ5_getChar_0 0 rfl rfl)
theorem dJ5_getChar_3 : decode cJ5_getChar 3 = .ok (.ifCond .ne 25, 3) := dk_154 0 25 (dk_at dksJ5_getChar_0 3 rfl rfl)
theorem dJ5_getChar_6 : decode cJ5_getChar 6 = .ok (.iload_n 1, 1) := dk_27 (dk_at dksJ5_getChar_0 6 rfl rfl)
theorem dJ5_getChar_7 : decode cJ5_getChar 7 = .ok (.ifCond .lt 11, 3) := dk_155 0 11 (dk_at dksJ5_getChar_0 7 rfl rfl)
theorem dJ5_getChar_10 : decode cJ5_getChar 10 = .ok (.iload_n 1, 1) := dk_27 (dk_at dksJ5_getChar_0 10 rfl rfl)
theorem dJ5_getChar_11 : decode cJ5_getChar 11 = .ok (.aload_n 0, 1) := dk_42 (dk_at dksJ5_getChar_0 11 rfl rfl)
theorem dJ5_getChar_12 : decode cJ5_getChar 12 = .ok (.invokestatic 48, 3) := dk_184 0 48 (dk_at dksJ5_getChar_0 12 rfl rfl)
theorem dJ5_getChar_15 : decode cJ5_getChar 15 = .ok (.if_icmp .lt 13, 3) := dk_161 0 13 (dk_at dksJ5_getChar_0 15 rfl rfl)
theorem dJ5_getChar_18 : decode cJ5_getChar 18 = .ok (.new 52, 3) := dk_187 0 52 (dk_at dksJ5_getChar_0 18 rfl rfl)
theorem dJ5_getChar_21 : decode cJ5_getChar 21 = .ok (.dup, 1) := dk_89 (dk_at dksJ5_getChar_0 21 rfl rfl)
theorem dJ5_getChar_22 : decode cJ5_getChar 22 = .ok (.ldc 54, 2) := dk_18 54 (dk_at dksJ5_getChar_0 22 rfl rfl)
theorem dJ5_getChar_24 : decode cJ5_getChar 24 = .ok (.invokespecial 56, 3) := dk_183 0 56 (dk_at dksJ5_getChar_1 0 rfl rfl)
theorem dJ5_getChar_27 : decode cJ5_getChar 27 = .ok (.athrow, 1) := dk_191 (dk_at dksJ5_getChar_1 3 rfl rfl)
theorem dJ5_getChar_28 : decode cJ5_getChar 28 = .ok (.iload_n 1, 1) := dk_27 (dk_at dksJ5_getChar_1 4 rfl rfl)
theorem dJ5_getChar_29 : decode cJ5_getChar 29 = .ok (.iconst 1, 1) := dk_4 (dk_at dksJ5_getChar_1 5 rfl rfl)
theorem dJ5_getChar_30 : decode cJ5_getChar 30 = .ok (.ishl, 1) := dk_120 (dk_at dksJ5_getChar_1 6 rfl rfl)
theorem dJ5_getChar_31 : decode cJ5_getChar 31 = .ok (.istore_n 1, 1) := dk_60 (dk_at dksJ5_getChar_1 7 rfl rfl)
theorem dJ5_getChar_32 : decode cJ5_getChar 32 = .ok (.aload_n 0, 1) := dk_42 (dk_at dksJ5_getChar_1 8 rfl rfl)
theorem dJ5_getChar_33 : decode cJ5_getChar 33 = .ok (.iload_n 1, 1) := dk_27 (dk_at dksJ5_getChar_1 9 rfl rfl)
theorem dJ5_getChar_34 : decode cJ5_getChar 34 = .ok (.iinc 1 1, 3) := dk_132 1 1 (dk_at dksJ5_getChar_1 10 rfl rfl)
theorem dJ5_getChar_37 : decode cJ5_getChar 37 = .ok (.baload, 1) := dk_51 (dk_at dksJ5_getChar_1 13 rfl rfl)
theorem dJ5_getChar_38 : decode cJ5_getChar 38 = .ok (.sipush 255, 3) := dk_17 0 255 (dk_at dksJ5_getChar_1 14 rfl rfl)
theorem dJ5_getChar_41 : decode cJ5_getChar 41 = .ok (.iand, 1) := dk_126 (dk_at dksJ5_getChar_1 17 rfl rfl)
theorem dJ5_getChar_42 : decode cJ5_getChar 42 = .ok (.getstatic 59, 3) := dk_178 0 59 (dk_at dksJ5_getChar_1 18 rfl rfl)
theorem dJ5_getChar_45 : decode cJ5_getChar 45 = .ok (.ishl, 1) := dk_120 (dk_at dksJ5_getChar_1 21 rfl rfl)
theorem dJ5_getChar_46 : decode cJ5_getChar 46 = .ok (.aload_n 0, 1) := dk_42 (dk_at dksJ5_getChar_1 22 rfl rfl)
theorem dJ5_getChar_47 : decode cJ5_getChar 47 = .ok (.iload_n 1, 1) := dk_27 (dk_at dksJ5_getChar_1 23 rfl rfl)
theorem dJ5_getChar_48 : decode cJ5_getChar 48 = .ok (.baload, 1) := dk_51 (dk_at dksJ5_getChar_2 0 rfl rfl)
theorem dJ5_getChar_49 : decode cJ5_getChar 49 = .ok (.sipush 255, 3) := dk_17 0 255 (dk_at dksJ5_getChar_2 1 rfl rfl)
theorem dJ5_getChar_52 : decode cJ5_getChar 52 = .ok (.iand, 1) := dk_126 (dk_at dksJ5_getChar_2 4 rfl rfl)
theorem dJ5_getChar_53 : decode cJ5_getChar 53 = .ok (.getstatic 63, 3) := dk_178 0 63 (dk_at dksJ5_getChar_2 5 rfl rfl)
theorem dJ5_getChar_56 : decode cJ5_getChar 56 = .ok (.ishl, 1) := dk_120 (dk_at dksJ5_getChar_2 8 rfl rfl)
theorem dJ5_getChar_57 : decode cJ5_getChar 57 = .ok (.ior, 1) := dk_128 (dk_at dksJ5_getChar_2 9 rfl rfl)
theorem dJ5_getChar_58 : decode cJ5_getChar 58 = .ok (.i2c, 1) := dk_146 (dk_at dksJ5_getChar_2 10 rfl rfl)
theorem dJ5_getChar_59 : decode cJ5_getChar 59 = .ok (.ireturn, 1) := dk_172 (dk_at dksJ5_getChar_2 11 rfl rfl)
abbrev cJ5_coderFromArrayLen : ByteArray := prog_30_method_15_code
def yJ5_coderFromArrayLen : MethodName := ⟨RJ5, "coderFromArrayLen", "([BI)B"⟩
def dkwJ5_coderFromArrayLen_0 : List UInt8 := [27, 42, 190, 100, 16, 31, 124, 145, 172]
abbrev dktJ5_coderFromArrayLen_0 : List UInt8 := dkwJ5_coderFromArrayLen_0 ++ []
theorem dksJ5_coderFromArrayLen_0 : cJ5_coderFromArrayLen.data.toList.drop 0 = dktJ5_coderFromArrayLen_0 := by decide +kernel
theorem dJ5_coderFromArrayLen_0 : decode cJ5_coderFromArrayLen 0 = .ok (.iload_n 1, 1) := dk_27 (dk_at dksJ5_coderFromArrayLen_0 0 rfl rfl)
theorem dJ5_coderFromArrayLen_1 : decode cJ5_coderFromArrayLen 1 = .ok (.aload_n 0, 1) := dk_42 (dk_at dksJ5_coderFromArrayLen_0 1 rfl rfl)
theorem dJ5_coderFromArrayLen_2 : decode cJ5_coderFromArrayLen 2 = .ok (.arraylength, 1) := dk_190 (dk_at dksJ5_coderFromArrayLen_0 2 rfl rfl)
theorem dJ5_coderFromArrayLen_3 : decode cJ5_coderFromArrayLen 3 = .ok (.isub, 1) := dk_100 (dk_at dksJ5_coderFromArrayLen_0 3 rfl rfl)
theorem dJ5_coderFromArrayLen_4 : decode cJ5_coderFromArrayLen 4 = .ok (.bipush 31, 2) := dk_16 31 (dk_at dksJ5_coderFromArrayLen_0 4 rfl rfl)
theorem dJ5_coderFromArrayLen_6 : decode cJ5_coderFromArrayLen 6 = .ok (.iushr, 1) := dk_124 (dk_at dksJ5_coderFromArrayLen_0 6 rfl rfl)
theorem dJ5_coderFromArrayLen_7 : decode cJ5_coderFromArrayLen 7 = .ok (.i2b, 1) := dk_145 (dk_at dksJ5_coderFromArrayLen_0 7 rfl rfl)
theorem dJ5_coderFromArrayLen_8 : decode cJ5_coderFromArrayLen 8 = .ok (.ireturn, 1) := dk_172 (dk_at dksJ5_coderFromArrayLen_0 8 rfl rfl)
abbrev cJ5_fillNull : ByteArray := prog_30_method_70_code
def yJ5_fillNull : MethodName := ⟨RJ5, "fillNull", "([BII)V"⟩
def dkwJ5_fillNull_0 : List UInt8 := [42, 27, 4, 120, 28, 4, 120, 3, 184, 1, 124, 177]
abbrev dktJ5_fillNull_0 : List UInt8 := dkwJ5_fillNull_0 ++ []
theorem dksJ5_fillNull_0 : cJ5_fillNull.data.toList.drop 0 = dktJ5_fillNull_0 := by decide +kernel
theorem dJ5_fillNull_0 : decode cJ5_fillNull 0 = .ok (.aload_n 0, 1) := dk_42 (dk_at dksJ5_fillNull_0 0 rfl rfl)
theorem dJ5_fillNull_1 : decode cJ5_fillNull 1 = .ok (.iload_n 1, 1) := dk_27 (dk_at dksJ5_fillNull_0 1 rfl rfl)
theorem dJ5_fillNull_2 : decode cJ5_fillNull 2 = .ok (.iconst 1, 1) := dk_4 (dk_at dksJ5_fillNull_0 2 rfl rfl)
theorem dJ5_fillNull_3 : decode cJ5_fillNull 3 = .ok (.ishl, 1) := dk_120 (dk_at dksJ5_fillNull_0 3 rfl rfl)
theorem dJ5_fillNull_4 : decode cJ5_fillNull 4 = .ok (.iload_n 2, 1) := dk_28 (dk_at dksJ5_fillNull_0 4 rfl rfl)
theorem dJ5_fillNull_5 : decode cJ5_fillNull 5 = .ok (.iconst 1, 1) := dk_4 (dk_at dksJ5_fillNull_0 5 rfl rfl)
theorem dJ5_fillNull_6 : decode cJ5_fillNull 6 = .ok (.ishl, 1) := dk_120 (dk_at dksJ5_fillNull_0 6 rfl rfl)
theorem dJ5_fillNull_7 : decode cJ5_fillNull 7 = .ok (.iconst 0, 1) := dk_3 (dk_at dksJ5_fillNull_0 7 rfl rfl)
theorem dJ5_fillNull_8 : decode cJ5_fillNull 8 = .ok (.invokestatic 380, 3) := dk_184 1 124 (dk_at dksJ5_fillNull_0 8 rfl rfl)
theorem dJ5_fillNull_11 : decode cJ5_fillNull 11 = .ok (.return_, 1) := dk_177 (dk_at dksJ5_fillNull_0 11 rfl rfl)
abbrev cJ5_charAt : ByteArray := prog_30_method_83_code
def yJ5_charAt : MethodName := ⟨RJ5, "charAt", "([BI)C"⟩
def dkwJ5_charAt_0 : List UInt8 := [27, 42, 184, 0, 67, 42, 27, 184, 0, 71, 172]
abbrev dktJ5_charAt_0 : List UInt8 := dkwJ5_charAt_0 ++ []
theorem dksJ5_charAt_0 : cJ5_charAt.data.toList.drop 0 = dktJ5_charAt_0 := by decide +kernel
theorem dJ5_charAt_0 : decode cJ5_charAt 0 = .ok (.iload_n 1, 1) := dk_27 (dk_at dksJ5_charAt_0 0 rfl rfl)
theorem dJ5_charAt_1 : decode cJ5_charAt 1 = .ok (.aload_n 0, 1) := dk_42 (dk_at dksJ5_charAt_0 1 rfl rfl)
theorem dJ5_charAt_2 : decode cJ5_charAt 2 = .ok (.invokestatic 67, 3) := dk_184 0 67 (dk_at dksJ5_charAt_0 2 rfl rfl)
theorem dJ5_charAt_5 : decode cJ5_charAt 5 = .ok (.aload_n 0, 1) := dk_42 (dk_at dksJ5_charAt_0 5 rfl rfl)
theorem dJ5_charAt_6 : decode cJ5_charAt 6 = .ok (.iload_n 1, 1) := dk_27 (dk_at dksJ5_charAt_0 6 rfl rfl)
theorem dJ5_charAt_7 : decode cJ5_charAt 7 = .ok (.invokestatic 71, 3) := dk_184 0 71 (dk_at dksJ5_charAt_0 7 rfl rfl)
theorem dJ5_charAt_10 : decode cJ5_charAt 10 = .ok (.ireturn, 1) := dk_172 (dk_at dksJ5_charAt_0 10 rfl rfl)
abbrev cJ5_checkIndex : ByteArray := prog_30_method_91_code
def yJ5_checkIndex : MethodName := ⟨RJ5, "checkIndex", "(I[B)V"⟩
def dkwJ5_checkIndex_0 : List UInt8 := [26, 43, 184, 0, 48, 184, 1, 158, 177]
abbrev dktJ5_checkIndex_0 : List UInt8 := dkwJ5_checkIndex_0 ++ []
theorem dksJ5_checkIndex_0 : cJ5_checkIndex.data.toList.drop 0 = dktJ5_checkIndex_0 := by decide +kernel
theorem dJ5_checkIndex_0 : decode cJ5_checkIndex 0 = .ok (.iload_n 0, 1) := dk_26 (dk_at dksJ5_checkIndex_0 0 rfl rfl)
theorem dJ5_checkIndex_1 : decode cJ5_checkIndex 1 = .ok (.aload_n 1, 1) := dk_43 (dk_at dksJ5_checkIndex_0 1 rfl rfl)
theorem dJ5_checkIndex_2 : decode cJ5_checkIndex 2 = .ok (.invokestatic 48, 3) := dk_184 0 48 (dk_at dksJ5_checkIndex_0 2 rfl rfl)
theorem dJ5_checkIndex_5 : decode cJ5_checkIndex 5 = .ok (.invokestatic 414, 3) := dk_184 1 158 (dk_at dksJ5_checkIndex_0 5 rfl rfl)
theorem dJ5_checkIndex_8 : decode cJ5_checkIndex 8 = .ok (.return_, 1) := dk_177 (dk_at dksJ5_checkIndex_0 8 rfl rfl)
abbrev cJ5_putCharSB : ByteArray := prog_30_method_71_code
def yJ5_putCharSB : MethodName := ⟨RJ5, "putCharSB", "([BII)V"⟩
def dkwJ5_putCharSB_0 : List UInt8 := [27, 42, 184, 0, 67, 42, 27, 28, 184, 0, 111, 177]
abbrev dktJ5_putCharSB_0 : List UInt8 := dkwJ5_putCharSB_0 ++ []
theorem dksJ5_putCharSB_0 : cJ5_putCharSB.data.toList.drop 0 = dktJ5_putCharSB_0 := by decide +kernel
theorem dJ5_putCharSB_0 : decode cJ5_putCharSB 0 = .ok (.iload_n 1, 1) := dk_27 (dk_at dksJ5_putCharSB_0 0 rfl rfl)
theorem dJ5_putCharSB_1 : decode cJ5_putCharSB 1 = .ok (.aload_n 0, 1) := dk_42 (dk_at dksJ5_putCharSB_0 1 rfl rfl)
theorem dJ5_putCharSB_2 : decode cJ5_putCharSB 2 = .ok (.invokestatic 67, 3) := dk_184 0 67 (dk_at dksJ5_putCharSB_0 2 rfl rfl)
theorem dJ5_putCharSB_5 : decode cJ5_putCharSB 5 = .ok (.aload_n 0, 1) := dk_42 (dk_at dksJ5_putCharSB_0 5 rfl rfl)
theorem dJ5_putCharSB_6 : decode cJ5_putCharSB 6 = .ok (.iload_n 1, 1) := dk_27 (dk_at dksJ5_putCharSB_0 6 rfl rfl)
theorem dJ5_putCharSB_7 : decode cJ5_putCharSB 7 = .ok (.iload_n 2, 1) := dk_28 (dk_at dksJ5_putCharSB_0 7 rfl rfl)
theorem dJ5_putCharSB_8 : decode cJ5_putCharSB 8 = .ok (.invokestatic 111, 3) := dk_184 0 111 (dk_at dksJ5_putCharSB_0 8 rfl rfl)
theorem dJ5_putCharSB_11 : decode cJ5_putCharSB 11 = .ok (.return_, 1) := dk_177 (dk_at dksJ5_putCharSB_0 11 rfl rfl)
abbrev cJ5_hashCode : ByteArray := prog_30_method_39_code
def yJ5_hashCode : MethodName := ⟨RJ5, "hashCode", "([B)I"⟩
def dkwJ5_hashCode_2 : List UInt8 := [3, 167, 0, 22, 42, 3, 184, 0, 71, 167, 0, 14, 42, 3, 42, 190, 4, 122, 3, 8, 184, 0, 220, 172]
abbrev dktJ5_hashCode_2 : List UInt8 := dkwJ5_hashCode_2 ++ []
def dkwJ5_hashCode_1 : List UInt8 := [171, 0, 0, 0, 0, 38, 0, 0, 0, 2, 0, 0, 0, 0, 0, 0, 0, 26, 0, 0, 0, 2, 0, 0, 0, 30]
abbrev dktJ5_hashCode_1 : List UInt8 := dkwJ5_hashCode_1 ++ dktJ5_hashCode_2
def dkwJ5_hashCode_0 : List UInt8 := [42, 190]
abbrev dktJ5_hashCode_0 : List UInt8 := dkwJ5_hashCode_0 ++ dktJ5_hashCode_1
theorem dksJ5_hashCode_0 : cJ5_hashCode.data.toList.drop 0 = dktJ5_hashCode_0 := by decide +kernel
theorem dksJ5_hashCode_1 : cJ5_hashCode.data.toList.drop 2 = dktJ5_hashCode_1 := dk_seg dksJ5_hashCode_0 2 rfl rfl
theorem dksJ5_hashCode_2 : cJ5_hashCode.data.toList.drop 28 = dktJ5_hashCode_2 := dk_seg dksJ5_hashCode_1 26 rfl rfl
theorem dJ5_hashCode_0 : decode cJ5_hashCode 0 = .ok (.aload_n 0, 1) := dk_42 (dk_at dksJ5_hashCode_0 0 rfl rfl)
theorem dJ5_hashCode_1 : decode cJ5_hashCode 1 = .ok (.arraylength, 1) := dk_190 (dk_at dksJ5_hashCode_0 1 rfl rfl)
theorem dJ5_hashCode_2 : decode cJ5_hashCode 2 = .ok (.lookupswitch 38 #[(0, 26), (2, 30)], 26) := by decide +kernel
theorem dJ5_hashCode_28 : decode cJ5_hashCode 28 = .ok (.iconst 0, 1) := dk_3 (dk_at dksJ5_hashCode_2 0 rfl rfl)
theorem dJ5_hashCode_29 : decode cJ5_hashCode 29 = .ok (.goto 22, 3) := dk_167 0 22 (dk_at dksJ5_hashCode_2 1 rfl rfl)
theorem dJ5_hashCode_32 : decode cJ5_hashCode 32 = .ok (.aload_n 0, 1) := dk_42 (dk_at dksJ5_hashCode_2 4 rfl rfl)
theorem dJ5_hashCode_33 : decode cJ5_hashCode 33 = .ok (.iconst 0, 1) := dk_3 (dk_at dksJ5_hashCode_2 5 rfl rfl)
theorem dJ5_hashCode_34 : decode cJ5_hashCode 34 = .ok (.invokestatic 71, 3) := dk_184 0 71 (dk_at dksJ5_hashCode_2 6 rfl rfl)
theorem dJ5_hashCode_37 : decode cJ5_hashCode 37 = .ok (.goto 14, 3) := dk_167 0 14 (dk_at dksJ5_hashCode_2 9 rfl rfl)
theorem dJ5_hashCode_40 : decode cJ5_hashCode 40 = .ok (.aload_n 0, 1) := dk_42 (dk_at dksJ5_hashCode_2 12 rfl rfl)
theorem dJ5_hashCode_41 : decode cJ5_hashCode 41 = .ok (.iconst 0, 1) := dk_3 (dk_at dksJ5_hashCode_2 13 rfl rfl)
theorem dJ5_hashCode_42 : decode cJ5_hashCode 42 = .ok (.aload_n 0, 1) := dk_42 (dk_at dksJ5_hashCode_2 14 rfl rfl)
theorem dJ5_hashCode_43 : decode cJ5_hashCode 43 = .ok (.arraylength, 1) := dk_190 (dk_at dksJ5_hashCode_2 15 rfl rfl)
theorem dJ5_hashCode_44 : decode cJ5_hashCode 44 = .ok (.iconst 1, 1) := dk_4 (dk_at dksJ5_hashCode_2 16 rfl rfl)
theorem dJ5_hashCode_45 : decode cJ5_hashCode 45 = .ok (.ishr, 1) := dk_122 (dk_at dksJ5_hashCode_2 17 rfl rfl)
theorem dJ5_hashCode_46 : decode cJ5_hashCode 46 = .ok (.iconst 0, 1) := dk_3 (dk_at dksJ5_hashCode_2 18 rfl rfl)
theorem dJ5_hashCode_47 : decode cJ5_hashCode 47 = .ok (.iconst 5, 1) := dk_8 (dk_at dksJ5_hashCode_2 19 rfl rfl)
theorem dJ5_hashCode_48 : decode cJ5_hashCode 48 = .ok (.invokestatic 220, 3) := dk_184 0 220 (dk_at dksJ5_hashCode_2 20 rfl rfl)
theorem dJ5_hashCode_51 : decode cJ5_hashCode 51 = .ok (.ireturn, 1) := dk_172 (dk_at dksJ5_hashCode_2 23 rfl rfl)
theorem q101 : (Jvm.Cond.initialized "java/lang/StringUTF16") ∈ lw_all := lw_g (lw_at lw_m1 8 rfl) rfl
theorem q227 : (Jvm.Cond.static ({ cls := "java/lang/StringUTF16", name := "newBytesFor", desc := "(I)[B" } : Jvm.MethodName)) ∈ lw_all := lw_g (lw_at lw_m1 134 rfl) rfl
theorem q228 : (Jvm.Cond.code ({ cls := "java/lang/StringUTF16", name := "newBytesFor", desc := "(I)[B" } : Jvm.MethodName) prog_30_method_2_code (1 : Nat) (Option.some (Jvm.ClassFile.FieldType.array Jvm.ClassFile.FieldType.byte))) ∈ lw_all := lw_g (lw_at lw_m1 135 rfl) rfl
theorem q229 : (Jvm.Cond.methodLink "java/lang/StringUTF16" (11 : Nat) ({ cls := "java/lang/StringUTF16", name := "newBytesLength", desc := "(I)I" } : Jvm.MethodName)) ∈ lw_all := lw_g (lw_at lw_m1 136 rfl) rfl
theorem q230 : (Jvm.Cond.static ({ cls := "java/lang/StringUTF16", name := "newBytesLength", desc := "(I)I" } : Jvm.MethodName)) ∈ lw_all := lw_g (lw_at lw_m1 137 rfl) rfl
theorem q231 : (Jvm.Cond.code ({ cls := "java/lang/StringUTF16", name := "newBytesLength", desc := "(I)I" } : Jvm.MethodName) prog_30_method_3_code (1 : Nat) (Option.some Jvm.ClassFile.FieldType.int)) ∈ lw_all := lw_g (lw_at lw_m1 138 rfl) rfl
theorem q232 : (Jvm.Cond.constant "java/lang/StringUTF16" (20 : Nat) (1073741823 : Int32)) ∈ lw_all := lw_g (lw_at lw_m1 139 rfl) rfl
theorem q623 : (Jvm.Cond.static ({ cls := "java/lang/StringUTF16", name := "putCharsAt", desc := "([BICCCC)I" } : Jvm.MethodName)) ∈ lw_all := lw_g (lw_at lw_m3 50 rfl) rfl
theorem q624 : (Jvm.Cond.code ({ cls := "java/lang/StringUTF16", name := "putCharsAt", desc := "([BICCCC)I" } : Jvm.MethodName) prog_30_method_81_code (7 : Nat) (Option.some Jvm.ClassFile.FieldType.int)) ∈ lw_all := lw_g (lw_at lw_m3 51 rfl) rfl
theorem q625 : (Jvm.Cond.methodLink "java/lang/StringUTF16" (96 : Nat) ({ cls := "java/lang/StringUTF16", name := "checkBoundsBeginEnd", desc := "(II[B)V" } : Jvm.MethodName)) ∈ lw_all := lw_g (lw_at lw_m3 52 rfl) rfl
theorem q626 : (Jvm.Cond.static ({ cls := "java/lang/StringUTF16", name := "checkBoundsBeginEnd", desc := "(II[B)V" } : Jvm.MethodName)) ∈ lw_all := lw_g (lw_at lw_m3 53 rfl) rfl
theorem q627 : (Jvm.Cond.code ({ cls := "java/lang/StringUTF16", name := "checkBoundsBeginEnd", desc := "(II[B)V" } : Jvm.MethodName) prog_30_method_93_code (3 : Nat) (Option.none : Option Jvm.ClassFile.FieldType)) ∈ lw_all := lw_g (lw_at lw_m3 54 rfl) rfl
theorem q628 : (Jvm.Cond.methodLink "java/lang/StringUTF16" (48 : Nat) ({ cls := "java/lang/StringUTF16", name := "length", desc := "([B)I" } : Jvm.MethodName)) ∈ lw_all := lw_g (lw_at lw_m3 55 rfl) rfl
theorem q629 : (Jvm.Cond.static ({ cls := "java/lang/StringUTF16", name := "length", desc := "([B)I" } : Jvm.MethodName)) ∈ lw_all := lw_g (lw_at lw_m3 56 rfl) rfl
theorem q630 : (Jvm.Cond.code ({ cls := "java/lang/StringUTF16", name := "length", desc := "([B)I" } : Jvm.MethodName) prog_30_method_6_code (1 : Nat) (Option.some Jvm.ClassFile.FieldType.int)) ∈ lw_all := lw_g (lw_at lw_m3 57 rfl) rfl
theorem q631 : (Jvm.Cond.methodLink "java/lang/StringUTF16" (241 : Nat) ({ cls := "java/lang/String", name := "checkBoundsBeginEnd", desc := "(III)V" } : Jvm.MethodName)) ∈ lw_all := lw_g (lw_at lw_m3 58 rfl) rfl
theorem q639 : (Jvm.Cond.methodLink "java/lang/StringUTF16" (111 : Nat) ({ cls := "java/lang/StringUTF16", name := "putChar", desc := "([BII)V" } : Jvm.MethodName)) ∈ lw_all := lw_g (lw_at lw_m3 66 rfl) rfl
theorem q640 : (Jvm.Cond.static ({ cls := "java/lang/StringUTF16", name := "putChar", desc := "([BII)V" } : Jvm.MethodName)) ∈ lw_all := lw_g (lw_at lw_m3 67 rfl) rfl
theorem q641 : (Jvm.Cond.code ({ cls := "java/lang/StringUTF16", name := "putChar", desc := "([BII)V" } : Jvm.MethodName) prog_30_method_4_code (3 : Nat) (Option.none : Option Jvm.ClassFile.FieldType)) ∈ lw_all := lw_g (lw_at lw_m3 68 rfl) rfl
theorem q642 : (Jvm.Cond.fieldLink "java/lang/StringUTF16" (44 : Nat) "java/lang/StringUTF16" "$assertionsDisabled" "Z") ∈ lw_all := lw_g (lw_at lw_m3 69 rfl) rfl
theorem q643 : (Jvm.Cond.laysStatic "java/lang/StringUTF16" "$assertionsDisabled" "Z") ∈ lw_tbl := lw_at lw_m3 70 rfl
theorem q644 : (Jvm.Cond.fieldLink "java/lang/StringUTF16" (59 : Nat) "java/lang/StringUTF16" "HI_BYTE_SHIFT" "I") ∈ lw_all := lw_g (lw_at lw_m3 71 rfl) rfl
theorem q645 : (Jvm.Cond.laysStatic "java/lang/StringUTF16" "HI_BYTE_SHIFT" "I") ∈ lw_tbl := lw_at lw_m3 72 rfl
theorem q646 : (Jvm.Cond.fieldLink "java/lang/StringUTF16" (63 : Nat) "java/lang/StringUTF16" "LO_BYTE_SHIFT" "I") ∈ lw_all := lw_g (lw_at lw_m3 73 rfl) rfl
theorem q647 : (Jvm.Cond.laysStatic "java/lang/StringUTF16" "LO_BYTE_SHIFT" "I") ∈ lw_tbl := lw_at lw_m3 74 rfl
theorem q674 : (Jvm.Cond.static ({ cls := "java/lang/StringUTF16", name := "inflate", desc := "([BI[BII)V" } : Jvm.MethodName)) ∈ lw_all := lw_g (lw_at lw_m3 101 rfl) rfl
theorem q675 : (Jvm.Cond.code ({ cls := "java/lang/StringUTF16", name := "inflate", desc := "([BI[BII)V" } : Jvm.MethodName) prog_30_method_86_code (6 : Nat) (Option.none : Option Jvm.ClassFile.FieldType)) ∈ lw_all := lw_g (lw_at lw_m3 102 rfl) rfl
theorem q676 : (Jvm.Cond.methodLink "java/lang/StringUTF16" (173 : Nat) ({ cls := "java/lang/StringUTF16", name := "checkBoundsOffCount", desc := "(II[B)V" } : Jvm.MethodName)) ∈ lw_all := lw_g (lw_at lw_m3 103 rfl) rfl
theorem q677 : (Jvm.Cond.static ({ cls := "java/lang/StringUTF16", name := "checkBoundsOffCount", desc := "(II[B)V" } : Jvm.MethodName)) ∈ lw_all := lw_g (lw_at lw_m3 104 rfl) rfl
theorem q678 : (Jvm.Cond.code ({ cls := "java/lang/StringUTF16", name := "checkBoundsOffCount", desc := "(II[B)V" } : Jvm.MethodName) prog_30_method_94_code (3 : Nat) (Option.none : Option Jvm.ClassFile.FieldType)) ∈ lw_all := lw_g (lw_at lw_m3 105 rfl) rfl
theorem q679 : (Jvm.Cond.methodLink "java/lang/StringUTF16" (419 : Nat) ({ cls := "java/lang/String", name := "checkBoundsOffCount", desc := "(III)I" } : Jvm.MethodName)) ∈ lw_all := lw_g (lw_at lw_m3 106 rfl) rfl
theorem q709 : (Jvm.Cond.static ({ cls := "java/lang/StringUTF16", name := "getChars", desc := "(III[B)I" } : Jvm.MethodName)) ∈ lw_all := lw_g (lw_at lw_m3 136 rfl) rfl
theorem q710 : (Jvm.Cond.code ({ cls := "java/lang/StringUTF16", name := "getChars", desc := "(III[B)I" } : Jvm.MethodName) prog_30_method_77_code (5 : Nat) (Option.some Jvm.ClassFile.FieldType.int)) ∈ lw_all := lw_g (lw_at lw_m3 137 rfl) rfl
theorem q711 : (Jvm.Cond.methodLink "java/lang/StringUTF16" (393 : Nat) ({ cls := "java/lang/StringUTF16", name := "getChars", desc := "(II[B)I" } : Jvm.MethodName)) ∈ lw_all := lw_g (lw_at lw_m3 138 rfl) rfl
theorem q712 : (Jvm.Cond.static ({ cls := "java/lang/StringUTF16", name := "getChars", desc := "(II[B)I" } : Jvm.MethodName)) ∈ lw_all := lw_g (lw_at lw_m3 139 rfl) rfl
theorem q713 : (Jvm.Cond.code ({ cls := "java/lang/StringUTF16", name := "getChars", desc := "(II[B)I" } : Jvm.MethodName) prog_30_method_89_code (7 : Nat) (Option.some Jvm.ClassFile.FieldType.int)) ∈ lw_all := lw_g (lw_at lw_m3 140 rfl) rfl
theorem q714 : (Jvm.Cond.fieldLink "java/lang/StringUTF16" (403 : Nat) "java/lang/Integer" "DigitOnes" "[B") ∈ lw_all := lw_g (lw_at lw_m3 141 rfl) rfl
theorem q715 : (Jvm.Cond.fieldLink "java/lang/StringUTF16" (407 : Nat) "java/lang/Integer" "DigitTens" "[B") ∈ lw_all := lw_g (lw_at lw_m3 142 rfl) rfl
theorem q767 : (Jvm.Cond.static ({ cls := "java/lang/StringUTF16", name := "compress", desc := "([BII)[B" } : Jvm.MethodName)) ∈ lw_all := lw_g (lw_at lw_m3 194 rfl) rfl
theorem q768 : (Jvm.Cond.code ({ cls := "java/lang/StringUTF16", name := "compress", desc := "([BII)[B" } : Jvm.MethodName) prog_30_method_17_code (6 : Nat) (Option.some (Jvm.ClassFile.FieldType.array Jvm.ClassFile.FieldType.byte))) ∈ lw_all := lw_g (lw_at lw_m3 195 rfl) rfl
theorem q769 : (Jvm.Cond.methodLink "java/lang/StringUTF16" (123 : Nat) ({ cls := "java/lang/StringUTF16", name := "compress", desc := "([BI[BII)I" } : Jvm.MethodName)) ∈ lw_all := lw_g (lw_at lw_m3 196 rfl) rfl
theorem q770 : (Jvm.Cond.static ({ cls := "java/lang/StringUTF16", name := "compress", desc := "([BI[BII)I" } : Jvm.MethodName)) ∈ lw_all := lw_g (lw_at lw_m3 197 rfl) rfl
theorem q771 : (Jvm.Cond.code ({ cls := "java/lang/StringUTF16", name := "compress", desc := "([BI[BII)I" } : Jvm.MethodName) prog_30_method_22_code (7 : Nat) (Option.some Jvm.ClassFile.FieldType.int)) ∈ lw_all := lw_g (lw_at lw_m3 198 rfl) rfl
theorem q772 : (Jvm.Cond.methodLink "java/lang/StringUTF16" (71 : Nat) ({ cls := "java/lang/StringUTF16", name := "getChar", desc := "([BI)C" } : Jvm.MethodName)) ∈ lw_all := lw_g (lw_at lw_m3 199 rfl) rfl
theorem q773 : (Jvm.Cond.static ({ cls := "java/lang/StringUTF16", name := "getChar", desc := "([BI)C" } : Jvm.MethodName)) ∈ lw_all := lw_g (lw_at lw_m3 200 rfl) rfl
theorem q774 : (Jvm.Cond.code ({ cls := "java/lang/StringUTF16", name := "getChar", desc := "([BI)C" } : Jvm.MethodName) prog_30_method_5_code (2 : Nat) (Option.some Jvm.ClassFile.FieldType.char)) ∈ lw_all := lw_g (lw_at lw_m3 201 rfl) rfl
theorem q775 : (Jvm.Cond.methodLink "java/lang/StringUTF16" (126 : Nat) ({ cls := "java/util/Arrays", name := "copyOfRange", desc := "([BII)[B" } : Jvm.MethodName)) ∈ lw_all := lw_g (lw_at lw_m3 202 rfl) rfl
theorem q777 : (Jvm.Cond.static ({ cls := "java/lang/StringUTF16", name := "coderFromArrayLen", desc := "([BI)B" } : Jvm.MethodName)) ∈ lw_all := lw_g (lw_at lw_m3 204 rfl) rfl
theorem q778 : (Jvm.Cond.code ({ cls := "java/lang/StringUTF16", name := "coderFromArrayLen", desc := "([BI)B" } : Jvm.MethodName) prog_30_method_15_code (2 : Nat) (Option.some Jvm.ClassFile.FieldType.byte)) ∈ lw_all := lw_g (lw_at lw_m3 205 rfl) rfl
theorem q839 : (Jvm.Cond.static ({ cls := "java/lang/StringUTF16", name := "fillNull", desc := "([BII)V" } : Jvm.MethodName)) ∈ lw_all := lw_g (lw_at lw_m4 26 rfl) rfl
theorem q840 : (Jvm.Cond.code ({ cls := "java/lang/StringUTF16", name := "fillNull", desc := "([BII)V" } : Jvm.MethodName) prog_30_method_70_code (3 : Nat) (Option.none : Option Jvm.ClassFile.FieldType)) ∈ lw_all := lw_g (lw_at lw_m4 27 rfl) rfl
theorem q841 : (Jvm.Cond.methodLink "java/lang/StringUTF16" (380 : Nat) ({ cls := "java/util/Arrays", name := "fill", desc := "([BIIB)V" } : Jvm.MethodName)) ∈ lw_all := lw_g (lw_at lw_m4 28 rfl) rfl
theorem q952 : (Jvm.Cond.static ({ cls := "java/lang/StringUTF16", name := "charAt", desc := "([BI)C" } : Jvm.MethodName)) ∈ lw_all := lw_g (lw_at lw_m4 139 rfl) rfl
theorem q953 : (Jvm.Cond.code ({ cls := "java/lang/StringUTF16", name := "charAt", desc := "([BI)C" } : Jvm.MethodName) prog_30_method_83_code (2 : Nat) (Option.some Jvm.ClassFile.FieldType.char)) ∈ lw_all := lw_g (lw_at lw_m4 140 rfl) rfl
theorem q954 : (Jvm.Cond.methodLink "java/lang/StringUTF16" (67 : Nat) ({ cls := "java/lang/StringUTF16", name := "checkIndex", desc := "(I[B)V" } : Jvm.MethodName)) ∈ lw_all := lw_g (lw_at lw_m4 141 rfl) rfl
theorem q955 : (Jvm.Cond.static ({ cls := "java/lang/StringUTF16", name := "checkIndex", desc := "(I[B)V" } : Jvm.MethodName)) ∈ lw_all := lw_g (lw_at lw_m4 142 rfl) rfl
theorem q956 : (Jvm.Cond.code ({ cls := "java/lang/StringUTF16", name := "checkIndex", desc := "(I[B)V" } : Jvm.MethodName) prog_30_method_91_code (2 : Nat) (Option.none : Option Jvm.ClassFile.FieldType)) ∈ lw_all := lw_g (lw_at lw_m4 143 rfl) rfl
theorem q957 : (Jvm.Cond.methodLink "java/lang/StringUTF16" (414 : Nat) ({ cls := "java/lang/String", name := "checkIndex", desc := "(II)V" } : Jvm.MethodName)) ∈ lw_all := lw_g (lw_at lw_m4 144 rfl) rfl
theorem q1252 : (Jvm.Cond.static ({ cls := "java/lang/StringUTF16", name := "putCharSB", desc := "([BII)V" } : Jvm.MethodName)) ∈ lw_all := lw_g (lw_at lw_m5 199 rfl) rfl
theorem q1253 : (Jvm.Cond.code ({ cls := "java/lang/StringUTF16", name := "putCharSB", desc := "([BII)V" } : Jvm.MethodName) prog_30_method_71_code (3 : Nat) (Option.none : Option Jvm.ClassFile.FieldType)) ∈ lw_all := lw_g (lw_at lw_m5 200 rfl) rfl
theorem q1360 : (Jvm.Cond.static ({ cls := "java/lang/StringUTF16", name := "hashCode", desc := "([B)I" } : Jvm.MethodName)) ∈ lw_all := lw_g (lw_at lw_m6 67 rfl) rfl
theorem q1361 : (Jvm.Cond.code ({ cls := "java/lang/StringUTF16", name := "hashCode", desc := "([B)I" } : Jvm.MethodName) prog_30_method_39_code (1 : Nat) (Option.some Jvm.ClassFile.FieldType.int)) ∈ lw_all := lw_g (lw_at lw_m6 68 rfl) rfl
theorem q1362 : (Jvm.Cond.methodLink "java/lang/StringUTF16" (220 : Nat) ({ cls := "jdk/internal/util/ArraysSupport", name := "vectorizedHashCode", desc := "(Ljava/lang/Object;IIII)I" } : Jvm.MethodName)) ∈ lw_all := lw_g (lw_at lw_m6 69 rfl) rfl
/-! java/lang/Throwable -/
set_option maxRecDepth 100000
def RJ6 : String := "java/lang/Throwable"
def TJ6 : u_T := fun k => match k with
  | 0 => ("java/lang/Throwable", "cause", "Ljava/lang/Throwable;", false)
  | 1 => ("java/lang/Throwable", "stackTrace", "[Ljava/lang/StackTraceElement;", false)
  | 2 => ("java/lang/Throwable", "suppressedExceptions", "Ljava/util/List;", false)
  | 3 => ("java/lang/Throwable", "detailMessage", "Ljava/lang/String;", false)
  | _ => ("java/lang/Throwable", "backtrace", "Ljava/lang/Object;", false)
def tyJ6 : Nat → FieldType := fun k => match k with
  | 0 => .object "java/lang/Throwable"
  | 1 => .array (.object "java/lang/StackTraceElement")
  | 2 => .object "java/util/List"
  | 3 => .object "java/lang/String"
  | _ => .object "java/lang/Object"
abbrev wsJ60 : List Cond := u_ws RJ6 TJ6 5
theorem nmJ6 : ∀ a, a < 5 → ∀ b, b < 5 → a ≠ b → (TJ6 a).2.1 ≠ (TJ6 b).2.1 := by decide +kernel
theorem tyJ6_ok : ∀ k, k < 5 → parseFieldDescriptor (TJ6 k).2.2.1 = some (tyJ6 k) := by decide +kernel
abbrev cJ6_init : ByteArray := prog_33_method_1_code
def yJ6_init : MethodName := ⟨RJ6, "<init>", "()V"⟩
def dkwJ6_init_1 : List UInt8 := [182, 0, 27, 87, 177]
abbrev dktJ6_init_1 : List UInt8 := dkwJ6_init_1 ++ []
def dkwJ6_init_0 : List UInt8 := [42, 183, 0, 1, 42, 42, 181, 0, 7, 42, 178, 0, 13, 181, 0, 17, 42, 178, 0, 20, 181, 0, 24, 42]
abbrev dktJ6_init_0 : List UInt8 := dkwJ6_init_0 ++ dktJ6_init_1
theorem dksJ6_init_0 : cJ6_init.data.toList.drop 0 = dktJ6_init_0 := by decide +kernel
theorem dksJ6_init_1 : cJ6_init.data.toList.drop 24 = dktJ6_init_1 := dk_seg dksJ6_init_0 24 rfl rfl
theorem dJ6_init_0 : decode cJ6_init 0 = .ok (.aload_n 0, 1) := dk_42 (dk_at dksJ6_init_0 0 rfl rfl)
theorem dJ6_init_1 : decode cJ6_init 1 = .ok (.invokespecial 1, 3) := dk_183 0 1 (dk_at dksJ6_init_0 1 rfl rfl)
theorem dJ6_init_4 : decode cJ6_init 4 = .ok (.aload_n 0, 1) := dk_42 (dk_at dksJ6_init_0 4 rfl rfl)
theorem dJ6_init_5 : decode cJ6_init 5 = .ok (.aload_n 0, 1) := dk_42 (dk_at dksJ6_init_0 5 rfl rfl)
theorem dJ6_init_6 : decode cJ6_init 6 = .ok (.putfield 7, 3) := dk_181 0 7 (dk_at dksJ6_init_0 6 rfl rfl)
theorem dJ6_init_9 : decode cJ6_init 9 = .ok (.aload_n 0, 1) := dk_42 (dk_at dksJ6_init_0 9 rfl rfl)
theorem dJ6_init_10 : decode cJ6_init 10 = .ok (.getstatic 13, 3) := dk_178 0 13 (dk_at dksJ6_init_0 10 rfl rfl)
theorem dJ6_init_13 : decode cJ6_init 13 = .ok (.putfield 17, 3) := dk_181 0 17 (dk_at dksJ6_init_0 13 rfl rfl)
theorem dJ6_init_16 : decode cJ6_init 16 = .ok (.aload_n 0, 1) := dk_42 (dk_at dksJ6_init_0 16 rfl rfl)
theorem dJ6_init_17 : decode cJ6_init 17 = .ok (.getstatic 20, 3) := dk_178 0 20 (dk_at dksJ6_init_0 17 rfl rfl)
theorem dJ6_init_20 : decode cJ6_init 20 = .ok (.putfield 24, 3) := dk_181 0 24 (dk_at dksJ6_init_0 20 rfl rfl)
theorem dJ6_init_23 : decode cJ6_init 23 = .ok (.aload_n 0, 1) := dk_42 (dk_at dksJ6_init_0 23 rfl rfl)
theorem dJ6_init_24 : decode cJ6_init 24 = .ok (.invokevirtual 27, 3) := dk_182 0 27 (dk_at dksJ6_init_1 0 rfl rfl)
theorem dJ6_init_27 : decode cJ6_init 27 = .ok (.pop, 1) := dk_87 (dk_at dksJ6_init_1 3 rfl rfl)
theorem dJ6_init_28 : decode cJ6_init 28 = .ok (.return_, 1) := dk_177 (dk_at dksJ6_init_1 4 rfl rfl)
abbrev cJ6_init_2 : ByteArray := prog_33_method_2_code
def yJ6_init_2 : MethodName := ⟨RJ6, "<init>", "(Ljava/lang/String;)V"⟩
def dkwJ6_init_2_1 : List UInt8 := [182, 0, 27, 87, 42, 43, 181, 0, 31, 177]
abbrev dktJ6_init_2_1 : List UInt8 := dkwJ6_init_2_1 ++ []
def dkwJ6_init_2_0 : List UInt8 := [42, 183, 0, 1, 42, 42, 181, 0, 7, 42, 178, 0, 13, 181, 0, 17, 42, 178, 0, 20, 181, 0, 24, 42]
abbrev dktJ6_init_2_0 : List UInt8 := dkwJ6_init_2_0 ++ dktJ6_init_2_1
theorem dksJ6_init_2_0 : cJ6_init_2.data.toList.drop 0 = dktJ6_init_2_0 := by decide +kernel
theorem dksJ6_init_2_1 : cJ6_init_2.data.toList.drop 24 = dktJ6_init_2_1 := dk_seg dksJ6_init_2_0 24 rfl rfl
theorem dJ6_init_2_0 : decode cJ6_init_2 0 = .ok (.aload_n 0, 1) := dk_42 (dk_at dksJ6_init_2_0 0 rfl rfl)
theorem dJ6_init_2_1 : decode cJ6_init_2 1 = .ok (.invokespecial 1, 3) := dk_183 0 1 (dk_at dksJ6_init_2_0 1 rfl rfl)
theorem dJ6_init_2_4 : decode cJ6_init_2 4 = .ok (.aload_n 0, 1) := dk_42 (dk_at dksJ6_init_2_0 4 rfl rfl)
theorem dJ6_init_2_5 : decode cJ6_init_2 5 = .ok (.aload_n 0, 1) := dk_42 (dk_at dksJ6_init_2_0 5 rfl rfl)
theorem dJ6_init_2_6 : decode cJ6_init_2 6 = .ok (.putfield 7, 3) := dk_181 0 7 (dk_at dksJ6_init_2_0 6 rfl rfl)
theorem dJ6_init_2_9 : decode cJ6_init_2 9 = .ok (.aload_n 0, 1) := dk_42 (dk_at dksJ6_init_2_0 9 rfl rfl)
theorem dJ6_init_2_10 : decode cJ6_init_2 10 = .ok (.getstatic 13, 3) := dk_178 0 13 (dk_at dksJ6_init_2_0 10 rfl rfl)
theorem dJ6_init_2_13 : decode cJ6_init_2 13 = .ok (.putfield 17, 3) := dk_181 0 17 (dk_at dksJ6_init_2_0 13 rfl rfl)
theorem dJ6_init_2_16 : decode cJ6_init_2 16 = .ok (.aload_n 0, 1) := dk_42 (dk_at dksJ6_init_2_0 16 rfl rfl)
theorem dJ6_init_2_17 : decode cJ6_init_2 17 = .ok (.getstatic 20, 3) := dk_178 0 20 (dk_at dksJ6_init_2_0 17 rfl rfl)
theorem dJ6_init_2_20 : decode cJ6_init_2 20 = .ok (.putfield 24, 3) := dk_181 0 24 (dk_at dksJ6_init_2_0 20 rfl rfl)
theorem dJ6_init_2_23 : decode cJ6_init_2 23 = .ok (.aload_n 0, 1) := dk_42 (dk_at dksJ6_init_2_0 23 rfl rfl)
theorem dJ6_init_2_24 : decode cJ6_init_2 24 = .ok (.invokevirtual 27, 3) := dk_182 0 27 (dk_at dksJ6_init_2_1 0 rfl rfl)
theorem dJ6_init_2_27 : decode cJ6_init_2 27 = .ok (.pop, 1) := dk_87 (dk_at dksJ6_init_2_1 3 rfl rfl)
theorem dJ6_init_2_28 : decode cJ6_init_2 28 = .ok (.aload_n 0, 1) := dk_42 (dk_at dksJ6_init_2_1 4 rfl rfl)
theorem dJ6_init_2_29 : decode cJ6_init_2 29 = .ok (.aload_n 1, 1) := dk_43 (dk_at dksJ6_init_2_1 5 rfl rfl)
theorem dJ6_init_2_30 : decode cJ6_init_2 30 = .ok (.putfield 31, 3) := dk_181 0 31 (dk_at dksJ6_init_2_1 6 rfl rfl)
theorem dJ6_init_2_33 : decode cJ6_init_2 33 = .ok (.return_, 1) := dk_177 (dk_at dksJ6_init_2_1 9 rfl rfl)
theorem q103 : (Jvm.Cond.initialized "java/lang/Throwable") ∈ lw_all := lw_g (lw_at lw_m1 10 rfl) rfl
theorem q360 : (Jvm.Cond.declares ({ cls := "java/lang/Throwable", name := "<init>", desc := "()V" } : Jvm.MethodName)) ∈ lw_tbl := lw_at lw_m2 27 rfl
theorem q361 : (Jvm.Cond.declares ({ cls := "java/lang/Throwable", name := "<init>", desc := "(Ljava/lang/String;)V" } : Jvm.MethodName)) ∈ lw_tbl := lw_at lw_m2 28 rfl
theorem q365 : (Jvm.Cond.lays "java/lang/Throwable" "java/lang/Throwable" "cause" "Ljava/lang/Throwable;") ∈ lw_all := lw_g (lw_at lw_m2 32 rfl) rfl
theorem q367 : (Jvm.Cond.lays "java/lang/Throwable" "java/lang/Throwable" "stackTrace" "[Ljava/lang/StackTraceElement;") ∈ lw_all := lw_g (lw_at lw_m2 34 rfl) rfl
theorem q369 : (Jvm.Cond.lays "java/lang/Throwable" "java/lang/Throwable" "suppressedExceptions" "Ljava/util/List;") ∈ lw_all := lw_g (lw_at lw_m2 36 rfl) rfl
theorem q371 : (Jvm.Cond.lays "java/lang/Throwable" "java/lang/Throwable" "detailMessage" "Ljava/lang/String;") ∈ lw_all := lw_g (lw_at lw_m2 38 rfl) rfl
theorem q373 : (Jvm.Cond.lays "java/lang/Throwable" "java/lang/Throwable" "backtrace" "Ljava/lang/Object;") ∈ lw_all := lw_g (lw_at lw_m2 40 rfl) rfl
theorem q374 : (Jvm.Cond.fieldLink "java/lang/Throwable" (198 : Nat) "java/lang/Throwable" "backtrace" "Ljava/lang/Object;") ∈ lw_all := lw_g (lw_at lw_m2 41 rfl) rfl
theorem q375 : (Jvm.Cond.superclass "java/lang/Throwable" "java/lang/Object") ∈ lw_all := lw_g (lw_at lw_m2 42 rfl) rfl
theorem q376 : (Jvm.Cond.instanceMethod ({ cls := "java/lang/Throwable", name := "<init>", desc := "()V" } : Jvm.MethodName)) ∈ lw_all := lw_g (lw_at lw_m2 43 rfl) rfl
theorem q377 : (Jvm.Cond.code ({ cls := "java/lang/Throwable", name := "<init>", desc := "()V" } : Jvm.MethodName) prog_33_method_1_code (1 : Nat) (Option.none : Option Jvm.ClassFile.FieldType)) ∈ lw_all := lw_g (lw_at lw_m2 44 rfl) rfl
theorem q378 : (Jvm.Cond.methodLink "java/lang/Throwable" (1 : Nat) ({ cls := "java/lang/Object", name := "<init>", desc := "()V" } : Jvm.MethodName)) ∈ lw_all := lw_g (lw_at lw_m2 45 rfl) rfl
theorem q379 : (Jvm.Cond.fieldLink "java/lang/Throwable" (13 : Nat) "java/lang/Throwable" "UNASSIGNED_STACK" "[Ljava/lang/StackTraceElement;") ∈ lw_all := lw_g (lw_at lw_m2 46 rfl) rfl
theorem q380 : (Jvm.Cond.laysStatic "java/lang/Throwable" "UNASSIGNED_STACK" "[Ljava/lang/StackTraceElement;") ∈ lw_tbl := lw_at lw_m2 47 rfl
theorem q381 : (Jvm.Cond.fieldLink "java/lang/Throwable" (20 : Nat) "java/lang/Throwable" "SUPPRESSED_SENTINEL" "Ljava/util/List;") ∈ lw_all := lw_g (lw_at lw_m2 48 rfl) rfl
theorem q382 : (Jvm.Cond.laysStatic "java/lang/Throwable" "SUPPRESSED_SENTINEL" "Ljava/util/List;") ∈ lw_tbl := lw_at lw_m2 49 rfl
theorem q383 : (Jvm.Cond.methodLink "java/lang/Throwable" (27 : Nat) ({ cls := "java/lang/Throwable", name := "fillInStackTrace", desc := "()Ljava/lang/Throwable;" } : Jvm.MethodName)) ∈ lw_all := lw_g (lw_at lw_m2 50 rfl) rfl
theorem q384 : (Jvm.Cond.instanceMethod ({ cls := "java/lang/Throwable", name := "fillInStackTrace", desc := "()Ljava/lang/Throwable;" } : Jvm.MethodName)) ∈ lw_all := lw_g (lw_at lw_m2 51 rfl) rfl
theorem q385 : (Jvm.Cond.sameMethod "java/lang/Throwable" "java/lang/Throwable" "fillInStackTrace" "()Ljava/lang/Throwable;") ∈ lw_all := lw_g (lw_at lw_m2 52 rfl) rfl
theorem q390 : (Jvm.Cond.codeSync ({ cls := "java/lang/Throwable", name := "fillInStackTrace", desc := "()Ljava/lang/Throwable;" } : Jvm.MethodName) prog_33_method_18_code (1 : Nat) (Option.some (Jvm.ClassFile.FieldType.object "java/lang/Throwable"))) ∈ lw_all := lw_g (lw_at lw_m2 57 rfl) rfl
theorem q391 : (Jvm.Cond.methodLink "java/lang/Throwable" (202 : Nat) ({ cls := "java/lang/Throwable", name := "fillInStackTrace", desc := "(I)Ljava/lang/Throwable;" } : Jvm.MethodName)) ∈ lw_all := lw_g (lw_at lw_m2 58 rfl) rfl
theorem q392 : (Jvm.Cond.privateMethod ({ cls := "java/lang/Throwable", name := "fillInStackTrace", desc := "(I)Ljava/lang/Throwable;" } : Jvm.MethodName)) ∈ lw_tbl := lw_at lw_m2 59 rfl
theorem q393 : (Jvm.Cond.instanceMethod ({ cls := "java/lang/Throwable", name := "fillInStackTrace", desc := "(I)Ljava/lang/Throwable;" } : Jvm.MethodName)) ∈ lw_all := lw_g (lw_at lw_m2 60 rfl) rfl
theorem q394 : (Jvm.Cond.instantiable "java/lang/Throwable" (6 : Nat)) ∈ lw_all := lw_g (lw_at lw_m2 61 rfl) rfl
theorem q395 : (Jvm.Cond.native ({ cls := "java/lang/Throwable", name := "fillInStackTrace", desc := "(I)Ljava/lang/Throwable;" } : Jvm.MethodName)) ∈ lw_all := lw_g (lw_at lw_m2 62 rfl) rfl
theorem q407 : (Jvm.Cond.instanceMethod ({ cls := "java/lang/Throwable", name := "<init>", desc := "(Ljava/lang/String;)V" } : Jvm.MethodName)) ∈ lw_all := lw_g (lw_at lw_m2 74 rfl) rfl
theorem q408 : (Jvm.Cond.code ({ cls := "java/lang/Throwable", name := "<init>", desc := "(Ljava/lang/String;)V" } : Jvm.MethodName) prog_33_method_2_code (2 : Nat) (Option.none : Option Jvm.ClassFile.FieldType)) ∈ lw_all := lw_g (lw_at lw_m2 75 rfl) rfl
theorem q409 : (Jvm.Cond.fieldLink "java/lang/Throwable" (198 : Nat) "java/lang/Throwable" "backtrace" "Ljava/lang/Object;") ∈ lw_all := lw_g (lw_at lw_m2 76 rfl) rfl
theorem q410 : (Jvm.Cond.fieldLink "java/lang/Throwable" (31 : Nat) "java/lang/Throwable" "detailMessage" "Ljava/lang/String;") ∈ lw_all := lw_g (lw_at lw_m2 77 rfl) rfl
theorem q411 : (Jvm.Cond.fieldLink "java/lang/Throwable" (7 : Nat) "java/lang/Throwable" "cause" "Ljava/lang/Throwable;") ∈ lw_all := lw_g (lw_at lw_m2 78 rfl) rfl
theorem q412 : (Jvm.Cond.fieldLink "java/lang/Throwable" (17 : Nat) "java/lang/Throwable" "stackTrace" "[Ljava/lang/StackTraceElement;") ∈ lw_all := lw_g (lw_at lw_m2 79 rfl) rfl
theorem q413 : (Jvm.Cond.fieldLink "java/lang/Throwable" (24 : Nat) "java/lang/Throwable" "suppressedExceptions" "Ljava/util/List;") ∈ lw_all := lw_g (lw_at lw_m2 80 rfl) rfl
theorem q414 : (Jvm.Cond.soleField "java/lang/Throwable" "backtrace") ∈ lw_all := lw_g (lw_at lw_m2 81 rfl) rfl
theorem q415 : (Jvm.Cond.soleField "java/lang/Throwable" "detailMessage") ∈ lw_all := lw_g (lw_at lw_m2 82 rfl) rfl
theorem q416 : (Jvm.Cond.soleField "java/lang/Throwable" "cause") ∈ lw_all := lw_g (lw_at lw_m2 83 rfl) rfl
theorem q417 : (Jvm.Cond.soleField "java/lang/Throwable" "stackTrace") ∈ lw_all := lw_g (lw_at lw_m2 84 rfl) rfl
theorem q419 : (Jvm.Cond.soleField "java/lang/Throwable" "depth") ∈ lw_all := lw_g (lw_at lw_m2 86 rfl) rfl
theorem q420 : (Jvm.Cond.soleField "java/lang/Throwable" "suppressedExceptions") ∈ lw_all := lw_g (lw_at lw_m2 87 rfl) rfl
theorem q1788 : (Jvm.Cond.sameMethod "java/lang/Throwable" "java/lang/Throwable" "fillInStackTrace" "(I)Ljava/lang/Throwable;") ∈ lw_all := lw_g (lw_at lw_m8 15 rfl) rfl
theorem q1821 : (Jvm.Cond.castable "java/lang/Throwable" "java/lang/Object") ∈ lw_tbl := lw_at lw_m8 48 rfl
theorem in_J6 : ∀ w ∈ wsJ60, w ∈ lw_all := lw_in wsJ60 [365, 367, 369, 371, 373] (by decide +kernel) (by decide +kernel)
/-! java/lang/Exception -/
set_option maxRecDepth 100000
def RJ7 : String := "java/lang/Exception"
abbrev cJ7_init : ByteArray := prog_17_method_2_code
def yJ7_init : MethodName := ⟨RJ7, "<init>", "(Ljava/lang/String;)V"⟩
def dkwJ7_init_0 : List UInt8 := [42, 43, 183, 0, 7, 177]
abbrev dktJ7_init_0 : List UInt8 := dkwJ7_init_0 ++ []
theorem dksJ7_init_0 : cJ7_init.data.toList.drop 0 = dktJ7_init_0 := by decide +kernel
theorem dJ7_init_0 : decode cJ7_init 0 = .ok (.aload_n 0, 1) := dk_42 (dk_at dksJ7_init_0 0 rfl rfl)
theorem dJ7_init_1 : decode cJ7_init 1 = .ok (.aload_n 1, 1) := dk_43 (dk_at dksJ7_init_0 1 rfl rfl)
theorem dJ7_init_2 : decode cJ7_init 2 = .ok (.invokespecial 7, 3) := dk_183 0 7 (dk_at dksJ7_init_0 2 rfl rfl)
theorem dJ7_init_5 : decode cJ7_init 5 = .ok (.return_, 1) := dk_177 (dk_at dksJ7_init_0 5 rfl rfl)
abbrev cJ7_init_2 : ByteArray := prog_17_method_1_code
def yJ7_init_2 : MethodName := ⟨RJ7, "<init>", "()V"⟩
theorem dJ7_init_2_0 : decode cJ7_init_2 0 = .ok (.aload_n 0, 1) := by decide +kernel
theorem dJ7_init_2_1 : decode cJ7_init_2 1 = .ok (.invokespecial 1, 3) := by decide +kernel
theorem dJ7_init_2_4 : decode cJ7_init_2 4 = .ok (.return_, 1) := by decide +kernel
theorem q104 : (Jvm.Cond.initialized "java/lang/Exception") ∈ lw_all := lw_g (lw_at lw_m1 11 rfl) rfl
theorem q358 : (Jvm.Cond.declares ({ cls := "java/lang/Exception", name := "<init>", desc := "()V" } : Jvm.MethodName)) ∈ lw_tbl := lw_at lw_m2 25 rfl
theorem q359 : (Jvm.Cond.declares ({ cls := "java/lang/Exception", name := "<init>", desc := "(Ljava/lang/String;)V" } : Jvm.MethodName)) ∈ lw_tbl := lw_at lw_m2 26 rfl
theorem q404 : (Jvm.Cond.instanceMethod ({ cls := "java/lang/Exception", name := "<init>", desc := "(Ljava/lang/String;)V" } : Jvm.MethodName)) ∈ lw_all := lw_g (lw_at lw_m2 71 rfl) rfl
theorem q405 : (Jvm.Cond.code ({ cls := "java/lang/Exception", name := "<init>", desc := "(Ljava/lang/String;)V" } : Jvm.MethodName) prog_17_method_2_code (2 : Nat) (Option.none : Option Jvm.ClassFile.FieldType)) ∈ lw_all := lw_g (lw_at lw_m2 72 rfl) rfl
theorem q406 : (Jvm.Cond.methodLink "java/lang/Exception" (7 : Nat) ({ cls := "java/lang/Throwable", name := "<init>", desc := "(Ljava/lang/String;)V" } : Jvm.MethodName)) ∈ lw_all := lw_g (lw_at lw_m2 73 rfl) rfl
theorem q1150 : (Jvm.Cond.instanceMethod ({ cls := "java/lang/Exception", name := "<init>", desc := "()V" } : Jvm.MethodName)) ∈ lw_all := lw_g (lw_at lw_m5 97 rfl) rfl
theorem q1151 : (Jvm.Cond.code ({ cls := "java/lang/Exception", name := "<init>", desc := "()V" } : Jvm.MethodName) prog_17_method_1_code (1 : Nat) (Option.none : Option Jvm.ClassFile.FieldType)) ∈ lw_all := lw_g (lw_at lw_m5 98 rfl) rfl
theorem q1152 : (Jvm.Cond.methodLink "java/lang/Exception" (1 : Nat) ({ cls := "java/lang/Throwable", name := "<init>", desc := "()V" } : Jvm.MethodName)) ∈ lw_all := lw_g (lw_at lw_m5 99 rfl) rfl
/-! java/lang/RuntimeException -/
set_option maxRecDepth 100000
def RJ8 : String := "java/lang/RuntimeException"
abbrev cJ8_init : ByteArray := prog_25_method_2_code
def yJ8_init : MethodName := ⟨RJ8, "<init>", "(Ljava/lang/String;)V"⟩
def dkwJ8_init_0 : List UInt8 := [42, 43, 183, 0, 7, 177]
abbrev dktJ8_init_0 : List UInt8 := dkwJ8_init_0 ++ []
theorem dksJ8_init_0 : cJ8_init.data.toList.drop 0 = dktJ8_init_0 := by decide +kernel
theorem dJ8_init_0 : decode cJ8_init 0 = .ok (.aload_n 0, 1) := dk_42 (dk_at dksJ8_init_0 0 rfl rfl)
theorem dJ8_init_1 : decode cJ8_init 1 = .ok (.aload_n 1, 1) := dk_43 (dk_at dksJ8_init_0 1 rfl rfl)
theorem dJ8_init_2 : decode cJ8_init 2 = .ok (.invokespecial 7, 3) := dk_183 0 7 (dk_at dksJ8_init_0 2 rfl rfl)
theorem dJ8_init_5 : decode cJ8_init 5 = .ok (.return_, 1) := dk_177 (dk_at dksJ8_init_0 5 rfl rfl)
abbrev cJ8_init_2 : ByteArray := prog_25_method_1_code
def yJ8_init_2 : MethodName := ⟨RJ8, "<init>", "()V"⟩
theorem dJ8_init_2_0 : decode cJ8_init_2 0 = .ok (.aload_n 0, 1) := by decide +kernel
theorem dJ8_init_2_1 : decode cJ8_init_2 1 = .ok (.invokespecial 1, 3) := by decide +kernel
theorem dJ8_init_2_4 : decode cJ8_init_2 4 = .ok (.return_, 1) := by decide +kernel
theorem q105 : (Jvm.Cond.initialized "java/lang/RuntimeException") ∈ lw_all := lw_g (lw_at lw_m1 12 rfl) rfl
theorem q356 : (Jvm.Cond.declares ({ cls := "java/lang/RuntimeException", name := "<init>", desc := "()V" } : Jvm.MethodName)) ∈ lw_tbl := lw_at lw_m2 23 rfl
theorem q357 : (Jvm.Cond.declares ({ cls := "java/lang/RuntimeException", name := "<init>", desc := "(Ljava/lang/String;)V" } : Jvm.MethodName)) ∈ lw_tbl := lw_at lw_m2 24 rfl
theorem q401 : (Jvm.Cond.instanceMethod ({ cls := "java/lang/RuntimeException", name := "<init>", desc := "(Ljava/lang/String;)V" } : Jvm.MethodName)) ∈ lw_all := lw_g (lw_at lw_m2 68 rfl) rfl
theorem q402 : (Jvm.Cond.code ({ cls := "java/lang/RuntimeException", name := "<init>", desc := "(Ljava/lang/String;)V" } : Jvm.MethodName) prog_25_method_2_code (2 : Nat) (Option.none : Option Jvm.ClassFile.FieldType)) ∈ lw_all := lw_g (lw_at lw_m2 69 rfl) rfl
theorem q403 : (Jvm.Cond.methodLink "java/lang/RuntimeException" (7 : Nat) ({ cls := "java/lang/Exception", name := "<init>", desc := "(Ljava/lang/String;)V" } : Jvm.MethodName)) ∈ lw_all := lw_g (lw_at lw_m2 70 rfl) rfl
theorem q1147 : (Jvm.Cond.instanceMethod ({ cls := "java/lang/RuntimeException", name := "<init>", desc := "()V" } : Jvm.MethodName)) ∈ lw_all := lw_g (lw_at lw_m5 94 rfl) rfl
theorem q1148 : (Jvm.Cond.code ({ cls := "java/lang/RuntimeException", name := "<init>", desc := "()V" } : Jvm.MethodName) prog_25_method_1_code (1 : Nat) (Option.none : Option Jvm.ClassFile.FieldType)) ∈ lw_all := lw_g (lw_at lw_m5 95 rfl) rfl
theorem q1149 : (Jvm.Cond.methodLink "java/lang/RuntimeException" (1 : Nat) ({ cls := "java/lang/Exception", name := "<init>", desc := "()V" } : Jvm.MethodName)) ∈ lw_all := lw_g (lw_at lw_m5 96 rfl) rfl
/-! java/lang/IllegalArgumentException -/
set_option maxRecDepth 100000
def RJ9 : String := "java/lang/IllegalArgumentException"
def TJ9 : u_T := fun k => match k with
  | 0 => ("java/lang/Throwable", "cause", "Ljava/lang/Throwable;", false)
  | 1 => ("java/lang/Throwable", "stackTrace", "[Ljava/lang/StackTraceElement;", false)
  | 2 => ("java/lang/Throwable", "suppressedExceptions", "Ljava/util/List;", false)
  | 3 => ("java/lang/Throwable", "detailMessage", "Ljava/lang/String;", false)
  | 4 => ("java/lang/Throwable", "backtrace", "Ljava/lang/Object;", false)
  | _ => ("java/lang/Throwable", "depth", "I", false)
def tyJ9 : Nat → FieldType := fun k => match k with
  | 0 => .object "java/lang/Throwable"
  | 1 => .array (.object "java/lang/StackTraceElement")
  | 2 => .object "java/util/List"
  | 3 => .object "java/lang/String"
  | 4 => .object "java/lang/Object"
  | _ => .int
abbrev wsJ90 : List Cond := u_ws RJ9 TJ9 6
theorem nmJ9 : ∀ a, a < 6 → ∀ b, b < 6 → a ≠ b → (TJ9 a).2.1 ≠ (TJ9 b).2.1 := by decide +kernel
theorem tyJ9_ok : ∀ k, k < 6 → parseFieldDescriptor (TJ9 k).2.2.1 = some (tyJ9 k) := by decide +kernel
abbrev cJ9_init : ByteArray := prog_18_method_2_code
def yJ9_init : MethodName := ⟨RJ9, "<init>", "(Ljava/lang/String;)V"⟩
def dkwJ9_init_0 : List UInt8 := [42, 43, 183, 0, 7, 177]
abbrev dktJ9_init_0 : List UInt8 := dkwJ9_init_0 ++ []
theorem dksJ9_init_0 : cJ9_init.data.toList.drop 0 = dktJ9_init_0 := by decide +kernel
theorem dJ9_init_0 : decode cJ9_init 0 = .ok (.aload_n 0, 1) := dk_42 (dk_at dksJ9_init_0 0 rfl rfl)
theorem dJ9_init_1 : decode cJ9_init 1 = .ok (.aload_n 1, 1) := dk_43 (dk_at dksJ9_init_0 1 rfl rfl)
theorem dJ9_init_2 : decode cJ9_init 2 = .ok (.invokespecial 7, 3) := dk_183 0 7 (dk_at dksJ9_init_0 2 rfl rfl)
theorem dJ9_init_5 : decode cJ9_init 5 = .ok (.return_, 1) := dk_177 (dk_at dksJ9_init_0 5 rfl rfl)
abbrev cJ9_init_2 : ByteArray := prog_18_method_1_code
def yJ9_init_2 : MethodName := ⟨RJ9, "<init>", "()V"⟩
theorem dJ9_init_2_0 : decode cJ9_init_2 0 = .ok (.aload_n 0, 1) := by decide +kernel
theorem dJ9_init_2_1 : decode cJ9_init_2 1 = .ok (.invokespecial 1, 3) := by decide +kernel
theorem dJ9_init_2_4 : decode cJ9_init_2 4 = .ok (.return_, 1) := by decide +kernel
theorem q106 : (Jvm.Cond.initialized "java/lang/IllegalArgumentException") ∈ lw_all := lw_g (lw_at lw_m1 13 rfl) rfl
theorem q387 : (Jvm.Cond.selects "java/lang/IllegalArgumentException" ({ cls := "java/lang/Throwable", name := "fillInStackTrace", desc := "()Ljava/lang/Throwable;" } : Jvm.MethodName) ({ cls := "java/lang/Throwable", name := "fillInStackTrace", desc := "()Ljava/lang/Throwable;" } : Jvm.MethodName)) ∈ lw_all := lw_g (lw_at lw_m2 54 rfl) rfl
theorem q434 : (Jvm.Cond.selects "java/lang/IllegalArgumentException" ({ cls := "java/lang/Object", name := "getClass", desc := "()Ljava/lang/Class;" } : Jvm.MethodName) ({ cls := "java/lang/Object", name := "getClass", desc := "()Ljava/lang/Class;" } : Jvm.MethodName)) ∈ lw_all := lw_g (lw_at lw_m2 101 rfl) rfl
theorem q746 : (Jvm.Cond.instantiable "java/lang/IllegalArgumentException" (6 : Nat)) ∈ lw_all := lw_g (lw_at lw_m3 173 rfl) rfl
theorem q747 : (Jvm.Cond.castable "java/lang/IllegalArgumentException" "java/lang/IllegalArgumentException") ∈ lw_tbl := lw_at lw_m3 174 rfl
theorem q748 : (Jvm.Cond.selects "java/lang/IllegalArgumentException" ({ cls := "java/lang/Throwable", name := "fillInStackTrace", desc := "(I)Ljava/lang/Throwable;" } : Jvm.MethodName) ({ cls := "java/lang/Throwable", name := "fillInStackTrace", desc := "(I)Ljava/lang/Throwable;" } : Jvm.MethodName)) ∈ lw_all := lw_g (lw_at lw_m3 175 rfl) rfl
theorem q749 : (Jvm.Cond.lays "java/lang/IllegalArgumentException" "java/lang/Throwable" "cause" "Ljava/lang/Throwable;") ∈ lw_all := lw_g (lw_at lw_m3 176 rfl) rfl
theorem q750 : (Jvm.Cond.lays "java/lang/IllegalArgumentException" "java/lang/Throwable" "stackTrace" "[Ljava/lang/StackTraceElement;") ∈ lw_all := lw_g (lw_at lw_m3 177 rfl) rfl
theorem q751 : (Jvm.Cond.lays "java/lang/IllegalArgumentException" "java/lang/Throwable" "suppressedExceptions" "Ljava/util/List;") ∈ lw_all := lw_g (lw_at lw_m3 178 rfl) rfl
theorem q752 : (Jvm.Cond.lays "java/lang/IllegalArgumentException" "java/lang/Throwable" "detailMessage" "Ljava/lang/String;") ∈ lw_all := lw_g (lw_at lw_m3 179 rfl) rfl
theorem q753 : (Jvm.Cond.lays "java/lang/IllegalArgumentException" "java/lang/Throwable" "backtrace" "Ljava/lang/Object;") ∈ lw_all := lw_g (lw_at lw_m3 180 rfl) rfl
theorem q761 : (Jvm.Cond.instanceMethod ({ cls := "java/lang/IllegalArgumentException", name := "<init>", desc := "(Ljava/lang/String;)V" } : Jvm.MethodName)) ∈ lw_all := lw_g (lw_at lw_m3 188 rfl) rfl
theorem q762 : (Jvm.Cond.code ({ cls := "java/lang/IllegalArgumentException", name := "<init>", desc := "(Ljava/lang/String;)V" } : Jvm.MethodName) prog_18_method_2_code (2 : Nat) (Option.none : Option Jvm.ClassFile.FieldType)) ∈ lw_all := lw_g (lw_at lw_m3 189 rfl) rfl
theorem q763 : (Jvm.Cond.methodLink "java/lang/IllegalArgumentException" (7 : Nat) ({ cls := "java/lang/RuntimeException", name := "<init>", desc := "(Ljava/lang/String;)V" } : Jvm.MethodName)) ∈ lw_all := lw_g (lw_at lw_m3 190 rfl) rfl
theorem q764 : (Jvm.Cond.lays "java/lang/IllegalArgumentException" "java/lang/Throwable" "depth" "I") ∈ lw_all := lw_g (lw_at lw_m3 191 rfl) rfl
theorem q765 : (Jvm.Cond.superclass "java/lang/IllegalArgumentException" "java/lang/RuntimeException") ∈ lw_all := lw_g (lw_at lw_m3 192 rfl) rfl
theorem q1144 : (Jvm.Cond.instanceMethod ({ cls := "java/lang/IllegalArgumentException", name := "<init>", desc := "()V" } : Jvm.MethodName)) ∈ lw_all := lw_g (lw_at lw_m5 91 rfl) rfl
theorem q1145 : (Jvm.Cond.code ({ cls := "java/lang/IllegalArgumentException", name := "<init>", desc := "()V" } : Jvm.MethodName) prog_18_method_1_code (1 : Nat) (Option.none : Option Jvm.ClassFile.FieldType)) ∈ lw_all := lw_g (lw_at lw_m5 92 rfl) rfl
theorem q1146 : (Jvm.Cond.methodLink "java/lang/IllegalArgumentException" (1 : Nat) ({ cls := "java/lang/RuntimeException", name := "<init>", desc := "()V" } : Jvm.MethodName)) ∈ lw_all := lw_g (lw_at lw_m5 93 rfl) rfl
theorem q1811 : (Jvm.Cond.castable "java/lang/IllegalArgumentException" "java/lang/Object") ∈ lw_tbl := lw_at lw_m8 38 rfl
theorem in_J9 : ∀ w ∈ wsJ90, w ∈ lw_all := lw_in wsJ90 [749, 750, 751, 752, 753, 764] (by decide +kernel) (by decide +kernel)
/-! java/lang/IllegalStateException -/
set_option maxRecDepth 100000
def RJ10 : String := "java/lang/IllegalStateException"
def TJ10 : u_T := fun k => match k with
  | 0 => ("java/lang/Throwable", "cause", "Ljava/lang/Throwable;", false)
  | 1 => ("java/lang/Throwable", "stackTrace", "[Ljava/lang/StackTraceElement;", false)
  | 2 => ("java/lang/Throwable", "suppressedExceptions", "Ljava/util/List;", false)
  | 3 => ("java/lang/Throwable", "detailMessage", "Ljava/lang/String;", false)
  | 4 => ("java/lang/Throwable", "backtrace", "Ljava/lang/Object;", false)
  | _ => ("java/lang/Throwable", "depth", "I", false)
def tyJ10 : Nat → FieldType := fun k => match k with
  | 0 => .object "java/lang/Throwable"
  | 1 => .array (.object "java/lang/StackTraceElement")
  | 2 => .object "java/util/List"
  | 3 => .object "java/lang/String"
  | 4 => .object "java/lang/Object"
  | _ => .int
abbrev wsJ100 : List Cond := u_ws RJ10 TJ10 6
theorem nmJ10 : ∀ a, a < 6 → ∀ b, b < 6 → a ≠ b → (TJ10 a).2.1 ≠ (TJ10 b).2.1 := by decide +kernel
theorem tyJ10_ok : ∀ k, k < 6 → parseFieldDescriptor (TJ10 k).2.2.1 = some (tyJ10 k) := by decide +kernel
abbrev cJ10_init : ByteArray := prog_19_method_2_code
def yJ10_init : MethodName := ⟨RJ10, "<init>", "(Ljava/lang/String;)V"⟩
def dkwJ10_init_0 : List UInt8 := [42, 43, 183, 0, 7, 177]
abbrev dktJ10_init_0 : List UInt8 := dkwJ10_init_0 ++ []
theorem dksJ10_init_0 : cJ10_init.data.toList.drop 0 = dktJ10_init_0 := by decide +kernel
theorem dJ10_init_0 : decode cJ10_init 0 = .ok (.aload_n 0, 1) := dk_42 (dk_at dksJ10_init_0 0 rfl rfl)
theorem dJ10_init_1 : decode cJ10_init 1 = .ok (.aload_n 1, 1) := dk_43 (dk_at dksJ10_init_0 1 rfl rfl)
theorem dJ10_init_2 : decode cJ10_init 2 = .ok (.invokespecial 7, 3) := dk_183 0 7 (dk_at dksJ10_init_0 2 rfl rfl)
theorem dJ10_init_5 : decode cJ10_init 5 = .ok (.return_, 1) := dk_177 (dk_at dksJ10_init_0 5 rfl rfl)
abbrev cJ10_init_2 : ByteArray := prog_19_method_1_code
def yJ10_init_2 : MethodName := ⟨RJ10, "<init>", "()V"⟩
theorem dJ10_init_2_0 : decode cJ10_init_2 0 = .ok (.aload_n 0, 1) := by decide +kernel
theorem dJ10_init_2_1 : decode cJ10_init_2 1 = .ok (.invokespecial 1, 3) := by decide +kernel
theorem dJ10_init_2_4 : decode cJ10_init_2 4 = .ok (.return_, 1) := by decide +kernel
theorem q107 : (Jvm.Cond.initialized "java/lang/IllegalStateException") ∈ lw_all := lw_g (lw_at lw_m1 14 rfl) rfl
theorem q354 : (Jvm.Cond.instantiable "java/lang/IllegalStateException" (6 : Nat)) ∈ lw_all := lw_g (lw_at lw_m2 21 rfl) rfl
theorem q355 : (Jvm.Cond.castable "java/lang/IllegalStateException" "java/lang/IllegalStateException") ∈ lw_tbl := lw_at lw_m2 22 rfl
theorem q362 : (Jvm.Cond.selects "java/lang/IllegalStateException" ({ cls := "java/lang/Throwable", name := "fillInStackTrace", desc := "(I)Ljava/lang/Throwable;" } : Jvm.MethodName) ({ cls := "java/lang/Throwable", name := "fillInStackTrace", desc := "(I)Ljava/lang/Throwable;" } : Jvm.MethodName)) ∈ lw_all := lw_g (lw_at lw_m2 29 rfl) rfl
theorem q363 : (Jvm.Cond.selects "java/lang/IllegalStateException" ({ cls := "java/lang/Throwable", name := "fillInStackTrace", desc := "()Ljava/lang/Throwable;" } : Jvm.MethodName) ({ cls := "java/lang/Throwable", name := "fillInStackTrace", desc := "()Ljava/lang/Throwable;" } : Jvm.MethodName)) ∈ lw_all := lw_g (lw_at lw_m2 30 rfl) rfl
theorem q364 : (Jvm.Cond.lays "java/lang/IllegalStateException" "java/lang/Throwable" "cause" "Ljava/lang/Throwable;") ∈ lw_all := lw_g (lw_at lw_m2 31 rfl) rfl
theorem q366 : (Jvm.Cond.lays "java/lang/IllegalStateException" "java/lang/Throwable" "stackTrace" "[Ljava/lang/StackTraceElement;") ∈ lw_all := lw_g (lw_at lw_m2 33 rfl) rfl
theorem q368 : (Jvm.Cond.lays "java/lang/IllegalStateException" "java/lang/Throwable" "suppressedExceptions" "Ljava/util/List;") ∈ lw_all := lw_g (lw_at lw_m2 35 rfl) rfl
theorem q370 : (Jvm.Cond.lays "java/lang/IllegalStateException" "java/lang/Throwable" "detailMessage" "Ljava/lang/String;") ∈ lw_all := lw_g (lw_at lw_m2 37 rfl) rfl
theorem q372 : (Jvm.Cond.lays "java/lang/IllegalStateException" "java/lang/Throwable" "backtrace" "Ljava/lang/Object;") ∈ lw_all := lw_g (lw_at lw_m2 39 rfl) rfl
theorem q398 : (Jvm.Cond.instanceMethod ({ cls := "java/lang/IllegalStateException", name := "<init>", desc := "(Ljava/lang/String;)V" } : Jvm.MethodName)) ∈ lw_all := lw_g (lw_at lw_m2 65 rfl) rfl
theorem q399 : (Jvm.Cond.code ({ cls := "java/lang/IllegalStateException", name := "<init>", desc := "(Ljava/lang/String;)V" } : Jvm.MethodName) prog_19_method_2_code (2 : Nat) (Option.none : Option Jvm.ClassFile.FieldType)) ∈ lw_all := lw_g (lw_at lw_m2 66 rfl) rfl
theorem q400 : (Jvm.Cond.methodLink "java/lang/IllegalStateException" (7 : Nat) ({ cls := "java/lang/RuntimeException", name := "<init>", desc := "(Ljava/lang/String;)V" } : Jvm.MethodName)) ∈ lw_all := lw_g (lw_at lw_m2 67 rfl) rfl
theorem q418 : (Jvm.Cond.lays "java/lang/IllegalStateException" "java/lang/Throwable" "depth" "I") ∈ lw_all := lw_g (lw_at lw_m2 85 rfl) rfl
theorem q421 : (Jvm.Cond.superclass "java/lang/IllegalStateException" "java/lang/RuntimeException") ∈ lw_all := lw_g (lw_at lw_m2 88 rfl) rfl
theorem q435 : (Jvm.Cond.selects "java/lang/IllegalStateException" ({ cls := "java/lang/Object", name := "getClass", desc := "()Ljava/lang/Class;" } : Jvm.MethodName) ({ cls := "java/lang/Object", name := "getClass", desc := "()Ljava/lang/Class;" } : Jvm.MethodName)) ∈ lw_all := lw_g (lw_at lw_m2 102 rfl) rfl
theorem q1170 : (Jvm.Cond.instanceMethod ({ cls := "java/lang/IllegalStateException", name := "<init>", desc := "()V" } : Jvm.MethodName)) ∈ lw_all := lw_g (lw_at lw_m5 117 rfl) rfl
theorem q1171 : (Jvm.Cond.code ({ cls := "java/lang/IllegalStateException", name := "<init>", desc := "()V" } : Jvm.MethodName) prog_19_method_1_code (1 : Nat) (Option.none : Option Jvm.ClassFile.FieldType)) ∈ lw_all := lw_g (lw_at lw_m5 118 rfl) rfl
theorem q1172 : (Jvm.Cond.methodLink "java/lang/IllegalStateException" (1 : Nat) ({ cls := "java/lang/RuntimeException", name := "<init>", desc := "()V" } : Jvm.MethodName)) ∈ lw_all := lw_g (lw_at lw_m5 119 rfl) rfl
theorem q1812 : (Jvm.Cond.castable "java/lang/IllegalStateException" "java/lang/Object") ∈ lw_tbl := lw_at lw_m8 39 rfl
theorem in_J10 : ∀ w ∈ wsJ100, w ∈ lw_all := lw_in wsJ100 [364, 366, 368, 370, 372, 418] (by decide +kernel) (by decide +kernel)
/-! java/util/Arrays -/
set_option maxRecDepth 100000
def RJ11 : String := "java/util/Arrays"
abbrev cJ11_copyOf : ByteArray := prog_40_method_119_code
def yJ11_copyOf : MethodName := ⟨RJ11, "copyOf", "([Ljava/lang/Object;I)[Ljava/lang/Object;"⟩
def dkwJ11_copyOf_0 : List UInt8 := [42, 27, 42, 182, 0, 86, 184, 1, 44, 176]
abbrev dktJ11_copyOf_0 : List UInt8 := dkwJ11_copyOf_0 ++ []
theorem dksJ11_copyOf_0 : cJ11_copyOf.data.toList.drop 0 = dktJ11_copyOf_0 := by decide +kernel
theorem dJ11_copyOf_0 : decode cJ11_copyOf 0 = .ok (.aload_n 0, 1) := dk_42 (dk_at dksJ11_copyOf_0 0 rfl rfl)
theorem dJ11_copyOf_1 : decode cJ11_copyOf 1 = .ok (.iload_n 1, 1) := dk_27 (dk_at dksJ11_copyOf_0 1 rfl rfl)
theorem dJ11_copyOf_2 : decode cJ11_copyOf 2 = .ok (.aload_n 0, 1) := dk_42 (dk_at dksJ11_copyOf_0 2 rfl rfl)
theorem dJ11_copyOf_3 : decode cJ11_copyOf 3 = .ok (.invokevirtual 86, 3) := dk_182 0 86 (dk_at dksJ11_copyOf_0 3 rfl rfl)
theorem dJ11_copyOf_6 : decode cJ11_copyOf 6 = .ok (.invokestatic 300, 3) := dk_184 1 44 (dk_at dksJ11_copyOf_0 6 rfl rfl)
theorem dJ11_copyOf_9 : decode cJ11_copyOf 9 = .ok (.areturn, 1) := dk_176 (dk_at dksJ11_copyOf_0 9 rfl rfl)
abbrev cJ11_copyOf_2 : ByteArray := prog_40_method_120_code
def yJ11_copyOf_2 : MethodName := ⟨RJ11, "copyOf", "([Ljava/lang/Object;ILjava/lang/Class;)[Ljava/lang/Object;"⟩
def dkwJ11_copyOf_2_1 : List UInt8 := [78, 42, 3, 45, 3, 42, 190, 27, 184, 1, 48, 184, 0, 150, 45, 176]
abbrev dktJ11_copyOf_2_1 : List UInt8 := dkwJ11_copyOf_2_1 ++ []
def dkwJ11_copyOf_2_0 : List UInt8 := [44, 18, 110, 166, 0, 10, 27, 189, 0, 2, 167, 0, 14, 44, 182, 0, 90, 27, 184, 0, 95, 192, 0, 110]
abbrev dktJ11_copyOf_2_0 : List UInt8 := dkwJ11_copyOf_2_0 ++ dktJ11_copyOf_2_1
theorem dksJ11_copyOf_2_0 : cJ11_copyOf_2.data.toList.drop 0 = dktJ11_copyOf_2_0 := by decide +kernel
theorem dksJ11_copyOf_2_1 : cJ11_copyOf_2.data.toList.drop 24 = dktJ11_copyOf_2_1 := dk_seg dksJ11_copyOf_2_0 24 rfl rfl
theorem dJ11_copyOf_2_0 : decode cJ11_copyOf_2 0 = .ok (.aload_n 2, 1) := dk_44 (dk_at dksJ11_copyOf_2_0 0 rfl rfl)
theorem dJ11_copyOf_2_1 : decode cJ11_copyOf_2 1 = .ok (.ldc 110, 2) := dk_18 110 (dk_at dksJ11_copyOf_2_0 1 rfl rfl)
theorem dJ11_copyOf_2_3 : decode cJ11_copyOf_2 3 = .ok (.if_acmp .ne 10, 3) := dk_166 0 10 (dk_at dksJ11_copyOf_2_0 3 rfl rfl)
theorem dJ11_copyOf_2_6 : decode cJ11_copyOf_2 6 = .ok (.iload_n 1, 1) := dk_27 (dk_at dksJ11_copyOf_2_0 6 rfl rfl)
theorem dJ11_copyOf_2_7 : decode cJ11_copyOf_2 7 = .ok (.anewarray 2, 3) := dk_189 0 2 (dk_at dksJ11_copyOf_2_0 7 rfl rfl)
theorem dJ11_copyOf_2_10 : decode cJ11_copyOf_2 10 = .ok (.goto 14, 3) := dk_167 0 14 (dk_at dksJ11_copyOf_2_0 10 rfl rfl)
theorem dJ11_copyOf_2_13 : decode cJ11_copyOf_2 13 = .ok (.aload_n 2, 1) := dk_44 (dk_at dksJ11_copyOf_2_0 13 rfl rfl)
theorem dJ11_copyOf_2_14 : decode cJ11_copyOf_2 14 = .ok (.invokevirtual 90, 3) := dk_182 0 90 (dk_at dksJ11_copyOf_2_0 14 rfl rfl)
theorem dJ11_copyOf_2_17 : decode cJ11_copyOf_2 17 = .ok (.iload_n 1, 1) := dk_27 (dk_at dksJ11_copyOf_2_0 17 rfl rfl)
theorem dJ11_copyOf_2_18 : decode cJ11_copyOf_2 18 = .ok (.invokestatic 95, 3) := dk_184 0 95 (dk_at dksJ11_copyOf_2_0 18 rfl rfl)
theorem dJ11_copyOf_2_21 : decode cJ11_copyOf_2 21 = .ok (.checkcast 110, 3) := dk_192 0 110 (dk_at dksJ11_copyOf_2_0 21 rfl rfl)
theorem dJ11_copyOf_2_24 : decode cJ11_copyOf_2 24 = .ok (.astore_n 3, 1) := dk_78 (dk_at dksJ11_copyOf_2_1 0 rfl rfl)
theorem dJ11_copyOf_2_25 : decode cJ11_copyOf_2 25 = .ok (.aload_n 0, 1) := dk_42 (dk_at dksJ11_copyOf_2_1 1 rfl rfl)
theorem dJ11_copyOf_2_26 : decode cJ11_copyOf_2 26 = .ok (.iconst 0, 1) := dk_3 (dk_at dksJ11_copyOf_2_1 2 rfl rfl)
theorem dJ11_copyOf_2_27 : decode cJ11_copyOf_2 27 = .ok (.aload_n 3, 1) := dk_45 (dk_at dksJ11_copyOf_2_1 3 rfl rfl)
theorem dJ11_copyOf_2_28 : decode cJ11_copyOf_2 28 = .ok (.iconst 0, 1) := dk_3 (dk_at dksJ11_copyOf_2_1 4 rfl rfl)
theorem dJ11_copyOf_2_29 : decode cJ11_copyOf_2 29 = .ok (.aload_n 0, 1) := dk_42 (dk_at dksJ11_copyOf_2_1 5 rfl rfl)
theorem dJ11_copyOf_2_30 : decode cJ11_copyOf_2 30 = .ok (.arraylength, 1) := dk_190 (dk_at dksJ11_copyOf_2_1 6 rfl rfl)
theorem dJ11_copyOf_2_31 : decode cJ11_copyOf_2 31 = .ok (.iload_n 1, 1) := dk_27 (dk_at dksJ11_copyOf_2_1 7 rfl rfl)
theorem dJ11_copyOf_2_32 : decode cJ11_copyOf_2 32 = .ok (.invokestatic 304, 3) := dk_184 1 48 (dk_at dksJ11_copyOf_2_1 8 rfl rfl)
theorem dJ11_copyOf_2_35 : decode cJ11_copyOf_2 35 = .ok (.invokestatic 150, 3) := dk_184 0 150 (dk_at dksJ11_copyOf_2_1 11 rfl rfl)
theorem dJ11_copyOf_2_38 : decode cJ11_copyOf_2 38 = .ok (.aload_n 3, 1) := dk_45 (dk_at dksJ11_copyOf_2_1 14 rfl rfl)
theorem dJ11_copyOf_2_39 : decode cJ11_copyOf_2 39 = .ok (.areturn, 1) := dk_176 (dk_at dksJ11_copyOf_2_1 15 rfl rfl)
abbrev cJ11_copyOf_3 : ByteArray := prog_40_method_121_code
def yJ11_copyOf_3 : MethodName := ⟨RJ11, "copyOf", "([BI)[B"⟩
def dkwJ11_copyOf_3_1 : List UInt8 := [27, 184, 1, 48, 184, 0, 150, 44, 176]
abbrev dktJ11_copyOf_3_1 : List UInt8 := dkwJ11_copyOf_3_1 ++ []
def dkwJ11_copyOf_3_0 : List UInt8 := [27, 42, 190, 160, 0, 11, 42, 182, 1, 54, 192, 1, 55, 176, 27, 188, 8, 77, 42, 3, 44, 3, 42, 190]
abbrev dktJ11_copyOf_3_0 : List UInt8 := dkwJ11_copyOf_3_0 ++ dktJ11_copyOf_3_1
theorem dksJ11_copyOf_3_0 : cJ11_copyOf_3.data.toList.drop 0 = dktJ11_copyOf_3_0 := by decide +kernel
theorem dksJ11_copyOf_3_1 : cJ11_copyOf_3.data.toList.drop 24 = dktJ11_copyOf_3_1 := dk_seg dksJ11_copyOf_3_0 24 rfl rfl
theorem dJ11_copyOf_3_0 : decode cJ11_copyOf_3 0 = .ok (.iload_n 1, 1) := dk_27 (dk_at dksJ11_copyOf_3_0 0 rfl rfl)
theorem dJ11_copyOf_3_1 : decode cJ11_copyOf_3 1 = .ok (.aload_n 0, 1) := dk_42 (dk_at dksJ11_copyOf_3_0 1 rfl rfl)
theorem dJ11_copyOf_3_2 : decode cJ11_copyOf_3 2 = .ok (.arraylength, 1) := dk_190 (dk_at dksJ11_copyOf_3_0 2 rfl rfl)
theorem dJ11_copyOf_3_3 : decode cJ11_copyOf_3 3 = .ok (.if_icmp .ne 11, 3) := dk_160 0 11 (dk_at dksJ11_copyOf_3_0 3 rfl rfl)
theorem dJ11_copyOf_3_6 : decode cJ11_copyOf_3 6 = .ok (.aload_n 0, 1) := dk_42 (dk_at dksJ11_copyOf_3_0 6 rfl rfl)
theorem dJ11_copyOf_3_7 : decode cJ11_copyOf_3 7 = .ok (.invokevirtual 310, 3) := dk_182 1 54 (dk_at dksJ11_copyOf_3_0 7 rfl rfl)
theorem dJ11_copyOf_3_10 : decode cJ11_copyOf_3 10 = .ok (.checkcast 311, 3) := dk_192 1 55 (dk_at dksJ11_copyOf_3_0 10 rfl rfl)
theorem dJ11_copyOf_3_13 : decode cJ11_copyOf_3 13 = .ok (.areturn, 1) := dk_176 (dk_at dksJ11_copyOf_3_0 13 rfl rfl)
theorem dJ11_copyOf_3_14 : decode cJ11_copyOf_3 14 = .ok (.iload_n 1, 1) := dk_27 (dk_at dksJ11_copyOf_3_0 14 rfl rfl)
theorem dJ11_copyOf_3_15 : decode cJ11_copyOf_3 15 = .ok (.newarray .byte, 2) := dk_188_8 (dk_at dksJ11_copyOf_3_0 15 rfl rfl)
theorem dJ11_copyOf_3_17 : decode cJ11_copyOf_3 17 = .ok (.astore_n 2, 1) := dk_77 (dk_at dksJ11_copyOf_3_0 17 rfl rfl)
theorem dJ11_copyOf_3_18 : decode cJ11_copyOf_3 18 = .ok (.aload_n 0, 1) := dk_42 (dk_at dksJ11_copyOf_3_0 18 rfl rfl)
theorem dJ11_copyOf_3_19 : decode cJ11_copyOf_3 19 = .ok (.iconst 0, 1) := dk_3 (dk_at dksJ11_copyOf_3_0 19 rfl rfl)
theorem dJ11_copyOf_3_20 : decode cJ11_copyOf_3 20 = .ok (.aload_n 2, 1) := dk_44 (dk_at dksJ11_copyOf_3_0 20 rfl rfl)
theorem dJ11_copyOf_3_21 : decode cJ11_copyOf_3 21 = .ok (.iconst 0, 1) := dk_3 (dk_at dksJ11_copyOf_3_0 21 rfl rfl)
theorem dJ11_copyOf_3_22 : decode cJ11_copyOf_3 22 = .ok (.aload_n 0, 1) := dk_42 (dk_at dksJ11_copyOf_3_0 22 rfl rfl)
theorem dJ11_copyOf_3_23 : decode cJ11_copyOf_3 23 = .ok (.arraylength, 1) := dk_190 (dk_at dksJ11_copyOf_3_0 23 rfl rfl)
theorem dJ11_copyOf_3_24 : decode cJ11_copyOf_3 24 = .ok (.iload_n 1, 1) := dk_27 (dk_at dksJ11_copyOf_3_1 0 rfl rfl)
theorem dJ11_copyOf_3_25 : decode cJ11_copyOf_3 25 = .ok (.invokestatic 304, 3) := dk_184 1 48 (dk_at dksJ11_copyOf_3_1 1 rfl rfl)
theorem dJ11_copyOf_3_28 : decode cJ11_copyOf_3 28 = .ok (.invokestatic 150, 3) := dk_184 0 150 (dk_at dksJ11_copyOf_3_1 4 rfl rfl)
theorem dJ11_copyOf_3_31 : decode cJ11_copyOf_3 31 = .ok (.aload_n 2, 1) := dk_44 (dk_at dksJ11_copyOf_3_1 7 rfl rfl)
theorem dJ11_copyOf_3_32 : decode cJ11_copyOf_3 32 = .ok (.areturn, 1) := dk_176 (dk_at dksJ11_copyOf_3_1 8 rfl rfl)
abbrev cJ11_copyOfRange : ByteArray := prog_40_method_132_code
def yJ11_copyOfRange : MethodName := ⟨RJ11, "copyOfRange", "([BII)[B"⟩
def dkwJ11_copyOfRange_1 : List UInt8 := [176]
abbrev dktJ11_copyOfRange_1 : List UInt8 := dkwJ11_copyOfRange_1 ++ []
def dkwJ11_copyOfRange_0 : List UInt8 := [27, 154, 0, 9, 28, 42, 190, 159, 0, 10, 42, 27, 28, 184, 1, 83, 176, 42, 182, 1, 54, 192, 1, 55]
abbrev dktJ11_copyOfRange_0 : List UInt8 := dkwJ11_copyOfRange_0 ++ dktJ11_copyOfRange_1
theorem dksJ11_copyOfRange_0 : cJ11_copyOfRange.data.toList.drop 0 = dktJ11_copyOfRange_0 := by decide +kernel
theorem dksJ11_copyOfRange_1 : cJ11_copyOfRange.data.toList.drop 24 = dktJ11_copyOfRange_1 := dk_seg dksJ11_copyOfRange_0 24 rfl rfl
theorem dJ11_copyOfRange_0 : decode cJ11_copyOfRange 0 = .ok (.iload_n 1, 1) := dk_27 (dk_at dksJ11_copyOfRange_0 0 rfl rfl)
theorem dJ11_copyOfRange_1 : decode cJ11_copyOfRange 1 = .ok (.ifCond .ne 9, 3) := dk_154 0 9 (dk_at dksJ11_copyOfRange_0 1 rfl rfl)
theorem dJ11_copyOfRange_4 : decode cJ11_copyOfRange 4 = .ok (.iload_n 2, 1) := dk_28 (dk_at dksJ11_copyOfRange_0 4 rfl rfl)
theorem dJ11_copyOfRange_5 : decode cJ11_copyOfRange 5 = .ok (.aload_n 0, 1) := dk_42 (dk_at dksJ11_copyOfRange_0 5 rfl rfl)
theorem dJ11_copyOfRange_6 : decode cJ11_copyOfRange 6 = .ok (.arraylength, 1) := dk_190 (dk_at dksJ11_copyOfRange_0 6 rfl rfl)
theorem dJ11_copyOfRange_7 : decode cJ11_copyOfRange 7 = .ok (.if_icmp .eq 10, 3) := dk_159 0 10 (dk_at dksJ11_copyOfRange_0 7 rfl rfl)
theorem dJ11_copyOfRange_10 : decode cJ11_copyOfRange 10 = .ok (.aload_n 0, 1) := dk_42 (dk_at dksJ11_copyOfRange_0 10 rfl rfl)
theorem dJ11_copyOfRange_11 : decode cJ11_copyOfRange 11 = .ok (.iload_n 1, 1) := dk_27 (dk_at dksJ11_copyOfRange_0 11 rfl rfl)
theorem dJ11_copyOfRange_12 : decode cJ11_copyOfRange 12 = .ok (.iload_n 2, 1) := dk_28 (dk_at dksJ11_copyOfRange_0 12 rfl rfl)
theorem dJ11_copyOfRange_13 : decode cJ11_copyOfRange 13 = .ok (.invokestatic 339, 3) := dk_184 1 83 (dk_at dksJ11_copyOfRange_0 13 rfl rfl)
theorem dJ11_copyOfRange_16 : decode cJ11_copyOfRange 16 = .ok (.areturn, 1) := dk_176 (dk_at dksJ11_copyOfRange_0 16 rfl rfl)
theorem dJ11_copyOfRange_17 : decode cJ11_copyOfRange 17 = .ok (.aload_n 0, 1) := dk_42 (dk_at dksJ11_copyOfRange_0 17 rfl rfl)
theorem dJ11_copyOfRange_18 : decode cJ11_copyOfRange 18 = .ok (.invokevirtual 310, 3) := dk_182 1 54 (dk_at dksJ11_copyOfRange_0 18 rfl rfl)
theorem dJ11_copyOfRange_21 : decode cJ11_copyOfRange 21 = .ok (.checkcast 311, 3) := dk_192 1 55 (dk_at dksJ11_copyOfRange_0 21 rfl rfl)
theorem dJ11_copyOfRange_24 : decode cJ11_copyOfRange 24 = .ok (.areturn, 1) := dk_176 (dk_at dksJ11_copyOfRange_1 0 rfl rfl)
abbrev cJ11_copyOfRangeByte : ByteArray := prog_40_method_133_code
def yJ11_copyOfRangeByte : MethodName := ⟨RJ11, "copyOfRangeByte", "([BII)[B"⟩
def dkwJ11_copyOfRangeByte_1 : List UInt8 := [184, 1, 48, 184, 0, 150, 25, 4, 176]
abbrev dktJ11_copyOfRangeByte_1 : List UInt8 := dkwJ11_copyOfRangeByte_1 ++ []
def dkwJ11_copyOfRangeByte_0 : List UInt8 := [27, 28, 184, 1, 87, 28, 27, 100, 62, 29, 188, 8, 58, 4, 42, 27, 25, 4, 3, 42, 190, 27, 100, 29]
abbrev dktJ11_copyOfRangeByte_0 : List UInt8 := dkwJ11_copyOfRangeByte_0 ++ dktJ11_copyOfRangeByte_1
theorem dksJ11_copyOfRangeByte_0 : cJ11_copyOfRangeByte.data.toList.drop 0 = dktJ11_copyOfRangeByte_0 := by decide +kernel
theorem dksJ11_copyOfRangeByte_1 : cJ11_copyOfRangeByte.data.toList.drop 24 = dktJ11_copyOfRangeByte_1 := dk_seg dksJ11_copyOfRangeByte_0 24 rfl rfl
theorem dJ11_copyOfRangeByte_0 : decode cJ11_copyOfRangeByte 0 = .ok (.iload_n 1, 1) := dk_27 (dk_at dksJ11_copyOfRangeByte_0 0 rfl rfl)
theorem dJ11_copyOfRangeByte_1 : decode cJ11_copyOfRangeByte 1 = .ok (.iload_n 2, 1) := dk_28 (dk_at dksJ11_copyOfRangeByte_0 1 rfl rfl)
theorem dJ11_copyOfRangeByte_2 : decode cJ11_copyOfRangeByte 2 = .ok (.invokestatic 343, 3) := dk_184 1 87 (dk_at dksJ11_copyOfRangeByte_0 2 rfl rfl)
theorem dJ11_copyOfRangeByte_5 : decode cJ11_copyOfRangeByte 5 = .ok (.iload_n 2, 1) := dk_28 (dk_at dksJ11_copyOfRangeByte_0 5 rfl rfl)
theorem dJ11_copyOfRangeByte_6 : decode cJ11_copyOfRangeByte 6 = .ok (.iload_n 1, 1) := dk_27 (dk_at dksJ11_copyOfRangeByte_0 6 rfl rfl)
theorem dJ11_copyOfRangeByte_7 : decode cJ11_copyOfRangeByte 7 = .ok (.isub, 1) := dk_100 (dk_at dksJ11_copyOfRangeByte_0 7 rfl rfl)
theorem dJ11_copyOfRangeByte_8 : decode cJ11_copyOfRangeByte 8 = .ok (.istore_n 3, 1) := dk_62 (dk_at dksJ11_copyOfRangeByte_0 8 rfl rfl)
theorem dJ11_copyOfRangeByte_9 : decode cJ11_copyOfRangeByte 9 = .ok (.iload_n 3, 1) := dk_29 (dk_at dksJ11_copyOfRangeByte_0 9 rfl rfl)
theorem dJ11_copyOfRangeByte_10 : decode cJ11_copyOfRangeByte 10 = .ok (.newarray .byte, 2) := dk_188_8 (dk_at dksJ11_copyOfRangeByte_0 10 rfl rfl)
theorem dJ11_copyOfRangeByte_12 : decode cJ11_copyOfRangeByte 12 = .ok (.astore 4, 2) := dk_58 4 (dk_at dksJ11_copyOfRangeByte_0 12 rfl rfl)
theorem dJ11_copyOfRangeByte_14 : decode cJ11_copyOfRangeByte 14 = .ok (.aload_n 0, 1) := dk_42 (dk_at dksJ11_copyOfRangeByte_0 14 rfl rfl)
theorem dJ11_copyOfRangeByte_15 : decode cJ11_copyOfRangeByte 15 = .ok (.iload_n 1, 1) := dk_27 (dk_at dksJ11_copyOfRangeByte_0 15 rfl rfl)
theorem dJ11_copyOfRangeByte_16 : decode cJ11_copyOfRangeByte 16 = .ok (.aload 4, 2) := dk_25 4 (dk_at dksJ11_copyOfRangeByte_0 16 rfl rfl)
theorem dJ11_copyOfRangeByte_18 : decode cJ11_copyOfRangeByte 18 = .ok (.iconst 0, 1) := dk_3 (dk_at dksJ11_copyOfRangeByte_0 18 rfl rfl)
theorem dJ11_copyOfRangeByte_19 : decode cJ11_copyOfRangeByte 19 = .ok (.aload_n 0, 1) := dk_42 (dk_at dksJ11_copyOfRangeByte_0 19 rfl rfl)
theorem dJ11_copyOfRangeByte_20 : decode cJ11_copyOfRangeByte 20 = .ok (.arraylength, 1) := dk_190 (dk_at dksJ11_copyOfRangeByte_0 20 rfl rfl)
theorem dJ11_copyOfRangeByte_21 : decode cJ11_copyOfRangeByte 21 = .ok (.iload_n 1, 1) := dk_27 (dk_at dksJ11_copyOfRangeByte_0 21 rfl rfl)
theorem dJ11_copyOfRangeByte_22 : decode cJ11_copyOfRangeByte 22 = .ok (.isub, 1) := dk_100 (dk_at dksJ11_copyOfRangeByte_0 22 rfl rfl)
theorem dJ11_copyOfRangeByte_23 : decode cJ11_copyOfRangeByte 23 = .ok (.iload_n 3, 1) := dk_29 (dk_at dksJ11_copyOfRangeByte_0 23 rfl rfl)
theorem dJ11_copyOfRangeByte_24 : decode cJ11_copyOfRangeByte 24 = .ok (.invokestatic 304, 3) := dk_184 1 48 (dk_at dksJ11_copyOfRangeByte_1 0 rfl rfl)
theorem dJ11_copyOfRangeByte_27 : decode cJ11_copyOfRangeByte 27 = .ok (.invokestatic 150, 3) := dk_184 0 150 (dk_at dksJ11_copyOfRangeByte_1 3 rfl rfl)
theorem dJ11_copyOfRangeByte_30 : decode cJ11_copyOfRangeByte 30 = .ok (.aload 4, 2) := dk_25 4 (dk_at dksJ11_copyOfRangeByte_1 6 rfl rfl)
theorem dJ11_copyOfRangeByte_32 : decode cJ11_copyOfRangeByte 32 = .ok (.areturn, 1) := dk_176 (dk_at dksJ11_copyOfRangeByte_1 8 rfl rfl)
abbrev cJ11_checkLength : ByteArray := prog_40_method_131_code
def yJ11_checkLength : MethodName := ⟨RJ11, "checkLength", "(II)V"⟩
def dkwJ11_checkLength_1 : List UInt8 := [182, 0, 50, 27, 182, 0, 54, 182, 0, 61, 183, 0, 65, 191, 177]
abbrev dktJ11_checkLength_1 : List UInt8 := dkwJ11_checkLength_1 ++ []
def dkwJ11_checkLength_0 : List UInt8 := [27, 26, 162, 0, 35, 187, 0, 43, 89, 187, 0, 45, 89, 183, 0, 47, 26, 182, 0, 54, 19, 1, 81]
abbrev dktJ11_checkLength_0 : List UInt8 := dkwJ11_checkLength_0 ++ dktJ11_checkLength_1
theorem dksJ11_checkLength_0 : cJ11_checkLength.data.toList.drop 0 = dktJ11_checkLength_0 := by decide +kernel
theorem dksJ11_checkLength_1 : cJ11_checkLength.data.toList.drop 23 = dktJ11_checkLength_1 := dk_seg dksJ11_checkLength_0 23 rfl rfl
theorem dJ11_checkLength_0 : decode cJ11_checkLength 0 = .ok (.iload_n 1, 1) := dk_27 (dk_at dksJ11_checkLength_0 0 rfl rfl)
theorem dJ11_checkLength_1 : decode cJ11_checkLength 1 = .ok (.iload_n 0, 1) := dk_26 (dk_at dksJ11_checkLength_0 1 rfl rfl)
theorem dJ11_checkLength_2 : decode cJ11_checkLength 2 = .ok (.if_icmp .ge 35, 3) := dk_162 0 35 (dk_at dksJ11_checkLength_0 2 rfl rfl)
theorem dJ11_checkLength_5 : decode cJ11_checkLength 5 = .ok (.new 43, 3) := dk_187 0 43 (dk_at dksJ11_checkLength_0 5 rfl rfl)
theorem dJ11_checkLength_8 : decode cJ11_checkLength 8 = .ok (.dup, 1) := dk_89 (dk_at dksJ11_checkLength_0 8 rfl rfl)
theorem dJ11_checkLength_9 : decode cJ11_checkLength 9 = .ok (.new 45, 3) := dk_187 0 45 (dk_at dksJ11_checkLength_0 9 rfl rfl)
theorem dJ11_checkLength_12 : decode cJ11_checkLength 12 = .ok (.dup, 1) := dk_89 (dk_at dksJ11_checkLength_0 12 rfl rfl)
theorem dJ11_checkLength_13 : decode cJ11_checkLength 13 = .ok (.invokespecial 47, 3) := dk_183 0 47 (dk_at dksJ11_checkLength_0 13 rfl rfl)
theorem dJ11_checkLength_16 : decode cJ11_checkLength 16 = .ok (.iload_n 0, 1) := dk_26 (dk_at dksJ11_checkLength_0 16 rfl rfl)
theorem dJ11_checkLength_17 : decode cJ11_checkLength 17 = .ok (.invokevirtual 54, 3) := dk_182 0 54 (dk_at dksJ11_checkLength_0 17 rfl rfl)
theorem dJ11_checkLength_20 : decode cJ11_checkLength 20 = .ok (.ldc_w 337, 3) := dk_19 1 81 (dk_at dksJ11_checkLength_0 20 rfl rfl)
theorem dJ11_checkLength_23 : decode cJ11_checkLength 23 = .ok (.invokevirtual 50, 3) := dk_182 0 50 (dk_at dksJ11_checkLength_1 0 rfl rfl)
theorem dJ11_checkLength_26 : decode cJ11_checkLength 26 = .ok (.iload_n 1, 1) := dk_27 (dk_at dksJ11_checkLength_1 3 rfl rfl)
theorem dJ11_checkLength_27 : decode cJ11_checkLength 27 = .ok (.invokevirtual 54, 3) := dk_182 0 54 (dk_at dksJ11_checkLength_1 4 rfl rfl)
theorem dJ11_checkLength_30 : decode cJ11_checkLength 30 = .ok (.invokevirtual 61, 3) := dk_182 0 61 (dk_at dksJ11_checkLength_1 7 rfl rfl)
theorem dJ11_checkLength_33 : decode cJ11_checkLength 33 = .ok (.invokespecial 65, 3) := dk_183 0 65 (dk_at dksJ11_checkLength_1 10 rfl rfl)
theorem dJ11_checkLength_36 : decode cJ11_checkLength 36 = .ok (.athrow, 1) := dk_191 (dk_at dksJ11_checkLength_1 13 rfl rfl)
theorem dJ11_checkLength_37 : decode cJ11_checkLength 37 = .ok (.return_, 1) := dk_177 (dk_at dksJ11_checkLength_1 14 rfl rfl)
abbrev cJ11_fill : ByteArray := prog_40_method_110_code
def yJ11_fill : MethodName := ⟨RJ11, "fill", "([BIIB)V"⟩
def dkwJ11_fill_1 : List UInt8 := [167, 255, 242, 177]
abbrev dktJ11_fill_1 : List UInt8 := dkwJ11_fill_1 ++ []
def dkwJ11_fill_0 : List UInt8 := [42, 190, 27, 28, 184, 0, 13, 27, 54, 4, 21, 4, 28, 162, 0, 14, 42, 21, 4, 29, 84, 132, 4, 1]
abbrev dktJ11_fill_0 : List UInt8 := dkwJ11_fill_0 ++ dktJ11_fill_1
theorem dksJ11_fill_0 : cJ11_fill.data.toList.drop 0 = dktJ11_fill_0 := by decide +kernel
theorem dksJ11_fill_1 : cJ11_fill.data.toList.drop 24 = dktJ11_fill_1 := dk_seg dksJ11_fill_0 24 rfl rfl
theorem dJ11_fill_0 : decode cJ11_fill 0 = .ok (.aload_n 0, 1) := dk_42 (dk_at dksJ11_fill_0 0 rfl rfl)
theorem dJ11_fill_1 : decode cJ11_fill 1 = .ok (.arraylength, 1) := dk_190 (dk_at dksJ11_fill_0 1 rfl rfl)
theorem dJ11_fill_2 : decode cJ11_fill 2 = .ok (.iload_n 1, 1) := dk_27 (dk_at dksJ11_fill_0 2 rfl rfl)
theorem dJ11_fill_3 : decode cJ11_fill 3 = .ok (.iload_n 2, 1) := dk_28 (dk_at dksJ11_fill_0 3 rfl rfl)
theorem dJ11_fill_4 : decode cJ11_fill 4 = .ok (.invokestatic 13, 3) := dk_184 0 13 (dk_at dksJ11_fill_0 4 rfl rfl)
theorem dJ11_fill_7 : decode cJ11_fill 7 = .ok (.iload_n 1, 1) := dk_27 (dk_at dksJ11_fill_0 7 rfl rfl)
theorem dJ11_fill_8 : decode cJ11_fill 8 = .ok (.istore 4, 2) := dk_54 4 (dk_at dksJ11_fill_0 8 rfl rfl)
theorem dJ11_fill_10 : decode cJ11_fill 10 = .ok (.iload 4, 2) := dk_21 4 (dk_at dksJ11_fill_0 10 rfl rfl)
theorem dJ11_fill_12 : decode cJ11_fill 12 = .ok (.iload_n 2, 1) := dk_28 (dk_at dksJ11_fill_0 12 rfl rfl)
theorem dJ11_fill_13 : decode cJ11_fill 13 = .ok (.if_icmp .ge 14, 3) := dk_162 0 14 (dk_at dksJ11_fill_0 13 rfl rfl)
theorem dJ11_fill_16 : decode cJ11_fill 16 = .ok (.aload_n 0, 1) := dk_42 (dk_at dksJ11_fill_0 16 rfl rfl)
theorem dJ11_fill_17 : decode cJ11_fill 17 = .ok (.iload 4, 2) := dk_21 4 (dk_at dksJ11_fill_0 17 rfl rfl)
theorem dJ11_fill_19 : decode cJ11_fill 19 = .ok (.iload_n 3, 1) := dk_29 (dk_at dksJ11_fill_0 19 rfl rfl)
theorem dJ11_fill_20 : decode cJ11_fill 20 = .ok (.bastore, 1) := dk_84 (dk_at dksJ11_fill_0 20 rfl rfl)
theorem dJ11_fill_21 : decode cJ11_fill 21 = .ok (.iinc 4 1, 3) := dk_132 4 1 (dk_at dksJ11_fill_0 21 rfl rfl)
theorem dJ11_fill_24 : decode cJ11_fill 24 = .ok (.goto (-14), 3) := dk_167 255 242 (dk_at dksJ11_fill_1 0 rfl rfl)
theorem dJ11_fill_27 : decode cJ11_fill 27 = .ok (.return_, 1) := dk_177 (dk_at dksJ11_fill_1 3 rfl rfl)
abbrev cJ11_rangeCheck : ByteArray := prog_40_method_30_code
def yJ11_rangeCheck : MethodName := ⟨RJ11, "rangeCheck", "(III)V"⟩
def dkwJ11_rangeCheck_3 : List UInt8 := [183, 0, 70, 191, 177]
abbrev dktJ11_rangeCheck_3 : List UInt8 := dkwJ11_rangeCheck_3 ++ []
def dkwJ11_rangeCheck_2 : List UInt8 := [27, 156, 0, 12, 187, 0, 68, 89, 27, 183, 0, 70, 191, 28, 26, 164, 0, 12, 187, 0, 68, 89, 28]
abbrev dktJ11_rangeCheck_2 : List UInt8 := dkwJ11_rangeCheck_2 ++ dktJ11_rangeCheck_3
def dkwJ11_rangeCheck_1 : List UInt8 := [182, 0, 54, 18, 57, 182, 0, 50, 28, 182, 0, 54, 18, 59, 182, 0, 50, 182, 0, 61, 183, 0, 65, 191]
abbrev dktJ11_rangeCheck_1 : List UInt8 := dkwJ11_rangeCheck_1 ++ dktJ11_rangeCheck_2
def dkwJ11_rangeCheck_0 : List UInt8 := [27, 28, 164, 0, 44, 187, 0, 43, 89, 187, 0, 45, 89, 183, 0, 47, 18, 48, 182, 0, 50, 27]
abbrev dktJ11_rangeCheck_0 : List UInt8 := dkwJ11_rangeCheck_0 ++ dktJ11_rangeCheck_1
theorem dksJ11_rangeCheck_0 : cJ11_rangeCheck.data.toList.drop 0 = dktJ11_rangeCheck_0 := by decide +kernel
theorem dksJ11_rangeCheck_1 : cJ11_rangeCheck.data.toList.drop 22 = dktJ11_rangeCheck_1 := dk_seg dksJ11_rangeCheck_0 22 rfl rfl
theorem dksJ11_rangeCheck_2 : cJ11_rangeCheck.data.toList.drop 46 = dktJ11_rangeCheck_2 := dk_seg dksJ11_rangeCheck_1 24 rfl rfl
theorem dksJ11_rangeCheck_3 : cJ11_rangeCheck.data.toList.drop 69 = dktJ11_rangeCheck_3 := dk_seg dksJ11_rangeCheck_2 23 rfl rfl
theorem dJ11_rangeCheck_0 : decode cJ11_rangeCheck 0 = .ok (.iload_n 1, 1) := dk_27 (dk_at dksJ11_rangeCheck_0 0 rfl rfl)
theorem dJ11_rangeCheck_1 : decode cJ11_rangeCheck 1 = .ok (.iload_n 2, 1) := dk_28 (dk_at dksJ11_rangeCheck_0 1 rfl rfl)
theorem dJ11_rangeCheck_2 : decode cJ11_rangeCheck 2 = .ok (.if_icmp .le 44, 3) := dk_164 0 44 (dk_at dksJ11_rangeCheck_0 2 rfl rfl)
theorem dJ11_rangeCheck_5 : decode cJ11_rangeCheck 5 = .ok (.new 43, 3) := dk_187 0 43 (dk_at dksJ11_rangeCheck_0 5 rfl rfl)
theorem dJ11_rangeCheck_8 : decode cJ11_rangeCheck 8 = .ok (.dup, 1) := dk_89 (dk_at dksJ11_rangeCheck_0 8 rfl rfl)
theorem dJ11_rangeCheck_9 : decode cJ11_rangeCheck 9 = .ok (.new 45, 3) := dk_187 0 45 (dk_at dksJ11_rangeCheck_0 9 rfl rfl)
theorem dJ11_rangeCheck_12 : decode cJ11_rangeCheck 12 = .ok (.dup, 1) := dk_89 (dk_at dksJ11_rangeCheck_0 12 rfl rfl)
theorem dJ11_rangeCheck_13 : decode cJ11_rangeCheck 13 = .ok (.invokespecial 47, 3) := dk_183 0 47 (dk_at dksJ11_rangeCheck_0 13 rfl rfl)
theorem dJ11_rangeCheck_16 : decode cJ11_rangeCheck 16 = .ok (.ldc 48, 2) := dk_18 48 (dk_at dksJ11_rangeCheck_0 16 rfl rfl)
theorem dJ11_rangeCheck_18 : decode cJ11_rangeCheck 18 = .ok (.invokevirtual 50, 3) := dk_182 0 50 (dk_at dksJ11_rangeCheck_0 18 rfl rfl)
theorem dJ11_rangeCheck_21 : decode cJ11_rangeCheck 21 = .ok (.iload_n 1, 1) := dk_27 (dk_at dksJ11_rangeCheck_0 21 rfl rfl)
theorem dJ11_rangeCheck_22 : decode cJ11_rangeCheck 22 = .ok (.invokevirtual 54, 3) := dk_182 0 54 (dk_at dksJ11_rangeCheck_1 0 rfl rfl)
theorem dJ11_rangeCheck_25 : decode cJ11_rangeCheck 25 = .ok (.ldc 57, 2) := dk_18 57 (dk_at dksJ11_rangeCheck_1 3 rfl rfl)
theorem dJ11_rangeCheck_27 : decode cJ11_rangeCheck 27 = .ok (.invokevirtual 50, 3) := dk_182 0 50 (dk_at dksJ11_rangeCheck_1 5 rfl rfl)
theorem dJ11_rangeCheck_30 : decode cJ11_rangeCheck 30 = .ok (.iload_n 2, 1) := dk_28 (dk_at dksJ11_rangeCheck_1 8 rfl rfl)
theorem dJ11_rangeCheck_31 : decode cJ11_rangeCheck 31 = .ok (.invokevirtual 54, 3) := dk_182 0 54 (dk_at dksJ11_rangeCheck_1 9 rfl rfl)
theorem dJ11_rangeCheck_34 : decode cJ11_rangeCheck 34 = .ok (.ldc 59, 2) := dk_18 59 (dk_at dksJ11_rangeCheck_1 12 rfl rfl)
theorem dJ11_rangeCheck_36 : decode cJ11_rangeCheck 36 = .ok (.invokevirtual 50, 3) := dk_182 0 50 (dk_at dksJ11_rangeCheck_1 14 rfl rfl)
theorem dJ11_rangeCheck_39 : decode cJ11_rangeCheck 39 = .ok (.invokevirtual 61, 3) := dk_182 0 61 (dk_at dksJ11_rangeCheck_1 17 rfl rfl)
theorem dJ11_rangeCheck_42 : decode cJ11_rangeCheck 42 = .ok (.invokespecial 65, 3) := dk_183 0 65 (dk_at dksJ11_rangeCheck_1 20 rfl rfl)
theorem dJ11_rangeCheck_45 : decode cJ11_rangeCheck 45 = .ok (.athrow, 1) := dk_191 (dk_at dksJ11_rangeCheck_1 23 rfl rfl)
theorem dJ11_rangeCheck_46 : decode cJ11_rangeCheck 46 = .ok (.iload_n 1, 1) := dk_27 (dk_at dksJ11_rangeCheck_2 0 rfl rfl)
theorem dJ11_rangeCheck_47 : decode cJ11_rangeCheck 47 = .ok (.ifCond .ge 12, 3) := dk_156 0 12 (dk_at dksJ11_rangeCheck_2 1 rfl rfl)
theorem dJ11_rangeCheck_50 : decode cJ11_rangeCheck 50 = .ok (.new 68, 3) := dk_187 0 68 (dk_at dksJ11_rangeCheck_2 4 rfl rfl)
theorem dJ11_rangeCheck_53 : decode cJ11_rangeCheck 53 = .ok (.dup, 1) := dk_89 (dk_at dksJ11_rangeCheck_2 7 rfl rfl)
theorem dJ11_rangeCheck_54 : decode cJ11_rangeCheck 54 = .ok (.iload_n 1, 1) := dk_27 (dk_at dksJ11_rangeCheck_2 8 rfl rfl)
theorem dJ11_rangeCheck_55 : decode cJ11_rangeCheck 55 = .ok (.invokespecial 70, 3) := dk_183 0 70 (dk_at dksJ11_rangeCheck_2 9 rfl rfl)
theorem dJ11_rangeCheck_58 : decode cJ11_rangeCheck 58 = .ok (.athrow, 1) := dk_191 (dk_at dksJ11_rangeCheck_2 12 rfl rfl)
theorem dJ11_rangeCheck_59 : decode cJ11_rangeCheck 59 = .ok (.iload_n 2, 1) := dk_28 (dk_at dksJ11_rangeCheck_2 13 rfl rfl)
theorem dJ11_rangeCheck_60 : decode cJ11_rangeCheck 60 = .ok (.iload_n 0, 1) := dk_26 (dk_at dksJ11_rangeCheck_2 14 rfl rfl)
theorem dJ11_rangeCheck_61 : decode cJ11_rangeCheck 61 = .ok (.if_icmp .le 12, 3) := dk_164 0 12 (dk_at dksJ11_rangeCheck_2 15 rfl rfl)
theorem dJ11_rangeCheck_64 : decode cJ11_rangeCheck 64 = .ok (.new 68, 3) := dk_187 0 68 (dk_at dksJ11_rangeCheck_2 18 rfl rfl)
theorem dJ11_rangeCheck_67 : decode cJ11_rangeCheck 67 = .ok (.dup, 1) := dk_89 (dk_at dksJ11_rangeCheck_2 21 rfl rfl)
theorem dJ11_rangeCheck_68 : decode cJ11_rangeCheck 68 = .ok (.iload_n 2, 1) := dk_28 (dk_at dksJ11_rangeCheck_2 22 rfl rfl)
theorem dJ11_rangeCheck_69 : decode cJ11_rangeCheck 69 = .ok (.invokespecial 70, 3) := dk_183 0 70 (dk_at dksJ11_rangeCheck_3 0 rfl rfl)
theorem dJ11_rangeCheck_72 : decode cJ11_rangeCheck 72 = .ok (.athrow, 1) := dk_191 (dk_at dksJ11_rangeCheck_3 3 rfl rfl)
theorem dJ11_rangeCheck_73 : decode cJ11_rangeCheck 73 = .ok (.return_, 1) := dk_177 (dk_at dksJ11_rangeCheck_3 4 rfl rfl)
theorem q108 : (Jvm.Cond.initialized "java/util/Arrays") ∈ lw_all := lw_g (lw_at lw_m1 15 rfl) rfl
theorem q423 : (Jvm.Cond.static ({ cls := "java/util/Arrays", name := "copyOf", desc := "([Ljava/lang/Object;I)[Ljava/lang/Object;" } : Jvm.MethodName)) ∈ lw_all := lw_g (lw_at lw_m2 90 rfl) rfl
theorem q424 : (Jvm.Cond.code ({ cls := "java/util/Arrays", name := "copyOf", desc := "([Ljava/lang/Object;I)[Ljava/lang/Object;" } : Jvm.MethodName) prog_40_method_119_code (2 : Nat) (Option.some (Jvm.ClassFile.FieldType.array (Jvm.ClassFile.FieldType.object "java/lang/Object")))) ∈ lw_all := lw_g (lw_at lw_m2 91 rfl) rfl
theorem q425 : (Jvm.Cond.methodLink "java/util/Arrays" (86 : Nat) ({ cls := "java/lang/Object", name := "getClass", desc := "()Ljava/lang/Class;" } : Jvm.MethodName)) ∈ lw_all := lw_g (lw_at lw_m2 92 rfl) rfl
theorem q444 : (Jvm.Cond.methodLink "java/util/Arrays" (300 : Nat) ({ cls := "java/util/Arrays", name := "copyOf", desc := "([Ljava/lang/Object;ILjava/lang/Class;)[Ljava/lang/Object;" } : Jvm.MethodName)) ∈ lw_all := lw_g (lw_at lw_m2 111 rfl) rfl
theorem q445 : (Jvm.Cond.static ({ cls := "java/util/Arrays", name := "copyOf", desc := "([Ljava/lang/Object;ILjava/lang/Class;)[Ljava/lang/Object;" } : Jvm.MethodName)) ∈ lw_all := lw_g (lw_at lw_m2 112 rfl) rfl
theorem q446 : (Jvm.Cond.code ({ cls := "java/util/Arrays", name := "copyOf", desc := "([Ljava/lang/Object;ILjava/lang/Class;)[Ljava/lang/Object;" } : Jvm.MethodName) prog_40_method_120_code (4 : Nat) (Option.some (Jvm.ClassFile.FieldType.array (Jvm.ClassFile.FieldType.object "java/lang/Object")))) ∈ lw_all := lw_g (lw_at lw_m2 113 rfl) rfl
theorem q447 : (Jvm.Cond.classLink "java/util/Arrays" (110 : Nat) "[Ljava/lang/Object;") ∈ lw_all := lw_g (lw_at lw_m2 114 rfl) rfl
theorem q448 : (Jvm.Cond.classLink "java/util/Arrays" (2 : Nat) "java/lang/Object") ∈ lw_all := lw_g (lw_at lw_m2 115 rfl) rfl
theorem q449 : (Jvm.Cond.methodLink "java/util/Arrays" (304 : Nat) ({ cls := "java/lang/Math", name := "min", desc := "(II)I" } : Jvm.MethodName)) ∈ lw_all := lw_g (lw_at lw_m2 116 rfl) rfl
theorem q452 : (Jvm.Cond.methodLink "java/util/Arrays" (150 : Nat) ({ cls := "java/lang/System", name := "arraycopy", desc := "(Ljava/lang/Object;ILjava/lang/Object;II)V" } : Jvm.MethodName)) ∈ lw_all := lw_g (lw_at lw_m2 119 rfl) rfl
theorem q610 : (Jvm.Cond.static ({ cls := "java/util/Arrays", name := "copyOf", desc := "([BI)[B" } : Jvm.MethodName)) ∈ lw_all := lw_g (lw_at lw_m3 37 rfl) rfl
theorem q611 : (Jvm.Cond.code ({ cls := "java/util/Arrays", name := "copyOf", desc := "([BI)[B" } : Jvm.MethodName) prog_40_method_121_code (3 : Nat) (Option.some (Jvm.ClassFile.FieldType.array Jvm.ClassFile.FieldType.byte))) ∈ lw_all := lw_g (lw_at lw_m3 38 rfl) rfl
theorem q612 : (Jvm.Cond.methodLink "java/util/Arrays" (310 : Nat) ({ cls := "[B", name := "clone", desc := "()Ljava/lang/Object;" } : Jvm.MethodName)) ∈ lw_all := lw_g (lw_at lw_m3 39 rfl) rfl
theorem q616 : (Jvm.Cond.classLink "java/util/Arrays" (311 : Nat) "[B") ∈ lw_all := lw_g (lw_at lw_m3 43 rfl) rfl
theorem q737 : (Jvm.Cond.static ({ cls := "java/util/Arrays", name := "copyOfRange", desc := "([BII)[B" } : Jvm.MethodName)) ∈ lw_all := lw_g (lw_at lw_m3 164 rfl) rfl
theorem q738 : (Jvm.Cond.code ({ cls := "java/util/Arrays", name := "copyOfRange", desc := "([BII)[B" } : Jvm.MethodName) prog_40_method_132_code (3 : Nat) (Option.some (Jvm.ClassFile.FieldType.array Jvm.ClassFile.FieldType.byte))) ∈ lw_all := lw_g (lw_at lw_m3 165 rfl) rfl
theorem q739 : (Jvm.Cond.methodLink "java/util/Arrays" (339 : Nat) ({ cls := "java/util/Arrays", name := "copyOfRangeByte", desc := "([BII)[B" } : Jvm.MethodName)) ∈ lw_all := lw_g (lw_at lw_m3 166 rfl) rfl
theorem q740 : (Jvm.Cond.static ({ cls := "java/util/Arrays", name := "copyOfRangeByte", desc := "([BII)[B" } : Jvm.MethodName)) ∈ lw_all := lw_g (lw_at lw_m3 167 rfl) rfl
theorem q741 : (Jvm.Cond.code ({ cls := "java/util/Arrays", name := "copyOfRangeByte", desc := "([BII)[B" } : Jvm.MethodName) prog_40_method_133_code (5 : Nat) (Option.some (Jvm.ClassFile.FieldType.array Jvm.ClassFile.FieldType.byte))) ∈ lw_all := lw_g (lw_at lw_m3 168 rfl) rfl
theorem q742 : (Jvm.Cond.methodLink "java/util/Arrays" (343 : Nat) ({ cls := "java/util/Arrays", name := "checkLength", desc := "(II)V" } : Jvm.MethodName)) ∈ lw_all := lw_g (lw_at lw_m3 169 rfl) rfl
theorem q743 : (Jvm.Cond.static ({ cls := "java/util/Arrays", name := "checkLength", desc := "(II)V" } : Jvm.MethodName)) ∈ lw_all := lw_g (lw_at lw_m3 170 rfl) rfl
theorem q744 : (Jvm.Cond.code ({ cls := "java/util/Arrays", name := "checkLength", desc := "(II)V" } : Jvm.MethodName) prog_40_method_131_code (2 : Nat) (Option.none : Option Jvm.ClassFile.FieldType)) ∈ lw_all := lw_g (lw_at lw_m3 171 rfl) rfl
theorem q745 : (Jvm.Cond.classLink "java/util/Arrays" (43 : Nat) "java/lang/IllegalArgumentException") ∈ lw_all := lw_g (lw_at lw_m3 172 rfl) rfl
theorem q754 : (Jvm.Cond.classLink "java/util/Arrays" (45 : Nat) "java/lang/StringBuilder") ∈ lw_all := lw_g (lw_at lw_m3 181 rfl) rfl
theorem q755 : (Jvm.Cond.methodLink "java/util/Arrays" (47 : Nat) ({ cls := "java/lang/StringBuilder", name := "<init>", desc := "()V" } : Jvm.MethodName)) ∈ lw_all := lw_g (lw_at lw_m3 182 rfl) rfl
theorem q756 : (Jvm.Cond.methodLink "java/util/Arrays" (54 : Nat) ({ cls := "java/lang/StringBuilder", name := "append", desc := "(I)Ljava/lang/StringBuilder;" } : Jvm.MethodName)) ∈ lw_all := lw_g (lw_at lw_m3 183 rfl) rfl
theorem q757 : (Jvm.Cond.stringRef "java/util/Arrays" (337 : Nat) " > ") ∈ lw_tbl := lw_at lw_m3 184 rfl
theorem q758 : (Jvm.Cond.methodLink "java/util/Arrays" (50 : Nat) ({ cls := "java/lang/StringBuilder", name := "append", desc := "(Ljava/lang/String;)Ljava/lang/StringBuilder;" } : Jvm.MethodName)) ∈ lw_all := lw_g (lw_at lw_m3 185 rfl) rfl
theorem q759 : (Jvm.Cond.methodLink "java/util/Arrays" (61 : Nat) ({ cls := "java/lang/StringBuilder", name := "toString", desc := "()Ljava/lang/String;" } : Jvm.MethodName)) ∈ lw_all := lw_g (lw_at lw_m3 186 rfl) rfl
theorem q760 : (Jvm.Cond.methodLink "java/util/Arrays" (65 : Nat) ({ cls := "java/lang/IllegalArgumentException", name := "<init>", desc := "(Ljava/lang/String;)V" } : Jvm.MethodName)) ∈ lw_all := lw_g (lw_at lw_m3 187 rfl) rfl
theorem q807 : (Jvm.Cond.static ({ cls := "java/util/Arrays", name := "fill", desc := "([BIIB)V" } : Jvm.MethodName)) ∈ lw_all := lw_g (lw_at lw_m3 234 rfl) rfl
theorem q808 : (Jvm.Cond.code ({ cls := "java/util/Arrays", name := "fill", desc := "([BIIB)V" } : Jvm.MethodName) prog_40_method_110_code (5 : Nat) (Option.none : Option Jvm.ClassFile.FieldType)) ∈ lw_all := lw_g (lw_at lw_m3 235 rfl) rfl
theorem q809 : (Jvm.Cond.methodLink "java/util/Arrays" (13 : Nat) ({ cls := "java/util/Arrays", name := "rangeCheck", desc := "(III)V" } : Jvm.MethodName)) ∈ lw_all := lw_g (lw_at lw_m3 236 rfl) rfl
theorem q810 : (Jvm.Cond.static ({ cls := "java/util/Arrays", name := "rangeCheck", desc := "(III)V" } : Jvm.MethodName)) ∈ lw_all := lw_g (lw_at lw_m3 237 rfl) rfl
theorem q811 : (Jvm.Cond.code ({ cls := "java/util/Arrays", name := "rangeCheck", desc := "(III)V" } : Jvm.MethodName) prog_40_method_30_code (3 : Nat) (Option.none : Option Jvm.ClassFile.FieldType)) ∈ lw_all := lw_g (lw_at lw_m3 238 rfl) rfl
theorem q812 : (Jvm.Cond.stringRef "java/util/Arrays" (48 : Nat) "fromIndex(") ∈ lw_tbl := lw_at lw_m3 239 rfl
theorem q813 : (Jvm.Cond.stringRef "java/util/Arrays" (57 : Nat) ") > toIndex(") ∈ lw_tbl := lw_at lw_m4 0 rfl
theorem q814 : (Jvm.Cond.stringRef "java/util/Arrays" (59 : Nat) ")") ∈ lw_tbl := lw_at lw_m4 1 rfl
theorem q815 : (Jvm.Cond.classLink "java/util/Arrays" (68 : Nat) "java/lang/ArrayIndexOutOfBoundsException") ∈ lw_all := lw_g (lw_at lw_m4 2 rfl) rfl
theorem q826 : (Jvm.Cond.methodLink "java/util/Arrays" (70 : Nat) ({ cls := "java/lang/ArrayIndexOutOfBoundsException", name := "<init>", desc := "(I)V" } : Jvm.MethodName)) ∈ lw_all := lw_g (lw_at lw_m4 13 rfl) rfl
/-! java/lang/Math -/
set_option maxRecDepth 100000
def RJ12 : String := "java/lang/Math"
abbrev cJ12_min : ByteArray := prog_23_method_69_code
def yJ12_min : MethodName := ⟨RJ12, "min", "(II)I"⟩
def dkwJ12_min_0 : List UInt8 := [26, 27, 163, 0, 7, 26, 167, 0, 4, 27, 172]
abbrev dktJ12_min_0 : List UInt8 := dkwJ12_min_0 ++ []
theorem dksJ12_min_0 : cJ12_min.data.toList.drop 0 = dktJ12_min_0 := by decide +kernel
theorem dJ12_min_0 : decode cJ12_min 0 = .ok (.iload_n 0, 1) := dk_26 (dk_at dksJ12_min_0 0 rfl rfl)
theorem dJ12_min_1 : decode cJ12_min 1 = .ok (.iload_n 1, 1) := dk_27 (dk_at dksJ12_min_0 1 rfl rfl)
theorem dJ12_min_2 : decode cJ12_min 2 = .ok (.if_icmp .gt 7, 3) := dk_163 0 7 (dk_at dksJ12_min_0 2 rfl rfl)
theorem dJ12_min_5 : decode cJ12_min 5 = .ok (.iload_n 0, 1) := dk_26 (dk_at dksJ12_min_0 5 rfl rfl)
theorem dJ12_min_6 : decode cJ12_min 6 = .ok (.goto 4, 3) := dk_167 0 4 (dk_at dksJ12_min_0 6 rfl rfl)
theorem dJ12_min_9 : decode cJ12_min 9 = .ok (.iload_n 1, 1) := dk_27 (dk_at dksJ12_min_0 9 rfl rfl)
theorem dJ12_min_10 : decode cJ12_min 10 = .ok (.ireturn, 1) := dk_172 (dk_at dksJ12_min_0 10 rfl rfl)
abbrev cJ12_max : ByteArray := prog_23_method_65_code
def yJ12_max : MethodName := ⟨RJ12, "max", "(II)I"⟩
def dkwJ12_max_0 : List UInt8 := [26, 27, 161, 0, 7, 26, 167, 0, 4, 27, 172]
abbrev dktJ12_max_0 : List UInt8 := dkwJ12_max_0 ++ []
theorem dksJ12_max_0 : cJ12_max.data.toList.drop 0 = dktJ12_max_0 := by decide +kernel
theorem dJ12_max_0 : decode cJ12_max 0 = .ok (.iload_n 0, 1) := dk_26 (dk_at dksJ12_max_0 0 rfl rfl)
theorem dJ12_max_1 : decode cJ12_max 1 = .ok (.iload_n 1, 1) := dk_27 (dk_at dksJ12_max_0 1 rfl rfl)
theorem dJ12_max_2 : decode cJ12_max 2 = .ok (.if_icmp .lt 7, 3) := dk_161 0 7 (dk_at dksJ12_max_0 2 rfl rfl)
theorem dJ12_max_5 : decode cJ12_max 5 = .ok (.iload_n 0, 1) := dk_26 (dk_at dksJ12_max_0 5 rfl rfl)
theorem dJ12_max_6 : decode cJ12_max 6 = .ok (.goto 4, 3) := dk_167 0 4 (dk_at dksJ12_max_0 6 rfl rfl)
theorem dJ12_max_9 : decode cJ12_max 9 = .ok (.iload_n 1, 1) := dk_27 (dk_at dksJ12_max_0 9 rfl rfl)
theorem dJ12_max_10 : decode cJ12_max 10 = .ok (.ireturn, 1) := dk_172 (dk_at dksJ12_max_0 10 rfl rfl)
theorem q109 : (Jvm.Cond.initialized "java/lang/Math") ∈ lw_all := lw_g (lw_at lw_m1 16 rfl) rfl
theorem q450 : (Jvm.Cond.static ({ cls := "java/lang/Math", name := "min", desc := "(II)I" } : Jvm.MethodName)) ∈ lw_all := lw_g (lw_at lw_m2 117 rfl) rfl
theorem q451 : (Jvm.Cond.code ({ cls := "java/lang/Math", name := "min", desc := "(II)I" } : Jvm.MethodName) prog_23_method_69_code (2 : Nat) (Option.some Jvm.ClassFile.FieldType.int)) ∈ lw_all := lw_g (lw_at lw_m2 118 rfl) rfl
theorem q489 : (Jvm.Cond.static ({ cls := "java/lang/Math", name := "max", desc := "(II)I" } : Jvm.MethodName)) ∈ lw_all := lw_g (lw_at lw_m2 156 rfl) rfl
theorem q490 : (Jvm.Cond.code ({ cls := "java/lang/Math", name := "max", desc := "(II)I" } : Jvm.MethodName) prog_23_method_65_code (2 : Nat) (Option.some Jvm.ClassFile.FieldType.int)) ∈ lw_all := lw_g (lw_at lw_m2 157 rfl) rfl
/-! java/lang/IndexOutOfBoundsException -/
set_option maxRecDepth 100000
def RJ13 : String := "java/lang/IndexOutOfBoundsException"
def TJ13 : u_T := fun k => match k with
  | 0 => ("java/lang/Throwable", "cause", "Ljava/lang/Throwable;", false)
  | 1 => ("java/lang/Throwable", "stackTrace", "[Ljava/lang/StackTraceElement;", false)
  | 2 => ("java/lang/Throwable", "suppressedExceptions", "Ljava/util/List;", false)
  | 3 => ("java/lang/Throwable", "detailMessage", "Ljava/lang/String;", false)
  | 4 => ("java/lang/Throwable", "backtrace", "Ljava/lang/Object;", false)
  | _ => ("java/lang/Throwable", "depth", "I", false)
def tyJ13 : Nat → FieldType := fun k => match k with
  | 0 => .object "java/lang/Throwable"
  | 1 => .array (.object "java/lang/StackTraceElement")
  | 2 => .object "java/util/List"
  | 3 => .object "java/lang/String"
  | 4 => .object "java/lang/Object"
  | _ => .int
abbrev wsJ130 : List Cond := u_ws RJ13 TJ13 6
theorem nmJ13 : ∀ a, a < 6 → ∀ b, b < 6 → a ≠ b → (TJ13 a).2.1 ≠ (TJ13 b).2.1 := by decide +kernel
theorem tyJ13_ok : ∀ k, k < 6 → parseFieldDescriptor (TJ13 k).2.2.1 = some (tyJ13 k) := by decide +kernel
abbrev cJ13_init : ByteArray := prog_20_method_2_code
def yJ13_init : MethodName := ⟨RJ13, "<init>", "(Ljava/lang/String;)V"⟩
def dkwJ13_init_0 : List UInt8 := [42, 43, 183, 0, 7, 177]
abbrev dktJ13_init_0 : List UInt8 := dkwJ13_init_0 ++ []
theorem dksJ13_init_0 : cJ13_init.data.toList.drop 0 = dktJ13_init_0 := by decide +kernel
theorem dJ13_init_0 : decode cJ13_init 0 = .ok (.aload_n 0, 1) := dk_42 (dk_at dksJ13_init_0 0 rfl rfl)
theorem dJ13_init_1 : decode cJ13_init 1 = .ok (.aload_n 1, 1) := dk_43 (dk_at dksJ13_init_0 1 rfl rfl)
theorem dJ13_init_2 : decode cJ13_init 2 = .ok (.invokespecial 7, 3) := dk_183 0 7 (dk_at dksJ13_init_0 2 rfl rfl)
theorem dJ13_init_5 : decode cJ13_init 5 = .ok (.return_, 1) := dk_177 (dk_at dksJ13_init_0 5 rfl rfl)
abbrev cJ13_init_2 : ByteArray := prog_20_method_1_code
def yJ13_init_2 : MethodName := ⟨RJ13, "<init>", "()V"⟩
theorem dJ13_init_2_0 : decode cJ13_init_2 0 = .ok (.aload_n 0, 1) := by decide +kernel
theorem dJ13_init_2_1 : decode cJ13_init_2 1 = .ok (.invokespecial 1, 3) := by decide +kernel
theorem dJ13_init_2_4 : decode cJ13_init_2 4 = .ok (.return_, 1) := by decide +kernel
theorem q111 : (Jvm.Cond.initialized "java/lang/IndexOutOfBoundsException") ∈ lw_all := lw_g (lw_at lw_m1 18 rfl) rfl
theorem q388 : (Jvm.Cond.selects "java/lang/IndexOutOfBoundsException" ({ cls := "java/lang/Throwable", name := "fillInStackTrace", desc := "()Ljava/lang/Throwable;" } : Jvm.MethodName) ({ cls := "java/lang/Throwable", name := "fillInStackTrace", desc := "()Ljava/lang/Throwable;" } : Jvm.MethodName)) ∈ lw_all := lw_g (lw_at lw_m2 55 rfl) rfl
theorem q436 : (Jvm.Cond.selects "java/lang/IndexOutOfBoundsException" ({ cls := "java/lang/Object", name := "getClass", desc := "()Ljava/lang/Class;" } : Jvm.MethodName) ({ cls := "java/lang/Object", name := "getClass", desc := "()Ljava/lang/Class;" } : Jvm.MethodName)) ∈ lw_all := lw_g (lw_at lw_m2 103 rfl) rfl
theorem q793 : (Jvm.Cond.instanceMethod ({ cls := "java/lang/IndexOutOfBoundsException", name := "<init>", desc := "(Ljava/lang/String;)V" } : Jvm.MethodName)) ∈ lw_all := lw_g (lw_at lw_m3 220 rfl) rfl
theorem q794 : (Jvm.Cond.code ({ cls := "java/lang/IndexOutOfBoundsException", name := "<init>", desc := "(Ljava/lang/String;)V" } : Jvm.MethodName) prog_20_method_2_code (2 : Nat) (Option.none : Option Jvm.ClassFile.FieldType)) ∈ lw_all := lw_g (lw_at lw_m3 221 rfl) rfl
theorem q795 : (Jvm.Cond.methodLink "java/lang/IndexOutOfBoundsException" (7 : Nat) ({ cls := "java/lang/RuntimeException", name := "<init>", desc := "(Ljava/lang/String;)V" } : Jvm.MethodName)) ∈ lw_all := lw_g (lw_at lw_m3 222 rfl) rfl
theorem q818 : (Jvm.Cond.declares ({ cls := "java/lang/IndexOutOfBoundsException", name := "<init>", desc := "()V" } : Jvm.MethodName)) ∈ lw_tbl := lw_at lw_m4 5 rfl
theorem q819 : (Jvm.Cond.declares ({ cls := "java/lang/IndexOutOfBoundsException", name := "<init>", desc := "(Ljava/lang/String;)V" } : Jvm.MethodName)) ∈ lw_tbl := lw_at lw_m4 6 rfl
theorem q1191 : (Jvm.Cond.instantiable "java/lang/IndexOutOfBoundsException" (6 : Nat)) ∈ lw_all := lw_g (lw_at lw_m5 138 rfl) rfl
theorem q1192 : (Jvm.Cond.castable "java/lang/IndexOutOfBoundsException" "java/lang/IndexOutOfBoundsException") ∈ lw_tbl := lw_at lw_m5 139 rfl
theorem q1193 : (Jvm.Cond.selects "java/lang/IndexOutOfBoundsException" ({ cls := "java/lang/Throwable", name := "fillInStackTrace", desc := "(I)Ljava/lang/Throwable;" } : Jvm.MethodName) ({ cls := "java/lang/Throwable", name := "fillInStackTrace", desc := "(I)Ljava/lang/Throwable;" } : Jvm.MethodName)) ∈ lw_all := lw_g (lw_at lw_m5 140 rfl) rfl
theorem q1194 : (Jvm.Cond.lays "java/lang/IndexOutOfBoundsException" "java/lang/Throwable" "cause" "Ljava/lang/Throwable;") ∈ lw_all := lw_g (lw_at lw_m5 141 rfl) rfl
theorem q1195 : (Jvm.Cond.lays "java/lang/IndexOutOfBoundsException" "java/lang/Throwable" "stackTrace" "[Ljava/lang/StackTraceElement;") ∈ lw_all := lw_g (lw_at lw_m5 142 rfl) rfl
theorem q1196 : (Jvm.Cond.lays "java/lang/IndexOutOfBoundsException" "java/lang/Throwable" "suppressedExceptions" "Ljava/util/List;") ∈ lw_all := lw_g (lw_at lw_m5 143 rfl) rfl
theorem q1197 : (Jvm.Cond.lays "java/lang/IndexOutOfBoundsException" "java/lang/Throwable" "detailMessage" "Ljava/lang/String;") ∈ lw_all := lw_g (lw_at lw_m5 144 rfl) rfl
theorem q1198 : (Jvm.Cond.lays "java/lang/IndexOutOfBoundsException" "java/lang/Throwable" "backtrace" "Ljava/lang/Object;") ∈ lw_all := lw_g (lw_at lw_m5 145 rfl) rfl
theorem q1200 : (Jvm.Cond.instanceMethod ({ cls := "java/lang/IndexOutOfBoundsException", name := "<init>", desc := "()V" } : Jvm.MethodName)) ∈ lw_all := lw_g (lw_at lw_m5 147 rfl) rfl
theorem q1201 : (Jvm.Cond.code ({ cls := "java/lang/IndexOutOfBoundsException", name := "<init>", desc := "()V" } : Jvm.MethodName) prog_20_method_1_code (1 : Nat) (Option.none : Option Jvm.ClassFile.FieldType)) ∈ lw_all := lw_g (lw_at lw_m5 148 rfl) rfl
theorem q1202 : (Jvm.Cond.methodLink "java/lang/IndexOutOfBoundsException" (1 : Nat) ({ cls := "java/lang/RuntimeException", name := "<init>", desc := "()V" } : Jvm.MethodName)) ∈ lw_all := lw_g (lw_at lw_m5 149 rfl) rfl
theorem q1203 : (Jvm.Cond.lays "java/lang/IndexOutOfBoundsException" "java/lang/Throwable" "depth" "I") ∈ lw_all := lw_g (lw_at lw_m5 150 rfl) rfl
theorem q1204 : (Jvm.Cond.superclass "java/lang/IndexOutOfBoundsException" "java/lang/RuntimeException") ∈ lw_all := lw_g (lw_at lw_m5 151 rfl) rfl
theorem q1814 : (Jvm.Cond.castable "java/lang/IndexOutOfBoundsException" "java/lang/Object") ∈ lw_tbl := lw_at lw_m8 41 rfl
theorem in_J13 : ∀ w ∈ wsJ130, w ∈ lw_all := lw_in wsJ130 [1194, 1195, 1196, 1197, 1198, 1203] (by decide +kernel) (by decide +kernel)
/-! java/lang/ArrayIndexOutOfBoundsException -/
set_option maxRecDepth 100000
def RJ14 : String := "java/lang/ArrayIndexOutOfBoundsException"
def TJ14 : u_T := fun k => match k with
  | 0 => ("java/lang/Throwable", "cause", "Ljava/lang/Throwable;", false)
  | 1 => ("java/lang/Throwable", "stackTrace", "[Ljava/lang/StackTraceElement;", false)
  | 2 => ("java/lang/Throwable", "suppressedExceptions", "Ljava/util/List;", false)
  | 3 => ("java/lang/Throwable", "detailMessage", "Ljava/lang/String;", false)
  | 4 => ("java/lang/Throwable", "backtrace", "Ljava/lang/Object;", false)
  | _ => ("java/lang/Throwable", "depth", "I", false)
def tyJ14 : Nat → FieldType := fun k => match k with
  | 0 => .object "java/lang/Throwable"
  | 1 => .array (.object "java/lang/StackTraceElement")
  | 2 => .object "java/util/List"
  | 3 => .object "java/lang/String"
  | 4 => .object "java/lang/Object"
  | _ => .int
abbrev wsJ140 : List Cond := u_ws RJ14 TJ14 6
theorem nmJ14 : ∀ a, a < 6 → ∀ b, b < 6 → a ≠ b → (TJ14 a).2.1 ≠ (TJ14 b).2.1 := by decide +kernel
theorem tyJ14_ok : ∀ k, k < 6 → parseFieldDescriptor (TJ14 k).2.2.1 = some (tyJ14 k) := by decide +kernel
abbrev cJ14_init : ByteArray := prog_12_method_3_code
def yJ14_init : MethodName := ⟨RJ14, "<init>", "(I)V"⟩
def dkwJ14_init_0 : List UInt8 := [42, 187, 0, 10, 89, 183, 0, 12, 18, 13, 182, 0, 15, 27, 182, 0, 19, 182, 0, 22, 183, 0, 7, 177]
abbrev dktJ14_init_0 : List UInt8 := dkwJ14_init_0 ++ []
theorem dksJ14_init_0 : cJ14_init.data.toList.drop 0 = dktJ14_init_0 := by decide +kernel
theorem dJ14_init_0 : decode cJ14_init 0 = .ok (.aload_n 0, 1) := dk_42 (dk_at dksJ14_init_0 0 rfl rfl)
theorem dJ14_init_1 : decode cJ14_init 1 = .ok (.new 10, 3) := dk_187 0 10 (dk_at dksJ14_init_0 1 rfl rfl)
theorem dJ14_init_4 : decode cJ14_init 4 = .ok (.dup, 1) := dk_89 (dk_at dksJ14_init_0 4 rfl rfl)
theorem dJ14_init_5 : decode cJ14_init 5 = .ok (.invokespecial 12, 3) := dk_183 0 12 (dk_at dksJ14_init_0 5 rfl rfl)
theorem dJ14_init_8 : decode cJ14_init 8 = .ok (.ldc 13, 2) := dk_18 13 (dk_at dksJ14_init_0 8 rfl rfl)
theorem dJ14_init_10 : decode cJ14_init 10 = .ok (.invokevirtual 15, 3) := dk_182 0 15 (dk_at dksJ14_init_0 10 rfl rfl)
theorem dJ14_init_13 : decode cJ14_init 13 = .ok (.iload_n 1, 1) := dk_27 (dk_at dksJ14_init_0 13 rfl rfl)
theorem dJ14_init_14 : decode cJ14_init 14 = .ok (.invokevirtual 19, 3) := dk_182 0 19 (dk_at dksJ14_init_0 14 rfl rfl)
theorem dJ14_init_17 : decode cJ14_init 17 = .ok (.invokevirtual 22, 3) := dk_182 0 22 (dk_at dksJ14_init_0 17 rfl rfl)
theorem dJ14_init_20 : decode cJ14_init 20 = .ok (.invokespecial 7, 3) := dk_183 0 7 (dk_at dksJ14_init_0 20 rfl rfl)
theorem dJ14_init_23 : decode cJ14_init 23 = .ok (.return_, 1) := dk_177 (dk_at dksJ14_init_0 23 rfl rfl)
abbrev cJ14_init_2 : ByteArray := prog_12_method_2_code
def yJ14_init_2 : MethodName := ⟨RJ14, "<init>", "(Ljava/lang/String;)V"⟩
def dkwJ14_init_2_0 : List UInt8 := [42, 43, 183, 0, 7, 177]
abbrev dktJ14_init_2_0 : List UInt8 := dkwJ14_init_2_0 ++ []
theorem dksJ14_init_2_0 : cJ14_init_2.data.toList.drop 0 = dktJ14_init_2_0 := by decide +kernel
theorem dJ14_init_2_0 : decode cJ14_init_2 0 = .ok (.aload_n 0, 1) := dk_42 (dk_at dksJ14_init_2_0 0 rfl rfl)
theorem dJ14_init_2_1 : decode cJ14_init_2 1 = .ok (.aload_n 1, 1) := dk_43 (dk_at dksJ14_init_2_0 1 rfl rfl)
theorem dJ14_init_2_2 : decode cJ14_init_2 2 = .ok (.invokespecial 7, 3) := dk_183 0 7 (dk_at dksJ14_init_2_0 2 rfl rfl)
theorem dJ14_init_2_5 : decode cJ14_init_2 5 = .ok (.return_, 1) := dk_177 (dk_at dksJ14_init_2_0 5 rfl rfl)
theorem q112 : (Jvm.Cond.initialized "java/lang/ArrayIndexOutOfBoundsException") ∈ lw_all := lw_g (lw_at lw_m1 19 rfl) rfl
theorem q386 : (Jvm.Cond.selects "java/lang/ArrayIndexOutOfBoundsException" ({ cls := "java/lang/Throwable", name := "fillInStackTrace", desc := "()Ljava/lang/Throwable;" } : Jvm.MethodName) ({ cls := "java/lang/Throwable", name := "fillInStackTrace", desc := "()Ljava/lang/Throwable;" } : Jvm.MethodName)) ∈ lw_all := lw_g (lw_at lw_m2 53 rfl) rfl
theorem q433 : (Jvm.Cond.selects "java/lang/ArrayIndexOutOfBoundsException" ({ cls := "java/lang/Object", name := "getClass", desc := "()Ljava/lang/Class;" } : Jvm.MethodName) ({ cls := "java/lang/Object", name := "getClass", desc := "()Ljava/lang/Class;" } : Jvm.MethodName)) ∈ lw_all := lw_g (lw_at lw_m2 100 rfl) rfl
theorem q816 : (Jvm.Cond.instantiable "java/lang/ArrayIndexOutOfBoundsException" (6 : Nat)) ∈ lw_all := lw_g (lw_at lw_m4 3 rfl) rfl
theorem q817 : (Jvm.Cond.castable "java/lang/ArrayIndexOutOfBoundsException" "java/lang/ArrayIndexOutOfBoundsException") ∈ lw_tbl := lw_at lw_m4 4 rfl
theorem q820 : (Jvm.Cond.selects "java/lang/ArrayIndexOutOfBoundsException" ({ cls := "java/lang/Throwable", name := "fillInStackTrace", desc := "(I)Ljava/lang/Throwable;" } : Jvm.MethodName) ({ cls := "java/lang/Throwable", name := "fillInStackTrace", desc := "(I)Ljava/lang/Throwable;" } : Jvm.MethodName)) ∈ lw_all := lw_g (lw_at lw_m4 7 rfl) rfl
theorem q821 : (Jvm.Cond.lays "java/lang/ArrayIndexOutOfBoundsException" "java/lang/Throwable" "cause" "Ljava/lang/Throwable;") ∈ lw_all := lw_g (lw_at lw_m4 8 rfl) rfl
theorem q822 : (Jvm.Cond.lays "java/lang/ArrayIndexOutOfBoundsException" "java/lang/Throwable" "stackTrace" "[Ljava/lang/StackTraceElement;") ∈ lw_all := lw_g (lw_at lw_m4 9 rfl) rfl
theorem q823 : (Jvm.Cond.lays "java/lang/ArrayIndexOutOfBoundsException" "java/lang/Throwable" "suppressedExceptions" "Ljava/util/List;") ∈ lw_all := lw_g (lw_at lw_m4 10 rfl) rfl
theorem q824 : (Jvm.Cond.lays "java/lang/ArrayIndexOutOfBoundsException" "java/lang/Throwable" "detailMessage" "Ljava/lang/String;") ∈ lw_all := lw_g (lw_at lw_m4 11 rfl) rfl
theorem q825 : (Jvm.Cond.lays "java/lang/ArrayIndexOutOfBoundsException" "java/lang/Throwable" "backtrace" "Ljava/lang/Object;") ∈ lw_all := lw_g (lw_at lw_m4 12 rfl) rfl
theorem q827 : (Jvm.Cond.instanceMethod ({ cls := "java/lang/ArrayIndexOutOfBoundsException", name := "<init>", desc := "(I)V" } : Jvm.MethodName)) ∈ lw_all := lw_g (lw_at lw_m4 14 rfl) rfl
theorem q828 : (Jvm.Cond.code ({ cls := "java/lang/ArrayIndexOutOfBoundsException", name := "<init>", desc := "(I)V" } : Jvm.MethodName) prog_12_method_3_code (2 : Nat) (Option.none : Option Jvm.ClassFile.FieldType)) ∈ lw_all := lw_g (lw_at lw_m4 15 rfl) rfl
theorem q829 : (Jvm.Cond.classLink "java/lang/ArrayIndexOutOfBoundsException" (10 : Nat) "java/lang/StringBuilder") ∈ lw_all := lw_g (lw_at lw_m4 16 rfl) rfl
theorem q830 : (Jvm.Cond.methodLink "java/lang/ArrayIndexOutOfBoundsException" (12 : Nat) ({ cls := "java/lang/StringBuilder", name := "<init>", desc := "()V" } : Jvm.MethodName)) ∈ lw_all := lw_g (lw_at lw_m4 17 rfl) rfl
theorem q831 : (Jvm.Cond.stringRef "java/lang/ArrayIndexOutOfBoundsException" (13 : Nat) "Array index out of range: ") ∈ lw_tbl := lw_at lw_m4 18 rfl
theorem q832 : (Jvm.Cond.methodLink "java/lang/ArrayIndexOutOfBoundsException" (15 : Nat) ({ cls := "java/lang/StringBuilder", name := "append", desc := "(Ljava/lang/String;)Ljava/lang/StringBuilder;" } : Jvm.MethodName)) ∈ lw_all := lw_g (lw_at lw_m4 19 rfl) rfl
theorem q833 : (Jvm.Cond.methodLink "java/lang/ArrayIndexOutOfBoundsException" (19 : Nat) ({ cls := "java/lang/StringBuilder", name := "append", desc := "(I)Ljava/lang/StringBuilder;" } : Jvm.MethodName)) ∈ lw_all := lw_g (lw_at lw_m4 20 rfl) rfl
theorem q834 : (Jvm.Cond.methodLink "java/lang/ArrayIndexOutOfBoundsException" (22 : Nat) ({ cls := "java/lang/StringBuilder", name := "toString", desc := "()Ljava/lang/String;" } : Jvm.MethodName)) ∈ lw_all := lw_g (lw_at lw_m4 21 rfl) rfl
theorem q835 : (Jvm.Cond.methodLink "java/lang/ArrayIndexOutOfBoundsException" (7 : Nat) ({ cls := "java/lang/IndexOutOfBoundsException", name := "<init>", desc := "(Ljava/lang/String;)V" } : Jvm.MethodName)) ∈ lw_all := lw_g (lw_at lw_m4 22 rfl) rfl
theorem q836 : (Jvm.Cond.lays "java/lang/ArrayIndexOutOfBoundsException" "java/lang/Throwable" "depth" "I") ∈ lw_all := lw_g (lw_at lw_m4 23 rfl) rfl
theorem q837 : (Jvm.Cond.superclass "java/lang/ArrayIndexOutOfBoundsException" "java/lang/IndexOutOfBoundsException") ∈ lw_all := lw_g (lw_at lw_m4 24 rfl) rfl
theorem q1177 : (Jvm.Cond.instanceMethod ({ cls := "java/lang/ArrayIndexOutOfBoundsException", name := "<init>", desc := "(Ljava/lang/String;)V" } : Jvm.MethodName)) ∈ lw_all := lw_g (lw_at lw_m5 124 rfl) rfl
theorem q1178 : (Jvm.Cond.code ({ cls := "java/lang/ArrayIndexOutOfBoundsException", name := "<init>", desc := "(Ljava/lang/String;)V" } : Jvm.MethodName) prog_12_method_2_code (2 : Nat) (Option.none : Option Jvm.ClassFile.FieldType)) ∈ lw_all := lw_g (lw_at lw_m5 125 rfl) rfl
theorem q1804 : (Jvm.Cond.castable "java/lang/ArrayIndexOutOfBoundsException" "java/lang/IndexOutOfBoundsException") ∈ lw_tbl := lw_at lw_m8 31 rfl
theorem q1813 : (Jvm.Cond.castable "java/lang/ArrayIndexOutOfBoundsException" "java/lang/Object") ∈ lw_tbl := lw_at lw_m8 40 rfl
theorem in_J14 : ∀ w ∈ wsJ140, w ∈ lw_all := lw_in wsJ140 [821, 822, 823, 824, 825, 836] (by decide +kernel) (by decide +kernel)
/-! jdk/internal/util/ArraysSupport -/
set_option maxRecDepth 100000
def RJ15 : String := "jdk/internal/util/ArraysSupport"
abbrev cJ15_newLength : ByteArray := prog_49_method_27_code
def yJ15_newLength : MethodName := ⟨RJ15, "newLength", "(III)I"⟩
def dkwJ15_newLength_1 : List UInt8 := [184, 0, 201, 172]
abbrev dktJ15_newLength_1 : List UInt8 := dkwJ15_newLength_1 ++ []
def dkwJ15_newLength_0 : List UInt8 := [26, 27, 28, 184, 0, 194, 96, 62, 3, 29, 162, 0, 11, 29, 18, 200, 163, 0, 5, 29, 172, 26, 27]
abbrev dktJ15_newLength_0 : List UInt8 := dkwJ15_newLength_0 ++ dktJ15_newLength_1
theorem dksJ15_newLength_0 : cJ15_newLength.data.toList.drop 0 = dktJ15_newLength_0 := by decide +kernel
theorem dksJ15_newLength_1 : cJ15_newLength.data.toList.drop 23 = dktJ15_newLength_1 := dk_seg dksJ15_newLength_0 23 rfl rfl
theorem dJ15_newLength_0 : decode cJ15_newLength 0 = .ok (.iload_n 0, 1) := dk_26 (dk_at dksJ15_newLength_0 0 rfl rfl)
theorem dJ15_newLength_1 : decode cJ15_newLength 1 = .ok (.iload_n 1, 1) := dk_27 (dk_at dksJ15_newLength_0 1 rfl rfl)
theorem dJ15_newLength_2 : decode cJ15_newLength 2 = .ok (.iload_n 2, 1) := dk_28 (dk_at dksJ15_newLength_0 2 rfl rfl)
theorem dJ15_newLength_3 : decode cJ15_newLength 3 = .ok (.invokestatic 194, 3) := dk_184 0 194 (dk_at dksJ15_newLength_0 3 rfl rfl)
theorem dJ15_newLength_6 : decode cJ15_newLength 6 = .ok (.iadd, 1) := dk_96 (dk_at dksJ15_newLength_0 6 rfl rfl)
theorem dJ15_newLength_7 : decode cJ15_newLength 7 = .ok (.istore_n 3, 1) := dk_62 (dk_at dksJ15_newLength_0 7 rfl rfl)
theorem dJ15_newLength_8 : decode cJ15_newLength 8 = .ok (.iconst 0, 1) := dk_3 (dk_at dksJ15_newLength_0 8 rfl rfl)
theorem dJ15_newLength_9 : decode cJ15_newLength 9 = .ok (.iload_n 3, 1) := dk_29 (dk_at dksJ15_newLength_0 9 rfl rfl)
theorem dJ15_newLength_10 : decode cJ15_newLength 10 = .ok (.if_icmp .ge 11, 3) := dk_162 0 11 (dk_at dksJ15_newLength_0 10 rfl rfl)
theorem dJ15_newLength_13 : decode cJ15_newLength 13 = .ok (.iload_n 3, 1) := dk_29 (dk_at dksJ15_newLength_0 13 rfl rfl)
theorem dJ15_newLength_14 : decode cJ15_newLength 14 = .ok (.ldc 200, 2) := dk_18 200 (dk_at dksJ15_newLength_0 14 rfl rfl)
theorem dJ15_newLength_16 : decode cJ15_newLength 16 = .ok (.if_icmp .gt 5, 3) := dk_163 0 5 (dk_at dksJ15_newLength_0 16 rfl rfl)
theorem dJ15_newLength_19 : decode cJ15_newLength 19 = .ok (.iload_n 3, 1) := dk_29 (dk_at dksJ15_newLength_0 19 rfl rfl)
theorem dJ15_newLength_20 : decode cJ15_newLength 20 = .ok (.ireturn, 1) := dk_172 (dk_at dksJ15_newLength_0 20 rfl rfl)
theorem dJ15_newLength_21 : decode cJ15_newLength 21 = .ok (.iload_n 0, 1) := dk_26 (dk_at dksJ15_newLength_0 21 rfl rfl)
theorem dJ15_newLength_22 : decode cJ15_newLength 22 = .ok (.iload_n 1, 1) := dk_27 (dk_at dksJ15_newLength_0 22 rfl rfl)
theorem dJ15_newLength_23 : decode cJ15_newLength 23 = .ok (.invokestatic 201, 3) := dk_184 0 201 (dk_at dksJ15_newLength_1 0 rfl rfl)
theorem dJ15_newLength_26 : decode cJ15_newLength 26 = .ok (.ireturn, 1) := dk_172 (dk_at dksJ15_newLength_1 3 rfl rfl)
abbrev cJ15_hugeLength : ByteArray := prog_49_method_28_code
def yJ15_hugeLength : MethodName := ⟨RJ15, "hugeLength", "(II)I"⟩
def dkwJ15_hugeLength_2 : List UInt8 := [191, 28, 18, 200, 163, 0, 6, 18, 200, 172, 28, 172]
abbrev dktJ15_hugeLength_2 : List UInt8 := dkwJ15_hugeLength_2 ++ []
def dkwJ15_hugeLength_1 : List UInt8 := [26, 182, 0, 98, 18, 208, 182, 0, 94, 27, 182, 0, 98, 18, 210, 182, 0, 94, 182, 0, 101, 183, 0, 212]
abbrev dktJ15_hugeLength_1 : List UInt8 := dkwJ15_hugeLength_1 ++ dktJ15_hugeLength_2
def dkwJ15_hugeLength_0 : List UInt8 := [26, 27, 96, 61, 28, 156, 0, 44, 187, 0, 204, 89, 187, 0, 89, 89, 183, 0, 91, 18, 206, 182, 0, 94]
abbrev dktJ15_hugeLength_0 : List UInt8 := dkwJ15_hugeLength_0 ++ dktJ15_hugeLength_1
theorem dksJ15_hugeLength_0 : cJ15_hugeLength.data.toList.drop 0 = dktJ15_hugeLength_0 := by decide +kernel
theorem dksJ15_hugeLength_1 : cJ15_hugeLength.data.toList.drop 24 = dktJ15_hugeLength_1 := dk_seg dksJ15_hugeLength_0 24 rfl rfl
theorem dksJ15_hugeLength_2 : cJ15_hugeLength.data.toList.drop 48 = dktJ15_hugeLength_2 := dk_seg dksJ15_hugeLength_1 24 rfl rfl
theorem dJ15_hugeLength_0 : decode cJ15_hugeLength 0 = .ok (.iload_n 0, 1) := dk_26 (dk_at dksJ15_hugeLength_0 0 rfl rfl)
theorem dJ15_hugeLength_1 : decode cJ15_hugeLength 1 = .ok (.iload_n 1, 1) := dk_27 (dk_at dksJ15_hugeLength_0 1 rfl rfl)
theorem dJ15_hugeLength_2 : decode cJ15_hugeLength 2 = .ok (.iadd, 1) := dk_96 (dk_at dksJ15_hugeLength_0 2 rfl rfl)
theorem dJ15_hugeLength_3 : decode cJ15_hugeLength 3 = .ok (.istore_n 2, 1) := dk_61 (dk_at dksJ15_hugeLength_0 3 rfl rfl)
theorem dJ15_hugeLength_4 : decode cJ15_hugeLength 4 = .ok (.iload_n 2, 1) := dk_28 (dk_at dksJ15_hugeLength_0 4 rfl rfl)
theorem dJ15_hugeLength_5 : decode cJ15_hugeLength 5 = .ok (.ifCond .ge 44, 3) := dk_156 0 44 (dk_at dksJ15_hugeLength_0 5 rfl rfl)
theorem dJ15_hugeLength_8 : decode cJ15_hugeLength 8 = .ok (.new 204, 3) := dk_187 0 204 (dk_at dksJ15_hugeLength_0 8 rfl rfl)
theorem dJ15_hugeLength_11 : decode cJ15_hugeLength 11 = .ok (.dup, 1) := dk_89 (dk_at dksJ15_hugeLength_0 11 rfl rfl)
theorem dJ15_hugeLength_12 : decode cJ15_hugeLength 12 = .ok (.new 89, 3) := dk_187 0 89 (dk_at dksJ15_hugeLength_0 12 rfl rfl)
theorem dJ15_hugeLength_15 : decode cJ15_hugeLength 15 = .ok (.dup, 1) := dk_89 (dk_at dksJ15_hugeLength_0 15 rfl rfl)
theorem dJ15_hugeLength_16 : decode cJ15_hugeLength 16 = .ok (.invokespecial 91, 3) := dk_183 0 91 (dk_at dksJ15_hugeLength_0 16 rfl rfl)
theorem dJ15_hugeLength_19 : decode cJ15_hugeLength 19 = .ok (.ldc 206, 2) := dk_18 206 (dk_at dksJ15_hugeLength_0 19 rfl rfl)
theorem dJ15_hugeLength_21 : decode cJ15_hugeLength 21 = .ok (.invokevirtual 94, 3) := dk_182 0 94 (dk_at dksJ15_hugeLength_0 21 rfl rfl)
theorem dJ15_hugeLength_24 : decode cJ15_hugeLength 24 = .ok (.iload_n 0, 1) := dk_26 (dk_at dksJ15_hugeLength_1 0 rfl rfl)
theorem dJ15_hugeLength_25 : decode cJ15_hugeLength 25 = .ok (.invokevirtual 98, 3) := dk_182 0 98 (dk_at dksJ15_hugeLength_1 1 rfl rfl)
theorem dJ15_hugeLength_28 : decode cJ15_hugeLength 28 = .ok (.ldc 208, 2) := dk_18 208 (dk_at dksJ15_hugeLength_1 4 rfl rfl)
theorem dJ15_hugeLength_30 : decode cJ15_hugeLength 30 = .ok (.invokevirtual 94, 3) := dk_182 0 94 (dk_at dksJ15_hugeLength_1 6 rfl rfl)
theorem dJ15_hugeLength_33 : decode cJ15_hugeLength 33 = .ok (.iload_n 1, 1) := dk_27 (dk_at dksJ15_hugeLength_1 9 rfl rfl)
theorem dJ15_hugeLength_34 : decode cJ15_hugeLength 34 = .ok (.invokevirtual 98, 3) := dk_182 0 98 (dk_at dksJ15_hugeLength_1 10 rfl rfl)
theorem dJ15_hugeLength_37 : decode cJ15_hugeLength 37 = .ok (.ldc 210, 2) := dk_18 210 (dk_at dksJ15_hugeLength_1 13 rfl rfl)
theorem dJ15_hugeLength_39 : decode cJ15_hugeLength 39 = .ok (.invokevirtual 94, 3) := dk_182 0 94 (dk_at dksJ15_hugeLength_1 15 rfl rfl)
theorem dJ15_hugeLength_42 : decode cJ15_hugeLength 42 = .ok (.invokevirtual 101, 3) := dk_182 0 101 (dk_at dksJ15_hugeLength_1 18 rfl rfl)
theorem dJ15_hugeLength_45 : decode cJ15_hugeLength 45 = .ok (.invokespecial 212, 3) := dk_183 0 212 (dk_at dksJ15_hugeLength_1 21 rfl rfl)
theorem dJ15_hugeLength_48 : decode cJ15_hugeLength 48 = .ok (.athrow, 1) := dk_191 (dk_at dksJ15_hugeLength_2 0 rfl rfl)
theorem dJ15_hugeLength_49 : decode cJ15_hugeLength 49 = .ok (.iload_n 2, 1) := dk_28 (dk_at dksJ15_hugeLength_2 1 rfl rfl)
theorem dJ15_hugeLength_50 : decode cJ15_hugeLength 50 = .ok (.ldc 200, 2) := dk_18 200 (dk_at dksJ15_hugeLength_2 2 rfl rfl)
theorem dJ15_hugeLength_52 : decode cJ15_hugeLength 52 = .ok (.if_icmp .gt 6, 3) := dk_163 0 6 (dk_at dksJ15_hugeLength_2 4 rfl rfl)
theorem dJ15_hugeLength_55 : decode cJ15_hugeLength 55 = .ok (.ldc 200, 2) := dk_18 200 (dk_at dksJ15_hugeLength_2 7 rfl rfl)
theorem dJ15_hugeLength_57 : decode cJ15_hugeLength 57 = .ok (.ireturn, 1) := dk_172 (dk_at dksJ15_hugeLength_2 9 rfl rfl)
theorem dJ15_hugeLength_58 : decode cJ15_hugeLength 58 = .ok (.iload_n 2, 1) := dk_28 (dk_at dksJ15_hugeLength_2 10 rfl rfl)
theorem dJ15_hugeLength_59 : decode cJ15_hugeLength 59 = .ok (.ireturn, 1) := dk_172 (dk_at dksJ15_hugeLength_2 11 rfl rfl)
abbrev cJ15_vectorizedHashCode : ByteArray := prog_49_method_4_code
def yJ15_vectorizedHashCode : MethodName := ⟨RJ15, "vectorizedHashCode", "(Ljava/lang/Object;IIII)I"⟩
def dkwJ15_vectorizedHashCode_6 : List UInt8 := [183, 0, 91, 18, 92, 182, 0, 94, 21, 4, 182, 0, 98, 182, 0, 101, 183, 0, 105, 191, 172]
abbrev dktJ15_vectorizedHashCode_6 : List UInt8 := dkwJ15_vectorizedHashCode_6 ++ []
def dkwJ15_vectorizedHashCode_5 : List UInt8 := [167, 0, 44, 29, 42, 192, 0, 82, 27, 28, 184, 0, 84, 167, 0, 31, 187, 0, 87, 89, 187, 0, 89, 89]
abbrev dktJ15_vectorizedHashCode_5 : List UInt8 := dkwJ15_vectorizedHashCode_5 ++ dktJ15_vectorizedHashCode_6
def dkwJ15_vectorizedHashCode_4 : List UInt8 := [29, 42, 192, 0, 60, 27, 28, 184, 0, 75, 167, 0, 57, 29, 42, 192, 0, 77, 27, 28, 184, 0, 79]
abbrev dktJ15_vectorizedHashCode_4 : List UInt8 := dkwJ15_vectorizedHashCode_4 ++ dktJ15_vectorizedHashCode_5
def dkwJ15_vectorizedHashCode_3 : List UInt8 := [192, 0, 60, 27, 28, 184, 0, 66, 167, 0, 83, 29, 42, 192, 0, 69, 27, 28, 184, 0, 71, 167, 0, 70]
abbrev dktJ15_vectorizedHashCode_3 : List UInt8 := dkwJ15_vectorizedHashCode_3 ++ dktJ15_vectorizedHashCode_4
def dkwJ15_vectorizedHashCode_2 : List UInt8 := [29, 42, 192, 0, 60, 27, 28, 184, 0, 62, 167, 0, 103, 42, 193, 0, 60, 153, 0, 16, 29, 42]
abbrev dktJ15_vectorizedHashCode_2 : List UInt8 := dkwJ15_vectorizedHashCode_2 ++ dktJ15_vectorizedHashCode_3
def dkwJ15_vectorizedHashCode_1 : List UInt8 := [170, 0, 0, 0, 0, 127, 0, 0, 0, 4, 0, 0, 0, 10, 0, 0, 0, 42, 0, 0, 0, 55, 0, 0, 0, 127, 0, 0, 0, 127, 0, 0, 0, 88, 0, 0, 0, 101, 0, 0, 0, 114]
abbrev dktJ15_vectorizedHashCode_1 : List UInt8 := dkwJ15_vectorizedHashCode_1 ++ dktJ15_vectorizedHashCode_2
def dkwJ15_vectorizedHashCode_0 : List UInt8 := [21, 4]
abbrev dktJ15_vectorizedHashCode_0 : List UInt8 := dkwJ15_vectorizedHashCode_0 ++ dktJ15_vectorizedHashCode_1
theorem dksJ15_vectorizedHashCode_0 : cJ15_vectorizedHashCode.data.toList.drop 0 = dktJ15_vectorizedHashCode_0 := by decide +kernel
theorem dksJ15_vectorizedHashCode_1 : cJ15_vectorizedHashCode.data.toList.drop 2 = dktJ15_vectorizedHashCode_1 := dk_seg dksJ15_vectorizedHashCode_0 2 rfl rfl
theorem dksJ15_vectorizedHashCode_2 : cJ15_vectorizedHashCode.data.toList.drop 44 = dktJ15_vectorizedHashCode_2 := dk_seg dksJ15_vectorizedHashCode_1 42 rfl rfl
theorem dksJ15_vectorizedHashCode_3 : cJ15_vectorizedHashCode.data.toList.drop 66 = dktJ15_vectorizedHashCode_3 := dk_seg dksJ15_vectorizedHashCode_2 22 rfl rfl
theorem dksJ15_vectorizedHashCode_4 : cJ15_vectorizedHashCode.data.toList.drop 90 = dktJ15_vectorizedHashCode_4 := dk_seg dksJ15_vectorizedHashCode_3 24 rfl rfl
theorem dksJ15_vectorizedHashCode_5 : cJ15_vectorizedHashCode.data.toList.drop 113 = dktJ15_vectorizedHashCode_5 := dk_seg dksJ15_vectorizedHashCode_4 23 rfl rfl
theorem dksJ15_vectorizedHashCode_6 : cJ15_vectorizedHashCode.data.toList.drop 137 = dktJ15_vectorizedHashCode_6 := dk_seg dksJ15_vectorizedHashCode_5 24 rfl rfl
theorem dJ15_vectorizedHashCode_0 : decode cJ15_vectorizedHashCode 0 = .ok (.iload 4, 2) := dk_21 4 (dk_at dksJ15_vectorizedHashCode_0 0 rfl rfl)
theorem dJ15_vectorizedHashCode_2 : decode cJ15_vectorizedHashCode 2 = .ok (.tableswitch 127 4 10 #[42, 55, 127, 127, 88, 101, 114], 42) := by decide +kernel
theorem dJ15_vectorizedHashCode_44 : decode cJ15_vectorizedHashCode 44 = .ok (.iload_n 3, 1) := dk_29 (dk_at dksJ15_vectorizedHashCode_2 0 rfl rfl)
theorem dJ15_vectorizedHashCode_45 : decode cJ15_vectorizedHashCode 45 = .ok (.aload_n 0, 1) := dk_42 (dk_at dksJ15_vectorizedHashCode_2 1 rfl rfl)
theorem dJ15_vectorizedHashCode_46 : decode cJ15_vectorizedHashCode 46 = .ok (.checkcast 60, 3) := dk_192 0 60 (dk_at dksJ15_vectorizedHashCode_2 2 rfl rfl)
theorem dJ15_vectorizedHashCode_49 : decode cJ15_vectorizedHashCode 49 = .ok (.iload_n 1, 1) := dk_27 (dk_at dksJ15_vectorizedHashCode_2 5 rfl rfl)
theorem dJ15_vectorizedHashCode_50 : decode cJ15_vectorizedHashCode 50 = .ok (.iload_n 2, 1) := dk_28 (dk_at dksJ15_vectorizedHashCode_2 6 rfl rfl)
theorem dJ15_vectorizedHashCode_51 : decode cJ15_vectorizedHashCode 51 = .ok (.invokestatic 62, 3) := dk_184 0 62 (dk_at dksJ15_vectorizedHashCode_2 7 rfl rfl)
theorem dJ15_vectorizedHashCode_54 : decode cJ15_vectorizedHashCode 54 = .ok (.goto 103, 3) := dk_167 0 103 (dk_at dksJ15_vectorizedHashCode_2 10 rfl rfl)
theorem dJ15_vectorizedHashCode_57 : decode cJ15_vectorizedHashCode 57 = .ok (.aload_n 0, 1) := dk_42 (dk_at dksJ15_vectorizedHashCode_2 13 rfl rfl)
theorem dJ15_vectorizedHashCode_58 : decode cJ15_vectorizedHashCode 58 = .ok (.instanceof 60, 3) := dk_193 0 60 (dk_at dksJ15_vectorizedHashCode_2 14 rfl rfl)
theorem dJ15_vectorizedHashCode_61 : decode cJ15_vectorizedHashCode 61 = .ok (.ifCond .eq 16, 3) := dk_153 0 16 (dk_at dksJ15_vectorizedHashCode_2 17 rfl rfl)
theorem dJ15_vectorizedHashCode_64 : decode cJ15_vectorizedHashCode 64 = .ok (.iload_n 3, 1) := dk_29 (dk_at dksJ15_vectorizedHashCode_2 20 rfl rfl)
theorem dJ15_vectorizedHashCode_65 : decode cJ15_vectorizedHashCode 65 = .ok (.aload_n 0, 1) := dk_42 (dk_at dksJ15_vectorizedHashCode_2 21 rfl rfl)
theorem dJ15_vectorizedHashCode_66 : decode cJ15_vectorizedHashCode 66 = .ok (.checkcast 60, 3) := dk_192 0 60 (dk_at dksJ15_vectorizedHashCode_3 0 rfl rfl)
theorem dJ15_vectorizedHashCode_69 : decode cJ15_vectorizedHashCode 69 = .ok (.iload_n 1, 1) := dk_27 (dk_at dksJ15_vectorizedHashCode_3 3 rfl rfl)
theorem dJ15_vectorizedHashCode_70 : decode cJ15_vectorizedHashCode 70 = .ok (.iload_n 2, 1) := dk_28 (dk_at dksJ15_vectorizedHashCode_3 4 rfl rfl)
theorem dJ15_vectorizedHashCode_71 : decode cJ15_vectorizedHashCode 71 = .ok (.invokestatic 66, 3) := dk_184 0 66 (dk_at dksJ15_vectorizedHashCode_3 5 rfl rfl)
theorem dJ15_vectorizedHashCode_74 : decode cJ15_vectorizedHashCode 74 = .ok (.goto 83, 3) := dk_167 0 83 (dk_at dksJ15_vectorizedHashCode_3 8 rfl rfl)
theorem dJ15_vectorizedHashCode_77 : decode cJ15_vectorizedHashCode 77 = .ok (.iload_n 3, 1) := dk_29 (dk_at dksJ15_vectorizedHashCode_3 11 rfl rfl)
theorem dJ15_vectorizedHashCode_78 : decode cJ15_vectorizedHashCode 78 = .ok (.aload_n 0, 1) := dk_42 (dk_at dksJ15_vectorizedHashCode_3 12 rfl rfl)
theorem dJ15_vectorizedHashCode_79 : decode cJ15_vectorizedHashCode 79 = .ok (.checkcast 69, 3) := dk_192 0 69 (dk_at dksJ15_vectorizedHashCode_3 13 rfl rfl)
theorem dJ15_vectorizedHashCode_82 : decode cJ15_vectorizedHashCode 82 = .ok (.iload_n 1, 1) := dk_27 (dk_at dksJ15_vectorizedHashCode_3 16 rfl rfl)
theorem dJ15_vectorizedHashCode_83 : decode cJ15_vectorizedHashCode 83 = .ok (.iload_n 2, 1) := dk_28 (dk_at dksJ15_vectorizedHashCode_3 17 rfl rfl)
theorem dJ15_vectorizedHashCode_84 : decode cJ15_vectorizedHashCode 84 = .ok (.invokestatic 71, 3) := dk_184 0 71 (dk_at dksJ15_vectorizedHashCode_3 18 rfl rfl)
theorem dJ15_vectorizedHashCode_87 : decode cJ15_vectorizedHashCode 87 = .ok (.goto 70, 3) := dk_167 0 70 (dk_at dksJ15_vectorizedHashCode_3 21 rfl rfl)
theorem dJ15_vectorizedHashCode_90 : decode cJ15_vectorizedHashCode 90 = .ok (.iload_n 3, 1) := dk_29 (dk_at dksJ15_vectorizedHashCode_4 0 rfl rfl)
theorem dJ15_vectorizedHashCode_91 : decode cJ15_vectorizedHashCode 91 = .ok (.aload_n 0, 1) := dk_42 (dk_at dksJ15_vectorizedHashCode_4 1 rfl rfl)
theorem dJ15_vectorizedHashCode_92 : decode cJ15_vectorizedHashCode 92 = .ok (.checkcast 60, 3) := dk_192 0 60 (dk_at dksJ15_vectorizedHashCode_4 2 rfl rfl)
theorem dJ15_vectorizedHashCode_95 : decode cJ15_vectorizedHashCode 95 = .ok (.iload_n 1, 1) := dk_27 (dk_at dksJ15_vectorizedHashCode_4 5 rfl rfl)
theorem dJ15_vectorizedHashCode_96 : decode cJ15_vectorizedHashCode 96 = .ok (.iload_n 2, 1) := dk_28 (dk_at dksJ15_vectorizedHashCode_4 6 rfl rfl)
theorem dJ15_vectorizedHashCode_97 : decode cJ15_vectorizedHashCode 97 = .ok (.invokestatic 75, 3) := dk_184 0 75 (dk_at dksJ15_vectorizedHashCode_4 7 rfl rfl)
theorem dJ15_vectorizedHashCode_100 : decode cJ15_vectorizedHashCode 100 = .ok (.goto 57, 3) := dk_167 0 57 (dk_at dksJ15_vectorizedHashCode_4 10 rfl rfl)
theorem dJ15_vectorizedHashCode_103 : decode cJ15_vectorizedHashCode 103 = .ok (.iload_n 3, 1) := dk_29 (dk_at dksJ15_vectorizedHashCode_4 13 rfl rfl)
theorem dJ15_vectorizedHashCode_104 : decode cJ15_vectorizedHashCode 104 = .ok (.aload_n 0, 1) := dk_42 (dk_at dksJ15_vectorizedHashCode_4 14 rfl rfl)
theorem dJ15_vectorizedHashCode_105 : decode cJ15_vectorizedHashCode 105 = .ok (.checkcast 77, 3) := dk_192 0 77 (dk_at dksJ15_vectorizedHashCode_4 15 rfl rfl)
theorem dJ15_vectorizedHashCode_108 : decode cJ15_vectorizedHashCode 108 = .ok (.iload_n 1, 1) := dk_27 (dk_at dksJ15_vectorizedHashCode_4 18 rfl rfl)
theorem dJ15_vectorizedHashCode_109 : decode cJ15_vectorizedHashCode 109 = .ok (.iload_n 2, 1) := dk_28 (dk_at dksJ15_vectorizedHashCode_4 19 rfl rfl)
theorem dJ15_vectorizedHashCode_110 : decode cJ15_vectorizedHashCode 110 = .ok (.invokestatic 79, 3) := dk_184 0 79 (dk_at dksJ15_vectorizedHashCode_4 20 rfl rfl)
theorem dJ15_vectorizedHashCode_113 : decode cJ15_vectorizedHashCode 113 = .ok (.goto 44, 3) := dk_167 0 44 (dk_at dksJ15_vectorizedHashCode_5 0 rfl rfl)
theorem dJ15_vectorizedHashCode_116 : decode cJ15_vectorizedHashCode 116 = .ok (.iload_n 3, 1) := dk_29 (dk_at dksJ15_vectorizedHashCode_5 3 rfl rfl)
theorem dJ15_vectorizedHashCode_117 : decode cJ15_vectorizedHashCode 117 = .ok (.aload_n 0, 1) := dk_42 (dk_at dksJ15_vectorizedHashCode_5 4 rfl rfl)
theorem dJ15_vectorizedHashCode_118 : decode cJ15_vectorizedHashCode 118 = .ok (.checkcast 82, 3) := dk_192 0 82 (dk_at dksJ15_vectorizedHashCode_5 5 rfl rfl)
theorem dJ15_vectorizedHashCode_121 : decode cJ15_vectorizedHashCode 121 = .ok (.iload_n 1, 1) := dk_27 (dk_at dksJ15_vectorizedHashCode_5 8 rfl rfl)
theorem dJ15_vectorizedHashCode_122 : decode cJ15_vectorizedHashCode 122 = .ok (.iload_n 2, 1) := dk_28 (dk_at dksJ15_vectorizedHashCode_5 9 rfl rfl)
theorem dJ15_vectorizedHashCode_123 : decode cJ15_vectorizedHashCode 123 = .ok (.invokestatic 84, 3) := dk_184 0 84 (dk_at dksJ15_vectorizedHashCode_5 10 rfl rfl)
theorem dJ15_vectorizedHashCode_126 : decode cJ15_vectorizedHashCode 126 = .ok (.goto 31, 3) := dk_167 0 31 (dk_at dksJ15_vectorizedHashCode_5 13 rfl rfl)
theorem dJ15_vectorizedHashCode_129 : decode cJ15_vectorizedHashCode 129 = .ok (.new 87, 3) := dk_187 0 87 (dk_at dksJ15_vectorizedHashCode_5 16 rfl rfl)
theorem dJ15_vectorizedHashCode_132 : decode cJ15_vectorizedHashCode 132 = .ok (.dup, 1) := dk_89 (dk_at dksJ15_vectorizedHashCode_5 19 rfl rfl)
theorem dJ15_vectorizedHashCode_133 : decode cJ15_vectorizedHashCode 133 = .ok (.new 89, 3) := dk_187 0 89 (dk_at dksJ15_vectorizedHashCode_5 20 rfl rfl)
theorem dJ15_vectorizedHashCode_136 : decode cJ15_vectorizedHashCode 136 = .ok (.dup, 1) := dk_89 (dk_at dksJ15_vectorizedHashCode_5 23 rfl rfl)
theorem dJ15_vectorizedHashCode_137 : decode cJ15_vectorizedHashCode 137 = .ok (.invokespecial 91, 3) := dk_183 0 91 (dk_at dksJ15_vectorizedHashCode_6 0 rfl rfl)
theorem dJ15_vectorizedHashCode_140 : decode cJ15_vectorizedHashCode 140 = .ok (.ldc 92, 2) := dk_18 92 (dk_at dksJ15_vectorizedHashCode_6 3 rfl rfl)
theorem dJ15_vectorizedHashCode_142 : decode cJ15_vectorizedHashCode 142 = .ok (.invokevirtual 94, 3) := dk_182 0 94 (dk_at dksJ15_vectorizedHashCode_6 5 rfl rfl)
theorem dJ15_vectorizedHashCode_145 : decode cJ15_vectorizedHashCode 145 = .ok (.iload 4, 2) := dk_21 4 (dk_at dksJ15_vectorizedHashCode_6 8 rfl rfl)
theorem dJ15_vectorizedHashCode_147 : decode cJ15_vectorizedHashCode 147 = .ok (.invokevirtual 98, 3) := dk_182 0 98 (dk_at dksJ15_vectorizedHashCode_6 10 rfl rfl)
theorem dJ15_vectorizedHashCode_150 : decode cJ15_vectorizedHashCode 150 = .ok (.invokevirtual 101, 3) := dk_182 0 101 (dk_at dksJ15_vectorizedHashCode_6 13 rfl rfl)
theorem dJ15_vectorizedHashCode_153 : decode cJ15_vectorizedHashCode 153 = .ok (.invokespecial 105, 3) := dk_183 0 105 (dk_at dksJ15_vectorizedHashCode_6 16 rfl rfl)
theorem dJ15_vectorizedHashCode_156 : decode cJ15_vectorizedHashCode 156 = .ok (.athrow, 1) := dk_191 (dk_at dksJ15_vectorizedHashCode_6 19 rfl rfl)
theorem dJ15_vectorizedHashCode_157 : decode cJ15_vectorizedHashCode 157 = .ok (.ireturn, 1) := dk_172 (dk_at dksJ15_vectorizedHashCode_6 20 rfl rfl)
abbrev cJ15_signedHashCode : ByteArray := prog_49_method_5_code
def yJ15_signedHashCode : MethodName := ⟨RJ15, "signedHashCode", "(I[BII)I"⟩
def dkwJ15_signedHashCode_1 : List UInt8 := [17, 0, 255, 126, 96, 59, 132, 5, 1, 167, 255, 232, 26, 172]
abbrev dktJ15_signedHashCode_1 : List UInt8 := dkwJ15_signedHashCode_1 ++ []
def dkwJ15_signedHashCode_0 : List UInt8 := [28, 29, 96, 54, 4, 28, 54, 5, 21, 5, 21, 4, 162, 0, 23, 16, 31, 26, 104, 43, 21, 5, 51]
abbrev dktJ15_signedHashCode_0 : List UInt8 := dkwJ15_signedHashCode_0 ++ dktJ15_signedHashCode_1
theorem dksJ15_signedHashCode_0 : cJ15_signedHashCode.data.toList.drop 0 = dktJ15_signedHashCode_0 := by decide +kernel
theorem dksJ15_signedHashCode_1 : cJ15_signedHashCode.data.toList.drop 23 = dktJ15_signedHashCode_1 := dk_seg dksJ15_signedHashCode_0 23 rfl rfl
theorem dJ15_signedHashCode_0 : decode cJ15_signedHashCode 0 = .ok (.iload_n 2, 1) := dk_28 (dk_at dksJ15_signedHashCode_0 0 rfl rfl)
theorem dJ15_signedHashCode_1 : decode cJ15_signedHashCode 1 = .ok (.iload_n 3, 1) := dk_29 (dk_at dksJ15_signedHashCode_0 1 rfl rfl)
theorem dJ15_signedHashCode_2 : decode cJ15_signedHashCode 2 = .ok (.iadd, 1) := dk_96 (dk_at dksJ15_signedHashCode_0 2 rfl rfl)
theorem dJ15_signedHashCode_3 : decode cJ15_signedHashCode 3 = .ok (.istore 4, 2) := dk_54 4 (dk_at dksJ15_signedHashCode_0 3 rfl rfl)
theorem dJ15_signedHashCode_5 : decode cJ15_signedHashCode 5 = .ok (.iload_n 2, 1) := dk_28 (dk_at dksJ15_signedHashCode_0 5 rfl rfl)
theorem dJ15_signedHashCode_6 : decode cJ15_signedHashCode 6 = .ok (.istore 5, 2) := dk_54 5 (dk_at dksJ15_signedHashCode_0 6 rfl rfl)
theorem dJ15_signedHashCode_8 : decode cJ15_signedHashCode 8 = .ok (.iload 5, 2) := dk_21 5 (dk_at dksJ15_signedHashCode_0 8 rfl rfl)
theorem dJ15_signedHashCode_10 : decode cJ15_signedHashCode 10 = .ok (.iload 4, 2) := dk_21 4 (dk_at dksJ15_signedHashCode_0 10 rfl rfl)
theorem dJ15_signedHashCode_12 : decode cJ15_signedHashCode 12 = .ok (.if_icmp .ge 23, 3) := dk_162 0 23 (dk_at dksJ15_signedHashCode_0 12 rfl rfl)
theorem dJ15_signedHashCode_15 : decode cJ15_signedHashCode 15 = .ok (.bipush 31, 2) := dk_16 31 (dk_at dksJ15_signedHashCode_0 15 rfl rfl)
theorem dJ15_signedHashCode_17 : decode cJ15_signedHashCode 17 = .ok (.iload_n 0, 1) := dk_26 (dk_at dksJ15_signedHashCode_0 17 rfl rfl)
theorem dJ15_signedHashCode_18 : decode cJ15_signedHashCode 18 = .ok (.imul, 1) := dk_104 (dk_at dksJ15_signedHashCode_0 18 rfl rfl)
theorem dJ15_signedHashCode_19 : decode cJ15_signedHashCode 19 = .ok (.aload_n 1, 1) := dk_43 (dk_at dksJ15_signedHashCode_0 19 rfl rfl)
theorem dJ15_signedHashCode_20 : decode cJ15_signedHashCode 20 = .ok (.iload 5, 2) := dk_21 5 (dk_at dksJ15_signedHashCode_0 20 rfl rfl)
theorem dJ15_signedHashCode_22 : decode cJ15_signedHashCode 22 = .ok (.baload, 1) := dk_51 (dk_at dksJ15_signedHashCode_0 22 rfl rfl)
theorem dJ15_signedHashCode_23 : decode cJ15_signedHashCode 23 = .ok (.sipush 255, 3) := dk_17 0 255 (dk_at dksJ15_signedHashCode_1 0 rfl rfl)
theorem dJ15_signedHashCode_26 : decode cJ15_signedHashCode 26 = .ok (.iand, 1) := dk_126 (dk_at dksJ15_signedHashCode_1 3 rfl rfl)
theorem dJ15_signedHashCode_27 : decode cJ15_signedHashCode 27 = .ok (.iadd, 1) := dk_96 (dk_at dksJ15_signedHashCode_1 4 rfl rfl)
theorem dJ15_signedHashCode_28 : decode cJ15_signedHashCode 28 = .ok (.istore_n 0, 1) := dk_59 (dk_at dksJ15_signedHashCode_1 5 rfl rfl)
theorem dJ15_signedHashCode_29 : decode cJ15_signedHashCode 29 = .ok (.iinc 5 1, 3) := dk_132 5 1 (dk_at dksJ15_signedHashCode_1 6 rfl rfl)
theorem dJ15_signedHashCode_32 : decode cJ15_signedHashCode 32 = .ok (.goto (-24), 3) := dk_167 255 232 (dk_at dksJ15_signedHashCode_1 9 rfl rfl)
theorem dJ15_signedHashCode_35 : decode cJ15_signedHashCode 35 = .ok (.iload_n 0, 1) := dk_26 (dk_at dksJ15_signedHashCode_1 12 rfl rfl)
theorem dJ15_signedHashCode_36 : decode cJ15_signedHashCode 36 = .ok (.ireturn, 1) := dk_172 (dk_at dksJ15_signedHashCode_1 13 rfl rfl)
abbrev cJ15_utf16hashCode : ByteArray := prog_49_method_10_code
def yJ15_utf16hashCode : MethodName := ⟨RJ15, "utf16hashCode", "(I[BII)I"⟩
def dkwJ15_utf16hashCode_1 : List UInt8 := [21, 5, 185, 0, 110, 3, 0, 96, 59, 132, 5, 1, 167, 255, 229, 26, 172]
abbrev dktJ15_utf16hashCode_1 : List UInt8 := dkwJ15_utf16hashCode_1 ++ []
def dkwJ15_utf16hashCode_0 : List UInt8 := [28, 29, 96, 54, 4, 28, 54, 5, 21, 5, 21, 4, 162, 0, 26, 16, 31, 26, 104, 178, 0, 106, 43]
abbrev dktJ15_utf16hashCode_0 : List UInt8 := dkwJ15_utf16hashCode_0 ++ dktJ15_utf16hashCode_1
theorem dksJ15_utf16hashCode_0 : cJ15_utf16hashCode.data.toList.drop 0 = dktJ15_utf16hashCode_0 := by decide +kernel
theorem dksJ15_utf16hashCode_1 : cJ15_utf16hashCode.data.toList.drop 23 = dktJ15_utf16hashCode_1 := dk_seg dksJ15_utf16hashCode_0 23 rfl rfl
theorem dJ15_utf16hashCode_0 : decode cJ15_utf16hashCode 0 = .ok (.iload_n 2, 1) := dk_28 (dk_at dksJ15_utf16hashCode_0 0 rfl rfl)
theorem dJ15_utf16hashCode_1 : decode cJ15_utf16hashCode 1 = .ok (.iload_n 3, 1) := dk_29 (dk_at dksJ15_utf16hashCode_0 1 rfl rfl)
theorem dJ15_utf16hashCode_2 : decode cJ15_utf16hashCode 2 = .ok (.iadd, 1) := dk_96 (dk_at dksJ15_utf16hashCode_0 2 rfl rfl)
theorem dJ15_utf16hashCode_3 : decode cJ15_utf16hashCode 3 = .ok (.istore 4, 2) := dk_54 4 (dk_at dksJ15_utf16hashCode_0 3 rfl rfl)
theorem dJ15_utf16hashCode_5 : decode cJ15_utf16hashCode 5 = .ok (.iload_n 2, 1) := dk_28 (dk_at dksJ15_utf16hashCode_0 5 rfl rfl)
theorem dJ15_utf16hashCode_6 : decode cJ15_utf16hashCode 6 = .ok (.istore 5, 2) := dk_54 5 (dk_at dksJ15_utf16hashCode_0 6 rfl rfl)
theorem dJ15_utf16hashCode_8 : decode cJ15_utf16hashCode 8 = .ok (.iload 5, 2) := dk_21 5 (dk_at dksJ15_utf16hashCode_0 8 rfl rfl)
theorem dJ15_utf16hashCode_10 : decode cJ15_utf16hashCode 10 = .ok (.iload 4, 2) := dk_21 4 (dk_at dksJ15_utf16hashCode_0 10 rfl rfl)
theorem dJ15_utf16hashCode_12 : decode cJ15_utf16hashCode 12 = .ok (.if_icmp .ge 26, 3) := dk_162 0 26 (dk_at dksJ15_utf16hashCode_0 12 rfl rfl)
theorem dJ15_utf16hashCode_15 : decode cJ15_utf16hashCode 15 = .ok (.bipush 31, 2) := dk_16 31 (dk_at dksJ15_utf16hashCode_0 15 rfl rfl)
theorem dJ15_utf16hashCode_17 : decode cJ15_utf16hashCode 17 = .ok (.iload_n 0, 1) := dk_26 (dk_at dksJ15_utf16hashCode_0 17 rfl rfl)
theorem dJ15_utf16hashCode_18 : decode cJ15_utf16hashCode 18 = .ok (.imul, 1) := dk_104 (dk_at dksJ15_utf16hashCode_0 18 rfl rfl)
theorem dJ15_utf16hashCode_19 : decode cJ15_utf16hashCode 19 = .ok (.getstatic 106, 3) := dk_178 0 106 (dk_at dksJ15_utf16hashCode_0 19 rfl rfl)
theorem dJ15_utf16hashCode_22 : decode cJ15_utf16hashCode 22 = .ok (.aload_n 1, 1) := dk_43 (dk_at dksJ15_utf16hashCode_0 22 rfl rfl)
theorem dJ15_utf16hashCode_23 : decode cJ15_utf16hashCode 23 = .ok (.iload 5, 2) := dk_21 5 (dk_at dksJ15_utf16hashCode_1 0 rfl rfl)
theorem dJ15_utf16hashCode_25 : decode cJ15_utf16hashCode 25 = .ok (.invokeinterface 110 3, 5) := by decide +kernel
theorem dJ15_utf16hashCode_30 : decode cJ15_utf16hashCode 30 = .ok (.iadd, 1) := dk_96 (dk_at dksJ15_utf16hashCode_1 7 rfl rfl)
theorem dJ15_utf16hashCode_31 : decode cJ15_utf16hashCode 31 = .ok (.istore_n 0, 1) := dk_59 (dk_at dksJ15_utf16hashCode_1 8 rfl rfl)
theorem dJ15_utf16hashCode_32 : decode cJ15_utf16hashCode 32 = .ok (.iinc 5 1, 3) := dk_132 5 1 (dk_at dksJ15_utf16hashCode_1 9 rfl rfl)
theorem dJ15_utf16hashCode_35 : decode cJ15_utf16hashCode 35 = .ok (.goto (-27), 3) := dk_167 255 229 (dk_at dksJ15_utf16hashCode_1 12 rfl rfl)
theorem dJ15_utf16hashCode_38 : decode cJ15_utf16hashCode 38 = .ok (.iload_n 0, 1) := dk_26 (dk_at dksJ15_utf16hashCode_1 15 rfl rfl)
theorem dJ15_utf16hashCode_39 : decode cJ15_utf16hashCode 39 = .ok (.ireturn, 1) := dk_172 (dk_at dksJ15_utf16hashCode_1 16 rfl rfl)
abbrev cJ15_hashCode : ByteArray := prog_49_method_7_code
def yJ15_hashCode : MethodName := ⟨RJ15, "hashCode", "(I[CII)I"⟩
def dkwJ15_hashCode_1 : List UInt8 := [59, 132, 5, 1, 167, 255, 236, 26, 172]
abbrev dktJ15_hashCode_1 : List UInt8 := dkwJ15_hashCode_1 ++ []
def dkwJ15_hashCode_0 : List UInt8 := [28, 29, 96, 54, 4, 28, 54, 5, 21, 5, 21, 4, 162, 0, 19, 16, 31, 26, 104, 43, 21, 5, 52, 96]
abbrev dktJ15_hashCode_0 : List UInt8 := dkwJ15_hashCode_0 ++ dktJ15_hashCode_1
theorem dksJ15_hashCode_0 : cJ15_hashCode.data.toList.drop 0 = dktJ15_hashCode_0 := by decide +kernel
theorem dksJ15_hashCode_1 : cJ15_hashCode.data.toList.drop 24 = dktJ15_hashCode_1 := dk_seg dksJ15_hashCode_0 24 rfl rfl
theorem dJ15_hashCode_0 : decode cJ15_hashCode 0 = .ok (.iload_n 2, 1) := dk_28 (dk_at dksJ15_hashCode_0 0 rfl rfl)
theorem dJ15_hashCode_1 : decode cJ15_hashCode 1 = .ok (.iload_n 3, 1) := dk_29 (dk_at dksJ15_hashCode_0 1 rfl rfl)
theorem dJ15_hashCode_2 : decode cJ15_hashCode 2 = .ok (.iadd, 1) := dk_96 (dk_at dksJ15_hashCode_0 2 rfl rfl)
theorem dJ15_hashCode_3 : decode cJ15_hashCode 3 = .ok (.istore 4, 2) := dk_54 4 (dk_at dksJ15_hashCode_0 3 rfl rfl)
theorem dJ15_hashCode_5 : decode cJ15_hashCode 5 = .ok (.iload_n 2, 1) := dk_28 (dk_at dksJ15_hashCode_0 5 rfl rfl)
theorem dJ15_hashCode_6 : decode cJ15_hashCode 6 = .ok (.istore 5, 2) := dk_54 5 (dk_at dksJ15_hashCode_0 6 rfl rfl)
theorem dJ15_hashCode_8 : decode cJ15_hashCode 8 = .ok (.iload 5, 2) := dk_21 5 (dk_at dksJ15_hashCode_0 8 rfl rfl)
theorem dJ15_hashCode_10 : decode cJ15_hashCode 10 = .ok (.iload 4, 2) := dk_21 4 (dk_at dksJ15_hashCode_0 10 rfl rfl)
theorem dJ15_hashCode_12 : decode cJ15_hashCode 12 = .ok (.if_icmp .ge 19, 3) := dk_162 0 19 (dk_at dksJ15_hashCode_0 12 rfl rfl)
theorem dJ15_hashCode_15 : decode cJ15_hashCode 15 = .ok (.bipush 31, 2) := dk_16 31 (dk_at dksJ15_hashCode_0 15 rfl rfl)
theorem dJ15_hashCode_17 : decode cJ15_hashCode 17 = .ok (.iload_n 0, 1) := dk_26 (dk_at dksJ15_hashCode_0 17 rfl rfl)
theorem dJ15_hashCode_18 : decode cJ15_hashCode 18 = .ok (.imul, 1) := dk_104 (dk_at dksJ15_hashCode_0 18 rfl rfl)
theorem dJ15_hashCode_19 : decode cJ15_hashCode 19 = .ok (.aload_n 1, 1) := dk_43 (dk_at dksJ15_hashCode_0 19 rfl rfl)
theorem dJ15_hashCode_20 : decode cJ15_hashCode 20 = .ok (.iload 5, 2) := dk_21 5 (dk_at dksJ15_hashCode_0 20 rfl rfl)
theorem dJ15_hashCode_22 : decode cJ15_hashCode 22 = .ok (.caload, 1) := dk_52 (dk_at dksJ15_hashCode_0 22 rfl rfl)
theorem dJ15_hashCode_23 : decode cJ15_hashCode 23 = .ok (.iadd, 1) := dk_96 (dk_at dksJ15_hashCode_0 23 rfl rfl)
theorem dJ15_hashCode_24 : decode cJ15_hashCode 24 = .ok (.istore_n 0, 1) := dk_59 (dk_at dksJ15_hashCode_1 0 rfl rfl)
theorem dJ15_hashCode_25 : decode cJ15_hashCode 25 = .ok (.iinc 5 1, 3) := dk_132 5 1 (dk_at dksJ15_hashCode_1 1 rfl rfl)
theorem dJ15_hashCode_28 : decode cJ15_hashCode 28 = .ok (.goto (-20), 3) := dk_167 255 236 (dk_at dksJ15_hashCode_1 4 rfl rfl)
theorem dJ15_hashCode_31 : decode cJ15_hashCode 31 = .ok (.iload_n 0, 1) := dk_26 (dk_at dksJ15_hashCode_1 7 rfl rfl)
theorem dJ15_hashCode_32 : decode cJ15_hashCode 32 = .ok (.ireturn, 1) := dk_172 (dk_at dksJ15_hashCode_1 8 rfl rfl)
abbrev cJ15_hashCode_2 : ByteArray := prog_49_method_6_code
def yJ15_hashCode_2 : MethodName := ⟨RJ15, "hashCode", "(I[BII)I"⟩
def dkwJ15_hashCode_2_1 : List UInt8 := [59, 132, 5, 1, 167, 255, 236, 26, 172]
abbrev dktJ15_hashCode_2_1 : List UInt8 := dkwJ15_hashCode_2_1 ++ []
def dkwJ15_hashCode_2_0 : List UInt8 := [28, 29, 96, 54, 4, 28, 54, 5, 21, 5, 21, 4, 162, 0, 19, 16, 31, 26, 104, 43, 21, 5, 51, 96]
abbrev dktJ15_hashCode_2_0 : List UInt8 := dkwJ15_hashCode_2_0 ++ dktJ15_hashCode_2_1
theorem dksJ15_hashCode_2_0 : cJ15_hashCode_2.data.toList.drop 0 = dktJ15_hashCode_2_0 := by decide +kernel
theorem dksJ15_hashCode_2_1 : cJ15_hashCode_2.data.toList.drop 24 = dktJ15_hashCode_2_1 := dk_seg dksJ15_hashCode_2_0 24 rfl rfl
theorem dJ15_hashCode_2_0 : decode cJ15_hashCode_2 0 = .ok (.iload_n 2, 1) := dk_28 (dk_at dksJ15_hashCode_2_0 0 rfl rfl)
theorem dJ15_hashCode_2_1 : decode cJ15_hashCode_2 1 = .ok (.iload_n 3, 1) := dk_29 (dk_at dksJ15_hashCode_2_0 1 rfl rfl)
theorem dJ15_hashCode_2_2 : decode cJ15_hashCode_2 2 = .ok (.iadd, 1) := dk_96 (dk_at dksJ15_hashCode_2_0 2 rfl rfl)
theorem dJ15_hashCode_2_3 : decode cJ15_hashCode_2 3 = .ok (.istore 4, 2) := dk_54 4 (dk_at dksJ15_hashCode_2_0 3 rfl rfl)
theorem dJ15_hashCode_2_5 : decode cJ15_hashCode_2 5 = .ok (.iload_n 2, 1) := dk_28 (dk_at dksJ15_hashCode_2_0 5 rfl rfl)
theorem dJ15_hashCode_2_6 : decode cJ15_hashCode_2 6 = .ok (.istore 5, 2) := dk_54 5 (dk_at dksJ15_hashCode_2_0 6 rfl rfl)
theorem dJ15_hashCode_2_8 : decode cJ15_hashCode_2 8 = .ok (.iload 5, 2) := dk_21 5 (dk_at dksJ15_hashCode_2_0 8 rfl rfl)
theorem dJ15_hashCode_2_10 : decode cJ15_hashCode_2 10 = .ok (.iload 4, 2) := dk_21 4 (dk_at dksJ15_hashCode_2_0 10 rfl rfl)
theorem dJ15_hashCode_2_12 : decode cJ15_hashCode_2 12 = .ok (.if_icmp .ge 19, 3) := dk_162 0 19 (dk_at dksJ15_hashCode_2_0 12 rfl rfl)
theorem dJ15_hashCode_2_15 : decode cJ15_hashCode_2 15 = .ok (.bipush 31, 2) := dk_16 31 (dk_at dksJ15_hashCode_2_0 15 rfl rfl)
theorem dJ15_hashCode_2_17 : decode cJ15_hashCode_2 17 = .ok (.iload_n 0, 1) := dk_26 (dk_at dksJ15_hashCode_2_0 17 rfl rfl)
theorem dJ15_hashCode_2_18 : decode cJ15_hashCode_2 18 = .ok (.imul, 1) := dk_104 (dk_at dksJ15_hashCode_2_0 18 rfl rfl)
theorem dJ15_hashCode_2_19 : decode cJ15_hashCode_2 19 = .ok (.aload_n 1, 1) := dk_43 (dk_at dksJ15_hashCode_2_0 19 rfl rfl)
theorem dJ15_hashCode_2_20 : decode cJ15_hashCode_2 20 = .ok (.iload 5, 2) := dk_21 5 (dk_at dksJ15_hashCode_2_0 20 rfl rfl)
theorem dJ15_hashCode_2_22 : decode cJ15_hashCode_2 22 = .ok (.baload, 1) := dk_51 (dk_at dksJ15_hashCode_2_0 22 rfl rfl)
theorem dJ15_hashCode_2_23 : decode cJ15_hashCode_2 23 = .ok (.iadd, 1) := dk_96 (dk_at dksJ15_hashCode_2_0 23 rfl rfl)
theorem dJ15_hashCode_2_24 : decode cJ15_hashCode_2 24 = .ok (.istore_n 0, 1) := dk_59 (dk_at dksJ15_hashCode_2_1 0 rfl rfl)
theorem dJ15_hashCode_2_25 : decode cJ15_hashCode_2 25 = .ok (.iinc 5 1, 3) := dk_132 5 1 (dk_at dksJ15_hashCode_2_1 1 rfl rfl)
theorem dJ15_hashCode_2_28 : decode cJ15_hashCode_2 28 = .ok (.goto (-20), 3) := dk_167 255 236 (dk_at dksJ15_hashCode_2_1 4 rfl rfl)
theorem dJ15_hashCode_2_31 : decode cJ15_hashCode_2 31 = .ok (.iload_n 0, 1) := dk_26 (dk_at dksJ15_hashCode_2_1 7 rfl rfl)
theorem dJ15_hashCode_2_32 : decode cJ15_hashCode_2 32 = .ok (.ireturn, 1) := dk_172 (dk_at dksJ15_hashCode_2_1 8 rfl rfl)
abbrev cJ15_hashCode_3 : ByteArray := prog_49_method_8_code
def yJ15_hashCode_3 : MethodName := ⟨RJ15, "hashCode", "(I[SII)I"⟩
def dkwJ15_hashCode_3_1 : List UInt8 := [59, 132, 5, 1, 167, 255, 236, 26, 172]
abbrev dktJ15_hashCode_3_1 : List UInt8 := dkwJ15_hashCode_3_1 ++ []
def dkwJ15_hashCode_3_0 : List UInt8 := [28, 29, 96, 54, 4, 28, 54, 5, 21, 5, 21, 4, 162, 0, 19, 16, 31, 26, 104, 43, 21, 5, 53, 96]
abbrev dktJ15_hashCode_3_0 : List UInt8 := dkwJ15_hashCode_3_0 ++ dktJ15_hashCode_3_1
theorem dksJ15_hashCode_3_0 : cJ15_hashCode_3.data.toList.drop 0 = dktJ15_hashCode_3_0 := by decide +kernel
theorem dksJ15_hashCode_3_1 : cJ15_hashCode_3.data.toList.drop 24 = dktJ15_hashCode_3_1 := dk_seg dksJ15_hashCode_3_0 24 rfl rfl
theorem dJ15_hashCode_3_0 : decode cJ15_hashCode_3 0 = .ok (.iload_n 2, 1) := dk_28 (dk_at dksJ15_hashCode_3_0 0 rfl rfl)
theorem dJ15_hashCode_3_1 : decode cJ15_hashCode_3 1 = .ok (.iload_n 3, 1) := dk_29 (dk_at dksJ15_hashCode_3_0 1 rfl rfl)
theorem dJ15_hashCode_3_2 : decode cJ15_hashCode_3 2 = .ok (.iadd, 1) := dk_96 (dk_at dksJ15_hashCode_3_0 2 rfl rfl)
theorem dJ15_hashCode_3_3 : decode cJ15_hashCode_3 3 = .ok (.istore 4, 2) := dk_54 4 (dk_at dksJ15_hashCode_3_0 3 rfl rfl)
theorem dJ15_hashCode_3_5 : decode cJ15_hashCode_3 5 = .ok (.iload_n 2, 1) := dk_28 (dk_at dksJ15_hashCode_3_0 5 rfl rfl)
theorem dJ15_hashCode_3_6 : decode cJ15_hashCode_3 6 = .ok (.istore 5, 2) := dk_54 5 (dk_at dksJ15_hashCode_3_0 6 rfl rfl)
theorem dJ15_hashCode_3_8 : decode cJ15_hashCode_3 8 = .ok (.iload 5, 2) := dk_21 5 (dk_at dksJ15_hashCode_3_0 8 rfl rfl)
theorem dJ15_hashCode_3_10 : decode cJ15_hashCode_3 10 = .ok (.iload 4, 2) := dk_21 4 (dk_at dksJ15_hashCode_3_0 10 rfl rfl)
theorem dJ15_hashCode_3_12 : decode cJ15_hashCode_3 12 = .ok (.if_icmp .ge 19, 3) := dk_162 0 19 (dk_at dksJ15_hashCode_3_0 12 rfl rfl)
theorem dJ15_hashCode_3_15 : decode cJ15_hashCode_3 15 = .ok (.bipush 31, 2) := dk_16 31 (dk_at dksJ15_hashCode_3_0 15 rfl rfl)
theorem dJ15_hashCode_3_17 : decode cJ15_hashCode_3 17 = .ok (.iload_n 0, 1) := dk_26 (dk_at dksJ15_hashCode_3_0 17 rfl rfl)
theorem dJ15_hashCode_3_18 : decode cJ15_hashCode_3 18 = .ok (.imul, 1) := dk_104 (dk_at dksJ15_hashCode_3_0 18 rfl rfl)
theorem dJ15_hashCode_3_19 : decode cJ15_hashCode_3 19 = .ok (.aload_n 1, 1) := dk_43 (dk_at dksJ15_hashCode_3_0 19 rfl rfl)
theorem dJ15_hashCode_3_20 : decode cJ15_hashCode_3 20 = .ok (.iload 5, 2) := dk_21 5 (dk_at dksJ15_hashCode_3_0 20 rfl rfl)
theorem dJ15_hashCode_3_22 : decode cJ15_hashCode_3 22 = .ok (.saload, 1) := dk_53 (dk_at dksJ15_hashCode_3_0 22 rfl rfl)
theorem dJ15_hashCode_3_23 : decode cJ15_hashCode_3 23 = .ok (.iadd, 1) := dk_96 (dk_at dksJ15_hashCode_3_0 23 rfl rfl)
theorem dJ15_hashCode_3_24 : decode cJ15_hashCode_3 24 = .ok (.istore_n 0, 1) := dk_59 (dk_at dksJ15_hashCode_3_1 0 rfl rfl)
theorem dJ15_hashCode_3_25 : decode cJ15_hashCode_3 25 = .ok (.iinc 5 1, 3) := dk_132 5 1 (dk_at dksJ15_hashCode_3_1 1 rfl rfl)
theorem dJ15_hashCode_3_28 : decode cJ15_hashCode_3 28 = .ok (.goto (-20), 3) := dk_167 255 236 (dk_at dksJ15_hashCode_3_1 4 rfl rfl)
theorem dJ15_hashCode_3_31 : decode cJ15_hashCode_3 31 = .ok (.iload_n 0, 1) := dk_26 (dk_at dksJ15_hashCode_3_1 7 rfl rfl)
theorem dJ15_hashCode_3_32 : decode cJ15_hashCode_3 32 = .ok (.ireturn, 1) := dk_172 (dk_at dksJ15_hashCode_3_1 8 rfl rfl)
abbrev cJ15_hashCode_4 : ByteArray := prog_49_method_9_code
def yJ15_hashCode_4 : MethodName := ⟨RJ15, "hashCode", "(I[III)I"⟩
def dkwJ15_hashCode_4_1 : List UInt8 := [59, 132, 5, 1, 167, 255, 236, 26, 172]
abbrev dktJ15_hashCode_4_1 : List UInt8 := dkwJ15_hashCode_4_1 ++ []
def dkwJ15_hashCode_4_0 : List UInt8 := [28, 29, 96, 54, 4, 28, 54, 5, 21, 5, 21, 4, 162, 0, 19, 16, 31, 26, 104, 43, 21, 5, 46, 96]
abbrev dktJ15_hashCode_4_0 : List UInt8 := dkwJ15_hashCode_4_0 ++ dktJ15_hashCode_4_1
theorem dksJ15_hashCode_4_0 : cJ15_hashCode_4.data.toList.drop 0 = dktJ15_hashCode_4_0 := by decide +kernel
theorem dksJ15_hashCode_4_1 : cJ15_hashCode_4.data.toList.drop 24 = dktJ15_hashCode_4_1 := dk_seg dksJ15_hashCode_4_0 24 rfl rfl
theorem dJ15_hashCode_4_0 : decode cJ15_hashCode_4 0 = .ok (.iload_n 2, 1) := dk_28 (dk_at dksJ15_hashCode_4_0 0 rfl rfl)
theorem dJ15_hashCode_4_1 : decode cJ15_hashCode_4 1 = .ok (.iload_n 3, 1) := dk_29 (dk_at dksJ15_hashCode_4_0 1 rfl rfl)
theorem dJ15_hashCode_4_2 : decode cJ15_hashCode_4 2 = .ok (.iadd, 1) := dk_96 (dk_at dksJ15_hashCode_4_0 2 rfl rfl)
theorem dJ15_hashCode_4_3 : decode cJ15_hashCode_4 3 = .ok (.istore 4, 2) := dk_54 4 (dk_at dksJ15_hashCode_4_0 3 rfl rfl)
theorem dJ15_hashCode_4_5 : decode cJ15_hashCode_4 5 = .ok (.iload_n 2, 1) := dk_28 (dk_at dksJ15_hashCode_4_0 5 rfl rfl)
theorem dJ15_hashCode_4_6 : decode cJ15_hashCode_4 6 = .ok (.istore 5, 2) := dk_54 5 (dk_at dksJ15_hashCode_4_0 6 rfl rfl)
theorem dJ15_hashCode_4_8 : decode cJ15_hashCode_4 8 = .ok (.iload 5, 2) := dk_21 5 (dk_at dksJ15_hashCode_4_0 8 rfl rfl)
theorem dJ15_hashCode_4_10 : decode cJ15_hashCode_4 10 = .ok (.iload 4, 2) := dk_21 4 (dk_at dksJ15_hashCode_4_0 10 rfl rfl)
theorem dJ15_hashCode_4_12 : decode cJ15_hashCode_4 12 = .ok (.if_icmp .ge 19, 3) := dk_162 0 19 (dk_at dksJ15_hashCode_4_0 12 rfl rfl)
theorem dJ15_hashCode_4_15 : decode cJ15_hashCode_4 15 = .ok (.bipush 31, 2) := dk_16 31 (dk_at dksJ15_hashCode_4_0 15 rfl rfl)
theorem dJ15_hashCode_4_17 : decode cJ15_hashCode_4 17 = .ok (.iload_n 0, 1) := dk_26 (dk_at dksJ15_hashCode_4_0 17 rfl rfl)
theorem dJ15_hashCode_4_18 : decode cJ15_hashCode_4 18 = .ok (.imul, 1) := dk_104 (dk_at dksJ15_hashCode_4_0 18 rfl rfl)
theorem dJ15_hashCode_4_19 : decode cJ15_hashCode_4 19 = .ok (.aload_n 1, 1) := dk_43 (dk_at dksJ15_hashCode_4_0 19 rfl rfl)
theorem dJ15_hashCode_4_20 : decode cJ15_hashCode_4 20 = .ok (.iload 5, 2) := dk_21 5 (dk_at dksJ15_hashCode_4_0 20 rfl rfl)
theorem dJ15_hashCode_4_22 : decode cJ15_hashCode_4 22 = .ok (.iaload, 1) := dk_46 (dk_at dksJ15_hashCode_4_0 22 rfl rfl)
theorem dJ15_hashCode_4_23 : decode cJ15_hashCode_4 23 = .ok (.iadd, 1) := dk_96 (dk_at dksJ15_hashCode_4_0 23 rfl rfl)
theorem dJ15_hashCode_4_24 : decode cJ15_hashCode_4 24 = .ok (.istore_n 0, 1) := dk_59 (dk_at dksJ15_hashCode_4_1 0 rfl rfl)
theorem dJ15_hashCode_4_25 : decode cJ15_hashCode_4 25 = .ok (.iinc 5 1, 3) := dk_132 5 1 (dk_at dksJ15_hashCode_4_1 1 rfl rfl)
theorem dJ15_hashCode_4_28 : decode cJ15_hashCode_4 28 = .ok (.goto (-20), 3) := dk_167 255 236 (dk_at dksJ15_hashCode_4_1 4 rfl rfl)
theorem dJ15_hashCode_4_31 : decode cJ15_hashCode_4 31 = .ok (.iload_n 0, 1) := dk_26 (dk_at dksJ15_hashCode_4_1 7 rfl rfl)
theorem dJ15_hashCode_4_32 : decode cJ15_hashCode_4 32 = .ok (.ireturn, 1) := dk_172 (dk_at dksJ15_hashCode_4_1 8 rfl rfl)
theorem q113 : (Jvm.Cond.initialized "jdk/internal/util/ArraysSupport") ∈ lw_all := lw_g (lw_at lw_m1 20 rfl) rfl
theorem q601 : (Jvm.Cond.static ({ cls := "jdk/internal/util/ArraysSupport", name := "newLength", desc := "(III)I" } : Jvm.MethodName)) ∈ lw_all := lw_g (lw_at lw_m3 28 rfl) rfl
theorem q602 : (Jvm.Cond.code ({ cls := "jdk/internal/util/ArraysSupport", name := "newLength", desc := "(III)I" } : Jvm.MethodName) prog_49_method_27_code (4 : Nat) (Option.some Jvm.ClassFile.FieldType.int)) ∈ lw_all := lw_g (lw_at lw_m3 29 rfl) rfl
theorem q603 : (Jvm.Cond.methodLink "jdk/internal/util/ArraysSupport" (194 : Nat) ({ cls := "java/lang/Math", name := "max", desc := "(II)I" } : Jvm.MethodName)) ∈ lw_all := lw_g (lw_at lw_m3 30 rfl) rfl
theorem q604 : (Jvm.Cond.constant "jdk/internal/util/ArraysSupport" (200 : Nat) (2147483639 : Int32)) ∈ lw_all := lw_g (lw_at lw_m3 31 rfl) rfl
theorem q605 : (Jvm.Cond.methodLink "jdk/internal/util/ArraysSupport" (201 : Nat) ({ cls := "jdk/internal/util/ArraysSupport", name := "hugeLength", desc := "(II)I" } : Jvm.MethodName)) ∈ lw_all := lw_g (lw_at lw_m3 32 rfl) rfl
theorem q606 : (Jvm.Cond.static ({ cls := "jdk/internal/util/ArraysSupport", name := "hugeLength", desc := "(II)I" } : Jvm.MethodName)) ∈ lw_all := lw_g (lw_at lw_m3 33 rfl) rfl
theorem q607 : (Jvm.Cond.code ({ cls := "jdk/internal/util/ArraysSupport", name := "hugeLength", desc := "(II)I" } : Jvm.MethodName) prog_49_method_28_code (3 : Nat) (Option.some Jvm.ClassFile.FieldType.int)) ∈ lw_all := lw_g (lw_at lw_m3 34 rfl) rfl
theorem q1314 : (Jvm.Cond.static ({ cls := "jdk/internal/util/ArraysSupport", name := "vectorizedHashCode", desc := "(Ljava/lang/Object;IIII)I" } : Jvm.MethodName)) ∈ lw_all := lw_g (lw_at lw_m6 21 rfl) rfl
theorem q1315 : (Jvm.Cond.code ({ cls := "jdk/internal/util/ArraysSupport", name := "vectorizedHashCode", desc := "(Ljava/lang/Object;IIII)I" } : Jvm.MethodName) prog_49_method_4_code (5 : Nat) (Option.some Jvm.ClassFile.FieldType.int)) ∈ lw_all := lw_g (lw_at lw_m6 22 rfl) rfl
theorem q1316 : (Jvm.Cond.classLink "jdk/internal/util/ArraysSupport" (60 : Nat) "[B") ∈ lw_all := lw_g (lw_at lw_m6 23 rfl) rfl
theorem q1317 : (Jvm.Cond.methodLink "jdk/internal/util/ArraysSupport" (62 : Nat) ({ cls := "jdk/internal/util/ArraysSupport", name := "signedHashCode", desc := "(I[BII)I" } : Jvm.MethodName)) ∈ lw_all := lw_g (lw_at lw_m6 24 rfl) rfl
theorem q1318 : (Jvm.Cond.static ({ cls := "jdk/internal/util/ArraysSupport", name := "signedHashCode", desc := "(I[BII)I" } : Jvm.MethodName)) ∈ lw_all := lw_g (lw_at lw_m6 25 rfl) rfl
theorem q1319 : (Jvm.Cond.code ({ cls := "jdk/internal/util/ArraysSupport", name := "signedHashCode", desc := "(I[BII)I" } : Jvm.MethodName) prog_49_method_5_code (6 : Nat) (Option.some Jvm.ClassFile.FieldType.int)) ∈ lw_all := lw_g (lw_at lw_m6 26 rfl) rfl
theorem q1320 : (Jvm.Cond.methodLink "jdk/internal/util/ArraysSupport" (66 : Nat) ({ cls := "jdk/internal/util/ArraysSupport", name := "utf16hashCode", desc := "(I[BII)I" } : Jvm.MethodName)) ∈ lw_all := lw_g (lw_at lw_m6 27 rfl) rfl
theorem q1321 : (Jvm.Cond.static ({ cls := "jdk/internal/util/ArraysSupport", name := "utf16hashCode", desc := "(I[BII)I" } : Jvm.MethodName)) ∈ lw_all := lw_g (lw_at lw_m6 28 rfl) rfl
theorem q1322 : (Jvm.Cond.code ({ cls := "jdk/internal/util/ArraysSupport", name := "utf16hashCode", desc := "(I[BII)I" } : Jvm.MethodName) prog_49_method_10_code (6 : Nat) (Option.some Jvm.ClassFile.FieldType.int)) ∈ lw_all := lw_g (lw_at lw_m6 29 rfl) rfl
theorem q1323 : (Jvm.Cond.fieldLink "jdk/internal/util/ArraysSupport" (106 : Nat) "jdk/internal/util/ArraysSupport" "JLA" "Ljdk/internal/access/JavaLangAccess;") ∈ lw_all := lw_g (lw_at lw_m6 30 rfl) rfl
theorem q1324 : (Jvm.Cond.laysStatic "jdk/internal/util/ArraysSupport" "JLA" "Ljdk/internal/access/JavaLangAccess;") ∈ lw_tbl := lw_at lw_m6 31 rfl
theorem q1325 : (Jvm.Cond.interfaceEntry "jdk/internal/util/ArraysSupport" (110 : Nat)) ∈ lw_tbl := lw_at lw_m6 32 rfl
theorem q1326 : (Jvm.Cond.methodLink "jdk/internal/util/ArraysSupport" (110 : Nat) ({ cls := "jdk/internal/access/JavaLangAccess", name := "getUTF16Char", desc := "([BI)C" } : Jvm.MethodName)) ∈ lw_all := lw_g (lw_at lw_m6 33 rfl) rfl
theorem q1336 : (Jvm.Cond.classLink "jdk/internal/util/ArraysSupport" (69 : Nat) "[C") ∈ lw_all := lw_g (lw_at lw_m6 43 rfl) rfl
theorem q1337 : (Jvm.Cond.methodLink "jdk/internal/util/ArraysSupport" (71 : Nat) ({ cls := "jdk/internal/util/ArraysSupport", name := "hashCode", desc := "(I[CII)I" } : Jvm.MethodName)) ∈ lw_all := lw_g (lw_at lw_m6 44 rfl) rfl
theorem q1338 : (Jvm.Cond.static ({ cls := "jdk/internal/util/ArraysSupport", name := "hashCode", desc := "(I[CII)I" } : Jvm.MethodName)) ∈ lw_all := lw_g (lw_at lw_m6 45 rfl) rfl
theorem q1339 : (Jvm.Cond.code ({ cls := "jdk/internal/util/ArraysSupport", name := "hashCode", desc := "(I[CII)I" } : Jvm.MethodName) prog_49_method_7_code (6 : Nat) (Option.some Jvm.ClassFile.FieldType.int)) ∈ lw_all := lw_g (lw_at lw_m6 46 rfl) rfl
theorem q1340 : (Jvm.Cond.methodLink "jdk/internal/util/ArraysSupport" (75 : Nat) ({ cls := "jdk/internal/util/ArraysSupport", name := "hashCode", desc := "(I[BII)I" } : Jvm.MethodName)) ∈ lw_all := lw_g (lw_at lw_m6 47 rfl) rfl
theorem q1341 : (Jvm.Cond.static ({ cls := "jdk/internal/util/ArraysSupport", name := "hashCode", desc := "(I[BII)I" } : Jvm.MethodName)) ∈ lw_all := lw_g (lw_at lw_m6 48 rfl) rfl
theorem q1342 : (Jvm.Cond.code ({ cls := "jdk/internal/util/ArraysSupport", name := "hashCode", desc := "(I[BII)I" } : Jvm.MethodName) prog_49_method_6_code (6 : Nat) (Option.some Jvm.ClassFile.FieldType.int)) ∈ lw_all := lw_g (lw_at lw_m6 49 rfl) rfl
theorem q1343 : (Jvm.Cond.classLink "jdk/internal/util/ArraysSupport" (77 : Nat) "[S") ∈ lw_all := lw_g (lw_at lw_m6 50 rfl) rfl
theorem q1344 : (Jvm.Cond.methodLink "jdk/internal/util/ArraysSupport" (79 : Nat) ({ cls := "jdk/internal/util/ArraysSupport", name := "hashCode", desc := "(I[SII)I" } : Jvm.MethodName)) ∈ lw_all := lw_g (lw_at lw_m6 51 rfl) rfl
theorem q1345 : (Jvm.Cond.static ({ cls := "jdk/internal/util/ArraysSupport", name := "hashCode", desc := "(I[SII)I" } : Jvm.MethodName)) ∈ lw_all := lw_g (lw_at lw_m6 52 rfl) rfl
theorem q1346 : (Jvm.Cond.code ({ cls := "jdk/internal/util/ArraysSupport", name := "hashCode", desc := "(I[SII)I" } : Jvm.MethodName) prog_49_method_8_code (6 : Nat) (Option.some Jvm.ClassFile.FieldType.int)) ∈ lw_all := lw_g (lw_at lw_m6 53 rfl) rfl
theorem q1347 : (Jvm.Cond.classLink "jdk/internal/util/ArraysSupport" (82 : Nat) "[I") ∈ lw_all := lw_g (lw_at lw_m6 54 rfl) rfl
theorem q1348 : (Jvm.Cond.methodLink "jdk/internal/util/ArraysSupport" (84 : Nat) ({ cls := "jdk/internal/util/ArraysSupport", name := "hashCode", desc := "(I[III)I" } : Jvm.MethodName)) ∈ lw_all := lw_g (lw_at lw_m6 55 rfl) rfl
theorem q1349 : (Jvm.Cond.static ({ cls := "jdk/internal/util/ArraysSupport", name := "hashCode", desc := "(I[III)I" } : Jvm.MethodName)) ∈ lw_all := lw_g (lw_at lw_m6 56 rfl) rfl
theorem q1350 : (Jvm.Cond.code ({ cls := "jdk/internal/util/ArraysSupport", name := "hashCode", desc := "(I[III)I" } : Jvm.MethodName) prog_49_method_9_code (6 : Nat) (Option.some Jvm.ClassFile.FieldType.int)) ∈ lw_all := lw_g (lw_at lw_m6 57 rfl) rfl
theorem q1351 : (Jvm.Cond.classLink "jdk/internal/util/ArraysSupport" (87 : Nat) "java/lang/IllegalArgumentException") ∈ lw_all := lw_g (lw_at lw_m6 58 rfl) rfl
theorem q1352 : (Jvm.Cond.classLink "jdk/internal/util/ArraysSupport" (89 : Nat) "java/lang/StringBuilder") ∈ lw_all := lw_g (lw_at lw_m6 59 rfl) rfl
theorem q1353 : (Jvm.Cond.methodLink "jdk/internal/util/ArraysSupport" (91 : Nat) ({ cls := "java/lang/StringBuilder", name := "<init>", desc := "()V" } : Jvm.MethodName)) ∈ lw_all := lw_g (lw_at lw_m6 60 rfl) rfl
theorem q1354 : (Jvm.Cond.stringRef "jdk/internal/util/ArraysSupport" (92 : Nat) "unrecognized basic type: ") ∈ lw_tbl := lw_at lw_m6 61 rfl
theorem q1355 : (Jvm.Cond.methodLink "jdk/internal/util/ArraysSupport" (94 : Nat) ({ cls := "java/lang/StringBuilder", name := "append", desc := "(Ljava/lang/String;)Ljava/lang/StringBuilder;" } : Jvm.MethodName)) ∈ lw_all := lw_g (lw_at lw_m6 62 rfl) rfl
theorem q1356 : (Jvm.Cond.methodLink "jdk/internal/util/ArraysSupport" (98 : Nat) ({ cls := "java/lang/StringBuilder", name := "append", desc := "(I)Ljava/lang/StringBuilder;" } : Jvm.MethodName)) ∈ lw_all := lw_g (lw_at lw_m6 63 rfl) rfl
theorem q1357 : (Jvm.Cond.methodLink "jdk/internal/util/ArraysSupport" (101 : Nat) ({ cls := "java/lang/StringBuilder", name := "toString", desc := "()Ljava/lang/String;" } : Jvm.MethodName)) ∈ lw_all := lw_g (lw_at lw_m6 64 rfl) rfl
theorem q1358 : (Jvm.Cond.methodLink "jdk/internal/util/ArraysSupport" (105 : Nat) ({ cls := "java/lang/IllegalArgumentException", name := "<init>", desc := "(Ljava/lang/String;)V" } : Jvm.MethodName)) ∈ lw_all := lw_g (lw_at lw_m6 65 rfl) rfl
/-! java/lang/StringLatin1 -/
set_option maxRecDepth 100000
def RJ16 : String := "java/lang/StringLatin1"
abbrev cJ16_inflate : ByteArray := prog_29_method_50_code
def yJ16_inflate : MethodName := ⟨RJ16, "inflate", "([BI[BII)V"⟩
def dkwJ16_inflate_0 : List UInt8 := [42, 27, 44, 29, 21, 4, 184, 0, 240, 177]
abbrev dktJ16_inflate_0 : List UInt8 := dkwJ16_inflate_0 ++ []
theorem dksJ16_inflate_0 : cJ16_inflate.data.toList.drop 0 = dktJ16_inflate_0 := by decide +kernel
theorem dJ16_inflate_0 : decode cJ16_inflate 0 = .ok (.aload_n 0, 1) := dk_42 (dk_at dksJ16_inflate_0 0 rfl rfl)
theorem dJ16_inflate_1 : decode cJ16_inflate 1 = .ok (.iload_n 1, 1) := dk_27 (dk_at dksJ16_inflate_0 1 rfl rfl)
theorem dJ16_inflate_2 : decode cJ16_inflate 2 = .ok (.aload_n 2, 1) := dk_44 (dk_at dksJ16_inflate_0 2 rfl rfl)
theorem dJ16_inflate_3 : decode cJ16_inflate 3 = .ok (.iload_n 3, 1) := dk_29 (dk_at dksJ16_inflate_0 3 rfl rfl)
theorem dJ16_inflate_4 : decode cJ16_inflate 4 = .ok (.iload 4, 2) := dk_21 4 (dk_at dksJ16_inflate_0 4 rfl rfl)
theorem dJ16_inflate_6 : decode cJ16_inflate 6 = .ok (.invokestatic 240, 3) := dk_184 0 240 (dk_at dksJ16_inflate_0 6 rfl rfl)
theorem dJ16_inflate_9 : decode cJ16_inflate 9 = .ok (.return_, 1) := dk_177 (dk_at dksJ16_inflate_0 9 rfl rfl)
abbrev cJ16_fillNull : ByteArray := prog_29_method_48_code
def yJ16_fillNull : MethodName := ⟨RJ16, "fillNull", "([BII)V"⟩
def dkwJ16_fillNull_0 : List UInt8 := [42, 27, 28, 3, 184, 0, 236, 177]
abbrev dktJ16_fillNull_0 : List UInt8 := dkwJ16_fillNull_0 ++ []
theorem dksJ16_fillNull_0 : cJ16_fillNull.data.toList.drop 0 = dktJ16_fillNull_0 := by decide +kernel
theorem dJ16_fillNull_0 : decode cJ16_fillNull 0 = .ok (.aload_n 0, 1) := dk_42 (dk_at dksJ16_fillNull_0 0 rfl rfl)
theorem dJ16_fillNull_1 : decode cJ16_fillNull 1 = .ok (.iload_n 1, 1) := dk_27 (dk_at dksJ16_fillNull_0 1 rfl rfl)
theorem dJ16_fillNull_2 : decode cJ16_fillNull 2 = .ok (.iload_n 2, 1) := dk_28 (dk_at dksJ16_fillNull_0 2 rfl rfl)
theorem dJ16_fillNull_3 : decode cJ16_fillNull 3 = .ok (.iconst 0, 1) := dk_3 (dk_at dksJ16_fillNull_0 3 rfl rfl)
theorem dJ16_fillNull_4 : decode cJ16_fillNull 4 = .ok (.invokestatic 236, 3) := dk_184 0 236 (dk_at dksJ16_fillNull_0 4 rfl rfl)
theorem dJ16_fillNull_7 : decode cJ16_fillNull 7 = .ok (.return_, 1) := dk_177 (dk_at dksJ16_fillNull_0 7 rfl rfl)
abbrev cJ16_charAt : ByteArray := prog_29_method_2_code
def yJ16_charAt : MethodName := ⟨RJ16, "charAt", "([BI)C"⟩
def dkwJ16_charAt_0 : List UInt8 := [27, 42, 190, 184, 0, 9, 42, 27, 51, 17, 0, 255, 126, 146, 172]
abbrev dktJ16_charAt_0 : List UInt8 := dkwJ16_charAt_0 ++ []
theorem dksJ16_charAt_0 : cJ16_charAt.data.toList.drop 0 = dktJ16_charAt_0 := by decide +kernel
theorem dJ16_charAt_0 : decode cJ16_charAt 0 = .ok (.iload_n 1, 1) := dk_27 (dk_at dksJ16_charAt_0 0 rfl rfl)
theorem dJ16_charAt_1 : decode cJ16_charAt 1 = .ok (.aload_n 0, 1) := dk_42 (dk_at dksJ16_charAt_0 1 rfl rfl)
theorem dJ16_charAt_2 : decode cJ16_charAt 2 = .ok (.arraylength, 1) := dk_190 (dk_at dksJ16_charAt_0 2 rfl rfl)
theorem dJ16_charAt_3 : decode cJ16_charAt 3 = .ok (.invokestatic 9, 3) := dk_184 0 9 (dk_at dksJ16_charAt_0 3 rfl rfl)
theorem dJ16_charAt_6 : decode cJ16_charAt 6 = .ok (.aload_n 0, 1) := dk_42 (dk_at dksJ16_charAt_0 6 rfl rfl)
theorem dJ16_charAt_7 : decode cJ16_charAt 7 = .ok (.iload_n 1, 1) := dk_27 (dk_at dksJ16_charAt_0 7 rfl rfl)
theorem dJ16_charAt_8 : decode cJ16_charAt 8 = .ok (.baload, 1) := dk_51 (dk_at dksJ16_charAt_0 8 rfl rfl)
theorem dJ16_charAt_9 : decode cJ16_charAt 9 = .ok (.sipush 255, 3) := dk_17 0 255 (dk_at dksJ16_charAt_0 9 rfl rfl)
theorem dJ16_charAt_12 : decode cJ16_charAt 12 = .ok (.iand, 1) := dk_126 (dk_at dksJ16_charAt_0 12 rfl rfl)
theorem dJ16_charAt_13 : decode cJ16_charAt 13 = .ok (.i2c, 1) := dk_146 (dk_at dksJ16_charAt_0 13 rfl rfl)
theorem dJ16_charAt_14 : decode cJ16_charAt 14 = .ok (.ireturn, 1) := dk_172 (dk_at dksJ16_charAt_0 14 rfl rfl)
abbrev cJ16_canEncode : ByteArray := prog_29_method_3_code
def yJ16_canEncode : MethodName := ⟨RJ16, "canEncode", "(C)Z"⟩
def dkwJ16_canEncode_0 : List UInt8 := [26, 17, 0, 255, 163, 0, 7, 4, 167, 0, 4, 3, 172]
abbrev dktJ16_canEncode_0 : List UInt8 := dkwJ16_canEncode_0 ++ []
theorem dksJ16_canEncode_0 : cJ16_canEncode.data.toList.drop 0 = dktJ16_canEncode_0 := by decide +kernel
theorem dJ16_canEncode_0 : decode cJ16_canEncode 0 = .ok (.iload_n 0, 1) := dk_26 (dk_at dksJ16_canEncode_0 0 rfl rfl)
theorem dJ16_canEncode_1 : decode cJ16_canEncode 1 = .ok (.sipush 255, 3) := dk_17 0 255 (dk_at dksJ16_canEncode_0 1 rfl rfl)
theorem dJ16_canEncode_4 : decode cJ16_canEncode 4 = .ok (.if_icmp .gt 7, 3) := dk_163 0 7 (dk_at dksJ16_canEncode_0 4 rfl rfl)
theorem dJ16_canEncode_7 : decode cJ16_canEncode 7 = .ok (.iconst 1, 1) := dk_4 (dk_at dksJ16_canEncode_0 7 rfl rfl)
theorem dJ16_canEncode_8 : decode cJ16_canEncode 8 = .ok (.goto 4, 3) := dk_167 0 4 (dk_at dksJ16_canEncode_0 8 rfl rfl)
theorem dJ16_canEncode_11 : decode cJ16_canEncode 11 = .ok (.iconst 0, 1) := dk_3 (dk_at dksJ16_canEncode_0 11 rfl rfl)
theorem dJ16_canEncode_12 : decode cJ16_canEncode 12 = .ok (.ireturn, 1) := dk_172 (dk_at dksJ16_canEncode_0 12 rfl rfl)
abbrev cJ16_equals : ByteArray := prog_29_method_13_code
def yJ16_equals : MethodName := ⟨RJ16, "equals", "([B[B)Z"⟩
def dkwJ16_equals_1 : List UInt8 := [3, 172, 132, 2, 1, 167, 255, 236, 4, 172, 3, 172]
abbrev dktJ16_equals_1 : List UInt8 := dkwJ16_equals_1 ++ []
def dkwJ16_equals_0 : List UInt8 := [42, 190, 43, 190, 160, 0, 30, 3, 61, 28, 42, 190, 162, 0, 20, 42, 28, 51, 43, 28, 51, 159, 0, 5]
abbrev dktJ16_equals_0 : List UInt8 := dkwJ16_equals_0 ++ dktJ16_equals_1
theorem dksJ16_equals_0 : cJ16_equals.data.toList.drop 0 = dktJ16_equals_0 := by decide +kernel
theorem dksJ16_equals_1 : cJ16_equals.data.toList.drop 24 = dktJ16_equals_1 := dk_seg dksJ16_equals_0 24 rfl rfl
theorem dJ16_equals_0 : decode cJ16_equals 0 = .ok (.aload_n 0, 1) := dk_42 (dk_at dksJ16_equals_0 0 rfl rfl)
theorem dJ16_equals_1 : decode cJ16_equals 1 = .ok (.arraylength, 1) := dk_190 (dk_at dksJ16_equals_0 1 rfl rfl)
theorem dJ16_equals_2 : decode cJ16_equals 2 = .ok (.aload_n 1, 1) := dk_43 (dk_at dksJ16_equals_0 2 rfl rfl)
theorem dJ16_equals_3 : decode cJ16_equals 3 = .ok (.arraylength, 1) := dk_190 (dk_at dksJ16_equals_0 3 rfl rfl)
theorem dJ16_equals_4 : decode cJ16_equals 4 = .ok (.if_icmp .ne 30, 3) := dk_160 0 30 (dk_at dksJ16_equals_0 4 rfl rfl)
theorem dJ16_equals_7 : decode cJ16_equals 7 = .ok (.iconst 0, 1) := dk_3 (dk_at dksJ16_equals_0 7 rfl rfl)
theorem dJ16_equals_8 : decode cJ16_equals 8 = .ok (.istore_n 2, 1) := dk_61 (dk_at dksJ16_equals_0 8 rfl rfl)
theorem dJ16_equals_9 : decode cJ16_equals 9 = .ok (.iload_n 2, 1) := dk_28 (dk_at dksJ16_equals_0 9 rfl rfl)
theorem dJ16_equals_10 : decode cJ16_equals 10 = .ok (.aload_n 0, 1) := dk_42 (dk_at dksJ16_equals_0 10 rfl rfl)
theorem dJ16_equals_11 : decode cJ16_equals 11 = .ok (.arraylength, 1) := dk_190 (dk_at dksJ16_equals_0 11 rfl rfl)
theorem dJ16_equals_12 : decode cJ16_equals 12 = .ok (.if_icmp .ge 20, 3) := dk_162 0 20 (dk_at dksJ16_equals_0 12 rfl rfl)
theorem dJ16_equals_15 : decode cJ16_equals 15 = .ok (.aload_n 0, 1) := dk_42 (dk_at dksJ16_equals_0 15 rfl rfl)
theorem dJ16_equals_16 : decode cJ16_equals 16 = .ok (.iload_n 2, 1) := dk_28 (dk_at dksJ16_equals_0 16 rfl rfl)
theorem dJ16_equals_17 : decode cJ16_equals 17 = .ok (.baload, 1) := dk_51 (dk_at dksJ16_equals_0 17 rfl rfl)
theorem dJ16_equals_18 : decode cJ16_equals 18 = .ok (.aload_n 1, 1) := dk_43 (dk_at dksJ16_equals_0 18 rfl rfl)
theorem dJ16_equals_19 : decode cJ16_equals 19 = .ok (.iload_n 2, 1) := dk_28 (dk_at dksJ16_equals_0 19 rfl rfl)
theorem dJ16_equals_20 : decode cJ16_equals 20 = .ok (.baload, 1) := dk_51 (dk_at dksJ16_equals_0 20 rfl rfl)
theorem dJ16_equals_21 : decode cJ16_equals 21 = .ok (.if_icmp .eq 5, 3) := dk_159 0 5 (dk_at dksJ16_equals_0 21 rfl rfl)
theorem dJ16_equals_24 : decode cJ16_equals 24 = .ok (.iconst 0, 1) := dk_3 (dk_at dksJ16_equals_1 0 rfl rfl)
theorem dJ16_equals_25 : decode cJ16_equals 25 = .ok (.ireturn, 1) := dk_172 (dk_at dksJ16_equals_1 1 rfl rfl)
theorem dJ16_equals_26 : decode cJ16_equals 26 = .ok (.iinc 2 1, 3) := dk_132 2 1 (dk_at dksJ16_equals_1 2 rfl rfl)
theorem dJ16_equals_29 : decode cJ16_equals 29 = .ok (.goto (-20), 3) := dk_167 255 236 (dk_at dksJ16_equals_1 5 rfl rfl)
theorem dJ16_equals_32 : decode cJ16_equals 32 = .ok (.iconst 1, 1) := dk_4 (dk_at dksJ16_equals_1 8 rfl rfl)
theorem dJ16_equals_33 : decode cJ16_equals 33 = .ok (.ireturn, 1) := dk_172 (dk_at dksJ16_equals_1 9 rfl rfl)
theorem dJ16_equals_34 : decode cJ16_equals 34 = .ok (.iconst 0, 1) := dk_3 (dk_at dksJ16_equals_1 10 rfl rfl)
theorem dJ16_equals_35 : decode cJ16_equals 35 = .ok (.ireturn, 1) := dk_172 (dk_at dksJ16_equals_1 11 rfl rfl)
abbrev cJ16_hashCode : ByteArray := prog_29_method_21_code
def yJ16_hashCode : MethodName := ⟨RJ16, "hashCode", "([B)I"⟩
def dkwJ16_hashCode_2 : List UInt8 := [3, 167, 0, 22, 42, 3, 51, 17, 0, 255, 126, 167, 0, 12, 42, 3, 42, 190, 3, 7, 184, 0, 84, 172]
abbrev dktJ16_hashCode_2 : List UInt8 := dkwJ16_hashCode_2 ++ []
def dkwJ16_hashCode_1 : List UInt8 := [171, 0, 0, 0, 0, 40, 0, 0, 0, 2, 0, 0, 0, 0, 0, 0, 0, 26, 0, 0, 0, 1, 0, 0, 0, 30]
abbrev dktJ16_hashCode_1 : List UInt8 := dkwJ16_hashCode_1 ++ dktJ16_hashCode_2
def dkwJ16_hashCode_0 : List UInt8 := [42, 190]
abbrev dktJ16_hashCode_0 : List UInt8 := dkwJ16_hashCode_0 ++ dktJ16_hashCode_1
theorem dksJ16_hashCode_0 : cJ16_hashCode.data.toList.drop 0 = dktJ16_hashCode_0 := by decide +kernel
theorem dksJ16_hashCode_1 : cJ16_hashCode.data.toList.drop 2 = dktJ16_hashCode_1 := dk_seg dksJ16_hashCode_0 2 rfl rfl
theorem dksJ16_hashCode_2 : cJ16_hashCode.data.toList.drop 28 = dktJ16_hashCode_2 := dk_seg dksJ16_hashCode_1 26 rfl rfl
theorem dJ16_hashCode_0 : decode cJ16_hashCode 0 = .ok (.aload_n 0, 1) := dk_42 (dk_at dksJ16_hashCode_0 0 rfl rfl)
theorem dJ16_hashCode_1 : decode cJ16_hashCode 1 = .ok (.arraylength, 1) := dk_190 (dk_at dksJ16_hashCode_0 1 rfl rfl)
theorem dJ16_hashCode_2 : decode cJ16_hashCode 2 = .ok (.lookupswitch 40 #[(0, 26), (1, 30)], 26) := by decide +kernel
theorem dJ16_hashCode_28 : decode cJ16_hashCode 28 = .ok (.iconst 0, 1) := dk_3 (dk_at dksJ16_hashCode_2 0 rfl rfl)
theorem dJ16_hashCode_29 : decode cJ16_hashCode 29 = .ok (.goto 22, 3) := dk_167 0 22 (dk_at dksJ16_hashCode_2 1 rfl rfl)
theorem dJ16_hashCode_32 : decode cJ16_hashCode 32 = .ok (.aload_n 0, 1) := dk_42 (dk_at dksJ16_hashCode_2 4 rfl rfl)
theorem dJ16_hashCode_33 : decode cJ16_hashCode 33 = .ok (.iconst 0, 1) := dk_3 (dk_at dksJ16_hashCode_2 5 rfl rfl)
theorem dJ16_hashCode_34 : decode cJ16_hashCode 34 = .ok (.baload, 1) := dk_51 (dk_at dksJ16_hashCode_2 6 rfl rfl)
theorem dJ16_hashCode_35 : decode cJ16_hashCode 35 = .ok (.sipush 255, 3) := dk_17 0 255 (dk_at dksJ16_hashCode_2 7 rfl rfl)
theorem dJ16_hashCode_38 : decode cJ16_hashCode 38 = .ok (.iand, 1) := dk_126 (dk_at dksJ16_hashCode_2 10 rfl rfl)
theorem dJ16_hashCode_39 : decode cJ16_hashCode 39 = .ok (.goto 12, 3) := dk_167 0 12 (dk_at dksJ16_hashCode_2 11 rfl rfl)
theorem dJ16_hashCode_42 : decode cJ16_hashCode 42 = .ok (.aload_n 0, 1) := dk_42 (dk_at dksJ16_hashCode_2 14 rfl rfl)
theorem dJ16_hashCode_43 : decode cJ16_hashCode 43 = .ok (.iconst 0, 1) := dk_3 (dk_at dksJ16_hashCode_2 15 rfl rfl)
theorem dJ16_hashCode_44 : decode cJ16_hashCode 44 = .ok (.aload_n 0, 1) := dk_42 (dk_at dksJ16_hashCode_2 16 rfl rfl)
theorem dJ16_hashCode_45 : decode cJ16_hashCode 45 = .ok (.arraylength, 1) := dk_190 (dk_at dksJ16_hashCode_2 17 rfl rfl)
theorem dJ16_hashCode_46 : decode cJ16_hashCode 46 = .ok (.iconst 0, 1) := dk_3 (dk_at dksJ16_hashCode_2 18 rfl rfl)
theorem dJ16_hashCode_47 : decode cJ16_hashCode 47 = .ok (.iconst 4, 1) := dk_7 (dk_at dksJ16_hashCode_2 19 rfl rfl)
theorem dJ16_hashCode_48 : decode cJ16_hashCode 48 = .ok (.invokestatic 84, 3) := dk_184 0 84 (dk_at dksJ16_hashCode_2 20 rfl rfl)
theorem dJ16_hashCode_51 : decode cJ16_hashCode 51 = .ok (.ireturn, 1) := dk_172 (dk_at dksJ16_hashCode_2 23 rfl rfl)
theorem q114 : (Jvm.Cond.initialized "java/lang/StringLatin1") ∈ lw_all := lw_g (lw_at lw_m1 21 rfl) rfl
theorem q671 : (Jvm.Cond.static ({ cls := "java/lang/StringLatin1", name := "inflate", desc := "([BI[BII)V" } : Jvm.MethodName)) ∈ lw_all := lw_g (lw_at lw_m3 98 rfl) rfl
theorem q672 : (Jvm.Cond.code ({ cls := "java/lang/StringLatin1", name := "inflate", desc := "([BI[BII)V" } : Jvm.MethodName) prog_29_method_50_code (5 : Nat) (Option.none : Option Jvm.ClassFile.FieldType)) ∈ lw_all := lw_g (lw_at lw_m3 99 rfl) rfl
theorem q673 : (Jvm.Cond.methodLink "java/lang/StringLatin1" (240 : Nat) ({ cls := "java/lang/StringUTF16", name := "inflate", desc := "([BI[BII)V" } : Jvm.MethodName)) ∈ lw_all := lw_g (lw_at lw_m3 100 rfl) rfl
theorem q804 : (Jvm.Cond.static ({ cls := "java/lang/StringLatin1", name := "fillNull", desc := "([BII)V" } : Jvm.MethodName)) ∈ lw_all := lw_g (lw_at lw_m3 231 rfl) rfl
theorem q805 : (Jvm.Cond.code ({ cls := "java/lang/StringLatin1", name := "fillNull", desc := "([BII)V" } : Jvm.MethodName) prog_29_method_48_code (3 : Nat) (Option.none : Option Jvm.ClassFile.FieldType)) ∈ lw_all := lw_g (lw_at lw_m3 232 rfl) rfl
theorem q806 : (Jvm.Cond.methodLink "java/lang/StringLatin1" (236 : Nat) ({ cls := "java/util/Arrays", name := "fill", desc := "([BIIB)V" } : Jvm.MethodName)) ∈ lw_all := lw_g (lw_at lw_m3 233 rfl) rfl
theorem q948 : (Jvm.Cond.static ({ cls := "java/lang/StringLatin1", name := "charAt", desc := "([BI)C" } : Jvm.MethodName)) ∈ lw_all := lw_g (lw_at lw_m4 135 rfl) rfl
theorem q949 : (Jvm.Cond.code ({ cls := "java/lang/StringLatin1", name := "charAt", desc := "([BI)C" } : Jvm.MethodName) prog_29_method_2_code (2 : Nat) (Option.some Jvm.ClassFile.FieldType.char)) ∈ lw_all := lw_g (lw_at lw_m4 136 rfl) rfl
theorem q950 : (Jvm.Cond.methodLink "java/lang/StringLatin1" (9 : Nat) ({ cls := "java/lang/String", name := "checkIndex", desc := "(II)V" } : Jvm.MethodName)) ∈ lw_all := lw_g (lw_at lw_m4 137 rfl) rfl
theorem q1249 : (Jvm.Cond.static ({ cls := "java/lang/StringLatin1", name := "canEncode", desc := "(C)Z" } : Jvm.MethodName)) ∈ lw_all := lw_g (lw_at lw_m5 196 rfl) rfl
theorem q1250 : (Jvm.Cond.code ({ cls := "java/lang/StringLatin1", name := "canEncode", desc := "(C)Z" } : Jvm.MethodName) prog_29_method_3_code (1 : Nat) (Option.some Jvm.ClassFile.FieldType.boolean)) ∈ lw_all := lw_g (lw_at lw_m5 197 rfl) rfl
theorem q1289 : (Jvm.Cond.static ({ cls := "java/lang/StringLatin1", name := "equals", desc := "([B[B)Z" } : Jvm.MethodName)) ∈ lw_all := lw_g (lw_at lw_m5 236 rfl) rfl
theorem q1290 : (Jvm.Cond.code ({ cls := "java/lang/StringLatin1", name := "equals", desc := "([B[B)Z" } : Jvm.MethodName) prog_29_method_13_code (3 : Nat) (Option.some Jvm.ClassFile.FieldType.boolean)) ∈ lw_all := lw_g (lw_at lw_m5 237 rfl) rfl
theorem q1311 : (Jvm.Cond.static ({ cls := "java/lang/StringLatin1", name := "hashCode", desc := "([B)I" } : Jvm.MethodName)) ∈ lw_all := lw_g (lw_at lw_m6 18 rfl) rfl
theorem q1312 : (Jvm.Cond.code ({ cls := "java/lang/StringLatin1", name := "hashCode", desc := "([B)I" } : Jvm.MethodName) prog_29_method_21_code (1 : Nat) (Option.some Jvm.ClassFile.FieldType.int)) ∈ lw_all := lw_g (lw_at lw_m6 19 rfl) rfl
theorem q1313 : (Jvm.Cond.methodLink "java/lang/StringLatin1" (84 : Nat) ({ cls := "jdk/internal/util/ArraysSupport", name := "vectorizedHashCode", desc := "(Ljava/lang/Object;IIII)I" } : Jvm.MethodName)) ∈ lw_all := lw_g (lw_at lw_m6 20 rfl) rfl
/-! jdk/internal/util/Preconditions -/
set_option maxRecDepth 100000
def RJ17 : String := "jdk/internal/util/Preconditions"
abbrev cJ17_checkFromToIndex : ByteArray := prog_50_method_12_code
def yJ17_checkFromToIndex : MethodName := ⟨RJ17, "checkFromToIndex", "(IIILjava/util/function/BiFunction;)I"⟩
def dkwJ17_checkFromToIndex_0 : List UInt8 := [26, 155, 0, 13, 26, 27, 163, 0, 8, 27, 28, 164, 0, 11, 45, 26, 27, 28, 184, 0, 99, 191, 26, 172]
abbrev dktJ17_checkFromToIndex_0 : List UInt8 := dkwJ17_checkFromToIndex_0 ++ []
theorem dksJ17_checkFromToIndex_0 : cJ17_checkFromToIndex.data.toList.drop 0 = dktJ17_checkFromToIndex_0 := by decide +kernel
theorem dJ17_checkFromToIndex_0 : decode cJ17_checkFromToIndex 0 = .ok (.iload_n 0, 1) := dk_26 (dk_at dksJ17_checkFromToIndex_0 0 rfl rfl)
theorem dJ17_checkFromToIndex_1 : decode cJ17_checkFromToIndex 1 = .ok (.ifCond .lt 13, 3) := dk_155 0 13 (dk_at dksJ17_checkFromToIndex_0 1 rfl rfl)
theorem dJ17_checkFromToIndex_4 : decode cJ17_checkFromToIndex 4 = .ok (.iload_n 0, 1) := dk_26 (dk_at dksJ17_checkFromToIndex_0 4 rfl rfl)
theorem dJ17_checkFromToIndex_5 : decode cJ17_checkFromToIndex 5 = .ok (.iload_n 1, 1) := dk_27 (dk_at dksJ17_checkFromToIndex_0 5 rfl rfl)
theorem dJ17_checkFromToIndex_6 : decode cJ17_checkFromToIndex 6 = .ok (.if_icmp .gt 8, 3) := dk_163 0 8 (dk_at dksJ17_checkFromToIndex_0 6 rfl rfl)
theorem dJ17_checkFromToIndex_9 : decode cJ17_checkFromToIndex 9 = .ok (.iload_n 1, 1) := dk_27 (dk_at dksJ17_checkFromToIndex_0 9 rfl rfl)
theorem dJ17_checkFromToIndex_10 : decode cJ17_checkFromToIndex 10 = .ok (.iload_n 2, 1) := dk_28 (dk_at dksJ17_checkFromToIndex_0 10 rfl rfl)
theorem dJ17_checkFromToIndex_11 : decode cJ17_checkFromToIndex 11 = .ok (.if_icmp .le 11, 3) := dk_164 0 11 (dk_at dksJ17_checkFromToIndex_0 11 rfl rfl)
theorem dJ17_checkFromToIndex_14 : decode cJ17_checkFromToIndex 14 = .ok (.aload_n 3, 1) := dk_45 (dk_at dksJ17_checkFromToIndex_0 14 rfl rfl)
theorem dJ17_checkFromToIndex_15 : decode cJ17_checkFromToIndex 15 = .ok (.iload_n 0, 1) := dk_26 (dk_at dksJ17_checkFromToIndex_0 15 rfl rfl)
theorem dJ17_checkFromToIndex_16 : decode cJ17_checkFromToIndex 16 = .ok (.iload_n 1, 1) := dk_27 (dk_at dksJ17_checkFromToIndex_0 16 rfl rfl)
theorem dJ17_checkFromToIndex_17 : decode cJ17_checkFromToIndex 17 = .ok (.iload_n 2, 1) := dk_28 (dk_at dksJ17_checkFromToIndex_0 17 rfl rfl)
theorem dJ17_checkFromToIndex_18 : decode cJ17_checkFromToIndex 18 = .ok (.invokestatic 99, 3) := dk_184 0 99 (dk_at dksJ17_checkFromToIndex_0 18 rfl rfl)
theorem dJ17_checkFromToIndex_21 : decode cJ17_checkFromToIndex 21 = .ok (.athrow, 1) := dk_191 (dk_at dksJ17_checkFromToIndex_0 21 rfl rfl)
theorem dJ17_checkFromToIndex_22 : decode cJ17_checkFromToIndex 22 = .ok (.iload_n 0, 1) := dk_26 (dk_at dksJ17_checkFromToIndex_0 22 rfl rfl)
theorem dJ17_checkFromToIndex_23 : decode cJ17_checkFromToIndex 23 = .ok (.ireturn, 1) := dk_172 (dk_at dksJ17_checkFromToIndex_0 23 rfl rfl)
abbrev cJ17_checkFromIndexSize : ByteArray := prog_50_method_13_code
def yJ17_checkFromIndexSize : MethodName := ⟨RJ17, "checkFromIndexSize", "(IIILjava/util/function/BiFunction;)I"⟩
def dkwJ17_checkFromIndexSize_1 : List UInt8 := [172]
abbrev dktJ17_checkFromIndexSize_1 : List UInt8 := dkwJ17_checkFromIndexSize_1 ++ []
def dkwJ17_checkFromIndexSize_0 : List UInt8 := [28, 26, 128, 27, 128, 155, 0, 10, 27, 28, 26, 100, 164, 0, 11, 45, 26, 27, 28, 184, 0, 103, 191, 26]
abbrev dktJ17_checkFromIndexSize_0 : List UInt8 := dkwJ17_checkFromIndexSize_0 ++ dktJ17_checkFromIndexSize_1
theorem dksJ17_checkFromIndexSize_0 : cJ17_checkFromIndexSize.data.toList.drop 0 = dktJ17_checkFromIndexSize_0 := by decide +kernel
theorem dksJ17_checkFromIndexSize_1 : cJ17_checkFromIndexSize.data.toList.drop 24 = dktJ17_checkFromIndexSize_1 := dk_seg dksJ17_checkFromIndexSize_0 24 rfl rfl
theorem dJ17_checkFromIndexSize_0 : decode cJ17_checkFromIndexSize 0 = .ok (.iload_n 2, 1) := dk_28 (dk_at dksJ17_checkFromIndexSize_0 0 rfl rfl)
theorem dJ17_checkFromIndexSize_1 : decode cJ17_checkFromIndexSize 1 = .ok (.iload_n 0, 1) := dk_26 (dk_at dksJ17_checkFromIndexSize_0 1 rfl rfl)
theorem dJ17_checkFromIndexSize_2 : decode cJ17_checkFromIndexSize 2 = .ok (.ior, 1) := dk_128 (dk_at dksJ17_checkFromIndexSize_0 2 rfl rfl)
theorem dJ17_checkFromIndexSize_3 : decode cJ17_checkFromIndexSize 3 = .ok (.iload_n 1, 1) := dk_27 (dk_at dksJ17_checkFromIndexSize_0 3 rfl rfl)
theorem dJ17_checkFromIndexSize_4 : decode cJ17_checkFromIndexSize 4 = .ok (.ior, 1) := dk_128 (dk_at dksJ17_checkFromIndexSize_0 4 rfl rfl)
theorem dJ17_checkFromIndexSize_5 : decode cJ17_checkFromIndexSize 5 = .ok (.ifCond .lt 10, 3) := dk_155 0 10 (dk_at dksJ17_checkFromIndexSize_0 5 rfl rfl)
theorem dJ17_checkFromIndexSize_8 : decode cJ17_checkFromIndexSize 8 = .ok (.iload_n 1, 1) := dk_27 (dk_at dksJ17_checkFromIndexSize_0 8 rfl rfl)
theorem dJ17_checkFromIndexSize_9 : decode cJ17_checkFromIndexSize 9 = .ok (.iload_n 2, 1) := dk_28 (dk_at dksJ17_checkFromIndexSize_0 9 rfl rfl)
theorem dJ17_checkFromIndexSize_10 : decode cJ17_checkFromIndexSize 10 = .ok (.iload_n 0, 1) := dk_26 (dk_at dksJ17_checkFromIndexSize_0 10 rfl rfl)
theorem dJ17_checkFromIndexSize_11 : decode cJ17_checkFromIndexSize 11 = .ok (.isub, 1) := dk_100 (dk_at dksJ17_checkFromIndexSize_0 11 rfl rfl)
theorem dJ17_checkFromIndexSize_12 : decode cJ17_checkFromIndexSize 12 = .ok (.if_icmp .le 11, 3) := dk_164 0 11 (dk_at dksJ17_checkFromIndexSize_0 12 rfl rfl)
theorem dJ17_checkFromIndexSize_15 : decode cJ17_checkFromIndexSize 15 = .ok (.aload_n 3, 1) := dk_45 (dk_at dksJ17_checkFromIndexSize_0 15 rfl rfl)
theorem dJ17_checkFromIndexSize_16 : decode cJ17_checkFromIndexSize 16 = .ok (.iload_n 0, 1) := dk_26 (dk_at dksJ17_checkFromIndexSize_0 16 rfl rfl)
theorem dJ17_checkFromIndexSize_17 : decode cJ17_checkFromIndexSize 17 = .ok (.iload_n 1, 1) := dk_27 (dk_at dksJ17_checkFromIndexSize_0 17 rfl rfl)
theorem dJ17_checkFromIndexSize_18 : decode cJ17_checkFromIndexSize 18 = .ok (.iload_n 2, 1) := dk_28 (dk_at dksJ17_checkFromIndexSize_0 18 rfl rfl)
theorem dJ17_checkFromIndexSize_19 : decode cJ17_checkFromIndexSize 19 = .ok (.invokestatic 103, 3) := dk_184 0 103 (dk_at dksJ17_checkFromIndexSize_0 19 rfl rfl)
theorem dJ17_checkFromIndexSize_22 : decode cJ17_checkFromIndexSize 22 = .ok (.athrow, 1) := dk_191 (dk_at dksJ17_checkFromIndexSize_0 22 rfl rfl)
theorem dJ17_checkFromIndexSize_23 : decode cJ17_checkFromIndexSize 23 = .ok (.iload_n 0, 1) := dk_26 (dk_at dksJ17_checkFromIndexSize_0 23 rfl rfl)
theorem dJ17_checkFromIndexSize_24 : decode cJ17_checkFromIndexSize 24 = .ok (.ireturn, 1) := dk_172 (dk_at dksJ17_checkFromIndexSize_1 0 rfl rfl)
abbrev cJ17_checkIndex : ByteArray := prog_50_method_11_code
def yJ17_checkIndex : MethodName := ⟨RJ17, "checkIndex", "(IILjava/util/function/BiFunction;)I"⟩
def dkwJ17_checkIndex_0 : List UInt8 := [26, 155, 0, 8, 26, 27, 161, 0, 10, 44, 26, 27, 184, 0, 95, 191, 26, 172]
abbrev dktJ17_checkIndex_0 : List UInt8 := dkwJ17_checkIndex_0 ++ []
theorem dksJ17_checkIndex_0 : cJ17_checkIndex.data.toList.drop 0 = dktJ17_checkIndex_0 := by decide +kernel
theorem dJ17_checkIndex_0 : decode cJ17_checkIndex 0 = .ok (.iload_n 0, 1) := dk_26 (dk_at dksJ17_checkIndex_0 0 rfl rfl)
theorem dJ17_checkIndex_1 : decode cJ17_checkIndex 1 = .ok (.ifCond .lt 8, 3) := dk_155 0 8 (dk_at dksJ17_checkIndex_0 1 rfl rfl)
theorem dJ17_checkIndex_4 : decode cJ17_checkIndex 4 = .ok (.iload_n 0, 1) := dk_26 (dk_at dksJ17_checkIndex_0 4 rfl rfl)
theorem dJ17_checkIndex_5 : decode cJ17_checkIndex 5 = .ok (.iload_n 1, 1) := dk_27 (dk_at dksJ17_checkIndex_0 5 rfl rfl)
theorem dJ17_checkIndex_6 : decode cJ17_checkIndex 6 = .ok (.if_icmp .lt 10, 3) := dk_161 0 10 (dk_at dksJ17_checkIndex_0 6 rfl rfl)
theorem dJ17_checkIndex_9 : decode cJ17_checkIndex 9 = .ok (.aload_n 2, 1) := dk_44 (dk_at dksJ17_checkIndex_0 9 rfl rfl)
theorem dJ17_checkIndex_10 : decode cJ17_checkIndex 10 = .ok (.iload_n 0, 1) := dk_26 (dk_at dksJ17_checkIndex_0 10 rfl rfl)
theorem dJ17_checkIndex_11 : decode cJ17_checkIndex 11 = .ok (.iload_n 1, 1) := dk_27 (dk_at dksJ17_checkIndex_0 11 rfl rfl)
theorem dJ17_checkIndex_12 : decode cJ17_checkIndex 12 = .ok (.invokestatic 95, 3) := dk_184 0 95 (dk_at dksJ17_checkIndex_0 12 rfl rfl)
theorem dJ17_checkIndex_15 : decode cJ17_checkIndex 15 = .ok (.athrow, 1) := dk_191 (dk_at dksJ17_checkIndex_0 15 rfl rfl)
theorem dJ17_checkIndex_16 : decode cJ17_checkIndex 16 = .ok (.iload_n 0, 1) := dk_26 (dk_at dksJ17_checkIndex_0 16 rfl rfl)
theorem dJ17_checkIndex_17 : decode cJ17_checkIndex 17 = .ok (.ireturn, 1) := dk_172 (dk_at dksJ17_checkIndex_0 17 rfl rfl)
theorem q115 : (Jvm.Cond.initialized "jdk/internal/util/Preconditions") ∈ lw_all := lw_g (lw_at lw_m1 22 rfl) rfl
theorem q635 : (Jvm.Cond.laysStatic "jdk/internal/util/Preconditions" "SIOOBE_FORMATTER" "Ljava/util/function/BiFunction;") ∈ lw_tbl := lw_at lw_m3 62 rfl
theorem q637 : (Jvm.Cond.static ({ cls := "jdk/internal/util/Preconditions", name := "checkFromToIndex", desc := "(IIILjava/util/function/BiFunction;)I" } : Jvm.MethodName)) ∈ lw_all := lw_g (lw_at lw_m3 64 rfl) rfl
theorem q638 : (Jvm.Cond.code ({ cls := "jdk/internal/util/Preconditions", name := "checkFromToIndex", desc := "(IIILjava/util/function/BiFunction;)I" } : Jvm.MethodName) prog_50_method_12_code (4 : Nat) (Option.some Jvm.ClassFile.FieldType.int)) ∈ lw_all := lw_g (lw_at lw_m3 65 rfl) rfl
theorem q683 : (Jvm.Cond.static ({ cls := "jdk/internal/util/Preconditions", name := "checkFromIndexSize", desc := "(IIILjava/util/function/BiFunction;)I" } : Jvm.MethodName)) ∈ lw_all := lw_g (lw_at lw_m3 110 rfl) rfl
theorem q684 : (Jvm.Cond.code ({ cls := "jdk/internal/util/Preconditions", name := "checkFromIndexSize", desc := "(IIILjava/util/function/BiFunction;)I" } : Jvm.MethodName) prog_50_method_13_code (4 : Nat) (Option.some Jvm.ClassFile.FieldType.int)) ∈ lw_all := lw_g (lw_at lw_m3 111 rfl) rfl
theorem q912 : (Jvm.Cond.static ({ cls := "jdk/internal/util/Preconditions", name := "checkIndex", desc := "(IILjava/util/function/BiFunction;)I" } : Jvm.MethodName)) ∈ lw_all := lw_g (lw_at lw_m4 99 rfl) rfl
theorem q913 : (Jvm.Cond.code ({ cls := "jdk/internal/util/Preconditions", name := "checkIndex", desc := "(IILjava/util/function/BiFunction;)I" } : Jvm.MethodName) prog_50_method_11_code (3 : Nat) (Option.some Jvm.ClassFile.FieldType.int)) ∈ lw_all := lw_g (lw_at lw_m4 100 rfl) rfl
/-! java/lang/StringIndexOutOfBoundsException -/
set_option maxRecDepth 100000
def RJ18 : String := "java/lang/StringIndexOutOfBoundsException"
def TJ18 : u_T := fun k => match k with
  | 0 => ("java/lang/Throwable", "backtrace", "Ljava/lang/Object;", false)
  | 1 => ("java/lang/Throwable", "detailMessage", "Ljava/lang/String;", false)
  | 2 => ("java/lang/Throwable", "cause", "Ljava/lang/Throwable;", false)
  | 3 => ("java/lang/Throwable", "stackTrace", "[Ljava/lang/StackTraceElement;", false)
  | 4 => ("java/lang/Throwable", "depth", "I", false)
  | _ => ("java/lang/Throwable", "suppressedExceptions", "Ljava/util/List;", false)
def tyJ18 : Nat → FieldType := fun k => match k with
  | 0 => .object "java/lang/Object"
  | 1 => .object "java/lang/String"
  | 2 => .object "java/lang/Throwable"
  | 3 => .array (.object "java/lang/StackTraceElement")
  | 4 => .int
  | _ => .object "java/util/List"
abbrev wsJ180 : List Cond := u_ws RJ18 TJ18 6
theorem nmJ18 : ∀ a, a < 6 → ∀ b, b < 6 → a ≠ b → (TJ18 a).2.1 ≠ (TJ18 b).2.1 := by decide +kernel
theorem tyJ18_ok : ∀ k, k < 6 → parseFieldDescriptor (TJ18 k).2.2.1 = some (tyJ18 k) := by decide +kernel
abbrev cJ18_init : ByteArray := prog_28_method_3_code
def yJ18_init : MethodName := ⟨RJ18, "<init>", "(I)V"⟩
def dkwJ18_init_0 : List UInt8 := [42, 187, 0, 10, 89, 183, 0, 12, 18, 13, 182, 0, 15, 27, 182, 0, 19, 182, 0, 22, 183, 0, 7, 177]
abbrev dktJ18_init_0 : List UInt8 := dkwJ18_init_0 ++ []
theorem dksJ18_init_0 : cJ18_init.data.toList.drop 0 = dktJ18_init_0 := by decide +kernel
theorem dJ18_init_0 : decode cJ18_init 0 = .ok (.aload_n 0, 1) := dk_42 (dk_at dksJ18_init_0 0 rfl rfl)
theorem dJ18_init_1 : decode cJ18_init 1 = .ok (.new 10, 3) := dk_187 0 10 (dk_at dksJ18_init_0 1 rfl rfl)
theorem dJ18_init_4 : decode cJ18_init 4 = .ok (.dup, 1) := dk_89 (dk_at dksJ18_init_0 4 rfl rfl)
theorem dJ18_init_5 : decode cJ18_init 5 = .ok (.invokespecial 12, 3) := dk_183 0 12 (dk_at dksJ18_init_0 5 rfl rfl)
theorem dJ18_init_8 : decode cJ18_init 8 = .ok (.ldc 13, 2) := dk_18 13 (dk_at dksJ18_init_0 8 rfl rfl)
theorem dJ18_init_10 : decode cJ18_init 10 = .ok (.invokevirtual 15, 3) := dk_182 0 15 (dk_at dksJ18_init_0 10 rfl rfl)
theorem dJ18_init_13 : decode cJ18_init 13 = .ok (.iload_n 1, 1) := dk_27 (dk_at dksJ18_init_0 13 rfl rfl)
theorem dJ18_init_14 : decode cJ18_init 14 = .ok (.invokevirtual 19, 3) := dk_182 0 19 (dk_at dksJ18_init_0 14 rfl rfl)
theorem dJ18_init_17 : decode cJ18_init 17 = .ok (.invokevirtual 22, 3) := dk_182 0 22 (dk_at dksJ18_init_0 17 rfl rfl)
theorem dJ18_init_20 : decode cJ18_init 20 = .ok (.invokespecial 7, 3) := dk_183 0 7 (dk_at dksJ18_init_0 20 rfl rfl)
theorem dJ18_init_23 : decode cJ18_init 23 = .ok (.return_, 1) := dk_177 (dk_at dksJ18_init_0 23 rfl rfl)
theorem q116 : (Jvm.Cond.initialized "java/lang/StringIndexOutOfBoundsException") ∈ lw_all := lw_g (lw_at lw_m1 23 rfl) rfl
theorem q389 : (Jvm.Cond.selects "java/lang/StringIndexOutOfBoundsException" ({ cls := "java/lang/Throwable", name := "fillInStackTrace", desc := "()Ljava/lang/Throwable;" } : Jvm.MethodName) ({ cls := "java/lang/Throwable", name := "fillInStackTrace", desc := "()Ljava/lang/Throwable;" } : Jvm.MethodName)) ∈ lw_all := lw_g (lw_at lw_m2 56 rfl) rfl
theorem q439 : (Jvm.Cond.selects "java/lang/StringIndexOutOfBoundsException" ({ cls := "java/lang/Object", name := "getClass", desc := "()Ljava/lang/Class;" } : Jvm.MethodName) ({ cls := "java/lang/Object", name := "getClass", desc := "()Ljava/lang/Class;" } : Jvm.MethodName)) ∈ lw_all := lw_g (lw_at lw_m2 106 rfl) rfl
theorem q572 : (Jvm.Cond.instantiable "java/lang/StringIndexOutOfBoundsException" (6 : Nat)) ∈ lw_all := lw_g (lw_at lw_m2 239 rfl) rfl
theorem q574 : (Jvm.Cond.instanceMethod ({ cls := "java/lang/StringIndexOutOfBoundsException", name := "<init>", desc := "(I)V" } : Jvm.MethodName)) ∈ lw_all := lw_g (lw_at lw_m3 1 rfl) rfl
theorem q575 : (Jvm.Cond.code ({ cls := "java/lang/StringIndexOutOfBoundsException", name := "<init>", desc := "(I)V" } : Jvm.MethodName) prog_28_method_3_code (2 : Nat) (Option.none : Option Jvm.ClassFile.FieldType)) ∈ lw_all := lw_g (lw_at lw_m3 2 rfl) rfl
theorem q576 : (Jvm.Cond.classLink "java/lang/StringIndexOutOfBoundsException" (10 : Nat) "java/lang/StringBuilder") ∈ lw_all := lw_g (lw_at lw_m3 3 rfl) rfl
theorem q577 : (Jvm.Cond.methodLink "java/lang/StringIndexOutOfBoundsException" (12 : Nat) ({ cls := "java/lang/StringBuilder", name := "<init>", desc := "()V" } : Jvm.MethodName)) ∈ lw_all := lw_g (lw_at lw_m3 4 rfl) rfl
theorem q580 : (Jvm.Cond.stringRef "java/lang/StringIndexOutOfBoundsException" (13 : Nat) "String index out of range: ") ∈ lw_tbl := lw_at lw_m3 7 rfl
theorem q581 : (Jvm.Cond.methodLink "java/lang/StringIndexOutOfBoundsException" (15 : Nat) ({ cls := "java/lang/StringBuilder", name := "append", desc := "(Ljava/lang/String;)Ljava/lang/StringBuilder;" } : Jvm.MethodName)) ∈ lw_all := lw_g (lw_at lw_m3 8 rfl) rfl
theorem q691 : (Jvm.Cond.methodLink "java/lang/StringIndexOutOfBoundsException" (19 : Nat) ({ cls := "java/lang/StringBuilder", name := "append", desc := "(I)Ljava/lang/StringBuilder;" } : Jvm.MethodName)) ∈ lw_all := lw_g (lw_at lw_m3 118 rfl) rfl
theorem q716 : (Jvm.Cond.methodLink "java/lang/StringIndexOutOfBoundsException" (22 : Nat) ({ cls := "java/lang/StringBuilder", name := "toString", desc := "()Ljava/lang/String;" } : Jvm.MethodName)) ∈ lw_all := lw_g (lw_at lw_m3 143 rfl) rfl
theorem q792 : (Jvm.Cond.methodLink "java/lang/StringIndexOutOfBoundsException" (7 : Nat) ({ cls := "java/lang/IndexOutOfBoundsException", name := "<init>", desc := "(Ljava/lang/String;)V" } : Jvm.MethodName)) ∈ lw_all := lw_g (lw_at lw_m3 219 rfl) rfl
theorem q796 : (Jvm.Cond.lays "java/lang/StringIndexOutOfBoundsException" "java/lang/Throwable" "backtrace" "Ljava/lang/Object;") ∈ lw_all := lw_g (lw_at lw_m3 223 rfl) rfl
theorem q797 : (Jvm.Cond.lays "java/lang/StringIndexOutOfBoundsException" "java/lang/Throwable" "detailMessage" "Ljava/lang/String;") ∈ lw_all := lw_g (lw_at lw_m3 224 rfl) rfl
theorem q798 : (Jvm.Cond.lays "java/lang/StringIndexOutOfBoundsException" "java/lang/Throwable" "cause" "Ljava/lang/Throwable;") ∈ lw_all := lw_g (lw_at lw_m3 225 rfl) rfl
theorem q799 : (Jvm.Cond.lays "java/lang/StringIndexOutOfBoundsException" "java/lang/Throwable" "stackTrace" "[Ljava/lang/StackTraceElement;") ∈ lw_all := lw_g (lw_at lw_m3 226 rfl) rfl
theorem q800 : (Jvm.Cond.lays "java/lang/StringIndexOutOfBoundsException" "java/lang/Throwable" "depth" "I") ∈ lw_all := lw_g (lw_at lw_m3 227 rfl) rfl
theorem q801 : (Jvm.Cond.lays "java/lang/StringIndexOutOfBoundsException" "java/lang/Throwable" "suppressedExceptions" "Ljava/util/List;") ∈ lw_all := lw_g (lw_at lw_m3 228 rfl) rfl
theorem q802 : (Jvm.Cond.superclass "java/lang/StringIndexOutOfBoundsException" "java/lang/IndexOutOfBoundsException") ∈ lw_all := lw_g (lw_at lw_m3 229 rfl) rfl
theorem q1805 : (Jvm.Cond.castable "java/lang/StringIndexOutOfBoundsException" "java/lang/IndexOutOfBoundsException") ∈ lw_tbl := lw_at lw_m8 32 rfl
theorem q1815 : (Jvm.Cond.castable "java/lang/StringIndexOutOfBoundsException" "java/lang/Object") ∈ lw_tbl := lw_at lw_m8 42 rfl
theorem in_J18 : ∀ w ∈ wsJ180, w ∈ lw_all := lw_in wsJ180 [796, 797, 798, 799, 800, 801] (by decide +kernel) (by decide +kernel)
/-! java/lang/Integer -/
set_option maxRecDepth 100000
def RJ19 : String := "java/lang/Integer"
abbrev cJ19_stringSize : ByteArray := prog_21_method_13_code
def yJ19_stringSize : MethodName := ⟨RJ19, "stringSize", "(I)I"⟩
def dkwJ19_stringSize_1 : List UInt8 := [164, 0, 7, 29, 27, 96, 172, 16, 10, 28, 104, 61, 132, 3, 1, 167, 255, 233, 16, 10, 27, 96, 172]
abbrev dktJ19_stringSize_1 : List UInt8 := dkwJ19_stringSize_1 ++ []
def dkwJ19_stringSize_0 : List UInt8 := [4, 60, 26, 155, 0, 8, 3, 60, 26, 116, 59, 16, 246, 61, 4, 62, 29, 16, 10, 162, 0, 23, 26, 28]
abbrev dktJ19_stringSize_0 : List UInt8 := dkwJ19_stringSize_0 ++ dktJ19_stringSize_1
theorem dksJ19_stringSize_0 : cJ19_stringSize.data.toList.drop 0 = dktJ19_stringSize_0 := by decide +kernel
theorem dksJ19_stringSize_1 : cJ19_stringSize.data.toList.drop 24 = dktJ19_stringSize_1 := dk_seg dksJ19_stringSize_0 24 rfl rfl
theorem dJ19_stringSize_0 : decode cJ19_stringSize 0 = .ok (.iconst 1, 1) := dk_4 (dk_at dksJ19_stringSize_0 0 rfl rfl)
theorem dJ19_stringSize_1 : decode cJ19_stringSize 1 = .ok (.istore_n 1, 1) := dk_60 (dk_at dksJ19_stringSize_0 1 rfl rfl)
theorem dJ19_stringSize_2 : decode cJ19_stringSize 2 = .ok (.iload_n 0, 1) := dk_26 (dk_at dksJ19_stringSize_0 2 rfl rfl)
theorem dJ19_stringSize_3 : decode cJ19_stringSize 3 = .ok (.ifCond .lt 8, 3) := dk_155 0 8 (dk_at dksJ19_stringSize_0 3 rfl rfl)
theorem dJ19_stringSize_6 : decode cJ19_stringSize 6 = .ok (.iconst 0, 1) := dk_3 (dk_at dksJ19_stringSize_0 6 rfl rfl)
theorem dJ19_stringSize_7 : decode cJ19_stringSize 7 = .ok (.istore_n 1, 1) := dk_60 (dk_at dksJ19_stringSize_0 7 rfl rfl)
theorem dJ19_stringSize_8 : decode cJ19_stringSize 8 = .ok (.iload_n 0, 1) := dk_26 (dk_at dksJ19_stringSize_0 8 rfl rfl)
theorem dJ19_stringSize_9 : decode cJ19_stringSize 9 = .ok (.ineg, 1) := dk_116 (dk_at dksJ19_stringSize_0 9 rfl rfl)
theorem dJ19_stringSize_10 : decode cJ19_stringSize 10 = .ok (.istore_n 0, 1) := dk_59 (dk_at dksJ19_stringSize_0 10 rfl rfl)
theorem dJ19_stringSize_11 : decode cJ19_stringSize 11 = .ok (.bipush (-10), 2) := dk_16 246 (dk_at dksJ19_stringSize_0 11 rfl rfl)
theorem dJ19_stringSize_13 : decode cJ19_stringSize 13 = .ok (.istore_n 2, 1) := dk_61 (dk_at dksJ19_stringSize_0 13 rfl rfl)
theorem dJ19_stringSize_14 : decode cJ19_stringSize 14 = .ok (.iconst 1, 1) := dk_4 (dk_at dksJ19_stringSize_0 14 rfl rfl)
theorem dJ19_stringSize_15 : decode cJ19_stringSize 15 = .ok (.istore_n 3, 1) := dk_62 (dk_at dksJ19_stringSize_0 15 rfl rfl)
theorem dJ19_stringSize_16 : decode cJ19_stringSize 16 = .ok (.iload_n 3, 1) := dk_29 (dk_at dksJ19_stringSize_0 16 rfl rfl)
theorem dJ19_stringSize_17 : decode cJ19_stringSize 17 = .ok (.bipush 10, 2) := dk_16 10 (dk_at dksJ19_stringSize_0 17 rfl rfl)
theorem dJ19_stringSize_19 : decode cJ19_stringSize 19 = .ok (.if_icmp .ge 23, 3) := dk_162 0 23 (dk_at dksJ19_stringSize_0 19 rfl rfl)
theorem dJ19_stringSize_22 : decode cJ19_stringSize 22 = .ok (.iload_n 0, 1) := dk_26 (dk_at dksJ19_stringSize_0 22 rfl rfl)
theorem dJ19_stringSize_23 : decode cJ19_stringSize 23 = .ok (.iload_n 2, 1) := dk_28 (dk_at dksJ19_stringSize_0 23 rfl rfl)
theorem dJ19_stringSize_24 : decode cJ19_stringSize 24 = .ok (.if_icmp .le 7, 3) := dk_164 0 7 (dk_at dksJ19_stringSize_1 0 rfl rfl)
theorem dJ19_stringSize_27 : decode cJ19_stringSize 27 = .ok (.iload_n 3, 1) := dk_29 (dk_at dksJ19_stringSize_1 3 rfl rfl)
theorem dJ19_stringSize_28 : decode cJ19_stringSize 28 = .ok (.iload_n 1, 1) := dk_27 (dk_at dksJ19_stringSize_1 4 rfl rfl)
theorem dJ19_stringSize_29 : decode cJ19_stringSize 29 = .ok (.iadd, 1) := dk_96 (dk_at dksJ19_stringSize_1 5 rfl rfl)
theorem dJ19_stringSize_30 : decode cJ19_stringSize 30 = .ok (.ireturn, 1) := dk_172 (dk_at dksJ19_stringSize_1 6 rfl rfl)
theorem dJ19_stringSize_31 : decode cJ19_stringSize 31 = .ok (.bipush 10, 2) := dk_16 10 (dk_at dksJ19_stringSize_1 7 rfl rfl)
theorem dJ19_stringSize_33 : decode cJ19_stringSize 33 = .ok (.iload_n 2, 1) := dk_28 (dk_at dksJ19_stringSize_1 9 rfl rfl)
theorem dJ19_stringSize_34 : decode cJ19_stringSize 34 = .ok (.imul, 1) := dk_104 (dk_at dksJ19_stringSize_1 10 rfl rfl)
theorem dJ19_stringSize_35 : decode cJ19_stringSize 35 = .ok (.istore_n 2, 1) := dk_61 (dk_at dksJ19_stringSize_1 11 rfl rfl)
theorem dJ19_stringSize_36 : decode cJ19_stringSize 36 = .ok (.iinc 3 1, 3) := dk_132 3 1 (dk_at dksJ19_stringSize_1 12 rfl rfl)
theorem dJ19_stringSize_39 : decode cJ19_stringSize 39 = .ok (.goto (-23), 3) := dk_167 255 233 (dk_at dksJ19_stringSize_1 15 rfl rfl)
theorem dJ19_stringSize_42 : decode cJ19_stringSize 42 = .ok (.bipush 10, 2) := dk_16 10 (dk_at dksJ19_stringSize_1 18 rfl rfl)
theorem dJ19_stringSize_44 : decode cJ19_stringSize 44 = .ok (.iload_n 1, 1) := dk_27 (dk_at dksJ19_stringSize_1 20 rfl rfl)
theorem dJ19_stringSize_45 : decode cJ19_stringSize 45 = .ok (.iadd, 1) := dk_96 (dk_at dksJ19_stringSize_1 21 rfl rfl)
theorem dJ19_stringSize_46 : decode cJ19_stringSize 46 = .ok (.ireturn, 1) := dk_172 (dk_at dksJ19_stringSize_1 22 rfl rfl)
abbrev cJ19_getChars : ByteArray := prog_21_method_12_code
def yJ19_getChars : MethodName := ⟨RJ19, "getChars", "(II[B)I"⟩
def dkwJ19_getChars_5 : List UInt8 := [16, 45, 84, 21, 5, 172]
abbrev dktJ19_getChars_5 : List UInt8 := dkwJ19_getChars_5 ++ []
def dkwJ19_getChars_4 : List UInt8 := [132, 5, 255, 21, 5, 178, 0, 87, 26, 116, 51, 84, 21, 6, 153, 0, 12, 44, 132, 5, 255, 21, 5]
abbrev dktJ19_getChars_4 : List UInt8 := dkwJ19_getChars_4 ++ dktJ19_getChars_5
def dkwJ19_getChars_3 : List UInt8 := [167, 255, 209, 44, 132, 5, 255, 21, 5, 178, 0, 83, 26, 116, 51, 84, 26, 16, 247, 162, 0, 16, 44]
abbrev dktJ19_getChars_3 : List UInt8 := dkwJ19_getChars_3 ++ dktJ19_getChars_4
def dkwJ19_getChars_2 : List UInt8 := [21, 5, 178, 0, 83, 21, 4, 51, 84, 44, 132, 5, 255, 21, 5, 178, 0, 87, 21, 4, 51, 84]
abbrev dktJ19_getChars_2 : List UInt8 := dkwJ19_getChars_2 ++ dktJ19_getChars_3
def dkwJ19_getChars_1 : List UInt8 := [16, 156, 163, 0, 47, 26, 16, 100, 108, 62, 29, 16, 100, 104, 26, 100, 54, 4, 29, 59, 44, 132, 5, 255]
abbrev dktJ19_getChars_1 : List UInt8 := dkwJ19_getChars_1 ++ dktJ19_getChars_2
def dkwJ19_getChars_0 : List UInt8 := [27, 54, 5, 26, 156, 0, 7, 4, 167, 0, 4, 3, 54, 6, 21, 6, 154, 0, 6, 26, 116, 59, 26]
abbrev dktJ19_getChars_0 : List UInt8 := dkwJ19_getChars_0 ++ dktJ19_getChars_1
theorem dksJ19_getChars_0 : cJ19_getChars.data.toList.drop 0 = dktJ19_getChars_0 := by decide +kernel
theorem dksJ19_getChars_1 : cJ19_getChars.data.toList.drop 23 = dktJ19_getChars_1 := dk_seg dksJ19_getChars_0 23 rfl rfl
theorem dksJ19_getChars_2 : cJ19_getChars.data.toList.drop 47 = dktJ19_getChars_2 := dk_seg dksJ19_getChars_1 24 rfl rfl
theorem dksJ19_getChars_3 : cJ19_getChars.data.toList.drop 69 = dktJ19_getChars_3 := dk_seg dksJ19_getChars_2 22 rfl rfl
theorem dksJ19_getChars_4 : cJ19_getChars.data.toList.drop 92 = dktJ19_getChars_4 := dk_seg dksJ19_getChars_3 23 rfl rfl
theorem dksJ19_getChars_5 : cJ19_getChars.data.toList.drop 115 = dktJ19_getChars_5 := dk_seg dksJ19_getChars_4 23 rfl rfl
theorem dJ19_getChars_0 : decode cJ19_getChars 0 = .ok (.iload_n 1, 1) := dk_27 (dk_at dksJ19_getChars_0 0 rfl rfl)
theorem dJ19_getChars_1 : decode cJ19_getChars 1 = .ok (.istore 5, 2) := dk_54 5 (dk_at dksJ19_getChars_0 1 rfl rfl)
theorem dJ19_getChars_3 : decode cJ19_getChars 3 = .ok (.iload_n 0, 1) := dk_26 (dk_at dksJ19_getChars_0 3 rfl rfl)
theorem dJ19_getChars_4 : decode cJ19_getChars 4 = .ok (.ifCond .ge 7, 3) := dk_156 0 7 (dk_at dksJ19_getChars_0 4 rfl rfl)
theorem dJ19_getChars_7 : decode cJ19_getChars 7 = .ok (.iconst 1, 1) := dk_4 (dk_at dksJ19_getChars_0 7 rfl rfl)
theorem dJ19_getChars_8 : decode cJ19_getChars 8 = .ok (.goto 4, 3) := dk_167 0 4 (dk_at dksJ19_getChars_0 8 rfl rfl)
theorem dJ19_getChars_11 : decode cJ19_getChars 11 = .ok (.iconst 0, 1) := dk_3 (dk_at dksJ19_getChars_0 11 rfl rfl)
theorem dJ19_getChars_12 : decode cJ19_getChars 12 = .ok (.istore 6, 2) := dk_54 6 (dk_at dksJ19_getChars_0 12 rfl rfl)
theorem dJ19_getChars_14 : decode cJ19_getChars 14 = .ok (.iload 6, 2) := dk_21 6 (dk_at dksJ19_getChars_0 14 rfl rfl)
theorem dJ19_getChars_16 : decode cJ19_getChars 16 = .ok (.ifCond .ne 6, 3) := dk_154 0 6 (dk_at dksJ19_getChars_0 16 rfl rfl)
theorem dJ19_getChars_19 : decode cJ19_getChars 19 = .ok (.iload_n 0, 1) := dk_26 (dk_at dksJ19_getChars_0 19 rfl rfl)
theorem dJ19_getChars_20 : decode cJ19_getChars 20 = .ok (.ineg, 1) := dk_116 (dk_at dksJ19_getChars_0 20 rfl rfl)
theorem dJ19_getChars_21 : decode cJ19_getChars 21 = .ok (.istore_n 0, 1) := dk_59 (dk_at dksJ19_getChars_0 21 rfl rfl)
theorem dJ19_getChars_22 : decode cJ19_getChars 22 = .ok (.iload_n 0, 1) := dk_26 (dk_at dksJ19_getChars_0 22 rfl rfl)
theorem dJ19_getChars_23 : decode cJ19_getChars 23 = .ok (.bipush (-100), 2) := dk_16 156 (dk_at dksJ19_getChars_1 0 rfl rfl)
theorem dJ19_getChars_25 : decode cJ19_getChars 25 = .ok (.if_icmp .gt 47, 3) := dk_163 0 47 (dk_at dksJ19_getChars_1 2 rfl rfl)
theorem dJ19_getChars_28 : decode cJ19_getChars 28 = .ok (.iload_n 0, 1) := dk_26 (dk_at dksJ19_getChars_1 5 rfl rfl)
theorem dJ19_getChars_29 : decode cJ19_getChars 29 = .ok (.bipush 100, 2) := dk_16 100 (dk_at dksJ19_getChars_1 6 rfl rfl)
theorem dJ19_getChars_31 : decode cJ19_getChars 31 = .ok (.idiv, 1) := dk_108 (dk_at dksJ19_getChars_1 8 rfl rfl)
theorem dJ19_getChars_32 : decode cJ19_getChars 32 = .ok (.istore_n 3, 1) := dk_62 (dk_at dksJ19_getChars_1 9 rfl rfl)
theorem dJ19_getChars_33 : decode cJ19_getChars 33 = .ok (.iload_n 3, 1) := dk_29 (dk_at dksJ19_getChars_1 10 rfl rfl)
theorem dJ19_getChars_34 : decode cJ19_getChars 34 = .ok (.bipush 100, 2) := dk_16 100 (dk_at dksJ19_getChars_1 11 rfl rfl)
theorem dJ19_getChars_36 : decode cJ19_getChars 36 = .ok (.imul, 1) := dk_104 (dk_at dksJ19_getChars_1 13 rfl rfl)
theorem dJ19_getChars_37 : decode cJ19_getChars 37 = .ok (.iload_n 0, 1) := dk_26 (dk_at dksJ19_getChars_1 14 rfl rfl)
theorem dJ19_getChars_38 : decode cJ19_getChars 38 = .ok (.isub, 1) := dk_100 (dk_at dksJ19_getChars_1 15 rfl rfl)
theorem dJ19_getChars_39 : decode cJ19_getChars 39 = .ok (.istore 4, 2) := dk_54 4 (dk_at dksJ19_getChars_1 16 rfl rfl)
theorem dJ19_getChars_41 : decode cJ19_getChars 41 = .ok (.iload_n 3, 1) := dk_29 (dk_at dksJ19_getChars_1 18 rfl rfl)
theorem dJ19_getChars_42 : decode cJ19_getChars 42 = .ok (.istore_n 0, 1) := dk_59 (dk_at dksJ19_getChars_1 19 rfl rfl)
theorem dJ19_getChars_43 : decode cJ19_getChars 43 = .ok (.aload_n 2, 1) := dk_44 (dk_at dksJ19_getChars_1 20 rfl rfl)
theorem dJ19_getChars_44 : decode cJ19_getChars 44 = .ok (.iinc 5 (-1), 3) := dk_132 5 255 (dk_at dksJ19_getChars_1 21 rfl rfl)
theorem dJ19_getChars_47 : decode cJ19_getChars 47 = .ok (.iload 5, 2) := dk_21 5 (dk_at dksJ19_getChars_2 0 rfl rfl)
theorem dJ19_getChars_49 : decode cJ19_getChars 49 = .ok (.getstatic 83, 3) := dk_178 0 83 (dk_at dksJ19_getChars_2 2 rfl rfl)
theorem dJ19_getChars_52 : decode cJ19_getChars 52 = .ok (.iload 4, 2) := dk_21 4 (dk_at dksJ19_getChars_2 5 rfl rfl)
theorem dJ19_getChars_54 : decode cJ19_getChars 54 = .ok (.baload, 1) := dk_51 (dk_at dksJ19_getChars_2 7 rfl rfl)
theorem dJ19_getChars_55 : decode cJ19_getChars 55 = .ok (.bastore, 1) := dk_84 (dk_at dksJ19_getChars_2 8 rfl rfl)
theorem dJ19_getChars_56 : decode cJ19_getChars 56 = .ok (.aload_n 2, 1) := dk_44 (dk_at dksJ19_getChars_2 9 rfl rfl)
theorem dJ19_getChars_57 : decode cJ19_getChars 57 = .ok (.iinc 5 (-1), 3) := dk_132 5 255 (dk_at dksJ19_getChars_2 10 rfl rfl)
theorem dJ19_getChars_60 : decode cJ19_getChars 60 = .ok (.iload 5, 2) := dk_21 5 (dk_at dksJ19_getChars_2 13 rfl rfl)
theorem dJ19_getChars_62 : decode cJ19_getChars 62 = .ok (.getstatic 87, 3) := dk_178 0 87 (dk_at dksJ19_getChars_2 15 rfl rfl)
theorem dJ19_getChars_65 : decode cJ19_getChars 65 = .ok (.iload 4, 2) := dk_21 4 (dk_at dksJ19_getChars_2 18 rfl rfl)
theorem dJ19_getChars_67 : decode cJ19_getChars 67 = .ok (.baload, 1) := dk_51 (dk_at dksJ19_getChars_2 20 rfl rfl)
theorem dJ19_getChars_68 : decode cJ19_getChars 68 = .ok (.bastore, 1) := dk_84 (dk_at dksJ19_getChars_2 21 rfl rfl)
theorem dJ19_getChars_69 : decode cJ19_getChars 69 = .ok (.goto (-47), 3) := dk_167 255 209 (dk_at dksJ19_getChars_3 0 rfl rfl)
theorem dJ19_getChars_72 : decode cJ19_getChars 72 = .ok (.aload_n 2, 1) := dk_44 (dk_at dksJ19_getChars_3 3 rfl rfl)
theorem dJ19_getChars_73 : decode cJ19_getChars 73 = .ok (.iinc 5 (-1), 3) := dk_132 5 255 (dk_at dksJ19_getChars_3 4 rfl rfl)
theorem dJ19_getChars_76 : decode cJ19_getChars 76 = .ok (.iload 5, 2) := dk_21 5 (dk_at dksJ19_getChars_3 7 rfl rfl)
theorem dJ19_getChars_78 : decode cJ19_getChars 78 = .ok (.getstatic 83, 3) := dk_178 0 83 (dk_at dksJ19_getChars_3 9 rfl rfl)
theorem dJ19_getChars_81 : decode cJ19_getChars 81 = .ok (.iload_n 0, 1) := dk_26 (dk_at dksJ19_getChars_3 12 rfl rfl)
theorem dJ19_getChars_82 : decode cJ19_getChars 82 = .ok (.ineg, 1) := dk_116 (dk_at dksJ19_getChars_3 13 rfl rfl)
theorem dJ19_getChars_83 : decode cJ19_getChars 83 = .ok (.baload, 1) := dk_51 (dk_at dksJ19_getChars_3 14 rfl rfl)
theorem dJ19_getChars_84 : decode cJ19_getChars 84 = .ok (.bastore, 1) := dk_84 (dk_at dksJ19_getChars_3 15 rfl rfl)
theorem dJ19_getChars_85 : decode cJ19_getChars 85 = .ok (.iload_n 0, 1) := dk_26 (dk_at dksJ19_getChars_3 16 rfl rfl)
theorem dJ19_getChars_86 : decode cJ19_getChars 86 = .ok (.bipush (-9), 2) := dk_16 247 (dk_at dksJ19_getChars_3 17 rfl rfl)
theorem dJ19_getChars_88 : decode cJ19_getChars 88 = .ok (.if_icmp .ge 16, 3) := dk_162 0 16 (dk_at dksJ19_getChars_3 19 rfl rfl)
theorem dJ19_getChars_91 : decode cJ19_getChars 91 = .ok (.aload_n 2, 1) := dk_44 (dk_at dksJ19_getChars_3 22 rfl rfl)
theorem dJ19_getChars_92 : decode cJ19_getChars 92 = .ok (.iinc 5 (-1), 3) := dk_132 5 255 (dk_at dksJ19_getChars_4 0 rfl rfl)
theorem dJ19_getChars_95 : decode cJ19_getChars 95 = .ok (.iload 5, 2) := dk_21 5 (dk_at dksJ19_getChars_4 3 rfl rfl)
theorem dJ19_getChars_97 : decode cJ19_getChars 97 = .ok (.getstatic 87, 3) := dk_178 0 87 (dk_at dksJ19_getChars_4 5 rfl rfl)
theorem dJ19_getChars_100 : decode cJ19_getChars 100 = .ok (.iload_n 0, 1) := dk_26 (dk_at dksJ19_getChars_4 8 rfl rfl)
theorem dJ19_getChars_101 : decode cJ19_getChars 101 = .ok (.ineg, 1) := dk_116 (dk_at dksJ19_getChars_4 9 rfl rfl)
theorem dJ19_getChars_102 : decode cJ19_getChars 102 = .ok (.baload, 1) := dk_51 (dk_at dksJ19_getChars_4 10 rfl rfl)
theorem dJ19_getChars_103 : decode cJ19_getChars 103 = .ok (.bastore, 1) := dk_84 (dk_at dksJ19_getChars_4 11 rfl rfl)
theorem dJ19_getChars_104 : decode cJ19_getChars 104 = .ok (.iload 6, 2) := dk_21 6 (dk_at dksJ19_getChars_4 12 rfl rfl)
theorem dJ19_getChars_106 : decode cJ19_getChars 106 = .ok (.ifCond .eq 12, 3) := dk_153 0 12 (dk_at dksJ19_getChars_4 14 rfl rfl)
theorem dJ19_getChars_109 : decode cJ19_getChars 109 = .ok (.aload_n 2, 1) := dk_44 (dk_at dksJ19_getChars_4 17 rfl rfl)
theorem dJ19_getChars_110 : decode cJ19_getChars 110 = .ok (.iinc 5 (-1), 3) := dk_132 5 255 (dk_at dksJ19_getChars_4 18 rfl rfl)
theorem dJ19_getChars_113 : decode cJ19_getChars 113 = .ok (.iload 5, 2) := dk_21 5 (dk_at dksJ19_getChars_4 21 rfl rfl)
theorem dJ19_getChars_115 : decode cJ19_getChars 115 = .ok (.bipush 45, 2) := dk_16 45 (dk_at dksJ19_getChars_5 0 rfl rfl)
theorem dJ19_getChars_117 : decode cJ19_getChars 117 = .ok (.bastore, 1) := dk_84 (dk_at dksJ19_getChars_5 2 rfl rfl)
theorem dJ19_getChars_118 : decode cJ19_getChars 118 = .ok (.iload 5, 2) := dk_21 5 (dk_at dksJ19_getChars_5 3 rfl rfl)
theorem dJ19_getChars_120 : decode cJ19_getChars 120 = .ok (.ireturn, 1) := dk_172 (dk_at dksJ19_getChars_5 5 rfl rfl)
theorem q118 : (Jvm.Cond.initialized "java/lang/Integer") ∈ lw_all := lw_g (lw_at lw_m1 25 rfl) rfl
theorem q699 : (Jvm.Cond.static ({ cls := "java/lang/Integer", name := "stringSize", desc := "(I)I" } : Jvm.MethodName)) ∈ lw_all := lw_g (lw_at lw_m3 126 rfl) rfl
theorem q700 : (Jvm.Cond.code ({ cls := "java/lang/Integer", name := "stringSize", desc := "(I)I" } : Jvm.MethodName) prog_21_method_13_code (4 : Nat) (Option.some Jvm.ClassFile.FieldType.int)) ∈ lw_all := lw_g (lw_at lw_m3 127 rfl) rfl
theorem q702 : (Jvm.Cond.static ({ cls := "java/lang/Integer", name := "getChars", desc := "(II[B)I" } : Jvm.MethodName)) ∈ lw_all := lw_g (lw_at lw_m3 129 rfl) rfl
theorem q703 : (Jvm.Cond.code ({ cls := "java/lang/Integer", name := "getChars", desc := "(II[B)I" } : Jvm.MethodName) prog_21_method_12_code (7 : Nat) (Option.some Jvm.ClassFile.FieldType.int)) ∈ lw_all := lw_g (lw_at lw_m3 130 rfl) rfl
theorem q704 : (Jvm.Cond.fieldLink "java/lang/Integer" (83 : Nat) "java/lang/Integer" "DigitOnes" "[B") ∈ lw_all := lw_g (lw_at lw_m3 131 rfl) rfl
theorem q705 : (Jvm.Cond.laysStatic "java/lang/Integer" "DigitOnes" "[B") ∈ lw_tbl := lw_at lw_m3 132 rfl
theorem q706 : (Jvm.Cond.fieldLink "java/lang/Integer" (87 : Nat) "java/lang/Integer" "DigitTens" "[B") ∈ lw_all := lw_g (lw_at lw_m3 133 rfl) rfl
theorem q707 : (Jvm.Cond.laysStatic "java/lang/Integer" "DigitTens" "[B") ∈ lw_tbl := lw_at lw_m3 134 rfl
/-! CorridorPlan$Reader -/
set_option maxRecDepth 100000
def RX4 : String := "CorridorPlan$Reader"
def TX4 : u_T := fun k => match k with
  | 0 => ("CorridorPlan$Reader", "orders", "Ljava/util/ArrayList;", true)
  | 1 => ("CorridorPlan$Reader", "at", "I", false)
  | _ => ("CorridorPlan$Reader", "this$0", "LCorridorPlan;", true)
def tyX4 : Nat → FieldType := fun k => match k with
  | 0 => .object "java/util/ArrayList"
  | 1 => .int
  | _ => .object "CorridorPlan"
abbrev wsX40 : List Cond := u_ws RX4 TX4 3
theorem nmX4 : ∀ a, a < 3 → ∀ b, b < 3 → a ≠ b → (TX4 a).2.1 ≠ (TX4 b).2.1 := by decide +kernel
theorem tyX4_ok : ∀ k, k < 3 → parseFieldDescriptor (TX4 k).2.2.1 = some (tyX4 k) := by decide +kernel
abbrev cX4_init : ByteArray := prog_4_method_1_code
def yX4_init : MethodName := ⟨RX4, "<init>", "(LCorridorPlan;)V"⟩
def dkwX4_init_0 : List UInt8 := [42, 43, 181, 0, 3, 42, 183, 0, 9, 42, 187, 0, 15, 89, 183, 0, 17, 181, 0, 18, 177]
abbrev dktX4_init_0 : List UInt8 := dkwX4_init_0 ++ []
theorem dksX4_init_0 : cX4_init.data.toList.drop 0 = dktX4_init_0 := by decide +kernel
theorem dX4_init_0 : decode cX4_init 0 = .ok (.aload_n 0, 1) := dk_42 (dk_at dksX4_init_0 0 rfl rfl)
theorem dX4_init_1 : decode cX4_init 1 = .ok (.aload_n 1, 1) := dk_43 (dk_at dksX4_init_0 1 rfl rfl)
theorem dX4_init_2 : decode cX4_init 2 = .ok (.putfield 3, 3) := dk_181 0 3 (dk_at dksX4_init_0 2 rfl rfl)
theorem dX4_init_5 : decode cX4_init 5 = .ok (.aload_n 0, 1) := dk_42 (dk_at dksX4_init_0 5 rfl rfl)
theorem dX4_init_6 : decode cX4_init 6 = .ok (.invokespecial 9, 3) := dk_183 0 9 (dk_at dksX4_init_0 6 rfl rfl)
theorem dX4_init_9 : decode cX4_init 9 = .ok (.aload_n 0, 1) := dk_42 (dk_at dksX4_init_0 9 rfl rfl)
theorem dX4_init_10 : decode cX4_init 10 = .ok (.new 15, 3) := dk_187 0 15 (dk_at dksX4_init_0 10 rfl rfl)
theorem dX4_init_13 : decode cX4_init 13 = .ok (.dup, 1) := dk_89 (dk_at dksX4_init_0 13 rfl rfl)
theorem dX4_init_14 : decode cX4_init 14 = .ok (.invokespecial 17, 3) := dk_183 0 17 (dk_at dksX4_init_0 14 rfl rfl)
theorem dX4_init_17 : decode cX4_init 17 = .ok (.putfield 18, 3) := dk_181 0 18 (dk_at dksX4_init_0 17 rfl rfl)
theorem dX4_init_20 : decode cX4_init 20 = .ok (.return_, 1) := dk_177 (dk_at dksX4_init_0 20 rfl rfl)
abbrev cX4_isWhole : ByteArray := prog_4_method_5_code
def yX4_isWhole : MethodName := ⟨RX4, "isWhole", "()Z"⟩
def dkwX4_isWhole_2 : List UInt8 := [4, 167, 0, 4, 3, 172]
abbrev dktX4_isWhole_2 : List UInt8 := dkwX4_isWhole_2 ++ []
def dkwX4_isWhole_1 : List UInt8 := [167, 255, 238, 27, 153, 0, 24, 42, 180, 0, 22, 42, 180, 0, 3, 180, 0, 26, 182, 0, 30, 160, 0, 7]
abbrev dktX4_isWhole_1 : List UInt8 := dkwX4_isWhole_1 ++ dktX4_isWhole_2
def dkwX4_isWhole_0 : List UInt8 := [42, 182, 0, 82, 60, 27, 153, 0, 20, 42, 18, 86, 182, 0, 58, 153, 0, 11, 42, 182, 0, 82, 60]
abbrev dktX4_isWhole_0 : List UInt8 := dkwX4_isWhole_0 ++ dktX4_isWhole_1
theorem dksX4_isWhole_0 : cX4_isWhole.data.toList.drop 0 = dktX4_isWhole_0 := by decide +kernel
theorem dksX4_isWhole_1 : cX4_isWhole.data.toList.drop 23 = dktX4_isWhole_1 := dk_seg dksX4_isWhole_0 23 rfl rfl
theorem dksX4_isWhole_2 : cX4_isWhole.data.toList.drop 47 = dktX4_isWhole_2 := dk_seg dksX4_isWhole_1 24 rfl rfl
theorem dX4_isWhole_0 : decode cX4_isWhole 0 = .ok (.aload_n 0, 1) := dk_42 (dk_at dksX4_isWhole_0 0 rfl rfl)
theorem dX4_isWhole_1 : decode cX4_isWhole 1 = .ok (.invokevirtual 82, 3) := dk_182 0 82 (dk_at dksX4_isWhole_0 1 rfl rfl)
theorem dX4_isWhole_4 : decode cX4_isWhole 4 = .ok (.istore_n 1, 1) := dk_60 (dk_at dksX4_isWhole_0 4 rfl rfl)
theorem dX4_isWhole_5 : decode cX4_isWhole 5 = .ok (.iload_n 1, 1) := dk_27 (dk_at dksX4_isWhole_0 5 rfl rfl)
theorem dX4_isWhole_6 : decode cX4_isWhole 6 = .ok (.ifCond .eq 20, 3) := dk_153 0 20 (dk_at dksX4_isWhole_0 6 rfl rfl)
theorem dX4_isWhole_9 : decode cX4_isWhole 9 = .ok (.aload_n 0, 1) := dk_42 (dk_at dksX4_isWhole_0 9 rfl rfl)
theorem dX4_isWhole_10 : decode cX4_isWhole 10 = .ok (.ldc 86, 2) := dk_18 86 (dk_at dksX4_isWhole_0 10 rfl rfl)
theorem dX4_isWhole_12 : decode cX4_isWhole 12 = .ok (.invokevirtual 58, 3) := dk_182 0 58 (dk_at dksX4_isWhole_0 12 rfl rfl)
theorem dX4_isWhole_15 : decode cX4_isWhole 15 = .ok (.ifCond .eq 11, 3) := dk_153 0 11 (dk_at dksX4_isWhole_0 15 rfl rfl)
theorem dX4_isWhole_18 : decode cX4_isWhole 18 = .ok (.aload_n 0, 1) := dk_42 (dk_at dksX4_isWhole_0 18 rfl rfl)
theorem dX4_isWhole_19 : decode cX4_isWhole 19 = .ok (.invokevirtual 82, 3) := dk_182 0 82 (dk_at dksX4_isWhole_0 19 rfl rfl)
theorem dX4_isWhole_22 : decode cX4_isWhole 22 = .ok (.istore_n 1, 1) := dk_60 (dk_at dksX4_isWhole_0 22 rfl rfl)
theorem dX4_isWhole_23 : decode cX4_isWhole 23 = .ok (.goto (-18), 3) := dk_167 255 238 (dk_at dksX4_isWhole_1 0 rfl rfl)
theorem dX4_isWhole_26 : decode cX4_isWhole 26 = .ok (.iload_n 1, 1) := dk_27 (dk_at dksX4_isWhole_1 3 rfl rfl)
theorem dX4_isWhole_27 : decode cX4_isWhole 27 = .ok (.ifCond .eq 24, 3) := dk_153 0 24 (dk_at dksX4_isWhole_1 4 rfl rfl)
theorem dX4_isWhole_30 : decode cX4_isWhole 30 = .ok (.aload_n 0, 1) := dk_42 (dk_at dksX4_isWhole_1 7 rfl rfl)
theorem dX4_isWhole_31 : decode cX4_isWhole 31 = .ok (.getfield 22, 3) := dk_180 0 22 (dk_at dksX4_isWhole_1 8 rfl rfl)
theorem dX4_isWhole_34 : decode cX4_isWhole 34 = .ok (.aload_n 0, 1) := dk_42 (dk_at dksX4_isWhole_1 11 rfl rfl)
theorem dX4_isWhole_35 : decode cX4_isWhole 35 = .ok (.getfield 3, 3) := dk_180 0 3 (dk_at dksX4_isWhole_1 12 rfl rfl)
theorem dX4_isWhole_38 : decode cX4_isWhole 38 = .ok (.getfield 26, 3) := dk_180 0 26 (dk_at dksX4_isWhole_1 15 rfl rfl)
theorem dX4_isWhole_41 : decode cX4_isWhole 41 = .ok (.invokevirtual 30, 3) := dk_182 0 30 (dk_at dksX4_isWhole_1 18 rfl rfl)
theorem dX4_isWhole_44 : decode cX4_isWhole 44 = .ok (.if_icmp .ne 7, 3) := dk_160 0 7 (dk_at dksX4_isWhole_1 21 rfl rfl)
theorem dX4_isWhole_47 : decode cX4_isWhole 47 = .ok (.iconst 1, 1) := dk_4 (dk_at dksX4_isWhole_2 0 rfl rfl)
theorem dX4_isWhole_48 : decode cX4_isWhole 48 = .ok (.goto 4, 3) := dk_167 0 4 (dk_at dksX4_isWhole_2 1 rfl rfl)
theorem dX4_isWhole_51 : decode cX4_isWhole 51 = .ok (.iconst 0, 1) := dk_3 (dk_at dksX4_isWhole_2 4 rfl rfl)
theorem dX4_isWhole_52 : decode cX4_isWhole 52 = .ok (.ireturn, 1) := dk_172 (dk_at dksX4_isWhole_2 5 rfl rfl)
abbrev cX4_order : ByteArray := prog_4_method_4_code
def yX4_order : MethodName := ⟨RX4, "order", "()Z"⟩
def dkwX4_order_5 : List UInt8 := [180, 0, 18, 187, 0, 73, 89, 27, 28, 25, 4, 183, 0, 75, 182, 0, 78, 87, 21, 5, 172]
abbrev dktX4_order_5 : List UInt8 := dkwX4_order_5 ++ []
def dkwX4_order_4 : List UInt8 := [42, 25, 4, 182, 0, 58, 153, 0, 7, 4, 167, 0, 4, 3, 54, 5, 21, 5, 153, 0, 22, 42]
abbrev dktX4_order_4 : List UInt8 := dkwX4_order_4 ++ dktX4_order_5
def dkwX4_order_3 : List UInt8 := [180, 0, 22, 182, 0, 36, 184, 0, 62, 167, 0, 5, 18, 68, 58, 4, 25, 4, 182, 0, 70, 158, 0, 16]
abbrev dktX4_order_3 : List UInt8 := dkwX4_order_3 ++ dktX4_order_4
def dkwX4_order_2 : List UInt8 := [182, 0, 30, 162, 0, 7, 4, 167, 0, 4, 3, 62, 29, 153, 0, 23, 42, 180, 0, 3, 180, 0, 26, 42]
abbrev dktX4_order_2 : List UInt8 := dkwX4_order_2 ++ dktX4_order_3
def dkwX4_order_1 : List UInt8 := [159, 0, 33, 42, 18, 56, 182, 0, 58, 153, 0, 24, 42, 180, 0, 22, 42, 180, 0, 3, 180, 0, 26]
abbrev dktX4_order_1 : List UInt8 := dkwX4_order_1 ++ dktX4_order_2
def dkwX4_order_0 : List UInt8 := [42, 2, 182, 0, 52, 60, 27, 2, 160, 0, 7, 2, 167, 0, 8, 42, 27, 182, 0, 52, 61, 28, 2]
abbrev dktX4_order_0 : List UInt8 := dkwX4_order_0 ++ dktX4_order_1
theorem dksX4_order_0 : cX4_order.data.toList.drop 0 = dktX4_order_0 := by decide +kernel
theorem dksX4_order_1 : cX4_order.data.toList.drop 23 = dktX4_order_1 := dk_seg dksX4_order_0 23 rfl rfl
theorem dksX4_order_2 : cX4_order.data.toList.drop 46 = dktX4_order_2 := dk_seg dksX4_order_1 23 rfl rfl
theorem dksX4_order_3 : cX4_order.data.toList.drop 70 = dktX4_order_3 := dk_seg dksX4_order_2 24 rfl rfl
theorem dksX4_order_4 : cX4_order.data.toList.drop 94 = dktX4_order_4 := dk_seg dksX4_order_3 24 rfl rfl
theorem dksX4_order_5 : cX4_order.data.toList.drop 116 = dktX4_order_5 := dk_seg dksX4_order_4 22 rfl rfl
theorem dX4_order_0 : decode cX4_order 0 = .ok (.aload_n 0, 1) := dk_42 (dk_at dksX4_order_0 0 rfl rfl)
theorem dX4_order_1 : decode cX4_order 1 = .ok (.iconst (-1), 1) := dk_2 (dk_at dksX4_order_0 1 rfl rfl)
theorem dX4_order_2 : decode cX4_order 2 = .ok (.invokevirtual 52, 3) := dk_182 0 52 (dk_at dksX4_order_0 2 rfl rfl)
theorem dX4_order_5 : decode cX4_order 5 = .ok (.istore_n 1, 1) := dk_60 (dk_at dksX4_order_0 5 rfl rfl)
theorem dX4_order_6 : decode cX4_order 6 = .ok (.iload_n 1, 1) := dk_27 (dk_at dksX4_order_0 6 rfl rfl)
theorem dX4_order_7 : decode cX4_order 7 = .ok (.iconst (-1), 1) := dk_2 (dk_at dksX4_order_0 7 rfl rfl)
theorem dX4_order_8 : decode cX4_order 8 = .ok (.if_icmp .ne 7, 3) := dk_160 0 7 (dk_at dksX4_order_0 8 rfl rfl)
theorem dX4_order_11 : decode cX4_order 11 = .ok (.iconst (-1), 1) := dk_2 (dk_at dksX4_order_0 11 rfl rfl)
theorem dX4_order_12 : decode cX4_order 12 = .ok (.goto 8, 3) := dk_167 0 8 (dk_at dksX4_order_0 12 rfl rfl)
theorem dX4_order_15 : decode cX4_order 15 = .ok (.aload_n 0, 1) := dk_42 (dk_at dksX4_order_0 15 rfl rfl)
theorem dX4_order_16 : decode cX4_order 16 = .ok (.iload_n 1, 1) := dk_27 (dk_at dksX4_order_0 16 rfl rfl)
theorem dX4_order_17 : decode cX4_order 17 = .ok (.invokevirtual 52, 3) := dk_182 0 52 (dk_at dksX4_order_0 17 rfl rfl)
theorem dX4_order_20 : decode cX4_order 20 = .ok (.istore_n 2, 1) := dk_61 (dk_at dksX4_order_0 20 rfl rfl)
theorem dX4_order_21 : decode cX4_order 21 = .ok (.iload_n 2, 1) := dk_28 (dk_at dksX4_order_0 21 rfl rfl)
theorem dX4_order_22 : decode cX4_order 22 = .ok (.iconst (-1), 1) := dk_2 (dk_at dksX4_order_0 22 rfl rfl)
theorem dX4_order_23 : decode cX4_order 23 = .ok (.if_icmp .eq 33, 3) := dk_159 0 33 (dk_at dksX4_order_1 0 rfl rfl)
theorem dX4_order_26 : decode cX4_order 26 = .ok (.aload_n 0, 1) := dk_42 (dk_at dksX4_order_1 3 rfl rfl)
theorem dX4_order_27 : decode cX4_order 27 = .ok (.ldc 56, 2) := dk_18 56 (dk_at dksX4_order_1 4 rfl rfl)
theorem dX4_order_29 : decode cX4_order 29 = .ok (.invokevirtual 58, 3) := dk_182 0 58 (dk_at dksX4_order_1 6 rfl rfl)
theorem dX4_order_32 : decode cX4_order 32 = .ok (.ifCond .eq 24, 3) := dk_153 0 24 (dk_at dksX4_order_1 9 rfl rfl)
theorem dX4_order_35 : decode cX4_order 35 = .ok (.aload_n 0, 1) := dk_42 (dk_at dksX4_order_1 12 rfl rfl)
theorem dX4_order_36 : decode cX4_order 36 = .ok (.getfield 22, 3) := dk_180 0 22 (dk_at dksX4_order_1 13 rfl rfl)
theorem dX4_order_39 : decode cX4_order 39 = .ok (.aload_n 0, 1) := dk_42 (dk_at dksX4_order_1 16 rfl rfl)
theorem dX4_order_40 : decode cX4_order 40 = .ok (.getfield 3, 3) := dk_180 0 3 (dk_at dksX4_order_1 17 rfl rfl)
theorem dX4_order_43 : decode cX4_order 43 = .ok (.getfield 26, 3) := dk_180 0 26 (dk_at dksX4_order_1 20 rfl rfl)
theorem dX4_order_46 : decode cX4_order 46 = .ok (.invokevirtual 30, 3) := dk_182 0 30 (dk_at dksX4_order_2 0 rfl rfl)
theorem dX4_order_49 : decode cX4_order 49 = .ok (.if_icmp .ge 7, 3) := dk_162 0 7 (dk_at dksX4_order_2 3 rfl rfl)
theorem dX4_order_52 : decode cX4_order 52 = .ok (.iconst 1, 1) := dk_4 (dk_at dksX4_order_2 6 rfl rfl)
theorem dX4_order_53 : decode cX4_order 53 = .ok (.goto 4, 3) := dk_167 0 4 (dk_at dksX4_order_2 7 rfl rfl)
theorem dX4_order_56 : decode cX4_order 56 = .ok (.iconst 0, 1) := dk_3 (dk_at dksX4_order_2 10 rfl rfl)
theorem dX4_order_57 : decode cX4_order 57 = .ok (.istore_n 3, 1) := dk_62 (dk_at dksX4_order_2 11 rfl rfl)
theorem dX4_order_58 : decode cX4_order 58 = .ok (.iload_n 3, 1) := dk_29 (dk_at dksX4_order_2 12 rfl rfl)
theorem dX4_order_59 : decode cX4_order 59 = .ok (.ifCond .eq 23, 3) := dk_153 0 23 (dk_at dksX4_order_2 13 rfl rfl)
theorem dX4_order_62 : decode cX4_order 62 = .ok (.aload_n 0, 1) := dk_42 (dk_at dksX4_order_2 16 rfl rfl)
theorem dX4_order_63 : decode cX4_order 63 = .ok (.getfield 3, 3) := dk_180 0 3 (dk_at dksX4_order_2 17 rfl rfl)
theorem dX4_order_66 : decode cX4_order 66 = .ok (.getfield 26, 3) := dk_180 0 26 (dk_at dksX4_order_2 20 rfl rfl)
theorem dX4_order_69 : decode cX4_order 69 = .ok (.aload_n 0, 1) := dk_42 (dk_at dksX4_order_2 23 rfl rfl)
theorem dX4_order_70 : decode cX4_order 70 = .ok (.getfield 22, 3) := dk_180 0 22 (dk_at dksX4_order_3 0 rfl rfl)
theorem dX4_order_73 : decode cX4_order 73 = .ok (.invokevirtual 36, 3) := dk_182 0 36 (dk_at dksX4_order_3 3 rfl rfl)
theorem dX4_order_76 : decode cX4_order 76 = .ok (.invokestatic 62, 3) := dk_184 0 62 (dk_at dksX4_order_3 6 rfl rfl)
theorem dX4_order_79 : decode cX4_order 79 = .ok (.goto 5, 3) := dk_167 0 5 (dk_at dksX4_order_3 9 rfl rfl)
theorem dX4_order_82 : decode cX4_order 82 = .ok (.ldc 68, 2) := dk_18 68 (dk_at dksX4_order_3 12 rfl rfl)
theorem dX4_order_84 : decode cX4_order 84 = .ok (.astore 4, 2) := dk_58 4 (dk_at dksX4_order_3 14 rfl rfl)
theorem dX4_order_86 : decode cX4_order 86 = .ok (.aload 4, 2) := dk_25 4 (dk_at dksX4_order_3 16 rfl rfl)
theorem dX4_order_88 : decode cX4_order 88 = .ok (.invokevirtual 70, 3) := dk_182 0 70 (dk_at dksX4_order_3 18 rfl rfl)
theorem dX4_order_91 : decode cX4_order 91 = .ok (.ifCond .le 16, 3) := dk_158 0 16 (dk_at dksX4_order_3 21 rfl rfl)
theorem dX4_order_94 : decode cX4_order 94 = .ok (.aload_n 0, 1) := dk_42 (dk_at dksX4_order_4 0 rfl rfl)
theorem dX4_order_95 : decode cX4_order 95 = .ok (.aload 4, 2) := dk_25 4 (dk_at dksX4_order_4 1 rfl rfl)
theorem dX4_order_97 : decode cX4_order 97 = .ok (.invokevirtual 58, 3) := dk_182 0 58 (dk_at dksX4_order_4 3 rfl rfl)
theorem dX4_order_100 : decode cX4_order 100 = .ok (.ifCond .eq 7, 3) := dk_153 0 7 (dk_at dksX4_order_4 6 rfl rfl)
theorem dX4_order_103 : decode cX4_order 103 = .ok (.iconst 1, 1) := dk_4 (dk_at dksX4_order_4 9 rfl rfl)
theorem dX4_order_104 : decode cX4_order 104 = .ok (.goto 4, 3) := dk_167 0 4 (dk_at dksX4_order_4 10 rfl rfl)
theorem dX4_order_107 : decode cX4_order 107 = .ok (.iconst 0, 1) := dk_3 (dk_at dksX4_order_4 13 rfl rfl)
theorem dX4_order_108 : decode cX4_order 108 = .ok (.istore 5, 2) := dk_54 5 (dk_at dksX4_order_4 14 rfl rfl)
theorem dX4_order_110 : decode cX4_order 110 = .ok (.iload 5, 2) := dk_21 5 (dk_at dksX4_order_4 16 rfl rfl)
theorem dX4_order_112 : decode cX4_order 112 = .ok (.ifCond .eq 22, 3) := dk_153 0 22 (dk_at dksX4_order_4 18 rfl rfl)
theorem dX4_order_115 : decode cX4_order 115 = .ok (.aload_n 0, 1) := dk_42 (dk_at dksX4_order_4 21 rfl rfl)
theorem dX4_order_116 : decode cX4_order 116 = .ok (.getfield 18, 3) := dk_180 0 18 (dk_at dksX4_order_5 0 rfl rfl)
theorem dX4_order_119 : decode cX4_order 119 = .ok (.new 73, 3) := dk_187 0 73 (dk_at dksX4_order_5 3 rfl rfl)
theorem dX4_order_122 : decode cX4_order 122 = .ok (.dup, 1) := dk_89 (dk_at dksX4_order_5 6 rfl rfl)
theorem dX4_order_123 : decode cX4_order 123 = .ok (.iload_n 1, 1) := dk_27 (dk_at dksX4_order_5 7 rfl rfl)
theorem dX4_order_124 : decode cX4_order 124 = .ok (.iload_n 2, 1) := dk_28 (dk_at dksX4_order_5 8 rfl rfl)
theorem dX4_order_125 : decode cX4_order 125 = .ok (.aload 4, 2) := dk_25 4 (dk_at dksX4_order_5 9 rfl rfl)
theorem dX4_order_127 : decode cX4_order 127 = .ok (.invokespecial 75, 3) := dk_183 0 75 (dk_at dksX4_order_5 11 rfl rfl)
theorem dX4_order_130 : decode cX4_order 130 = .ok (.invokevirtual 78, 3) := dk_182 0 78 (dk_at dksX4_order_5 14 rfl rfl)
theorem dX4_order_133 : decode cX4_order 133 = .ok (.pop, 1) := dk_87 (dk_at dksX4_order_5 17 rfl rfl)
theorem dX4_order_134 : decode cX4_order 134 = .ok (.iload 5, 2) := dk_21 5 (dk_at dksX4_order_5 18 rfl rfl)
theorem dX4_order_136 : decode cX4_order 136 = .ok (.ireturn, 1) := dk_172 (dk_at dksX4_order_5 20 rfl rfl)
abbrev cX4_letter : ByteArray := prog_4_method_2_code
def yX4_letter : MethodName := ⟨RX4, "letter", "(I)I"⟩
def dkwX4_letter_3 : List UInt8 := [29, 153, 0, 7, 28, 167, 0, 4, 2, 172]
abbrev dktX4_letter_3 : List UInt8 := dkwX4_letter_3 ++ []
def dkwX4_letter_2 : List UInt8 := [28, 27, 159, 0, 7, 4, 167, 0, 4, 3, 62, 42, 89, 180, 0, 22, 29, 184, 0, 44, 96, 181, 0, 22]
abbrev dktX4_letter_2 : List UInt8 := dkwX4_letter_2 ++ dktX4_letter_3
def dkwX4_letter_1 : List UInt8 := [42, 180, 0, 22, 182, 0, 36, 16, 65, 100, 167, 0, 4, 2, 61, 28, 3, 8, 184, 0, 40, 153, 0, 12]
abbrev dktX4_letter_1 : List UInt8 := dkwX4_letter_1 ++ dktX4_letter_2
def dkwX4_letter_0 : List UInt8 := [42, 180, 0, 22, 42, 180, 0, 3, 180, 0, 26, 182, 0, 30, 162, 0, 23, 42, 180, 0, 3, 180, 0, 26]
abbrev dktX4_letter_0 : List UInt8 := dkwX4_letter_0 ++ dktX4_letter_1
theorem dksX4_letter_0 : cX4_letter.data.toList.drop 0 = dktX4_letter_0 := by decide +kernel
theorem dksX4_letter_1 : cX4_letter.data.toList.drop 24 = dktX4_letter_1 := dk_seg dksX4_letter_0 24 rfl rfl
theorem dksX4_letter_2 : cX4_letter.data.toList.drop 48 = dktX4_letter_2 := dk_seg dksX4_letter_1 24 rfl rfl
theorem dksX4_letter_3 : cX4_letter.data.toList.drop 72 = dktX4_letter_3 := dk_seg dksX4_letter_2 24 rfl rfl
theorem dX4_letter_0 : decode cX4_letter 0 = .ok (.aload_n 0, 1) := dk_42 (dk_at dksX4_letter_0 0 rfl rfl)
theorem dX4_letter_1 : decode cX4_letter 1 = .ok (.getfield 22, 3) := dk_180 0 22 (dk_at dksX4_letter_0 1 rfl rfl)
theorem dX4_letter_4 : decode cX4_letter 4 = .ok (.aload_n 0, 1) := dk_42 (dk_at dksX4_letter_0 4 rfl rfl)
theorem dX4_letter_5 : decode cX4_letter 5 = .ok (.getfield 3, 3) := dk_180 0 3 (dk_at dksX4_letter_0 5 rfl rfl)
theorem dX4_letter_8 : decode cX4_letter 8 = .ok (.getfield 26, 3) := dk_180 0 26 (dk_at dksX4_letter_0 8 rfl rfl)
theorem dX4_letter_11 : decode cX4_letter 11 = .ok (.invokevirtual 30, 3) := dk_182 0 30 (dk_at dksX4_letter_0 11 rfl rfl)
theorem dX4_letter_14 : decode cX4_letter 14 = .ok (.if_icmp .ge 23, 3) := dk_162 0 23 (dk_at dksX4_letter_0 14 rfl rfl)
theorem dX4_letter_17 : decode cX4_letter 17 = .ok (.aload_n 0, 1) := dk_42 (dk_at dksX4_letter_0 17 rfl rfl)
theorem dX4_letter_18 : decode cX4_letter 18 = .ok (.getfield 3, 3) := dk_180 0 3 (dk_at dksX4_letter_0 18 rfl rfl)
theorem dX4_letter_21 : decode cX4_letter 21 = .ok (.getfield 26, 3) := dk_180 0 26 (dk_at dksX4_letter_0 21 rfl rfl)
theorem dX4_letter_24 : decode cX4_letter 24 = .ok (.aload_n 0, 1) := dk_42 (dk_at dksX4_letter_1 0 rfl rfl)
theorem dX4_letter_25 : decode cX4_letter 25 = .ok (.getfield 22, 3) := dk_180 0 22 (dk_at dksX4_letter_1 1 rfl rfl)
theorem dX4_letter_28 : decode cX4_letter 28 = .ok (.invokevirtual 36, 3) := dk_182 0 36 (dk_at dksX4_letter_1 4 rfl rfl)
theorem dX4_letter_31 : decode cX4_letter 31 = .ok (.bipush 65, 2) := dk_16 65 (dk_at dksX4_letter_1 7 rfl rfl)
theorem dX4_letter_33 : decode cX4_letter 33 = .ok (.isub, 1) := dk_100 (dk_at dksX4_letter_1 9 rfl rfl)
theorem dX4_letter_34 : decode cX4_letter 34 = .ok (.goto 4, 3) := dk_167 0 4 (dk_at dksX4_letter_1 10 rfl rfl)
theorem dX4_letter_37 : decode cX4_letter 37 = .ok (.iconst (-1), 1) := dk_2 (dk_at dksX4_letter_1 13 rfl rfl)
theorem dX4_letter_38 : decode cX4_letter 38 = .ok (.istore_n 2, 1) := dk_61 (dk_at dksX4_letter_1 14 rfl rfl)
theorem dX4_letter_39 : decode cX4_letter 39 = .ok (.iload_n 2, 1) := dk_28 (dk_at dksX4_letter_1 15 rfl rfl)
theorem dX4_letter_40 : decode cX4_letter 40 = .ok (.iconst 0, 1) := dk_3 (dk_at dksX4_letter_1 16 rfl rfl)
theorem dX4_letter_41 : decode cX4_letter 41 = .ok (.iconst 5, 1) := dk_8 (dk_at dksX4_letter_1 17 rfl rfl)
theorem dX4_letter_42 : decode cX4_letter 42 = .ok (.invokestatic 40, 3) := dk_184 0 40 (dk_at dksX4_letter_1 18 rfl rfl)
theorem dX4_letter_45 : decode cX4_letter 45 = .ok (.ifCond .eq 12, 3) := dk_153 0 12 (dk_at dksX4_letter_1 21 rfl rfl)
theorem dX4_letter_48 : decode cX4_letter 48 = .ok (.iload_n 2, 1) := dk_28 (dk_at dksX4_letter_2 0 rfl rfl)
theorem dX4_letter_49 : decode cX4_letter 49 = .ok (.iload_n 1, 1) := dk_27 (dk_at dksX4_letter_2 1 rfl rfl)
theorem dX4_letter_50 : decode cX4_letter 50 = .ok (.if_icmp .eq 7, 3) := dk_159 0 7 (dk_at dksX4_letter_2 2 rfl rfl)
theorem dX4_letter_53 : decode cX4_letter 53 = .ok (.iconst 1, 1) := dk_4 (dk_at dksX4_letter_2 5 rfl rfl)
theorem dX4_letter_54 : decode cX4_letter 54 = .ok (.goto 4, 3) := dk_167 0 4 (dk_at dksX4_letter_2 6 rfl rfl)
theorem dX4_letter_57 : decode cX4_letter 57 = .ok (.iconst 0, 1) := dk_3 (dk_at dksX4_letter_2 9 rfl rfl)
theorem dX4_letter_58 : decode cX4_letter 58 = .ok (.istore_n 3, 1) := dk_62 (dk_at dksX4_letter_2 10 rfl rfl)
theorem dX4_letter_59 : decode cX4_letter 59 = .ok (.aload_n 0, 1) := dk_42 (dk_at dksX4_letter_2 11 rfl rfl)
theorem dX4_letter_60 : decode cX4_letter 60 = .ok (.dup, 1) := dk_89 (dk_at dksX4_letter_2 12 rfl rfl)
theorem dX4_letter_61 : decode cX4_letter 61 = .ok (.getfield 22, 3) := dk_180 0 22 (dk_at dksX4_letter_2 13 rfl rfl)
theorem dX4_letter_64 : decode cX4_letter 64 = .ok (.iload_n 3, 1) := dk_29 (dk_at dksX4_letter_2 16 rfl rfl)
theorem dX4_letter_65 : decode cX4_letter 65 = .ok (.invokestatic 44, 3) := dk_184 0 44 (dk_at dksX4_letter_2 17 rfl rfl)
theorem dX4_letter_68 : decode cX4_letter 68 = .ok (.iadd, 1) := dk_96 (dk_at dksX4_letter_2 20 rfl rfl)
theorem dX4_letter_69 : decode cX4_letter 69 = .ok (.putfield 22, 3) := dk_181 0 22 (dk_at dksX4_letter_2 21 rfl rfl)
theorem dX4_letter_72 : decode cX4_letter 72 = .ok (.iload_n 3, 1) := dk_29 (dk_at dksX4_letter_3 0 rfl rfl)
theorem dX4_letter_73 : decode cX4_letter 73 = .ok (.ifCond .eq 7, 3) := dk_153 0 7 (dk_at dksX4_letter_3 1 rfl rfl)
theorem dX4_letter_76 : decode cX4_letter 76 = .ok (.iload_n 2, 1) := dk_28 (dk_at dksX4_letter_3 4 rfl rfl)
theorem dX4_letter_77 : decode cX4_letter 77 = .ok (.goto 4, 3) := dk_167 0 4 (dk_at dksX4_letter_3 5 rfl rfl)
theorem dX4_letter_80 : decode cX4_letter 80 = .ok (.iconst (-1), 1) := dk_2 (dk_at dksX4_letter_3 8 rfl rfl)
theorem dX4_letter_81 : decode cX4_letter 81 = .ok (.ireturn, 1) := dk_172 (dk_at dksX4_letter_3 9 rfl rfl)
abbrev cX4_passes : ByteArray := prog_4_method_3_code
def yX4_passes : MethodName := ⟨RX4, "passes", "(Ljava/lang/CharSequence;)Z"⟩
def dkwX4_passes_3 : List UInt8 := [28, 43, 185, 0, 48, 1, 0, 160, 0, 7, 4, 167, 0, 4, 3, 172]
abbrev dktX4_passes_3 : List UInt8 := dkwX4_passes_3 ++ []
def dkwX4_passes_2 : List UInt8 := [185, 0, 51, 2, 0, 160, 0, 19, 132, 2, 1, 42, 89, 180, 0, 22, 4, 96, 181, 0, 22, 167, 255, 192]
abbrev dktX4_passes_2 : List UInt8 := dkwX4_passes_2 ++ dktX4_passes_3
def dkwX4_passes_1 : List UInt8 := [182, 0, 30, 162, 0, 43, 42, 180, 0, 3, 180, 0, 26, 42, 180, 0, 22, 182, 0, 36, 43, 28]
abbrev dktX4_passes_1 : List UInt8 := dkwX4_passes_1 ++ dktX4_passes_2
def dkwX4_passes_0 : List UInt8 := [3, 61, 28, 43, 185, 0, 48, 1, 0, 162, 0, 60, 42, 180, 0, 22, 42, 180, 0, 3, 180, 0, 26]
abbrev dktX4_passes_0 : List UInt8 := dkwX4_passes_0 ++ dktX4_passes_1
theorem dksX4_passes_0 : cX4_passes.data.toList.drop 0 = dktX4_passes_0 := by decide +kernel
theorem dksX4_passes_1 : cX4_passes.data.toList.drop 23 = dktX4_passes_1 := dk_seg dksX4_passes_0 23 rfl rfl
theorem dksX4_passes_2 : cX4_passes.data.toList.drop 45 = dktX4_passes_2 := dk_seg dksX4_passes_1 22 rfl rfl
theorem dksX4_passes_3 : cX4_passes.data.toList.drop 69 = dktX4_passes_3 := dk_seg dksX4_passes_2 24 rfl rfl
theorem dX4_passes_0 : decode cX4_passes 0 = .ok (.iconst 0, 1) := dk_3 (dk_at dksX4_passes_0 0 rfl rfl)
theorem dX4_passes_1 : decode cX4_passes 1 = .ok (.istore_n 2, 1) := dk_61 (dk_at dksX4_passes_0 1 rfl rfl)
theorem dX4_passes_2 : decode cX4_passes 2 = .ok (.iload_n 2, 1) := dk_28 (dk_at dksX4_passes_0 2 rfl rfl)
theorem dX4_passes_3 : decode cX4_passes 3 = .ok (.aload_n 1, 1) := dk_43 (dk_at dksX4_passes_0 3 rfl rfl)
theorem dX4_passes_4 : decode cX4_passes 4 = .ok (.invokeinterface 48 1, 5) := by decide +kernel
theorem dX4_passes_9 : decode cX4_passes 9 = .ok (.if_icmp .ge 60, 3) := dk_162 0 60 (dk_at dksX4_passes_0 9 rfl rfl)
theorem dX4_passes_12 : decode cX4_passes 12 = .ok (.aload_n 0, 1) := dk_42 (dk_at dksX4_passes_0 12 rfl rfl)
theorem dX4_passes_13 : decode cX4_passes 13 = .ok (.getfield 22, 3) := dk_180 0 22 (dk_at dksX4_passes_0 13 rfl rfl)
theorem dX4_passes_16 : decode cX4_passes 16 = .ok (.aload_n 0, 1) := dk_42 (dk_at dksX4_passes_0 16 rfl rfl)
theorem dX4_passes_17 : decode cX4_passes 17 = .ok (.getfield 3, 3) := dk_180 0 3 (dk_at dksX4_passes_0 17 rfl rfl)
theorem dX4_passes_20 : decode cX4_passes 20 = .ok (.getfield 26, 3) := dk_180 0 26 (dk_at dksX4_passes_0 20 rfl rfl)
theorem dX4_passes_23 : decode cX4_passes 23 = .ok (.invokevirtual 30, 3) := dk_182 0 30 (dk_at dksX4_passes_1 0 rfl rfl)
theorem dX4_passes_26 : decode cX4_passes 26 = .ok (.if_icmp .ge 43, 3) := dk_162 0 43 (dk_at dksX4_passes_1 3 rfl rfl)
theorem dX4_passes_29 : decode cX4_passes 29 = .ok (.aload_n 0, 1) := dk_42 (dk_at dksX4_passes_1 6 rfl rfl)
theorem dX4_passes_30 : decode cX4_passes 30 = .ok (.getfield 3, 3) := dk_180 0 3 (dk_at dksX4_passes_1 7 rfl rfl)
theorem dX4_passes_33 : decode cX4_passes 33 = .ok (.getfield 26, 3) := dk_180 0 26 (dk_at dksX4_passes_1 10 rfl rfl)
theorem dX4_passes_36 : decode cX4_passes 36 = .ok (.aload_n 0, 1) := dk_42 (dk_at dksX4_passes_1 13 rfl rfl)
theorem dX4_passes_37 : decode cX4_passes 37 = .ok (.getfield 22, 3) := dk_180 0 22 (dk_at dksX4_passes_1 14 rfl rfl)
theorem dX4_passes_40 : decode cX4_passes 40 = .ok (.invokevirtual 36, 3) := dk_182 0 36 (dk_at dksX4_passes_1 17 rfl rfl)
theorem dX4_passes_43 : decode cX4_passes 43 = .ok (.aload_n 1, 1) := dk_43 (dk_at dksX4_passes_1 20 rfl rfl)
theorem dX4_passes_44 : decode cX4_passes 44 = .ok (.iload_n 2, 1) := dk_28 (dk_at dksX4_passes_1 21 rfl rfl)
theorem dX4_passes_45 : decode cX4_passes 45 = .ok (.invokeinterface 51 2, 5) := by decide +kernel
theorem dX4_passes_50 : decode cX4_passes 50 = .ok (.if_icmp .ne 19, 3) := dk_160 0 19 (dk_at dksX4_passes_2 5 rfl rfl)
theorem dX4_passes_53 : decode cX4_passes 53 = .ok (.iinc 2 1, 3) := dk_132 2 1 (dk_at dksX4_passes_2 8 rfl rfl)
theorem dX4_passes_56 : decode cX4_passes 56 = .ok (.aload_n 0, 1) := dk_42 (dk_at dksX4_passes_2 11 rfl rfl)
theorem dX4_passes_57 : decode cX4_passes 57 = .ok (.dup, 1) := dk_89 (dk_at dksX4_passes_2 12 rfl rfl)
theorem dX4_passes_58 : decode cX4_passes 58 = .ok (.getfield 22, 3) := dk_180 0 22 (dk_at dksX4_passes_2 13 rfl rfl)
theorem dX4_passes_61 : decode cX4_passes 61 = .ok (.iconst 1, 1) := dk_4 (dk_at dksX4_passes_2 16 rfl rfl)
theorem dX4_passes_62 : decode cX4_passes 62 = .ok (.iadd, 1) := dk_96 (dk_at dksX4_passes_2 17 rfl rfl)
theorem dX4_passes_63 : decode cX4_passes 63 = .ok (.putfield 22, 3) := dk_181 0 22 (dk_at dksX4_passes_2 18 rfl rfl)
theorem dX4_passes_66 : decode cX4_passes 66 = .ok (.goto (-64), 3) := dk_167 255 192 (dk_at dksX4_passes_2 21 rfl rfl)
theorem dX4_passes_69 : decode cX4_passes 69 = .ok (.iload_n 2, 1) := dk_28 (dk_at dksX4_passes_3 0 rfl rfl)
theorem dX4_passes_70 : decode cX4_passes 70 = .ok (.aload_n 1, 1) := dk_43 (dk_at dksX4_passes_3 1 rfl rfl)
theorem dX4_passes_71 : decode cX4_passes 71 = .ok (.invokeinterface 48 1, 5) := by decide +kernel
theorem dX4_passes_76 : decode cX4_passes 76 = .ok (.if_icmp .ne 7, 3) := dk_160 0 7 (dk_at dksX4_passes_3 7 rfl rfl)
theorem dX4_passes_79 : decode cX4_passes 79 = .ok (.iconst 1, 1) := dk_4 (dk_at dksX4_passes_3 10 rfl rfl)
theorem dX4_passes_80 : decode cX4_passes 80 = .ok (.goto 4, 3) := dk_167 0 4 (dk_at dksX4_passes_3 11 rfl rfl)
theorem dX4_passes_83 : decode cX4_passes 83 = .ok (.iconst 0, 1) := dk_3 (dk_at dksX4_passes_3 14 rfl rfl)
theorem dX4_passes_84 : decode cX4_passes 84 = .ok (.ireturn, 1) := dk_172 (dk_at dksX4_passes_3 15 rfl rfl)
theorem q119 : (Jvm.Cond.initialized "CorridorPlan$Reader") ∈ lw_all := lw_g (lw_at lw_m1 26 rfl) rfl
theorem q259 : (Jvm.Cond.fieldLinkNest "CorridorPlan$Reader" (26 : Nat) "CorridorPlan" "buffer" "Ljava/lang/StringBuilder;" "CorridorPlan") ∈ lw_tbl := lw_at lw_m1 166 rfl
theorem q430 : (Jvm.Cond.selects "CorridorPlan$Reader" ({ cls := "java/lang/Object", name := "getClass", desc := "()Ljava/lang/Class;" } : Jvm.MethodName) ({ cls := "java/lang/Object", name := "getClass", desc := "()Ljava/lang/Class;" } : Jvm.MethodName)) ∈ lw_all := lw_g (lw_at lw_m2 97 rfl) rfl
theorem q847 : (Jvm.Cond.instantiable "CorridorPlan$Reader" (3 : Nat)) ∈ lw_all := lw_g (lw_at lw_m4 34 rfl) rfl
theorem q849 : (Jvm.Cond.instanceMethod ({ cls := "CorridorPlan$Reader", name := "<init>", desc := "(LCorridorPlan;)V" } : Jvm.MethodName)) ∈ lw_all := lw_g (lw_at lw_m4 36 rfl) rfl
theorem q850 : (Jvm.Cond.code ({ cls := "CorridorPlan$Reader", name := "<init>", desc := "(LCorridorPlan;)V" } : Jvm.MethodName) prog_4_method_1_code (2 : Nat) (Option.none : Option Jvm.ClassFile.FieldType)) ∈ lw_all := lw_g (lw_at lw_m4 37 rfl) rfl
theorem q851 : (Jvm.Cond.methodLink "CorridorPlan$Reader" (9 : Nat) ({ cls := "java/lang/Object", name := "<init>", desc := "()V" } : Jvm.MethodName)) ∈ lw_all := lw_g (lw_at lw_m4 38 rfl) rfl
theorem q852 : (Jvm.Cond.classLink "CorridorPlan$Reader" (15 : Nat) "java/util/ArrayList") ∈ lw_all := lw_g (lw_at lw_m4 39 rfl) rfl
theorem q854 : (Jvm.Cond.methodLink "CorridorPlan$Reader" (17 : Nat) ({ cls := "java/util/ArrayList", name := "<init>", desc := "()V" } : Jvm.MethodName)) ∈ lw_all := lw_g (lw_at lw_m4 41 rfl) rfl
theorem q875 : (Jvm.Cond.fieldLink "CorridorPlan$Reader" (18 : Nat) "CorridorPlan$Reader" "orders" "Ljava/util/ArrayList;") ∈ lw_all := lw_g (lw_at lw_m4 62 rfl) rfl
theorem q877 : (Jvm.Cond.fieldLink "CorridorPlan$Reader" (22 : Nat) "CorridorPlan$Reader" "at" "I") ∈ lw_all := lw_g (lw_at lw_m4 64 rfl) rfl
theorem q879 : (Jvm.Cond.fieldLink "CorridorPlan$Reader" (3 : Nat) "CorridorPlan$Reader" "this$0" "LCorridorPlan;") ∈ lw_all := lw_g (lw_at lw_m4 66 rfl) rfl
theorem q880 : (Jvm.Cond.laysFinal "CorridorPlan$Reader" "CorridorPlan$Reader" "orders" "Ljava/util/ArrayList;") ∈ lw_all := lw_g (lw_at lw_m4 67 rfl) rfl
theorem q881 : (Jvm.Cond.soleField "CorridorPlan$Reader" "orders") ∈ lw_all := lw_g (lw_at lw_m4 68 rfl) rfl
theorem q882 : (Jvm.Cond.lays "CorridorPlan$Reader" "CorridorPlan$Reader" "at" "I") ∈ lw_all := lw_g (lw_at lw_m4 69 rfl) rfl
theorem q883 : (Jvm.Cond.soleField "CorridorPlan$Reader" "at") ∈ lw_all := lw_g (lw_at lw_m4 70 rfl) rfl
theorem q884 : (Jvm.Cond.laysFinal "CorridorPlan$Reader" "CorridorPlan$Reader" "this$0" "LCorridorPlan;") ∈ lw_all := lw_g (lw_at lw_m4 71 rfl) rfl
theorem q885 : (Jvm.Cond.soleField "CorridorPlan$Reader" "this$0") ∈ lw_all := lw_g (lw_at lw_m4 72 rfl) rfl
theorem q886 : (Jvm.Cond.superclass "CorridorPlan$Reader" "java/lang/Object") ∈ lw_all := lw_g (lw_at lw_m4 73 rfl) rfl
theorem q888 : (Jvm.Cond.instanceMethod ({ cls := "CorridorPlan$Reader", name := "isWhole", desc := "()Z" } : Jvm.MethodName)) ∈ lw_all := lw_g (lw_at lw_m4 75 rfl) rfl
theorem q889 : (Jvm.Cond.selects "CorridorPlan$Reader" ({ cls := "CorridorPlan$Reader", name := "isWhole", desc := "()Z" } : Jvm.MethodName) ({ cls := "CorridorPlan$Reader", name := "isWhole", desc := "()Z" } : Jvm.MethodName)) ∈ lw_all := lw_g (lw_at lw_m4 76 rfl) rfl
theorem q890 : (Jvm.Cond.code ({ cls := "CorridorPlan$Reader", name := "isWhole", desc := "()Z" } : Jvm.MethodName) prog_4_method_5_code (2 : Nat) (Option.some Jvm.ClassFile.FieldType.boolean)) ∈ lw_all := lw_g (lw_at lw_m4 77 rfl) rfl
theorem q891 : (Jvm.Cond.methodLink "CorridorPlan$Reader" (82 : Nat) ({ cls := "CorridorPlan$Reader", name := "order", desc := "()Z" } : Jvm.MethodName)) ∈ lw_all := lw_g (lw_at lw_m4 78 rfl) rfl
theorem q892 : (Jvm.Cond.privateMethod ({ cls := "CorridorPlan$Reader", name := "order", desc := "()Z" } : Jvm.MethodName)) ∈ lw_tbl := lw_at lw_m4 79 rfl
theorem q893 : (Jvm.Cond.instanceMethod ({ cls := "CorridorPlan$Reader", name := "order", desc := "()Z" } : Jvm.MethodName)) ∈ lw_all := lw_g (lw_at lw_m4 80 rfl) rfl
theorem q894 : (Jvm.Cond.code ({ cls := "CorridorPlan$Reader", name := "order", desc := "()Z" } : Jvm.MethodName) prog_4_method_4_code (6 : Nat) (Option.some Jvm.ClassFile.FieldType.boolean)) ∈ lw_all := lw_g (lw_at lw_m4 81 rfl) rfl
theorem q895 : (Jvm.Cond.methodLink "CorridorPlan$Reader" (52 : Nat) ({ cls := "CorridorPlan$Reader", name := "letter", desc := "(I)I" } : Jvm.MethodName)) ∈ lw_all := lw_g (lw_at lw_m4 82 rfl) rfl
theorem q896 : (Jvm.Cond.privateMethod ({ cls := "CorridorPlan$Reader", name := "letter", desc := "(I)I" } : Jvm.MethodName)) ∈ lw_tbl := lw_at lw_m4 83 rfl
theorem q897 : (Jvm.Cond.instanceMethod ({ cls := "CorridorPlan$Reader", name := "letter", desc := "(I)I" } : Jvm.MethodName)) ∈ lw_all := lw_g (lw_at lw_m4 84 rfl) rfl
theorem q898 : (Jvm.Cond.code ({ cls := "CorridorPlan$Reader", name := "letter", desc := "(I)I" } : Jvm.MethodName) prog_4_method_2_code (4 : Nat) (Option.some Jvm.ClassFile.FieldType.int)) ∈ lw_all := lw_g (lw_at lw_m4 85 rfl) rfl
theorem q899 : (Jvm.Cond.methodLink "CorridorPlan$Reader" (30 : Nat) ({ cls := "java/lang/StringBuilder", name := "length", desc := "()I" } : Jvm.MethodName)) ∈ lw_all := lw_g (lw_at lw_m4 86 rfl) rfl
theorem q900 : (Jvm.Cond.methodLink "CorridorPlan$Reader" (36 : Nat) ({ cls := "java/lang/StringBuilder", name := "charAt", desc := "(I)C" } : Jvm.MethodName)) ∈ lw_all := lw_g (lw_at lw_m4 87 rfl) rfl
theorem q915 : (Jvm.Cond.methodLinkNest "CorridorPlan$Reader" (40 : Nat) ({ cls := "CorridorPlan", name := "inRange", desc := "(III)Z" } : Jvm.MethodName) "CorridorPlan") ∈ lw_tbl := lw_at lw_m4 102 rfl
theorem q916 : (Jvm.Cond.methodLinkNest "CorridorPlan$Reader" (44 : Nat) ({ cls := "CorridorPlan", name := "flag", desc := "(Z)I" } : Jvm.MethodName) "CorridorPlan") ∈ lw_tbl := lw_at lw_m4 103 rfl
theorem q917 : (Jvm.Cond.stringRef "CorridorPlan$Reader" (56 : Nat) ":") ∈ lw_tbl := lw_at lw_m4 104 rfl
theorem q918 : (Jvm.Cond.methodLink "CorridorPlan$Reader" (58 : Nat) ({ cls := "CorridorPlan$Reader", name := "passes", desc := "(Ljava/lang/CharSequence;)Z" } : Jvm.MethodName)) ∈ lw_all := lw_g (lw_at lw_m4 105 rfl) rfl
theorem q919 : (Jvm.Cond.privateMethod ({ cls := "CorridorPlan$Reader", name := "passes", desc := "(Ljava/lang/CharSequence;)Z" } : Jvm.MethodName)) ∈ lw_tbl := lw_at lw_m4 106 rfl
theorem q920 : (Jvm.Cond.instanceMethod ({ cls := "CorridorPlan$Reader", name := "passes", desc := "(Ljava/lang/CharSequence;)Z" } : Jvm.MethodName)) ∈ lw_all := lw_g (lw_at lw_m4 107 rfl) rfl
theorem q921 : (Jvm.Cond.code ({ cls := "CorridorPlan$Reader", name := "passes", desc := "(Ljava/lang/CharSequence;)Z" } : Jvm.MethodName) prog_4_method_3_code (3 : Nat) (Option.some Jvm.ClassFile.FieldType.boolean)) ∈ lw_all := lw_g (lw_at lw_m4 108 rfl) rfl
theorem q922 : (Jvm.Cond.interfaceEntry "CorridorPlan$Reader" (48 : Nat)) ∈ lw_tbl := lw_at lw_m4 109 rfl
theorem q923 : (Jvm.Cond.methodLink "CorridorPlan$Reader" (48 : Nat) ({ cls := "java/lang/CharSequence", name := "length", desc := "()I" } : Jvm.MethodName)) ∈ lw_all := lw_g (lw_at lw_m4 110 rfl) rfl
theorem q934 : (Jvm.Cond.interfaceEntry "CorridorPlan$Reader" (51 : Nat)) ∈ lw_tbl := lw_at lw_m4 121 rfl
theorem q935 : (Jvm.Cond.methodLink "CorridorPlan$Reader" (51 : Nat) ({ cls := "java/lang/CharSequence", name := "charAt", desc := "(I)C" } : Jvm.MethodName)) ∈ lw_all := lw_g (lw_at lw_m4 122 rfl) rfl
theorem q961 : (Jvm.Cond.methodLink "CorridorPlan$Reader" (62 : Nat) ({ cls := "CorridorPlan$Walkers", name := "wordFor", desc := "(C)Ljava/lang/String;" } : Jvm.MethodName)) ∈ lw_all := lw_g (lw_at lw_m4 148 rfl) rfl
theorem q970 : (Jvm.Cond.stringRef "CorridorPlan$Reader" (68 : Nat) "") ∈ lw_tbl := lw_at lw_m4 157 rfl
theorem q971 : (Jvm.Cond.methodLink "CorridorPlan$Reader" (70 : Nat) ({ cls := "java/lang/String", name := "length", desc := "()I" } : Jvm.MethodName)) ∈ lw_all := lw_g (lw_at lw_m4 158 rfl) rfl
theorem q972 : (Jvm.Cond.classLink "CorridorPlan$Reader" (73 : Nat) "CorridorPlan$Order") ∈ lw_all := lw_g (lw_at lw_m4 159 rfl) rfl
theorem q974 : (Jvm.Cond.methodLink "CorridorPlan$Reader" (75 : Nat) ({ cls := "CorridorPlan$Order", name := "<init>", desc := "(IILjava/lang/String;)V" } : Jvm.MethodName)) ∈ lw_all := lw_g (lw_at lw_m4 161 rfl) rfl
theorem q991 : (Jvm.Cond.methodLink "CorridorPlan$Reader" (78 : Nat) ({ cls := "java/util/ArrayList", name := "add", desc := "(Ljava/lang/Object;)Z" } : Jvm.MethodName)) ∈ lw_all := lw_g (lw_at lw_m4 178 rfl) rfl
theorem q1011 : (Jvm.Cond.stringRef "CorridorPlan$Reader" (86 : Nat) ";") ∈ lw_tbl := lw_at lw_m4 198 rfl
theorem q1817 : (Jvm.Cond.castable "CorridorPlan$Reader" "java/lang/Object") ∈ lw_tbl := lw_at lw_m8 44 rfl
theorem in_X4 : ∀ w ∈ wsX40, w ∈ lw_all := lw_in wsX40 [880, 882, 884] (by decide +kernel) (by decide +kernel)
/-! java/util/AbstractList -/
set_option maxRecDepth 100000
def RJ20 : String := "java/util/AbstractList"
abbrev cJ20_init : ByteArray := prog_37_method_1_code
def yJ20_init : MethodName := ⟨RJ20, "<init>", "()V"⟩
def dkwJ20_init_0 : List UInt8 := [42, 183, 0, 1, 42, 3, 181, 0, 7, 177]
abbrev dktJ20_init_0 : List UInt8 := dkwJ20_init_0 ++ []
theorem dksJ20_init_0 : cJ20_init.data.toList.drop 0 = dktJ20_init_0 := by decide +kernel
theorem dJ20_init_0 : decode cJ20_init 0 = .ok (.aload_n 0, 1) := dk_42 (dk_at dksJ20_init_0 0 rfl rfl)
theorem dJ20_init_1 : decode cJ20_init 1 = .ok (.invokespecial 1, 3) := dk_183 0 1 (dk_at dksJ20_init_0 1 rfl rfl)
theorem dJ20_init_4 : decode cJ20_init 4 = .ok (.aload_n 0, 1) := dk_42 (dk_at dksJ20_init_0 4 rfl rfl)
theorem dJ20_init_5 : decode cJ20_init 5 = .ok (.iconst 0, 1) := dk_3 (dk_at dksJ20_init_0 5 rfl rfl)
theorem dJ20_init_6 : decode cJ20_init 6 = .ok (.putfield 7, 3) := dk_181 0 7 (dk_at dksJ20_init_0 6 rfl rfl)
theorem dJ20_init_9 : decode cJ20_init 9 = .ok (.return_, 1) := dk_177 (dk_at dksJ20_init_0 9 rfl rfl)
theorem q120 : (Jvm.Cond.initialized "java/util/AbstractList") ∈ lw_all := lw_g (lw_at lw_m1 27 rfl) rfl
theorem q858 : (Jvm.Cond.instanceMethod ({ cls := "java/util/AbstractList", name := "<init>", desc := "()V" } : Jvm.MethodName)) ∈ lw_all := lw_g (lw_at lw_m4 45 rfl) rfl
theorem q859 : (Jvm.Cond.code ({ cls := "java/util/AbstractList", name := "<init>", desc := "()V" } : Jvm.MethodName) prog_37_method_1_code (1 : Nat) (Option.none : Option Jvm.ClassFile.FieldType)) ∈ lw_all := lw_g (lw_at lw_m4 46 rfl) rfl
theorem q860 : (Jvm.Cond.methodLink "java/util/AbstractList" (1 : Nat) ({ cls := "java/util/AbstractCollection", name := "<init>", desc := "()V" } : Jvm.MethodName)) ∈ lw_all := lw_g (lw_at lw_m4 47 rfl) rfl
theorem q865 : (Jvm.Cond.fieldLink "java/util/AbstractList" (7 : Nat) "java/util/AbstractList" "modCount" "I") ∈ lw_all := lw_g (lw_at lw_m4 52 rfl) rfl
theorem q873 : (Jvm.Cond.soleField "java/util/AbstractList" "modCount") ∈ lw_all := lw_g (lw_at lw_m4 60 rfl) rfl
/-! java/util/ArrayList -/
set_option maxRecDepth 100000
def RJ21 : String := "java/util/ArrayList"
def TJ21 : u_T := fun k => match k with
  | 0 => ("java/util/AbstractList", "modCount", "I", false)
  | 1 => ("java/util/ArrayList", "elementData", "[Ljava/lang/Object;", false)
  | _ => ("java/util/ArrayList", "size", "I", false)
def tyJ21 : Nat → FieldType := fun k => match k with
  | 0 => .int
  | 1 => .array (.object "java/lang/Object")
  | _ => .int
abbrev wsJ210 : List Cond := u_ws RJ21 TJ21 3
theorem nmJ21 : ∀ a, a < 3 → ∀ b, b < 3 → a ≠ b → (TJ21 a).2.1 ≠ (TJ21 b).2.1 := by decide +kernel
theorem tyJ21_ok : ∀ k, k < 3 → parseFieldDescriptor (TJ21 k).2.2.1 = some (tyJ21 k) := by decide +kernel
abbrev cJ21_init : ByteArray := prog_39_method_2_code
def yJ21_init : MethodName := ⟨RJ21, "<init>", "()V"⟩
def dkwJ21_init_0 : List UInt8 := [42, 183, 0, 1, 42, 178, 0, 39, 181, 0, 9, 177]
abbrev dktJ21_init_0 : List UInt8 := dkwJ21_init_0 ++ []
theorem dksJ21_init_0 : cJ21_init.data.toList.drop 0 = dktJ21_init_0 := by decide +kernel
theorem dJ21_init_0 : decode cJ21_init 0 = .ok (.aload_n 0, 1) := dk_42 (dk_at dksJ21_init_0 0 rfl rfl)
theorem dJ21_init_1 : decode cJ21_init 1 = .ok (.invokespecial 1, 3) := dk_183 0 1 (dk_at dksJ21_init_0 1 rfl rfl)
theorem dJ21_init_4 : decode cJ21_init 4 = .ok (.aload_n 0, 1) := dk_42 (dk_at dksJ21_init_0 4 rfl rfl)
theorem dJ21_init_5 : decode cJ21_init 5 = .ok (.getstatic 39, 3) := dk_178 0 39 (dk_at dksJ21_init_0 5 rfl rfl)
theorem dJ21_init_8 : decode cJ21_init 8 = .ok (.putfield 9, 3) := dk_181 0 9 (dk_at dksJ21_init_0 8 rfl rfl)
theorem dJ21_init_11 : decode cJ21_init 11 = .ok (.return_, 1) := dk_177 (dk_at dksJ21_init_0 11 rfl rfl)
abbrev cJ21_add : ByteArray := prog_39_method_25_code
def yJ21_add : MethodName := ⟨RJ21, "add", "(Ljava/lang/Object;)Z"⟩
def dkwJ21_add_1 : List UInt8 := [172]
abbrev dktJ21_add_1 : List UInt8 := dkwJ21_add_1 ++ []
def dkwJ21_add_0 : List UInt8 := [42, 89, 180, 0, 63, 4, 96, 181, 0, 63, 42, 43, 42, 180, 0, 9, 42, 180, 0, 48, 182, 0, 131, 4]
abbrev dktJ21_add_0 : List UInt8 := dkwJ21_add_0 ++ dktJ21_add_1
theorem dksJ21_add_0 : cJ21_add.data.toList.drop 0 = dktJ21_add_0 := by decide +kernel
theorem dksJ21_add_1 : cJ21_add.data.toList.drop 24 = dktJ21_add_1 := dk_seg dksJ21_add_0 24 rfl rfl
theorem dJ21_add_0 : decode cJ21_add 0 = .ok (.aload_n 0, 1) := dk_42 (dk_at dksJ21_add_0 0 rfl rfl)
theorem dJ21_add_1 : decode cJ21_add 1 = .ok (.dup, 1) := dk_89 (dk_at dksJ21_add_0 1 rfl rfl)
theorem dJ21_add_2 : decode cJ21_add 2 = .ok (.getfield 63, 3) := dk_180 0 63 (dk_at dksJ21_add_0 2 rfl rfl)
theorem dJ21_add_5 : decode cJ21_add 5 = .ok (.iconst 1, 1) := dk_4 (dk_at dksJ21_add_0 5 rfl rfl)
theorem dJ21_add_6 : decode cJ21_add 6 = .ok (.iadd, 1) := dk_96 (dk_at dksJ21_add_0 6 rfl rfl)
theorem dJ21_add_7 : decode cJ21_add 7 = .ok (.putfield 63, 3) := dk_181 0 63 (dk_at dksJ21_add_0 7 rfl rfl)
theorem dJ21_add_10 : decode cJ21_add 10 = .ok (.aload_n 0, 1) := dk_42 (dk_at dksJ21_add_0 10 rfl rfl)
theorem dJ21_add_11 : decode cJ21_add 11 = .ok (.aload_n 1, 1) := dk_43 (dk_at dksJ21_add_0 11 rfl rfl)
theorem dJ21_add_12 : decode cJ21_add 12 = .ok (.aload_n 0, 1) := dk_42 (dk_at dksJ21_add_0 12 rfl rfl)
theorem dJ21_add_13 : decode cJ21_add 13 = .ok (.getfield 9, 3) := dk_180 0 9 (dk_at dksJ21_add_0 13 rfl rfl)
theorem dJ21_add_16 : decode cJ21_add 16 = .ok (.aload_n 0, 1) := dk_42 (dk_at dksJ21_add_0 16 rfl rfl)
theorem dJ21_add_17 : decode cJ21_add 17 = .ok (.getfield 48, 3) := dk_180 0 48 (dk_at dksJ21_add_0 17 rfl rfl)
theorem dJ21_add_20 : decode cJ21_add 20 = .ok (.invokevirtual 131, 3) := dk_182 0 131 (dk_at dksJ21_add_0 20 rfl rfl)
theorem dJ21_add_23 : decode cJ21_add 23 = .ok (.iconst 1, 1) := dk_4 (dk_at dksJ21_add_0 23 rfl rfl)
theorem dJ21_add_24 : decode cJ21_add 24 = .ok (.ireturn, 1) := dk_172 (dk_at dksJ21_add_1 0 rfl rfl)
abbrev cJ21_add_2 : ByteArray := prog_39_method_24_code
def yJ21_add_2 : MethodName := ⟨RJ21, "add", "(Ljava/lang/Object;[Ljava/lang/Object;I)V"⟩
def dkwJ21_add_2_0 : List UInt8 := [29, 44, 190, 160, 0, 8, 42, 182, 0, 129, 77, 44, 29, 43, 83, 42, 29, 4, 96, 181, 0, 48, 177]
abbrev dktJ21_add_2_0 : List UInt8 := dkwJ21_add_2_0 ++ []
theorem dksJ21_add_2_0 : cJ21_add_2.data.toList.drop 0 = dktJ21_add_2_0 := by decide +kernel
theorem dJ21_add_2_0 : decode cJ21_add_2 0 = .ok (.iload_n 3, 1) := dk_29 (dk_at dksJ21_add_2_0 0 rfl rfl)
theorem dJ21_add_2_1 : decode cJ21_add_2 1 = .ok (.aload_n 2, 1) := dk_44 (dk_at dksJ21_add_2_0 1 rfl rfl)
theorem dJ21_add_2_2 : decode cJ21_add_2 2 = .ok (.arraylength, 1) := dk_190 (dk_at dksJ21_add_2_0 2 rfl rfl)
theorem dJ21_add_2_3 : decode cJ21_add_2 3 = .ok (.if_icmp .ne 8, 3) := dk_160 0 8 (dk_at dksJ21_add_2_0 3 rfl rfl)
theorem dJ21_add_2_6 : decode cJ21_add_2 6 = .ok (.aload_n 0, 1) := dk_42 (dk_at dksJ21_add_2_0 6 rfl rfl)
theorem dJ21_add_2_7 : decode cJ21_add_2 7 = .ok (.invokevirtual 129, 3) := dk_182 0 129 (dk_at dksJ21_add_2_0 7 rfl rfl)
theorem dJ21_add_2_10 : decode cJ21_add_2 10 = .ok (.astore_n 2, 1) := dk_77 (dk_at dksJ21_add_2_0 10 rfl rfl)
theorem dJ21_add_2_11 : decode cJ21_add_2 11 = .ok (.aload_n 2, 1) := dk_44 (dk_at dksJ21_add_2_0 11 rfl rfl)
theorem dJ21_add_2_12 : decode cJ21_add_2 12 = .ok (.iload_n 3, 1) := dk_29 (dk_at dksJ21_add_2_0 12 rfl rfl)
theorem dJ21_add_2_13 : decode cJ21_add_2 13 = .ok (.aload_n 1, 1) := dk_43 (dk_at dksJ21_add_2_0 13 rfl rfl)
theorem dJ21_add_2_14 : decode cJ21_add_2 14 = .ok (.aastore, 1) := dk_83 (dk_at dksJ21_add_2_0 14 rfl rfl)
theorem dJ21_add_2_15 : decode cJ21_add_2 15 = .ok (.aload_n 0, 1) := dk_42 (dk_at dksJ21_add_2_0 15 rfl rfl)
theorem dJ21_add_2_16 : decode cJ21_add_2 16 = .ok (.iload_n 3, 1) := dk_29 (dk_at dksJ21_add_2_0 16 rfl rfl)
theorem dJ21_add_2_17 : decode cJ21_add_2 17 = .ok (.iconst 1, 1) := dk_4 (dk_at dksJ21_add_2_0 17 rfl rfl)
theorem dJ21_add_2_18 : decode cJ21_add_2 18 = .ok (.iadd, 1) := dk_96 (dk_at dksJ21_add_2_0 18 rfl rfl)
theorem dJ21_add_2_19 : decode cJ21_add_2 19 = .ok (.putfield 48, 3) := dk_181 0 48 (dk_at dksJ21_add_2_0 19 rfl rfl)
theorem dJ21_add_2_22 : decode cJ21_add_2 22 = .ok (.return_, 1) := dk_177 (dk_at dksJ21_add_2_0 22 rfl rfl)
abbrev cJ21_grow : ByteArray := prog_39_method_7_code
def yJ21_grow : MethodName := ⟨RJ21, "grow", "()[Ljava/lang/Object;"⟩
def dkwJ21_grow_0 : List UInt8 := [42, 42, 180, 0, 48, 4, 96, 182, 0, 69, 176]
abbrev dktJ21_grow_0 : List UInt8 := dkwJ21_grow_0 ++ []
theorem dksJ21_grow_0 : cJ21_grow.data.toList.drop 0 = dktJ21_grow_0 := by decide +kernel
theorem dJ21_grow_0 : decode cJ21_grow 0 = .ok (.aload_n 0, 1) := dk_42 (dk_at dksJ21_grow_0 0 rfl rfl)
theorem dJ21_grow_1 : decode cJ21_grow 1 = .ok (.aload_n 0, 1) := dk_42 (dk_at dksJ21_grow_0 1 rfl rfl)
theorem dJ21_grow_2 : decode cJ21_grow 2 = .ok (.getfield 48, 3) := dk_180 0 48 (dk_at dksJ21_grow_0 2 rfl rfl)
theorem dJ21_grow_5 : decode cJ21_grow 5 = .ok (.iconst 1, 1) := dk_4 (dk_at dksJ21_grow_0 5 rfl rfl)
theorem dJ21_grow_6 : decode cJ21_grow 6 = .ok (.iadd, 1) := dk_96 (dk_at dksJ21_grow_0 6 rfl rfl)
theorem dJ21_grow_7 : decode cJ21_grow 7 = .ok (.invokevirtual 69, 3) := dk_182 0 69 (dk_at dksJ21_grow_0 7 rfl rfl)
theorem dJ21_grow_10 : decode cJ21_grow 10 = .ok (.areturn, 1) := dk_176 (dk_at dksJ21_grow_0 10 rfl rfl)
abbrev cJ21_grow_2 : ByteArray := prog_39_method_6_code
def yJ21_grow_2 : MethodName := ⟨RJ21, "grow", "(I)[Ljava/lang/Object;"⟩
def dkwJ21_grow_2_2 : List UInt8 := [27, 184, 0, 79, 189, 0, 7, 90, 181, 0, 9, 176]
abbrev dktJ21_grow_2_2 : List UInt8 := dkwJ21_grow_2_2 ++ []
def dkwJ21_grow_2_1 : List UInt8 := [28, 4, 122, 184, 0, 73, 62, 42, 42, 180, 0, 9, 29, 184, 0, 66, 90, 181, 0, 9, 176, 42, 16, 10]
abbrev dktJ21_grow_2_1 : List UInt8 := dkwJ21_grow_2_1 ++ dktJ21_grow_2_2
def dkwJ21_grow_2_0 : List UInt8 := [42, 180, 0, 9, 190, 61, 28, 157, 0, 13, 42, 180, 0, 9, 178, 0, 39, 165, 0, 28, 28, 27, 28, 100]
abbrev dktJ21_grow_2_0 : List UInt8 := dkwJ21_grow_2_0 ++ dktJ21_grow_2_1
theorem dksJ21_grow_2_0 : cJ21_grow_2.data.toList.drop 0 = dktJ21_grow_2_0 := by decide +kernel
theorem dksJ21_grow_2_1 : cJ21_grow_2.data.toList.drop 24 = dktJ21_grow_2_1 := dk_seg dksJ21_grow_2_0 24 rfl rfl
theorem dksJ21_grow_2_2 : cJ21_grow_2.data.toList.drop 48 = dktJ21_grow_2_2 := dk_seg dksJ21_grow_2_1 24 rfl rfl
theorem dJ21_grow_2_0 : decode cJ21_grow_2 0 = .ok (.aload_n 0, 1) := dk_42 (dk_at dksJ21_grow_2_0 0 rfl rfl)
theorem dJ21_grow_2_1 : decode cJ21_grow_2 1 = .ok (.getfield 9, 3) := dk_180 0 9 (dk_at dksJ21_grow_2_0 1 rfl rfl)
theorem dJ21_grow_2_4 : decode cJ21_grow_2 4 = .ok (.arraylength, 1) := dk_190 (dk_at dksJ21_grow_2_0 4 rfl rfl)
theorem dJ21_grow_2_5 : decode cJ21_grow_2 5 = .ok (.istore_n 2, 1) := dk_61 (dk_at dksJ21_grow_2_0 5 rfl rfl)
theorem dJ21_grow_2_6 : decode cJ21_grow_2 6 = .ok (.iload_n 2, 1) := dk_28 (dk_at dksJ21_grow_2_0 6 rfl rfl)
theorem dJ21_grow_2_7 : decode cJ21_grow_2 7 = .ok (.ifCond .gt 13, 3) := dk_157 0 13 (dk_at dksJ21_grow_2_0 7 rfl rfl)
theorem dJ21_grow_2_10 : decode cJ21_grow_2 10 = .ok (.aload_n 0, 1) := dk_42 (dk_at dksJ21_grow_2_0 10 rfl rfl)
theorem dJ21_grow_2_11 : decode cJ21_grow_2 11 = .ok (.getfield 9, 3) := dk_180 0 9 (dk_at dksJ21_grow_2_0 11 rfl rfl)
theorem dJ21_grow_2_14 : decode cJ21_grow_2 14 = .ok (.getstatic 39, 3) := dk_178 0 39 (dk_at dksJ21_grow_2_0 14 rfl rfl)
theorem dJ21_grow_2_17 : decode cJ21_grow_2 17 = .ok (.if_acmp .eq 28, 3) := dk_165 0 28 (dk_at dksJ21_grow_2_0 17 rfl rfl)
theorem dJ21_grow_2_20 : decode cJ21_grow_2 20 = .ok (.iload_n 2, 1) := dk_28 (dk_at dksJ21_grow_2_0 20 rfl rfl)
theorem dJ21_grow_2_21 : decode cJ21_grow_2 21 = .ok (.iload_n 1, 1) := dk_27 (dk_at dksJ21_grow_2_0 21 rfl rfl)
theorem dJ21_grow_2_22 : decode cJ21_grow_2 22 = .ok (.iload_n 2, 1) := dk_28 (dk_at dksJ21_grow_2_0 22 rfl rfl)
theorem dJ21_grow_2_23 : decode cJ21_grow_2 23 = .ok (.isub, 1) := dk_100 (dk_at dksJ21_grow_2_0 23 rfl rfl)
theorem dJ21_grow_2_24 : decode cJ21_grow_2 24 = .ok (.iload_n 2, 1) := dk_28 (dk_at dksJ21_grow_2_1 0 rfl rfl)
theorem dJ21_grow_2_25 : decode cJ21_grow_2 25 = .ok (.iconst 1, 1) := dk_4 (dk_at dksJ21_grow_2_1 1 rfl rfl)
theorem dJ21_grow_2_26 : decode cJ21_grow_2 26 = .ok (.ishr, 1) := dk_122 (dk_at dksJ21_grow_2_1 2 rfl rfl)
theorem dJ21_grow_2_27 : decode cJ21_grow_2 27 = .ok (.invokestatic 73, 3) := dk_184 0 73 (dk_at dksJ21_grow_2_1 3 rfl rfl)
theorem dJ21_grow_2_30 : decode cJ21_grow_2 30 = .ok (.istore_n 3, 1) := dk_62 (dk_at dksJ21_grow_2_1 6 rfl rfl)
theorem dJ21_grow_2_31 : decode cJ21_grow_2 31 = .ok (.aload_n 0, 1) := dk_42 (dk_at dksJ21_grow_2_1 7 rfl rfl)
theorem dJ21_grow_2_32 : decode cJ21_grow_2 32 = .ok (.aload_n 0, 1) := dk_42 (dk_at dksJ21_grow_2_1 8 rfl rfl)
theorem dJ21_grow_2_33 : decode cJ21_grow_2 33 = .ok (.getfield 9, 3) := dk_180 0 9 (dk_at dksJ21_grow_2_1 9 rfl rfl)
theorem dJ21_grow_2_36 : decode cJ21_grow_2 36 = .ok (.iload_n 3, 1) := dk_29 (dk_at dksJ21_grow_2_1 12 rfl rfl)
theorem dJ21_grow_2_37 : decode cJ21_grow_2 37 = .ok (.invokestatic 66, 3) := dk_184 0 66 (dk_at dksJ21_grow_2_1 13 rfl rfl)
theorem dJ21_grow_2_40 : decode cJ21_grow_2 40 = .ok (.dup_x1, 1) := dk_90 (dk_at dksJ21_grow_2_1 16 rfl rfl)
theorem dJ21_grow_2_41 : decode cJ21_grow_2 41 = .ok (.putfield 9, 3) := dk_181 0 9 (dk_at dksJ21_grow_2_1 17 rfl rfl)
theorem dJ21_grow_2_44 : decode cJ21_grow_2 44 = .ok (.areturn, 1) := dk_176 (dk_at dksJ21_grow_2_1 20 rfl rfl)
theorem dJ21_grow_2_45 : decode cJ21_grow_2 45 = .ok (.aload_n 0, 1) := dk_42 (dk_at dksJ21_grow_2_1 21 rfl rfl)
theorem dJ21_grow_2_46 : decode cJ21_grow_2 46 = .ok (.bipush 10, 2) := dk_16 10 (dk_at dksJ21_grow_2_1 22 rfl rfl)
theorem dJ21_grow_2_48 : decode cJ21_grow_2 48 = .ok (.iload_n 1, 1) := dk_27 (dk_at dksJ21_grow_2_2 0 rfl rfl)
theorem dJ21_grow_2_49 : decode cJ21_grow_2 49 = .ok (.invokestatic 79, 3) := dk_184 0 79 (dk_at dksJ21_grow_2_2 1 rfl rfl)
theorem dJ21_grow_2_52 : decode cJ21_grow_2 52 = .ok (.anewarray 7, 3) := dk_189 0 7 (dk_at dksJ21_grow_2_2 4 rfl rfl)
theorem dJ21_grow_2_55 : decode cJ21_grow_2 55 = .ok (.dup_x1, 1) := dk_90 (dk_at dksJ21_grow_2_2 7 rfl rfl)
theorem dJ21_grow_2_56 : decode cJ21_grow_2 56 = .ok (.putfield 9, 3) := dk_181 0 9 (dk_at dksJ21_grow_2_2 8 rfl rfl)
theorem dJ21_grow_2_59 : decode cJ21_grow_2 59 = .ok (.areturn, 1) := dk_176 (dk_at dksJ21_grow_2_2 11 rfl rfl)
abbrev cJ21_size : ByteArray := prog_39_method_8_code
def yJ21_size : MethodName := ⟨RJ21, "size", "()I"⟩
theorem dJ21_size_0 : decode cJ21_size 0 = .ok (.aload_n 0, 1) := by decide +kernel
theorem dJ21_size_1 : decode cJ21_size 1 = .ok (.getfield 48, 3) := by decide +kernel
theorem dJ21_size_4 : decode cJ21_size 4 = .ok (.ireturn, 1) := by decide +kernel
abbrev cJ21_get : ByteArray := prog_39_method_20_code
def yJ21_get : MethodName := ⟨RJ21, "get", "(I)Ljava/lang/Object;"⟩
def dkwJ21_get_0 : List UInt8 := [27, 42, 180, 0, 48, 184, 0, 118, 87, 42, 27, 182, 0, 123, 176]
abbrev dktJ21_get_0 : List UInt8 := dkwJ21_get_0 ++ []
theorem dksJ21_get_0 : cJ21_get.data.toList.drop 0 = dktJ21_get_0 := by decide +kernel
theorem dJ21_get_0 : decode cJ21_get 0 = .ok (.iload_n 1, 1) := dk_27 (dk_at dksJ21_get_0 0 rfl rfl)
theorem dJ21_get_1 : decode cJ21_get 1 = .ok (.aload_n 0, 1) := dk_42 (dk_at dksJ21_get_0 1 rfl rfl)
theorem dJ21_get_2 : decode cJ21_get 2 = .ok (.getfield 48, 3) := dk_180 0 48 (dk_at dksJ21_get_0 2 rfl rfl)
theorem dJ21_get_5 : decode cJ21_get 5 = .ok (.invokestatic 118, 3) := dk_184 0 118 (dk_at dksJ21_get_0 5 rfl rfl)
theorem dJ21_get_8 : decode cJ21_get 8 = .ok (.pop, 1) := dk_87 (dk_at dksJ21_get_0 8 rfl rfl)
theorem dJ21_get_9 : decode cJ21_get 9 = .ok (.aload_n 0, 1) := dk_42 (dk_at dksJ21_get_0 9 rfl rfl)
theorem dJ21_get_10 : decode cJ21_get 10 = .ok (.iload_n 1, 1) := dk_27 (dk_at dksJ21_get_0 10 rfl rfl)
theorem dJ21_get_11 : decode cJ21_get 11 = .ok (.invokevirtual 123, 3) := dk_182 0 123 (dk_at dksJ21_get_0 11 rfl rfl)
theorem dJ21_get_14 : decode cJ21_get 14 = .ok (.areturn, 1) := dk_176 (dk_at dksJ21_get_0 14 rfl rfl)
abbrev cJ21_elementData : ByteArray := prog_39_method_18_code
def yJ21_elementData : MethodName := ⟨RJ21, "elementData", "(I)Ljava/lang/Object;"⟩
def dkwJ21_elementData_0 : List UInt8 := [42, 180, 0, 9, 27, 50, 176]
abbrev dktJ21_elementData_0 : List UInt8 := dkwJ21_elementData_0 ++ []
theorem dksJ21_elementData_0 : cJ21_elementData.data.toList.drop 0 = dktJ21_elementData_0 := by decide +kernel
theorem dJ21_elementData_0 : decode cJ21_elementData 0 = .ok (.aload_n 0, 1) := dk_42 (dk_at dksJ21_elementData_0 0 rfl rfl)
theorem dJ21_elementData_1 : decode cJ21_elementData 1 = .ok (.getfield 9, 3) := dk_180 0 9 (dk_at dksJ21_elementData_0 1 rfl rfl)
theorem dJ21_elementData_4 : decode cJ21_elementData 4 = .ok (.iload_n 1, 1) := dk_27 (dk_at dksJ21_elementData_0 4 rfl rfl)
theorem dJ21_elementData_5 : decode cJ21_elementData 5 = .ok (.aaload, 1) := dk_50 (dk_at dksJ21_elementData_0 5 rfl rfl)
theorem dJ21_elementData_6 : decode cJ21_elementData 6 = .ok (.areturn, 1) := dk_176 (dk_at dksJ21_elementData_0 6 rfl rfl)
theorem q121 : (Jvm.Cond.initialized "java/util/ArrayList") ∈ lw_all := lw_g (lw_at lw_m1 28 rfl) rfl
theorem q442 : (Jvm.Cond.selects "java/util/ArrayList" ({ cls := "java/lang/Object", name := "getClass", desc := "()Ljava/lang/Class;" } : Jvm.MethodName) ({ cls := "java/lang/Object", name := "getClass", desc := "()Ljava/lang/Class;" } : Jvm.MethodName)) ∈ lw_all := lw_g (lw_at lw_m2 109 rfl) rfl
theorem q853 : (Jvm.Cond.instantiable "java/util/ArrayList" (3 : Nat)) ∈ lw_all := lw_g (lw_at lw_m4 40 rfl) rfl
theorem q855 : (Jvm.Cond.instanceMethod ({ cls := "java/util/ArrayList", name := "<init>", desc := "()V" } : Jvm.MethodName)) ∈ lw_all := lw_g (lw_at lw_m4 42 rfl) rfl
theorem q856 : (Jvm.Cond.code ({ cls := "java/util/ArrayList", name := "<init>", desc := "()V" } : Jvm.MethodName) prog_39_method_2_code (1 : Nat) (Option.none : Option Jvm.ClassFile.FieldType)) ∈ lw_all := lw_g (lw_at lw_m4 43 rfl) rfl
theorem q857 : (Jvm.Cond.methodLink "java/util/ArrayList" (1 : Nat) ({ cls := "java/util/AbstractList", name := "<init>", desc := "()V" } : Jvm.MethodName)) ∈ lw_all := lw_g (lw_at lw_m4 44 rfl) rfl
theorem q861 : (Jvm.Cond.fieldLink "java/util/ArrayList" (39 : Nat) "java/util/ArrayList" "DEFAULTCAPACITY_EMPTY_ELEMENTDATA" "[Ljava/lang/Object;") ∈ lw_all := lw_g (lw_at lw_m4 48 rfl) rfl
theorem q862 : (Jvm.Cond.laysStatic "java/util/ArrayList" "DEFAULTCAPACITY_EMPTY_ELEMENTDATA" "[Ljava/lang/Object;") ∈ lw_tbl := lw_at lw_m4 49 rfl
theorem q863 : (Jvm.Cond.fieldLink "java/util/ArrayList" (9 : Nat) "java/util/ArrayList" "elementData" "[Ljava/lang/Object;") ∈ lw_all := lw_g (lw_at lw_m4 50 rfl) rfl
theorem q864 : (Jvm.Cond.fieldLink "java/util/ArrayList" (48 : Nat) "java/util/ArrayList" "size" "I") ∈ lw_all := lw_g (lw_at lw_m4 51 rfl) rfl
theorem q866 : (Jvm.Cond.fieldLink "java/util/ArrayList" (63 : Nat) "java/util/ArrayList" "modCount" "I") ∈ lw_all := lw_g (lw_at lw_m4 53 rfl) rfl
theorem q867 : (Jvm.Cond.sameField "java/util/ArrayList" "java/util/AbstractList" "modCount" "I") ∈ lw_all := lw_g (lw_at lw_m4 54 rfl) rfl
theorem q868 : (Jvm.Cond.lays "java/util/ArrayList" "java/util/ArrayList" "elementData" "[Ljava/lang/Object;") ∈ lw_all := lw_g (lw_at lw_m4 55 rfl) rfl
theorem q869 : (Jvm.Cond.soleField "java/util/ArrayList" "elementData") ∈ lw_all := lw_g (lw_at lw_m4 56 rfl) rfl
theorem q870 : (Jvm.Cond.lays "java/util/ArrayList" "java/util/ArrayList" "size" "I") ∈ lw_all := lw_g (lw_at lw_m4 57 rfl) rfl
theorem q871 : (Jvm.Cond.soleField "java/util/ArrayList" "size") ∈ lw_all := lw_g (lw_at lw_m4 58 rfl) rfl
theorem q872 : (Jvm.Cond.lays "java/util/ArrayList" "java/util/AbstractList" "modCount" "I") ∈ lw_all := lw_g (lw_at lw_m4 59 rfl) rfl
theorem q874 : (Jvm.Cond.superclass "java/util/ArrayList" "java/util/AbstractList") ∈ lw_all := lw_g (lw_at lw_m4 61 rfl) rfl
theorem q992 : (Jvm.Cond.instanceMethod ({ cls := "java/util/ArrayList", name := "add", desc := "(Ljava/lang/Object;)Z" } : Jvm.MethodName)) ∈ lw_all := lw_g (lw_at lw_m4 179 rfl) rfl
theorem q993 : (Jvm.Cond.selects "java/util/ArrayList" ({ cls := "java/util/ArrayList", name := "add", desc := "(Ljava/lang/Object;)Z" } : Jvm.MethodName) ({ cls := "java/util/ArrayList", name := "add", desc := "(Ljava/lang/Object;)Z" } : Jvm.MethodName)) ∈ lw_all := lw_g (lw_at lw_m4 180 rfl) rfl
theorem q994 : (Jvm.Cond.code ({ cls := "java/util/ArrayList", name := "add", desc := "(Ljava/lang/Object;)Z" } : Jvm.MethodName) prog_39_method_25_code (2 : Nat) (Option.some Jvm.ClassFile.FieldType.boolean)) ∈ lw_all := lw_g (lw_at lw_m4 181 rfl) rfl
theorem q995 : (Jvm.Cond.methodLink "java/util/ArrayList" (131 : Nat) ({ cls := "java/util/ArrayList", name := "add", desc := "(Ljava/lang/Object;[Ljava/lang/Object;I)V" } : Jvm.MethodName)) ∈ lw_all := lw_g (lw_at lw_m4 182 rfl) rfl
theorem q996 : (Jvm.Cond.privateMethod ({ cls := "java/util/ArrayList", name := "add", desc := "(Ljava/lang/Object;[Ljava/lang/Object;I)V" } : Jvm.MethodName)) ∈ lw_tbl := lw_at lw_m4 183 rfl
theorem q997 : (Jvm.Cond.instanceMethod ({ cls := "java/util/ArrayList", name := "add", desc := "(Ljava/lang/Object;[Ljava/lang/Object;I)V" } : Jvm.MethodName)) ∈ lw_all := lw_g (lw_at lw_m4 184 rfl) rfl
theorem q998 : (Jvm.Cond.code ({ cls := "java/util/ArrayList", name := "add", desc := "(Ljava/lang/Object;[Ljava/lang/Object;I)V" } : Jvm.MethodName) prog_39_method_24_code (4 : Nat) (Option.none : Option Jvm.ClassFile.FieldType)) ∈ lw_all := lw_g (lw_at lw_m4 185 rfl) rfl
theorem q999 : (Jvm.Cond.methodLink "java/util/ArrayList" (129 : Nat) ({ cls := "java/util/ArrayList", name := "grow", desc := "()[Ljava/lang/Object;" } : Jvm.MethodName)) ∈ lw_all := lw_g (lw_at lw_m4 186 rfl) rfl
theorem q1000 : (Jvm.Cond.privateMethod ({ cls := "java/util/ArrayList", name := "grow", desc := "()[Ljava/lang/Object;" } : Jvm.MethodName)) ∈ lw_tbl := lw_at lw_m4 187 rfl
theorem q1001 : (Jvm.Cond.instanceMethod ({ cls := "java/util/ArrayList", name := "grow", desc := "()[Ljava/lang/Object;" } : Jvm.MethodName)) ∈ lw_all := lw_g (lw_at lw_m4 188 rfl) rfl
theorem q1002 : (Jvm.Cond.code ({ cls := "java/util/ArrayList", name := "grow", desc := "()[Ljava/lang/Object;" } : Jvm.MethodName) prog_39_method_7_code (1 : Nat) (Option.some (Jvm.ClassFile.FieldType.array (Jvm.ClassFile.FieldType.object "java/lang/Object")))) ∈ lw_all := lw_g (lw_at lw_m4 189 rfl) rfl
theorem q1003 : (Jvm.Cond.methodLink "java/util/ArrayList" (69 : Nat) ({ cls := "java/util/ArrayList", name := "grow", desc := "(I)[Ljava/lang/Object;" } : Jvm.MethodName)) ∈ lw_all := lw_g (lw_at lw_m4 190 rfl) rfl
theorem q1004 : (Jvm.Cond.privateMethod ({ cls := "java/util/ArrayList", name := "grow", desc := "(I)[Ljava/lang/Object;" } : Jvm.MethodName)) ∈ lw_tbl := lw_at lw_m4 191 rfl
theorem q1005 : (Jvm.Cond.instanceMethod ({ cls := "java/util/ArrayList", name := "grow", desc := "(I)[Ljava/lang/Object;" } : Jvm.MethodName)) ∈ lw_all := lw_g (lw_at lw_m4 192 rfl) rfl
theorem q1006 : (Jvm.Cond.code ({ cls := "java/util/ArrayList", name := "grow", desc := "(I)[Ljava/lang/Object;" } : Jvm.MethodName) prog_39_method_6_code (4 : Nat) (Option.some (Jvm.ClassFile.FieldType.array (Jvm.ClassFile.FieldType.object "java/lang/Object")))) ∈ lw_all := lw_g (lw_at lw_m4 193 rfl) rfl
theorem q1007 : (Jvm.Cond.methodLink "java/util/ArrayList" (73 : Nat) ({ cls := "jdk/internal/util/ArraysSupport", name := "newLength", desc := "(III)I" } : Jvm.MethodName)) ∈ lw_all := lw_g (lw_at lw_m4 194 rfl) rfl
theorem q1008 : (Jvm.Cond.methodLink "java/util/ArrayList" (66 : Nat) ({ cls := "java/util/Arrays", name := "copyOf", desc := "([Ljava/lang/Object;I)[Ljava/lang/Object;" } : Jvm.MethodName)) ∈ lw_all := lw_g (lw_at lw_m4 195 rfl) rfl
theorem q1009 : (Jvm.Cond.methodLink "java/util/ArrayList" (79 : Nat) ({ cls := "java/lang/Math", name := "max", desc := "(II)I" } : Jvm.MethodName)) ∈ lw_all := lw_g (lw_at lw_m4 196 rfl) rfl
theorem q1010 : (Jvm.Cond.classLink "java/util/ArrayList" (7 : Nat) "java/lang/Object") ∈ lw_all := lw_g (lw_at lw_m4 197 rfl) rfl
theorem q1262 : (Jvm.Cond.instanceMethod ({ cls := "java/util/ArrayList", name := "size", desc := "()I" } : Jvm.MethodName)) ∈ lw_all := lw_g (lw_at lw_m5 209 rfl) rfl
theorem q1263 : (Jvm.Cond.selects "java/util/ArrayList" ({ cls := "java/util/ArrayList", name := "size", desc := "()I" } : Jvm.MethodName) ({ cls := "java/util/ArrayList", name := "size", desc := "()I" } : Jvm.MethodName)) ∈ lw_all := lw_g (lw_at lw_m5 210 rfl) rfl
theorem q1264 : (Jvm.Cond.code ({ cls := "java/util/ArrayList", name := "size", desc := "()I" } : Jvm.MethodName) prog_39_method_8_code (1 : Nat) (Option.some Jvm.ClassFile.FieldType.int)) ∈ lw_all := lw_g (lw_at lw_m5 211 rfl) rfl
theorem q1266 : (Jvm.Cond.instanceMethod ({ cls := "java/util/ArrayList", name := "get", desc := "(I)Ljava/lang/Object;" } : Jvm.MethodName)) ∈ lw_all := lw_g (lw_at lw_m5 213 rfl) rfl
theorem q1267 : (Jvm.Cond.selects "java/util/ArrayList" ({ cls := "java/util/ArrayList", name := "get", desc := "(I)Ljava/lang/Object;" } : Jvm.MethodName) ({ cls := "java/util/ArrayList", name := "get", desc := "(I)Ljava/lang/Object;" } : Jvm.MethodName)) ∈ lw_all := lw_g (lw_at lw_m5 214 rfl) rfl
theorem q1268 : (Jvm.Cond.code ({ cls := "java/util/ArrayList", name := "get", desc := "(I)Ljava/lang/Object;" } : Jvm.MethodName) prog_39_method_20_code (2 : Nat) (Option.some (Jvm.ClassFile.FieldType.object "java/lang/Object"))) ∈ lw_all := lw_g (lw_at lw_m5 215 rfl) rfl
theorem q1269 : (Jvm.Cond.methodLink "java/util/ArrayList" (118 : Nat) ({ cls := "java/util/Objects", name := "checkIndex", desc := "(II)I" } : Jvm.MethodName)) ∈ lw_all := lw_g (lw_at lw_m5 216 rfl) rfl
theorem q1273 : (Jvm.Cond.methodLink "java/util/ArrayList" (123 : Nat) ({ cls := "java/util/ArrayList", name := "elementData", desc := "(I)Ljava/lang/Object;" } : Jvm.MethodName)) ∈ lw_all := lw_g (lw_at lw_m5 220 rfl) rfl
theorem q1274 : (Jvm.Cond.instanceMethod ({ cls := "java/util/ArrayList", name := "elementData", desc := "(I)Ljava/lang/Object;" } : Jvm.MethodName)) ∈ lw_all := lw_g (lw_at lw_m5 221 rfl) rfl
theorem q1275 : (Jvm.Cond.selects "java/util/ArrayList" ({ cls := "java/util/ArrayList", name := "elementData", desc := "(I)Ljava/lang/Object;" } : Jvm.MethodName) ({ cls := "java/util/ArrayList", name := "elementData", desc := "(I)Ljava/lang/Object;" } : Jvm.MethodName)) ∈ lw_all := lw_g (lw_at lw_m5 222 rfl) rfl
theorem q1276 : (Jvm.Cond.code ({ cls := "java/util/ArrayList", name := "elementData", desc := "(I)Ljava/lang/Object;" } : Jvm.MethodName) prog_39_method_18_code (2 : Nat) (Option.some (Jvm.ClassFile.FieldType.object "java/lang/Object"))) ∈ lw_all := lw_g (lw_at lw_m5 223 rfl) rfl
theorem q1818 : (Jvm.Cond.castable "java/util/ArrayList" "java/lang/Object") ∈ lw_tbl := lw_at lw_m8 45 rfl
theorem in_J21 : ∀ w ∈ wsJ210, w ∈ lw_all := lw_in wsJ210 [872, 868, 870] (by decide +kernel) (by decide +kernel)
/-! CorridorPlan$Walkers -/
set_option maxRecDepth 100000
def RX5 : String := "CorridorPlan$Walkers"
abbrev cX5_width : ByteArray := prog_6_method_4_code
def yX5_width : MethodName := ⟨RX5, "width", "(II)I"⟩
def dkwX5_width_0 : List UInt8 := [4, 42, 27, 28, 185, 0, 29, 3, 0, 184, 0, 35, 172]
abbrev dktX5_width_0 : List UInt8 := dkwX5_width_0 ++ []
theorem dksX5_width_0 : cX5_width.data.toList.drop 0 = dktX5_width_0 := by decide +kernel
theorem dX5_width_0 : decode cX5_width 0 = .ok (.iconst 1, 1) := dk_4 (dk_at dksX5_width_0 0 rfl rfl)
theorem dX5_width_1 : decode cX5_width 1 = .ok (.aload_n 0, 1) := dk_42 (dk_at dksX5_width_0 1 rfl rfl)
theorem dX5_width_2 : decode cX5_width 2 = .ok (.iload_n 1, 1) := dk_27 (dk_at dksX5_width_0 2 rfl rfl)
theorem dX5_width_3 : decode cX5_width 3 = .ok (.iload_n 2, 1) := dk_28 (dk_at dksX5_width_0 3 rfl rfl)
theorem dX5_width_4 : decode cX5_width 4 = .ok (.invokeinterface 29 3, 5) := by decide +kernel
theorem dX5_width_9 : decode cX5_width 9 = .ok (.invokestatic 35, 3) := dk_184 0 35 (dk_at dksX5_width_0 9 rfl rfl)
theorem dX5_width_12 : decode cX5_width 12 = .ok (.ireturn, 1) := dk_172 (dk_at dksX5_width_0 12 rfl rfl)
abbrev cX5_wordFor : ByteArray := prog_6_method_2_code
def yX5_wordFor : MethodName := ⟨RX5, "wordFor", "(C)Ljava/lang/String;"⟩
def dkwX5_wordFor_3 : List UInt8 := [18, 27, 176]
abbrev dktX5_wordFor_3 : List UInt8 := dkwX5_wordFor_3 ++ []
def dkwX5_wordFor_2 : List UInt8 := [18, 23, 176, 18, 13, 176, 18, 19, 176, 18, 21, 176, 26, 16, 33, 160, 0, 8, 18, 25, 167, 0, 5]
abbrev dktX5_wordFor_2 : List UInt8 := dkwX5_wordFor_2 ++ dktX5_wordFor_3
def dkwX5_wordFor_1 : List UInt8 := [171, 0, 0, 0, 0, 0, 55, 0, 0, 0, 4, 0, 0, 0, 99, 0, 0, 0, 52, 0, 0, 0, 110, 0, 0, 0, 43, 0, 0, 0, 111, 0, 0, 0, 46, 0, 0, 0, 112, 0, 0, 0, 49]
abbrev dktX5_wordFor_1 : List UInt8 := dkwX5_wordFor_1 ++ dktX5_wordFor_2
def dkwX5_wordFor_0 : List UInt8 := [26]
abbrev dktX5_wordFor_0 : List UInt8 := dkwX5_wordFor_0 ++ dktX5_wordFor_1
theorem dksX5_wordFor_0 : cX5_wordFor.data.toList.drop 0 = dktX5_wordFor_0 := by decide +kernel
theorem dksX5_wordFor_1 : cX5_wordFor.data.toList.drop 1 = dktX5_wordFor_1 := dk_seg dksX5_wordFor_0 1 rfl rfl
theorem dksX5_wordFor_2 : cX5_wordFor.data.toList.drop 44 = dktX5_wordFor_2 := dk_seg dksX5_wordFor_1 43 rfl rfl
theorem dksX5_wordFor_3 : cX5_wordFor.data.toList.drop 67 = dktX5_wordFor_3 := dk_seg dksX5_wordFor_2 23 rfl rfl
theorem dX5_wordFor_0 : decode cX5_wordFor 0 = .ok (.iload_n 0, 1) := dk_26 (dk_at dksX5_wordFor_0 0 rfl rfl)
theorem dX5_wordFor_1 : decode cX5_wordFor 1 = .ok (.lookupswitch 55 #[(99, 52), (110, 43), (111, 46), (112, 49)], 43) := by decide +kernel
theorem dX5_wordFor_44 : decode cX5_wordFor 44 = .ok (.ldc 23, 2) := dk_18 23 (dk_at dksX5_wordFor_2 0 rfl rfl)
theorem dX5_wordFor_46 : decode cX5_wordFor 46 = .ok (.areturn, 1) := dk_176 (dk_at dksX5_wordFor_2 2 rfl rfl)
theorem dX5_wordFor_47 : decode cX5_wordFor 47 = .ok (.ldc 13, 2) := dk_18 13 (dk_at dksX5_wordFor_2 3 rfl rfl)
theorem dX5_wordFor_49 : decode cX5_wordFor 49 = .ok (.areturn, 1) := dk_176 (dk_at dksX5_wordFor_2 5 rfl rfl)
theorem dX5_wordFor_50 : decode cX5_wordFor 50 = .ok (.ldc 19, 2) := dk_18 19 (dk_at dksX5_wordFor_2 6 rfl rfl)
theorem dX5_wordFor_52 : decode cX5_wordFor 52 = .ok (.areturn, 1) := dk_176 (dk_at dksX5_wordFor_2 8 rfl rfl)
theorem dX5_wordFor_53 : decode cX5_wordFor 53 = .ok (.ldc 21, 2) := dk_18 21 (dk_at dksX5_wordFor_2 9 rfl rfl)
theorem dX5_wordFor_55 : decode cX5_wordFor 55 = .ok (.areturn, 1) := dk_176 (dk_at dksX5_wordFor_2 11 rfl rfl)
theorem dX5_wordFor_56 : decode cX5_wordFor 56 = .ok (.iload_n 0, 1) := dk_26 (dk_at dksX5_wordFor_2 12 rfl rfl)
theorem dX5_wordFor_57 : decode cX5_wordFor 57 = .ok (.bipush 33, 2) := dk_16 33 (dk_at dksX5_wordFor_2 13 rfl rfl)
theorem dX5_wordFor_59 : decode cX5_wordFor 59 = .ok (.if_icmp .ne 8, 3) := dk_160 0 8 (dk_at dksX5_wordFor_2 15 rfl rfl)
theorem dX5_wordFor_62 : decode cX5_wordFor 62 = .ok (.ldc 25, 2) := dk_18 25 (dk_at dksX5_wordFor_2 18 rfl rfl)
theorem dX5_wordFor_64 : decode cX5_wordFor 64 = .ok (.goto 5, 3) := dk_167 0 5 (dk_at dksX5_wordFor_2 20 rfl rfl)
theorem dX5_wordFor_67 : decode cX5_wordFor 67 = .ok (.ldc 27, 2) := dk_18 27 (dk_at dksX5_wordFor_3 0 rfl rfl)
theorem dX5_wordFor_69 : decode cX5_wordFor 69 = .ok (.areturn, 1) := dk_176 (dk_at dksX5_wordFor_3 2 rfl rfl)
abbrev cX5_widthOf : ByteArray := prog_6_method_1_code
def yX5_widthOf : MethodName := ⟨RX5, "widthOf", "(Ljava/lang/CharSequence;)I"⟩
def dkwX5_widthOf_5 : List UInt8 := [4, 167, 0, 12, 5, 167, 0, 8, 6, 167, 0, 4, 3, 172]
abbrev dktX5_widthOf_5 : List UInt8 := dkwX5_widthOf_5 ++ []
def dkwX5_widthOf_4 : List UInt8 := [170, 0, 0, 0, 0, 0, 0, 40, 0, 0, 0, 0, 0, 0, 0, 2, 0, 0, 0, 28, 0, 0, 0, 32, 0, 0, 0, 36]
abbrev dktX5_widthOf_4 : List UInt8 := dkwX5_widthOf_4 ++ dktX5_widthOf_5
def dkwX5_widthOf_3 : List UInt8 := [61, 167, 0, 14, 43, 18, 21, 182, 0, 15, 153, 0, 5, 5, 61, 28]
abbrev dktX5_widthOf_3 : List UInt8 := dkwX5_widthOf_3 ++ dktX5_widthOf_4
def dkwX5_widthOf_2 : List UInt8 := [43, 18, 13, 182, 0, 15, 153, 0, 33, 3, 61, 167, 0, 28, 43, 18, 19, 182, 0, 15, 153, 0, 19, 4]
abbrev dktX5_widthOf_2 : List UInt8 := dkwX5_widthOf_2 ++ dktX5_widthOf_3
def dkwX5_widthOf_1 : List UInt8 := [171, 0, 0, 0, 0, 0, 74, 0, 0, 0, 3, 0, 1, 174, 102, 0, 0, 0, 35, 0, 46, 123, 32, 0, 0, 0, 63, 0, 52, 98, 218, 0, 0, 0, 49]
abbrev dktX5_widthOf_1 : List UInt8 := dkwX5_widthOf_1 ++ dktX5_widthOf_2
def dkwX5_widthOf_0 : List UInt8 := [42, 185, 0, 1, 1, 0, 76, 2, 61, 43, 182, 0, 7]
abbrev dktX5_widthOf_0 : List UInt8 := dkwX5_widthOf_0 ++ dktX5_widthOf_1
theorem dksX5_widthOf_0 : cX5_widthOf.data.toList.drop 0 = dktX5_widthOf_0 := by decide +kernel
theorem dksX5_widthOf_1 : cX5_widthOf.data.toList.drop 13 = dktX5_widthOf_1 := dk_seg dksX5_widthOf_0 13 rfl rfl
theorem dksX5_widthOf_2 : cX5_widthOf.data.toList.drop 48 = dktX5_widthOf_2 := dk_seg dksX5_widthOf_1 35 rfl rfl
theorem dksX5_widthOf_3 : cX5_widthOf.data.toList.drop 72 = dktX5_widthOf_3 := dk_seg dksX5_widthOf_2 24 rfl rfl
theorem dksX5_widthOf_4 : cX5_widthOf.data.toList.drop 88 = dktX5_widthOf_4 := dk_seg dksX5_widthOf_3 16 rfl rfl
theorem dksX5_widthOf_5 : cX5_widthOf.data.toList.drop 116 = dktX5_widthOf_5 := dk_seg dksX5_widthOf_4 28 rfl rfl
theorem dX5_widthOf_0 : decode cX5_widthOf 0 = .ok (.aload_n 0, 1) := dk_42 (dk_at dksX5_widthOf_0 0 rfl rfl)
theorem dX5_widthOf_1 : decode cX5_widthOf 1 = .ok (.invokeinterface 1 1, 5) := by decide +kernel
theorem dX5_widthOf_6 : decode cX5_widthOf 6 = .ok (.astore_n 1, 1) := dk_76 (dk_at dksX5_widthOf_0 6 rfl rfl)
theorem dX5_widthOf_7 : decode cX5_widthOf 7 = .ok (.iconst (-1), 1) := dk_2 (dk_at dksX5_widthOf_0 7 rfl rfl)
theorem dX5_widthOf_8 : decode cX5_widthOf 8 = .ok (.istore_n 2, 1) := dk_61 (dk_at dksX5_widthOf_0 8 rfl rfl)
theorem dX5_widthOf_9 : decode cX5_widthOf 9 = .ok (.aload_n 1, 1) := dk_43 (dk_at dksX5_widthOf_0 9 rfl rfl)
theorem dX5_widthOf_10 : decode cX5_widthOf 10 = .ok (.invokevirtual 7, 3) := dk_182 0 7 (dk_at dksX5_widthOf_0 10 rfl rfl)
theorem dX5_widthOf_13 : decode cX5_widthOf 13 = .ok (.lookupswitch 74 #[(110182, 35), (3046176, 63), (3433178, 49)], 35) := by decide +kernel
theorem dX5_widthOf_48 : decode cX5_widthOf 48 = .ok (.aload_n 1, 1) := dk_43 (dk_at dksX5_widthOf_2 0 rfl rfl)
theorem dX5_widthOf_49 : decode cX5_widthOf 49 = .ok (.ldc 13, 2) := dk_18 13 (dk_at dksX5_widthOf_2 1 rfl rfl)
theorem dX5_widthOf_51 : decode cX5_widthOf 51 = .ok (.invokevirtual 15, 3) := dk_182 0 15 (dk_at dksX5_widthOf_2 3 rfl rfl)
theorem dX5_widthOf_54 : decode cX5_widthOf 54 = .ok (.ifCond .eq 33, 3) := dk_153 0 33 (dk_at dksX5_widthOf_2 6 rfl rfl)
theorem dX5_widthOf_57 : decode cX5_widthOf 57 = .ok (.iconst 0, 1) := dk_3 (dk_at dksX5_widthOf_2 9 rfl rfl)
theorem dX5_widthOf_58 : decode cX5_widthOf 58 = .ok (.istore_n 2, 1) := dk_61 (dk_at dksX5_widthOf_2 10 rfl rfl)
theorem dX5_widthOf_59 : decode cX5_widthOf 59 = .ok (.goto 28, 3) := dk_167 0 28 (dk_at dksX5_widthOf_2 11 rfl rfl)
theorem dX5_widthOf_62 : decode cX5_widthOf 62 = .ok (.aload_n 1, 1) := dk_43 (dk_at dksX5_widthOf_2 14 rfl rfl)
theorem dX5_widthOf_63 : decode cX5_widthOf 63 = .ok (.ldc 19, 2) := dk_18 19 (dk_at dksX5_widthOf_2 15 rfl rfl)
theorem dX5_widthOf_65 : decode cX5_widthOf 65 = .ok (.invokevirtual 15, 3) := dk_182 0 15 (dk_at dksX5_widthOf_2 17 rfl rfl)
theorem dX5_widthOf_68 : decode cX5_widthOf 68 = .ok (.ifCond .eq 19, 3) := dk_153 0 19 (dk_at dksX5_widthOf_2 20 rfl rfl)
theorem dX5_widthOf_71 : decode cX5_widthOf 71 = .ok (.iconst 1, 1) := dk_4 (dk_at dksX5_widthOf_2 23 rfl rfl)
theorem dX5_widthOf_72 : decode cX5_widthOf 72 = .ok (.istore_n 2, 1) := dk_61 (dk_at dksX5_widthOf_3 0 rfl rfl)
theorem dX5_widthOf_73 : decode cX5_widthOf 73 = .ok (.goto 14, 3) := dk_167 0 14 (dk_at dksX5_widthOf_3 1 rfl rfl)
theorem dX5_widthOf_76 : decode cX5_widthOf 76 = .ok (.aload_n 1, 1) := dk_43 (dk_at dksX5_widthOf_3 4 rfl rfl)
theorem dX5_widthOf_77 : decode cX5_widthOf 77 = .ok (.ldc 21, 2) := dk_18 21 (dk_at dksX5_widthOf_3 5 rfl rfl)
theorem dX5_widthOf_79 : decode cX5_widthOf 79 = .ok (.invokevirtual 15, 3) := dk_182 0 15 (dk_at dksX5_widthOf_3 7 rfl rfl)
theorem dX5_widthOf_82 : decode cX5_widthOf 82 = .ok (.ifCond .eq 5, 3) := dk_153 0 5 (dk_at dksX5_widthOf_3 10 rfl rfl)
theorem dX5_widthOf_85 : decode cX5_widthOf 85 = .ok (.iconst 2, 1) := dk_5 (dk_at dksX5_widthOf_3 13 rfl rfl)
theorem dX5_widthOf_86 : decode cX5_widthOf 86 = .ok (.istore_n 2, 1) := dk_61 (dk_at dksX5_widthOf_3 14 rfl rfl)
theorem dX5_widthOf_87 : decode cX5_widthOf 87 = .ok (.iload_n 2, 1) := dk_28 (dk_at dksX5_widthOf_3 15 rfl rfl)
theorem dX5_widthOf_88 : decode cX5_widthOf 88 = .ok (.tableswitch 40 0 2 #[28, 32, 36], 28) := by decide +kernel
theorem dX5_widthOf_116 : decode cX5_widthOf 116 = .ok (.iconst 1, 1) := dk_4 (dk_at dksX5_widthOf_5 0 rfl rfl)
theorem dX5_widthOf_117 : decode cX5_widthOf 117 = .ok (.goto 12, 3) := dk_167 0 12 (dk_at dksX5_widthOf_5 1 rfl rfl)
theorem dX5_widthOf_120 : decode cX5_widthOf 120 = .ok (.iconst 2, 1) := dk_5 (dk_at dksX5_widthOf_5 4 rfl rfl)
theorem dX5_widthOf_121 : decode cX5_widthOf 121 = .ok (.goto 8, 3) := dk_167 0 8 (dk_at dksX5_widthOf_5 5 rfl rfl)
theorem dX5_widthOf_124 : decode cX5_widthOf 124 = .ok (.iconst 3, 1) := dk_6 (dk_at dksX5_widthOf_5 8 rfl rfl)
theorem dX5_widthOf_125 : decode cX5_widthOf 125 = .ok (.goto 4, 3) := dk_167 0 4 (dk_at dksX5_widthOf_5 9 rfl rfl)
theorem dX5_widthOf_128 : decode cX5_widthOf 128 = .ok (.iconst 0, 1) := dk_3 (dk_at dksX5_widthOf_5 12 rfl rfl)
theorem dX5_widthOf_129 : decode cX5_widthOf 129 = .ok (.ireturn, 1) := dk_172 (dk_at dksX5_widthOf_5 13 rfl rfl)
theorem q122 : (Jvm.Cond.initialized "CorridorPlan$Walkers") ∈ lw_all := lw_g (lw_at lw_m1 29 rfl) rfl
theorem q473 : (Jvm.Cond.declares ({ cls := "CorridorPlan$Walkers", name := "width", desc := "(II)I" } : Jvm.MethodName)) ∈ lw_tbl := lw_at lw_m2 140 rfl
theorem q475 : (Jvm.Cond.instanceMethod ({ cls := "CorridorPlan$Walkers", name := "width", desc := "(II)I" } : Jvm.MethodName)) ∈ lw_all := lw_g (lw_at lw_m2 142 rfl) rfl
theorem q476 : (Jvm.Cond.publicMethod ({ cls := "CorridorPlan$Walkers", name := "width", desc := "(II)I" } : Jvm.MethodName)) ∈ lw_tbl := lw_at lw_m2 143 rfl
theorem q477 : (Jvm.Cond.code ({ cls := "CorridorPlan$Walkers", name := "width", desc := "(II)I" } : Jvm.MethodName) prog_6_method_4_code (3 : Nat) (Option.some Jvm.ClassFile.FieldType.int)) ∈ lw_all := lw_g (lw_at lw_m2 144 rfl) rfl
theorem q478 : (Jvm.Cond.interfaceEntry "CorridorPlan$Walkers" (29 : Nat)) ∈ lw_tbl := lw_at lw_m2 145 rfl
theorem q479 : (Jvm.Cond.methodLink "CorridorPlan$Walkers" (29 : Nat) ({ cls := "CorridorPlan$Walkers", name := "needed", desc := "(II)I" } : Jvm.MethodName)) ∈ lw_all := lw_g (lw_at lw_m2 146 rfl) rfl
theorem q480 : (Jvm.Cond.interfaceMethod "CorridorPlan$Walkers" "CorridorPlan$Walkers" "needed" "(II)I") ∈ lw_tbl := lw_at lw_m2 147 rfl
theorem q481 : (Jvm.Cond.declares ({ cls := "CorridorPlan$Walkers", name := "needed", desc := "(II)I" } : Jvm.MethodName)) ∈ lw_tbl := lw_at lw_m2 148 rfl
theorem q488 : (Jvm.Cond.methodLink "CorridorPlan$Walkers" (35 : Nat) ({ cls := "java/lang/Math", name := "max", desc := "(II)I" } : Jvm.MethodName)) ∈ lw_all := lw_g (lw_at lw_m2 155 rfl) rfl
theorem q962 : (Jvm.Cond.static ({ cls := "CorridorPlan$Walkers", name := "wordFor", desc := "(C)Ljava/lang/String;" } : Jvm.MethodName)) ∈ lw_all := lw_g (lw_at lw_m4 149 rfl) rfl
theorem q963 : (Jvm.Cond.code ({ cls := "CorridorPlan$Walkers", name := "wordFor", desc := "(C)Ljava/lang/String;" } : Jvm.MethodName) prog_6_method_2_code (1 : Nat) (Option.some (Jvm.ClassFile.FieldType.object "java/lang/String"))) ∈ lw_all := lw_g (lw_at lw_m4 150 rfl) rfl
theorem q964 : (Jvm.Cond.stringRef "CorridorPlan$Walkers" (23 : Nat) "none") ∈ lw_tbl := lw_at lw_m4 151 rfl
theorem q965 : (Jvm.Cond.stringRef "CorridorPlan$Walkers" (13 : Nat) "one") ∈ lw_tbl := lw_at lw_m4 152 rfl
theorem q966 : (Jvm.Cond.stringRef "CorridorPlan$Walkers" (19 : Nat) "pair") ∈ lw_tbl := lw_at lw_m4 153 rfl
theorem q967 : (Jvm.Cond.stringRef "CorridorPlan$Walkers" (21 : Nat) "cart") ∈ lw_tbl := lw_at lw_m4 154 rfl
theorem q968 : (Jvm.Cond.stringRef "CorridorPlan$Walkers" (25 : Nat) "!") ∈ lw_tbl := lw_at lw_m4 155 rfl
theorem q969 : (Jvm.Cond.stringRef "CorridorPlan$Walkers" (27 : Nat) "") ∈ lw_tbl := lw_at lw_m4 156 rfl
theorem q1292 : (Jvm.Cond.static ({ cls := "CorridorPlan$Walkers", name := "widthOf", desc := "(Ljava/lang/CharSequence;)I" } : Jvm.MethodName)) ∈ lw_all := lw_g (lw_at lw_m5 239 rfl) rfl
theorem q1293 : (Jvm.Cond.code ({ cls := "CorridorPlan$Walkers", name := "widthOf", desc := "(Ljava/lang/CharSequence;)I" } : Jvm.MethodName) prog_6_method_1_code (3 : Nat) (Option.some Jvm.ClassFile.FieldType.int)) ∈ lw_all := lw_g (lw_at lw_m6 0 rfl) rfl
theorem q1294 : (Jvm.Cond.interfaceEntry "CorridorPlan$Walkers" (1 : Nat)) ∈ lw_tbl := lw_at lw_m6 1 rfl
theorem q1295 : (Jvm.Cond.methodLink "CorridorPlan$Walkers" (1 : Nat) ({ cls := "java/lang/CharSequence", name := "toString", desc := "()Ljava/lang/String;" } : Jvm.MethodName)) ∈ lw_all := lw_g (lw_at lw_m6 2 rfl) rfl
theorem q1306 : (Jvm.Cond.methodLink "CorridorPlan$Walkers" (7 : Nat) ({ cls := "java/lang/String", name := "hashCode", desc := "()I" } : Jvm.MethodName)) ∈ lw_all := lw_g (lw_at lw_m6 13 rfl) rfl
theorem q1363 : (Jvm.Cond.methodLink "CorridorPlan$Walkers" (15 : Nat) ({ cls := "java/lang/String", name := "equals", desc := "(Ljava/lang/Object;)Z" } : Jvm.MethodName)) ∈ lw_all := lw_g (lw_at lw_m6 70 rfl) rfl
/-! CorridorPlan$Order -/
set_option maxRecDepth 100000
def RX6 : String := "CorridorPlan$Order"
def TX6 : u_T := fun k => match k with
  | 0 => ("CorridorPlan$Order", "one", "I", true)
  | 1 => ("CorridorPlan$Order", "other", "I", true)
  | _ => ("CorridorPlan$Order", "word", "Ljava/lang/String;", true)
def tyX6 : Nat → FieldType := fun k => match k with
  | 0 => .int
  | 1 => .int
  | _ => .object "java/lang/String"
abbrev wsX60 : List Cond := u_ws RX6 TX6 3
theorem nmX6 : ∀ a, a < 3 → ∀ b, b < 3 → a ≠ b → (TX6 a).2.1 ≠ (TX6 b).2.1 := by decide +kernel
theorem tyX6_ok : ∀ k, k < 3 → parseFieldDescriptor (TX6 k).2.2.1 = some (tyX6 k) := by decide +kernel
abbrev cX6_init : ByteArray := prog_3_method_1_code
def yX6_init : MethodName := ⟨RX6, "<init>", "(IILjava/lang/String;)V"⟩
def dkwX6_init_0 : List UInt8 := [42, 183, 0, 1, 42, 27, 181, 0, 7, 42, 28, 181, 0, 13, 42, 45, 181, 0, 16, 177]
abbrev dktX6_init_0 : List UInt8 := dkwX6_init_0 ++ []
theorem dksX6_init_0 : cX6_init.data.toList.drop 0 = dktX6_init_0 := by decide +kernel
theorem dX6_init_0 : decode cX6_init 0 = .ok (.aload_n 0, 1) := dk_42 (dk_at dksX6_init_0 0 rfl rfl)
theorem dX6_init_1 : decode cX6_init 1 = .ok (.invokespecial 1, 3) := dk_183 0 1 (dk_at dksX6_init_0 1 rfl rfl)
theorem dX6_init_4 : decode cX6_init 4 = .ok (.aload_n 0, 1) := dk_42 (dk_at dksX6_init_0 4 rfl rfl)
theorem dX6_init_5 : decode cX6_init 5 = .ok (.iload_n 1, 1) := dk_27 (dk_at dksX6_init_0 5 rfl rfl)
theorem dX6_init_6 : decode cX6_init 6 = .ok (.putfield 7, 3) := dk_181 0 7 (dk_at dksX6_init_0 6 rfl rfl)
theorem dX6_init_9 : decode cX6_init 9 = .ok (.aload_n 0, 1) := dk_42 (dk_at dksX6_init_0 9 rfl rfl)
theorem dX6_init_10 : decode cX6_init 10 = .ok (.iload_n 2, 1) := dk_28 (dk_at dksX6_init_0 10 rfl rfl)
theorem dX6_init_11 : decode cX6_init 11 = .ok (.putfield 13, 3) := dk_181 0 13 (dk_at dksX6_init_0 11 rfl rfl)
theorem dX6_init_14 : decode cX6_init 14 = .ok (.aload_n 0, 1) := dk_42 (dk_at dksX6_init_0 14 rfl rfl)
theorem dX6_init_15 : decode cX6_init 15 = .ok (.aload_n 3, 1) := dk_45 (dk_at dksX6_init_0 15 rfl rfl)
theorem dX6_init_16 : decode cX6_init 16 = .ok (.putfield 16, 3) := dk_181 0 16 (dk_at dksX6_init_0 16 rfl rfl)
theorem dX6_init_19 : decode cX6_init 19 = .ok (.return_, 1) := dk_177 (dk_at dksX6_init_0 19 rfl rfl)
theorem q123 : (Jvm.Cond.initialized "CorridorPlan$Order") ∈ lw_all := lw_g (lw_at lw_m1 30 rfl) rfl
theorem q429 : (Jvm.Cond.selects "CorridorPlan$Order" ({ cls := "java/lang/Object", name := "getClass", desc := "()Ljava/lang/Class;" } : Jvm.MethodName) ({ cls := "java/lang/Object", name := "getClass", desc := "()Ljava/lang/Class;" } : Jvm.MethodName)) ∈ lw_all := lw_g (lw_at lw_m2 96 rfl) rfl
theorem q973 : (Jvm.Cond.instantiable "CorridorPlan$Order" (3 : Nat)) ∈ lw_all := lw_g (lw_at lw_m4 160 rfl) rfl
theorem q975 : (Jvm.Cond.instanceMethod ({ cls := "CorridorPlan$Order", name := "<init>", desc := "(IILjava/lang/String;)V" } : Jvm.MethodName)) ∈ lw_all := lw_g (lw_at lw_m4 162 rfl) rfl
theorem q976 : (Jvm.Cond.code ({ cls := "CorridorPlan$Order", name := "<init>", desc := "(IILjava/lang/String;)V" } : Jvm.MethodName) prog_3_method_1_code (4 : Nat) (Option.none : Option Jvm.ClassFile.FieldType)) ∈ lw_all := lw_g (lw_at lw_m4 163 rfl) rfl
theorem q977 : (Jvm.Cond.methodLink "CorridorPlan$Order" (1 : Nat) ({ cls := "java/lang/Object", name := "<init>", desc := "()V" } : Jvm.MethodName)) ∈ lw_all := lw_g (lw_at lw_m4 164 rfl) rfl
theorem q978 : (Jvm.Cond.fieldLink "CorridorPlan$Order" (7 : Nat) "CorridorPlan$Order" "one" "I") ∈ lw_all := lw_g (lw_at lw_m4 165 rfl) rfl
theorem q980 : (Jvm.Cond.fieldLink "CorridorPlan$Order" (13 : Nat) "CorridorPlan$Order" "other" "I") ∈ lw_all := lw_g (lw_at lw_m4 167 rfl) rfl
theorem q982 : (Jvm.Cond.fieldLink "CorridorPlan$Order" (16 : Nat) "CorridorPlan$Order" "word" "Ljava/lang/String;") ∈ lw_all := lw_g (lw_at lw_m4 169 rfl) rfl
theorem q984 : (Jvm.Cond.laysFinal "CorridorPlan$Order" "CorridorPlan$Order" "one" "I") ∈ lw_all := lw_g (lw_at lw_m4 171 rfl) rfl
theorem q985 : (Jvm.Cond.soleField "CorridorPlan$Order" "one") ∈ lw_all := lw_g (lw_at lw_m4 172 rfl) rfl
theorem q986 : (Jvm.Cond.laysFinal "CorridorPlan$Order" "CorridorPlan$Order" "other" "I") ∈ lw_all := lw_g (lw_at lw_m4 173 rfl) rfl
theorem q987 : (Jvm.Cond.soleField "CorridorPlan$Order" "other") ∈ lw_all := lw_g (lw_at lw_m4 174 rfl) rfl
theorem q988 : (Jvm.Cond.laysFinal "CorridorPlan$Order" "CorridorPlan$Order" "word" "Ljava/lang/String;") ∈ lw_all := lw_g (lw_at lw_m4 175 rfl) rfl
theorem q989 : (Jvm.Cond.soleField "CorridorPlan$Order" "word") ∈ lw_all := lw_g (lw_at lw_m4 176 rfl) rfl
theorem q990 : (Jvm.Cond.superclass "CorridorPlan$Order" "java/lang/Object") ∈ lw_all := lw_g (lw_at lw_m4 177 rfl) rfl
theorem q1819 : (Jvm.Cond.castable "CorridorPlan$Order" "java/lang/Object") ∈ lw_tbl := lw_at lw_m8 46 rfl
theorem in_X6 : ∀ w ∈ wsX60, w ∈ lw_all := lw_in wsX60 [984, 986, 988] (by decide +kernel) (by decide +kernel)
/-! java/util/Objects -/
set_option maxRecDepth 100000
def RJ22 : String := "java/util/Objects"
abbrev cJ22_checkIndex : ByteArray := prog_44_method_17_code
def yJ22_checkIndex : MethodName := ⟨RJ22, "checkIndex", "(II)I"⟩
def dkwJ22_checkIndex_0 : List UInt8 := [26, 27, 1, 184, 0, 105, 172]
abbrev dktJ22_checkIndex_0 : List UInt8 := dkwJ22_checkIndex_0 ++ []
theorem dksJ22_checkIndex_0 : cJ22_checkIndex.data.toList.drop 0 = dktJ22_checkIndex_0 := by decide +kernel
theorem dJ22_checkIndex_0 : decode cJ22_checkIndex 0 = .ok (.iload_n 0, 1) := dk_26 (dk_at dksJ22_checkIndex_0 0 rfl rfl)
theorem dJ22_checkIndex_1 : decode cJ22_checkIndex 1 = .ok (.iload_n 1, 1) := dk_27 (dk_at dksJ22_checkIndex_0 1 rfl rfl)
theorem dJ22_checkIndex_2 : decode cJ22_checkIndex 2 = .ok (.aconst_null, 1) := dk_1 (dk_at dksJ22_checkIndex_0 2 rfl rfl)
theorem dJ22_checkIndex_3 : decode cJ22_checkIndex 3 = .ok (.invokestatic 105, 3) := dk_184 0 105 (dk_at dksJ22_checkIndex_0 3 rfl rfl)
theorem dJ22_checkIndex_6 : decode cJ22_checkIndex 6 = .ok (.ireturn, 1) := dk_172 (dk_at dksJ22_checkIndex_0 6 rfl rfl)
theorem q124 : (Jvm.Cond.initialized "java/util/Objects") ∈ lw_all := lw_g (lw_at lw_m1 31 rfl) rfl
theorem q1270 : (Jvm.Cond.static ({ cls := "java/util/Objects", name := "checkIndex", desc := "(II)I" } : Jvm.MethodName)) ∈ lw_all := lw_g (lw_at lw_m5 217 rfl) rfl
theorem q1271 : (Jvm.Cond.code ({ cls := "java/util/Objects", name := "checkIndex", desc := "(II)I" } : Jvm.MethodName) prog_44_method_17_code (2 : Nat) (Option.some Jvm.ClassFile.FieldType.int)) ∈ lw_all := lw_g (lw_at lw_m5 218 rfl) rfl
theorem q1272 : (Jvm.Cond.methodLink "java/util/Objects" (105 : Nat) ({ cls := "jdk/internal/util/Preconditions", name := "checkIndex", desc := "(IILjava/util/function/BiFunction;)I" } : Jvm.MethodName)) ∈ lw_all := lw_g (lw_at lw_m5 219 rfl) rfl
/-! java/lang/Double -/
set_option maxRecDepth 100000
def RJ23 : String := "java/lang/Double"
abbrev cJ23_doubleToLongBits : ByteArray := prog_16_method_23_code
def yJ23_doubleToLongBits : MethodName := ⟨RJ23, "doubleToLongBits", "(D)J"⟩
def dkwJ23_doubleToLongBits_0 : List UInt8 := [38, 184, 0, 122, 154, 0, 8, 38, 184, 0, 134, 173, 20, 0, 137, 173]
abbrev dktJ23_doubleToLongBits_0 : List UInt8 := dkwJ23_doubleToLongBits_0 ++ []
theorem dksJ23_doubleToLongBits_0 : cJ23_doubleToLongBits.data.toList.drop 0 = dktJ23_doubleToLongBits_0 := by decide +kernel
theorem dJ23_doubleToLongBits_0 : decode cJ23_doubleToLongBits 0 = .ok (.dload_n 0, 1) := dk_38 (dk_at dksJ23_doubleToLongBits_0 0 rfl rfl)
theorem dJ23_doubleToLongBits_1 : decode cJ23_doubleToLongBits 1 = .ok (.invokestatic 122, 3) := dk_184 0 122 (dk_at dksJ23_doubleToLongBits_0 1 rfl rfl)
theorem dJ23_doubleToLongBits_4 : decode cJ23_doubleToLongBits 4 = .ok (.ifCond .ne 8, 3) := dk_154 0 8 (dk_at dksJ23_doubleToLongBits_0 4 rfl rfl)
theorem dJ23_doubleToLongBits_7 : decode cJ23_doubleToLongBits 7 = .ok (.dload_n 0, 1) := dk_38 (dk_at dksJ23_doubleToLongBits_0 7 rfl rfl)
theorem dJ23_doubleToLongBits_8 : decode cJ23_doubleToLongBits 8 = .ok (.invokestatic 134, 3) := dk_184 0 134 (dk_at dksJ23_doubleToLongBits_0 8 rfl rfl)
theorem dJ23_doubleToLongBits_11 : decode cJ23_doubleToLongBits 11 = .ok (.lreturn, 1) := dk_173 (dk_at dksJ23_doubleToLongBits_0 11 rfl rfl)
theorem dJ23_doubleToLongBits_12 : decode cJ23_doubleToLongBits 12 = .ok (.ldc2_w 137, 3) := dk_20 0 137 (dk_at dksJ23_doubleToLongBits_0 12 rfl rfl)
theorem dJ23_doubleToLongBits_15 : decode cJ23_doubleToLongBits 15 = .ok (.lreturn, 1) := dk_173 (dk_at dksJ23_doubleToLongBits_0 15 rfl rfl)
abbrev cJ23_isNaN : ByteArray := prog_16_method_6_code
def yJ23_isNaN : MethodName := ⟨RJ23, "isNaN", "(D)Z"⟩
def dkwJ23_isNaN_0 : List UInt8 := [38, 38, 151, 153, 0, 7, 4, 167, 0, 4, 3, 172]
abbrev dktJ23_isNaN_0 : List UInt8 := dkwJ23_isNaN_0 ++ []
theorem dksJ23_isNaN_0 : cJ23_isNaN.data.toList.drop 0 = dktJ23_isNaN_0 := by decide +kernel
theorem dJ23_isNaN_0 : decode cJ23_isNaN 0 = .ok (.dload_n 0, 1) := dk_38 (dk_at dksJ23_isNaN_0 0 rfl rfl)
theorem dJ23_isNaN_1 : decode cJ23_isNaN 1 = .ok (.dload_n 0, 1) := dk_38 (dk_at dksJ23_isNaN_0 1 rfl rfl)
theorem dJ23_isNaN_2 : decode cJ23_isNaN 2 = .ok (.dcmp .l, 1) := dk_151 (dk_at dksJ23_isNaN_0 2 rfl rfl)
theorem dJ23_isNaN_3 : decode cJ23_isNaN 3 = .ok (.ifCond .eq 7, 3) := dk_153 0 7 (dk_at dksJ23_isNaN_0 3 rfl rfl)
theorem dJ23_isNaN_6 : decode cJ23_isNaN 6 = .ok (.iconst 1, 1) := dk_4 (dk_at dksJ23_isNaN_0 6 rfl rfl)
theorem dJ23_isNaN_7 : decode cJ23_isNaN 7 = .ok (.goto 4, 3) := dk_167 0 4 (dk_at dksJ23_isNaN_0 7 rfl rfl)
theorem dJ23_isNaN_10 : decode cJ23_isNaN 10 = .ok (.iconst 0, 1) := dk_3 (dk_at dksJ23_isNaN_0 10 rfl rfl)
theorem dJ23_isNaN_11 : decode cJ23_isNaN 11 = .ok (.ireturn, 1) := dk_172 (dk_at dksJ23_isNaN_0 11 rfl rfl)
theorem q125 : (Jvm.Cond.initialized "java/lang/Double") ∈ lw_all := lw_g (lw_at lw_m1 32 rfl) rfl
theorem q1117 : (Jvm.Cond.static ({ cls := "java/lang/Double", name := "doubleToLongBits", desc := "(D)J" } : Jvm.MethodName)) ∈ lw_all := lw_g (lw_at lw_m5 64 rfl) rfl
theorem q1118 : (Jvm.Cond.code ({ cls := "java/lang/Double", name := "doubleToLongBits", desc := "(D)J" } : Jvm.MethodName) prog_16_method_23_code (2 : Nat) (Option.some Jvm.ClassFile.FieldType.long)) ∈ lw_all := lw_g (lw_at lw_m5 65 rfl) rfl
theorem q1119 : (Jvm.Cond.methodLink "java/lang/Double" (122 : Nat) ({ cls := "java/lang/Double", name := "isNaN", desc := "(D)Z" } : Jvm.MethodName)) ∈ lw_all := lw_g (lw_at lw_m5 66 rfl) rfl
theorem q1120 : (Jvm.Cond.static ({ cls := "java/lang/Double", name := "isNaN", desc := "(D)Z" } : Jvm.MethodName)) ∈ lw_all := lw_g (lw_at lw_m5 67 rfl) rfl
theorem q1121 : (Jvm.Cond.code ({ cls := "java/lang/Double", name := "isNaN", desc := "(D)Z" } : Jvm.MethodName) prog_16_method_6_code (2 : Nat) (Option.some Jvm.ClassFile.FieldType.boolean)) ∈ lw_all := lw_g (lw_at lw_m5 68 rfl) rfl
theorem q1122 : (Jvm.Cond.methodLink "java/lang/Double" (134 : Nat) ({ cls := "java/lang/Double", name := "doubleToRawLongBits", desc := "(D)J" } : Jvm.MethodName)) ∈ lw_all := lw_g (lw_at lw_m5 69 rfl) rfl
theorem q1123 : (Jvm.Cond.static ({ cls := "java/lang/Double", name := "doubleToRawLongBits", desc := "(D)J" } : Jvm.MethodName)) ∈ lw_all := lw_g (lw_at lw_m5 70 rfl) rfl
theorem q1124 : (Jvm.Cond.native ({ cls := "java/lang/Double", name := "doubleToRawLongBits", desc := "(D)J" } : Jvm.MethodName)) ∈ lw_all := lw_g (lw_at lw_m5 71 rfl) rfl
theorem q1125 : (Jvm.Cond.constantLong "java/lang/Double" (137 : Nat) (9221120237041090560 : Int64)) ∈ lw_all := lw_g (lw_at lw_m5 72 rfl) rfl
/-! java/lang/Object -/
set_option maxRecDepth 100000
def RJ24 : String := "java/lang/Object"
abbrev cJ24_init : ByteArray := object_method_1_code
def yJ24_init : MethodName := ⟨RJ24, "<init>", "()V"⟩
theorem dJ24_init_0 : decode cJ24_init 0 = .ok (.return_, 1) := by decide +kernel
theorem q132 : (Jvm.Cond.instanceMethod ({ cls := "java/lang/Object", name := "<init>", desc := "()V" } : Jvm.MethodName)) ∈ lw_all := lw_g (lw_at lw_m1 39 rfl) rfl
theorem q133 : (Jvm.Cond.code ({ cls := "java/lang/Object", name := "<init>", desc := "()V" } : Jvm.MethodName) object_method_1_code (1 : Nat) (Option.none : Option Jvm.ClassFile.FieldType)) ∈ lw_all := lw_g (lw_at lw_m1 40 rfl) rfl
theorem q325 : (Jvm.Cond.native ({ cls := "java/lang/Object", name := "clone", desc := "()Ljava/lang/Object;" } : Jvm.MethodName)) ∈ lw_all := lw_g (lw_at lw_m1 232 rfl) rfl
theorem q326 : (Jvm.Cond.instanceMethod ({ cls := "java/lang/Object", name := "clone", desc := "()Ljava/lang/Object;" } : Jvm.MethodName)) ∈ lw_all := lw_g (lw_at lw_m1 233 rfl) rfl
theorem q426 : (Jvm.Cond.instanceMethod ({ cls := "java/lang/Object", name := "getClass", desc := "()Ljava/lang/Class;" } : Jvm.MethodName)) ∈ lw_all := lw_g (lw_at lw_m2 93 rfl) rfl
theorem q427 : (Jvm.Cond.sameMethod "java/lang/Object" "java/lang/Object" "getClass" "()Ljava/lang/Class;") ∈ lw_all := lw_g (lw_at lw_m2 94 rfl) rfl
theorem q443 : (Jvm.Cond.native ({ cls := "java/lang/Object", name := "getClass", desc := "()Ljava/lang/Class;" } : Jvm.MethodName)) ∈ lw_all := lw_g (lw_at lw_m2 110 rfl) rfl
theorem q1803 : (Jvm.Cond.initialized "java/lang/Object") ∈ lw_all := lw_g (lw_at lw_m8 30 rfl) rfl
theorem q1824 : (Jvm.Cond.declares ({ cls := "java/lang/Object", name := "getClass", desc := "()Ljava/lang/Class;" } : Jvm.MethodName)) ∈ lw_tbl := lw_at lw_m8 51 rfl
theorem q1832 : (Jvm.Cond.instantiable "java/lang/Object" (0 : Nat)) ∈ lw_all := lw_g (lw_at lw_m8 59 rfl) rfl
/-! java/lang/System$2 -/
set_option maxRecDepth 100000
def RJ25 : String := "java/lang/System$2"
abbrev cJ25_getUTF16Char : ByteArray := prog_32_method_45_code
def yJ25_getUTF16Char : MethodName := ⟨RJ25, "getUTF16Char", "([BI)C"⟩
def dkwJ25_getUTF16Char_0 : List UInt8 := [43, 28, 184, 0, 185, 172]
abbrev dktJ25_getUTF16Char_0 : List UInt8 := dkwJ25_getUTF16Char_0 ++ []
theorem dksJ25_getUTF16Char_0 : cJ25_getUTF16Char.data.toList.drop 0 = dktJ25_getUTF16Char_0 := by decide +kernel
theorem dJ25_getUTF16Char_0 : decode cJ25_getUTF16Char 0 = .ok (.aload_n 1, 1) := dk_43 (dk_at dksJ25_getUTF16Char_0 0 rfl rfl)
theorem dJ25_getUTF16Char_1 : decode cJ25_getUTF16Char 1 = .ok (.iload_n 2, 1) := dk_28 (dk_at dksJ25_getUTF16Char_0 1 rfl rfl)
theorem dJ25_getUTF16Char_2 : decode cJ25_getUTF16Char 2 = .ok (.invokestatic 185, 3) := dk_184 0 185 (dk_at dksJ25_getUTF16Char_0 2 rfl rfl)
theorem dJ25_getUTF16Char_5 : decode cJ25_getUTF16Char 5 = .ok (.ireturn, 1) := dk_172 (dk_at dksJ25_getUTF16Char_0 5 rfl rfl)
theorem q440 : (Jvm.Cond.selects "java/lang/System$2" ({ cls := "java/lang/Object", name := "getClass", desc := "()Ljava/lang/Class;" } : Jvm.MethodName) ({ cls := "java/lang/Object", name := "getClass", desc := "()Ljava/lang/Class;" } : Jvm.MethodName)) ∈ lw_all := lw_g (lw_at lw_m2 107 rfl) rfl
theorem q1329 : (Jvm.Cond.castable "java/lang/System$2" "jdk/internal/access/JavaLangAccess") ∈ lw_tbl := lw_at lw_m6 36 rfl
theorem q1330 : (Jvm.Cond.selects "java/lang/System$2" ({ cls := "jdk/internal/access/JavaLangAccess", name := "getUTF16Char", desc := "([BI)C" } : Jvm.MethodName) ({ cls := "java/lang/System$2", name := "getUTF16Char", desc := "([BI)C" } : Jvm.MethodName)) ∈ lw_all := lw_g (lw_at lw_m6 37 rfl) rfl
theorem q1331 : (Jvm.Cond.unhidden "java/lang/System$2" "getUTF16Char" "([BI)C") ∈ lw_tbl := lw_at lw_m6 38 rfl
theorem q1332 : (Jvm.Cond.instanceMethod ({ cls := "java/lang/System$2", name := "getUTF16Char", desc := "([BI)C" } : Jvm.MethodName)) ∈ lw_all := lw_g (lw_at lw_m6 39 rfl) rfl
theorem q1333 : (Jvm.Cond.publicMethod ({ cls := "java/lang/System$2", name := "getUTF16Char", desc := "([BI)C" } : Jvm.MethodName)) ∈ lw_tbl := lw_at lw_m6 40 rfl
theorem q1334 : (Jvm.Cond.code ({ cls := "java/lang/System$2", name := "getUTF16Char", desc := "([BI)C" } : Jvm.MethodName) prog_32_method_45_code (3 : Nat) (Option.some Jvm.ClassFile.FieldType.char)) ∈ lw_all := lw_g (lw_at lw_m6 41 rfl) rfl
theorem q1335 : (Jvm.Cond.methodLink "java/lang/System$2" (185 : Nat) ({ cls := "java/lang/StringUTF16", name := "getChar", desc := "([BI)C" } : Jvm.MethodName)) ∈ lw_all := lw_g (lw_at lw_m6 42 rfl) rfl
theorem q1820 : (Jvm.Cond.castable "java/lang/System$2" "java/lang/Object") ∈ lw_tbl := lw_at lw_m8 47 rfl
theorem q160 : (Jvm.Cond.arrayClass Jvm.ClassFile.FieldType.int) ∈ lw_all := lw_g (lw_at lw_m1 67 rfl) rfl
set_option maxRecDepth 100000
theorem q161 : (Jvm.Cond.arrayClass Jvm.ClassFile.FieldType.boolean) ∈ lw_all := lw_g (lw_at lw_m1 68 rfl) rfl
theorem q173 : (Jvm.Cond.arrayOver (Jvm.ClassFile.FieldType.object "java/lang/Object")) ∈ lw_tbl := lw_at lw_m1 80 rfl
theorem q247 : (Jvm.Cond.arrayClass Jvm.ClassFile.FieldType.byte) ∈ lw_all := lw_g (lw_at lw_m1 154 rfl) rfl
theorem q1787 : (Jvm.Cond.arrayClass Jvm.ClassFile.FieldType.long) ∈ lw_all := lw_g (lw_at lw_m8 14 rfl) rfl
theorem q1830 : (Jvm.Cond.arrayClass Jvm.ClassFile.FieldType.char) ∈ lw_all := lw_g (lw_at lw_m8 57 rfl) rfl
theorem q1831 : (Jvm.Cond.arrayClass Jvm.ClassFile.FieldType.short) ∈ lw_all := lw_g (lw_at lw_m8 58 rfl) rfl
theorem q110 : (Jvm.Cond.initialized "java/lang/System") ∈ lw_all := lw_g (lw_at lw_m1 17 rfl) rfl
set_option maxRecDepth 100000
theorem q453 : (Jvm.Cond.static ({ cls := "java/lang/System", name := "arraycopy", desc := "(Ljava/lang/Object;ILjava/lang/Object;II)V" } : Jvm.MethodName)) ∈ lw_all := lw_g (lw_at lw_m2 120 rfl) rfl
theorem q454 : (Jvm.Cond.native ({ cls := "java/lang/System", name := "arraycopy", desc := "(Ljava/lang/Object;ILjava/lang/Object;II)V" } : Jvm.MethodName)) ∈ lw_all := lw_g (lw_at lw_m2 121 rfl) rfl
theorem q117 : (Jvm.Cond.initialized "java/lang/Number") ∈ lw_all := lw_g (lw_at lw_m1 24 rfl) rfl
set_option maxRecDepth 100000
theorem q324 : (Jvm.Cond.sameMethod "[I" "java/lang/Object" "clone" "()Ljava/lang/Object;") ∈ lw_all := lw_g (lw_at lw_m1 231 rfl) rfl
set_option maxRecDepth 100000
theorem q327 : (Jvm.Cond.selects "[I" ({ cls := "[I", name := "clone", desc := "()Ljava/lang/Object;" } : Jvm.MethodName) ({ cls := "java/lang/Object", name := "clone", desc := "()Ljava/lang/Object;" } : Jvm.MethodName)) ∈ lw_all := lw_g (lw_at lw_m1 234 rfl) rfl
theorem q328 : (Jvm.Cond.castable "[I" "java/lang/Cloneable") ∈ lw_tbl := lw_at lw_m1 235 rfl
theorem q1825 : (Jvm.Cond.castable "[I" "java/lang/Object") ∈ lw_tbl := lw_at lw_m8 52 rfl
theorem q331 : (Jvm.Cond.sameMethod "[Z" "java/lang/Object" "clone" "()Ljava/lang/Object;") ∈ lw_all := lw_g (lw_at lw_m1 238 rfl) rfl
set_option maxRecDepth 100000
theorem q332 : (Jvm.Cond.selects "[Z" ({ cls := "[Z", name := "clone", desc := "()Ljava/lang/Object;" } : Jvm.MethodName) ({ cls := "java/lang/Object", name := "clone", desc := "()Ljava/lang/Object;" } : Jvm.MethodName)) ∈ lw_all := lw_g (lw_at lw_m1 239 rfl) rfl
theorem q333 : (Jvm.Cond.castable "[Z" "java/lang/Cloneable") ∈ lw_tbl := lw_at lw_m2 0 rfl
theorem q1826 : (Jvm.Cond.castable "[Z" "java/lang/Object") ∈ lw_tbl := lw_at lw_m8 53 rfl
theorem q522 : (Jvm.Cond.interfaceMethod "CorridorPlan$Measure" "CorridorPlan$Measure" "of" "(I)I") ∈ lw_tbl := lw_at lw_m2 189 rfl
set_option maxRecDepth 100000
theorem q523 : (Jvm.Cond.declares ({ cls := "CorridorPlan$Measure", name := "of", desc := "(I)I" } : Jvm.MethodName)) ∈ lw_tbl := lw_at lw_m2 190 rfl
theorem q613 : (Jvm.Cond.sameMethod "[B" "java/lang/Object" "clone" "()Ljava/lang/Object;") ∈ lw_all := lw_g (lw_at lw_m3 40 rfl) rfl
set_option maxRecDepth 100000
theorem q614 : (Jvm.Cond.selects "[B" ({ cls := "[B", name := "clone", desc := "()Ljava/lang/Object;" } : Jvm.MethodName) ({ cls := "java/lang/Object", name := "clone", desc := "()Ljava/lang/Object;" } : Jvm.MethodName)) ∈ lw_all := lw_g (lw_at lw_m3 41 rfl) rfl
theorem q615 : (Jvm.Cond.castable "[B" "java/lang/Cloneable") ∈ lw_tbl := lw_at lw_m3 42 rfl
theorem q1828 : (Jvm.Cond.castable "[B" "java/lang/Object") ∈ lw_tbl := lw_at lw_m8 55 rfl
theorem q924 : (Jvm.Cond.interfaceMethod "java/lang/CharSequence" "java/lang/CharSequence" "length" "()I") ∈ lw_tbl := lw_at lw_m4 111 rfl
set_option maxRecDepth 100000
theorem q925 : (Jvm.Cond.declares ({ cls := "java/lang/CharSequence", name := "length", desc := "()I" } : Jvm.MethodName)) ∈ lw_tbl := lw_at lw_m4 112 rfl
theorem q936 : (Jvm.Cond.interfaceMethod "java/lang/CharSequence" "java/lang/CharSequence" "charAt" "(I)C") ∈ lw_tbl := lw_at lw_m4 123 rfl
theorem q937 : (Jvm.Cond.declares ({ cls := "java/lang/CharSequence", name := "charAt", desc := "(I)C" } : Jvm.MethodName)) ∈ lw_tbl := lw_at lw_m4 124 rfl
theorem q1296 : (Jvm.Cond.interfaceMethod "java/lang/CharSequence" "java/lang/CharSequence" "toString" "()Ljava/lang/String;") ∈ lw_tbl := lw_at lw_m6 3 rfl
theorem q1297 : (Jvm.Cond.declares ({ cls := "java/lang/CharSequence", name := "toString", desc := "()Ljava/lang/String;" } : Jvm.MethodName)) ∈ lw_tbl := lw_at lw_m6 4 rfl
theorem q1327 : (Jvm.Cond.interfaceMethod "jdk/internal/access/JavaLangAccess" "jdk/internal/access/JavaLangAccess" "getUTF16Char" "([BI)C") ∈ lw_tbl := lw_at lw_m6 34 rfl
set_option maxRecDepth 100000
theorem q1328 : (Jvm.Cond.declares ({ cls := "jdk/internal/access/JavaLangAccess", name := "getUTF16Char", desc := "([BI)C" } : Jvm.MethodName)) ∈ lw_tbl := lw_at lw_m6 35 rfl
theorem q1822 : (Jvm.Cond.sameMethod "[Ljava/lang/Object;" "java/lang/Object" "getClass" "()Ljava/lang/Class;") ∈ lw_all := lw_g (lw_at lw_m8 49 rfl) rfl
set_option maxRecDepth 100000
theorem q1823 : (Jvm.Cond.selects "[Ljava/lang/Object;" ({ cls := "java/lang/Object", name := "getClass", desc := "()Ljava/lang/Class;" } : Jvm.MethodName) ({ cls := "java/lang/Object", name := "getClass", desc := "()Ljava/lang/Class;" } : Jvm.MethodName)) ∈ lw_all := lw_g (lw_at lw_m8 50 rfl) rfl
theorem q1827 : (Jvm.Cond.castable "[Ljava/lang/Object;" "java/lang/Object") ∈ lw_tbl := lw_at lw_m8 54 rfl
theorem q1829 : (Jvm.Cond.castable "[J" "java/lang/Object") ∈ lw_tbl := lw_at lw_m8 56 rfl
set_option maxRecDepth 100000
