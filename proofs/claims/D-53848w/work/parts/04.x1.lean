/-! CorridorPlan -/
set_option maxRecDepth 100000
def RX1 : String := "CorridorPlan"
def TX1 : u_T := fun k => match k with
  | 0 => ("CorridorPlan", "state", "LCorridorPlan$State;", false)
  | 1 => ("CorridorPlan", "saved", "Ljava/util/ArrayDeque;", true)
  | 2 => ("CorridorPlan", "rock", "LCorridorPlan$Measure;", true)
  | 3 => ("CorridorPlan", "dug", "LCorridorPlan$Measure;", true)
  | 4 => ("CorridorPlan", "doors", "LCorridorPlan$Measure;", true)
  | 5 => ("CorridorPlan", "far", "[I", true)
  | 6 => ("CorridorPlan", "waiting", "[I", true)
  | 7 => ("CorridorPlan", "waits", "[Z", true)
  | 8 => ("CorridorPlan", "places", "[I", true)
  | 9 => ("CorridorPlan", "placeCount", "I", false)
  | 10 => ("CorridorPlan", "broad", "I", false)
  | 11 => ("CorridorPlan", "buffer", "Ljava/lang/StringBuilder;", true)
  | _ => ("CorridorPlan", "hash", "J", false)
def tyX1 : Nat → FieldType := fun k => match k with
  | 0 => .object "CorridorPlan$State"
  | 1 => .object "java/util/ArrayDeque"
  | 2 => .object "CorridorPlan$Measure"
  | 3 => .object "CorridorPlan$Measure"
  | 4 => .object "CorridorPlan$Measure"
  | 5 => .array .int
  | 6 => .array .int
  | 7 => .array .boolean
  | 8 => .array .int
  | 9 => .int
  | 10 => .int
  | 11 => .object "java/lang/StringBuilder"
  | _ => .long
abbrev wsX10 : List Cond := u_ws RX1 TX1 13
set_option maxRecDepth 100000 in
theorem nmX1 : ∀ a, a < 13 → ∀ b, b < 13 → a ≠ b → (TX1 a).2.1 ≠ (TX1 b).2.1 := by decide +kernel
set_option maxRecDepth 100000 in
theorem tyX1_ok : ∀ k, k < 13 → parseFieldDescriptor (TX1 k).2.2.1 = some (tyX1 k) := by decide +kernel
abbrev cX1_init : ByteArray := prog_1_method_7_code
def yX1_init : MethodName := ⟨RX1, "<init>", "()V"⟩
def dkwX1_init_4 : List UInt8 := [187, 0, 72, 89, 16, 60, 183, 0, 74, 181, 0, 75, 177]
abbrev dktX1_init_4 : List UInt8 := dkwX1_init_4 ++ []
def dkwX1_init_3 : List UInt8 := [181, 0, 62, 42, 17, 0, 192, 188, 4, 181, 0, 65, 42, 17, 0, 192, 188, 10, 181, 0, 69, 42]
abbrev dktX1_init_3 : List UInt8 := dkwX1_init_3 ++ dktX1_init_4
def dkwX1_init_2 : List UInt8 := [186, 0, 54, 0, 0, 181, 0, 55, 42, 17, 0, 192, 188, 10, 181, 0, 58, 42, 17, 0, 192, 188, 10]
abbrev dktX1_init_2 : List UInt8 := dkwX1_init_2 ++ dktX1_init_3
def dkwX1_init_1 : List UInt8 := [42, 42, 186, 0, 42, 0, 0, 181, 0, 46, 42, 42, 186, 0, 50, 0, 0, 181, 0, 51, 42, 42]
abbrev dktX1_init_1 : List UInt8 := dkwX1_init_1 ++ dktX1_init_2
def dkwX1_init_0 : List UInt8 := [42, 183, 0, 22, 42, 184, 0, 25, 181, 0, 29, 42, 187, 0, 33, 89, 16, 6, 183, 0, 35, 181, 0, 38]
abbrev dktX1_init_0 : List UInt8 := dkwX1_init_0 ++ dktX1_init_1
theorem dksX1_init_0 : cX1_init.data.toList.drop 0 = dktX1_init_0 := by decide +kernel
theorem dksX1_init_1 : cX1_init.data.toList.drop 24 = dktX1_init_1 := dk_seg dksX1_init_0 24 rfl rfl
theorem dksX1_init_2 : cX1_init.data.toList.drop 46 = dktX1_init_2 := dk_seg dksX1_init_1 22 rfl rfl
theorem dksX1_init_3 : cX1_init.data.toList.drop 69 = dktX1_init_3 := dk_seg dksX1_init_2 23 rfl rfl
theorem dksX1_init_4 : cX1_init.data.toList.drop 91 = dktX1_init_4 := dk_seg dksX1_init_3 22 rfl rfl
theorem dX1_init_0 : decode cX1_init 0 = .ok (.aload_n 0, 1) := dk_42 (dk_at dksX1_init_0 0 rfl rfl)
theorem dX1_init_1 : decode cX1_init 1 = .ok (.invokespecial 22, 3) := dk_183 0 22 (dk_at dksX1_init_0 1 rfl rfl)
theorem dX1_init_4 : decode cX1_init 4 = .ok (.aload_n 0, 1) := dk_42 (dk_at dksX1_init_0 4 rfl rfl)
theorem dX1_init_5 : decode cX1_init 5 = .ok (.invokestatic 25, 3) := dk_184 0 25 (dk_at dksX1_init_0 5 rfl rfl)
theorem dX1_init_8 : decode cX1_init 8 = .ok (.putfield 29, 3) := dk_181 0 29 (dk_at dksX1_init_0 8 rfl rfl)
theorem dX1_init_11 : decode cX1_init 11 = .ok (.aload_n 0, 1) := dk_42 (dk_at dksX1_init_0 11 rfl rfl)
theorem dX1_init_12 : decode cX1_init 12 = .ok (.new 33, 3) := dk_187 0 33 (dk_at dksX1_init_0 12 rfl rfl)
theorem dX1_init_15 : decode cX1_init 15 = .ok (.dup, 1) := dk_89 (dk_at dksX1_init_0 15 rfl rfl)
theorem dX1_init_16 : decode cX1_init 16 = .ok (.bipush 6, 2) := dk_16 6 (dk_at dksX1_init_0 16 rfl rfl)
theorem dX1_init_18 : decode cX1_init 18 = .ok (.invokespecial 35, 3) := dk_183 0 35 (dk_at dksX1_init_0 18 rfl rfl)
theorem dX1_init_21 : decode cX1_init 21 = .ok (.putfield 38, 3) := dk_181 0 38 (dk_at dksX1_init_0 21 rfl rfl)
theorem dX1_init_24 : decode cX1_init 24 = .ok (.aload_n 0, 1) := dk_42 (dk_at dksX1_init_1 0 rfl rfl)
theorem dX1_init_25 : decode cX1_init 25 = .ok (.aload_n 0, 1) := dk_42 (dk_at dksX1_init_1 1 rfl rfl)
theorem dX1_init_26 : decode cX1_init 26 = .ok (.invokedynamic 42, 5) := by decide +kernel
theorem dX1_init_31 : decode cX1_init 31 = .ok (.putfield 46, 3) := dk_181 0 46 (dk_at dksX1_init_1 7 rfl rfl)
theorem dX1_init_34 : decode cX1_init 34 = .ok (.aload_n 0, 1) := dk_42 (dk_at dksX1_init_1 10 rfl rfl)
theorem dX1_init_35 : decode cX1_init 35 = .ok (.aload_n 0, 1) := dk_42 (dk_at dksX1_init_1 11 rfl rfl)
theorem dX1_init_36 : decode cX1_init 36 = .ok (.invokedynamic 50, 5) := by decide +kernel
theorem dX1_init_41 : decode cX1_init 41 = .ok (.putfield 51, 3) := dk_181 0 51 (dk_at dksX1_init_1 17 rfl rfl)
theorem dX1_init_44 : decode cX1_init 44 = .ok (.aload_n 0, 1) := dk_42 (dk_at dksX1_init_1 20 rfl rfl)
theorem dX1_init_45 : decode cX1_init 45 = .ok (.aload_n 0, 1) := dk_42 (dk_at dksX1_init_1 21 rfl rfl)
theorem dX1_init_46 : decode cX1_init 46 = .ok (.invokedynamic 54, 5) := by decide +kernel
theorem dX1_init_51 : decode cX1_init 51 = .ok (.putfield 55, 3) := dk_181 0 55 (dk_at dksX1_init_2 5 rfl rfl)
theorem dX1_init_54 : decode cX1_init 54 = .ok (.aload_n 0, 1) := dk_42 (dk_at dksX1_init_2 8 rfl rfl)
theorem dX1_init_55 : decode cX1_init 55 = .ok (.sipush 192, 3) := dk_17 0 192 (dk_at dksX1_init_2 9 rfl rfl)
theorem dX1_init_58 : decode cX1_init 58 = .ok (.newarray .int, 2) := dk_188_10 (dk_at dksX1_init_2 12 rfl rfl)
theorem dX1_init_60 : decode cX1_init 60 = .ok (.putfield 58, 3) := dk_181 0 58 (dk_at dksX1_init_2 14 rfl rfl)
theorem dX1_init_63 : decode cX1_init 63 = .ok (.aload_n 0, 1) := dk_42 (dk_at dksX1_init_2 17 rfl rfl)
theorem dX1_init_64 : decode cX1_init 64 = .ok (.sipush 192, 3) := dk_17 0 192 (dk_at dksX1_init_2 18 rfl rfl)
theorem dX1_init_67 : decode cX1_init 67 = .ok (.newarray .int, 2) := dk_188_10 (dk_at dksX1_init_2 21 rfl rfl)
theorem dX1_init_69 : decode cX1_init 69 = .ok (.putfield 62, 3) := dk_181 0 62 (dk_at dksX1_init_3 0 rfl rfl)
theorem dX1_init_72 : decode cX1_init 72 = .ok (.aload_n 0, 1) := dk_42 (dk_at dksX1_init_3 3 rfl rfl)
theorem dX1_init_73 : decode cX1_init 73 = .ok (.sipush 192, 3) := dk_17 0 192 (dk_at dksX1_init_3 4 rfl rfl)
theorem dX1_init_76 : decode cX1_init 76 = .ok (.newarray .boolean, 2) := dk_188_4 (dk_at dksX1_init_3 7 rfl rfl)
theorem dX1_init_78 : decode cX1_init 78 = .ok (.putfield 65, 3) := dk_181 0 65 (dk_at dksX1_init_3 9 rfl rfl)
theorem dX1_init_81 : decode cX1_init 81 = .ok (.aload_n 0, 1) := dk_42 (dk_at dksX1_init_3 12 rfl rfl)
theorem dX1_init_82 : decode cX1_init 82 = .ok (.sipush 192, 3) := dk_17 0 192 (dk_at dksX1_init_3 13 rfl rfl)
theorem dX1_init_85 : decode cX1_init 85 = .ok (.newarray .int, 2) := dk_188_10 (dk_at dksX1_init_3 16 rfl rfl)
theorem dX1_init_87 : decode cX1_init 87 = .ok (.putfield 69, 3) := dk_181 0 69 (dk_at dksX1_init_3 18 rfl rfl)
theorem dX1_init_90 : decode cX1_init 90 = .ok (.aload_n 0, 1) := dk_42 (dk_at dksX1_init_3 21 rfl rfl)
theorem dX1_init_91 : decode cX1_init 91 = .ok (.new 72, 3) := dk_187 0 72 (dk_at dksX1_init_4 0 rfl rfl)
theorem dX1_init_94 : decode cX1_init 94 = .ok (.dup, 1) := dk_89 (dk_at dksX1_init_4 3 rfl rfl)
theorem dX1_init_95 : decode cX1_init 95 = .ok (.bipush 60, 2) := dk_16 60 (dk_at dksX1_init_4 4 rfl rfl)
theorem dX1_init_97 : decode cX1_init 97 = .ok (.invokespecial 74, 3) := dk_183 0 74 (dk_at dksX1_init_4 6 rfl rfl)
theorem dX1_init_100 : decode cX1_init 100 = .ok (.putfield 75, 3) := dk_181 0 75 (dk_at dksX1_init_4 9 rfl rfl)
theorem dX1_init_103 : decode cX1_init 103 = .ok (.return_, 1) := dk_177 (dk_at dksX1_init_4 12 rfl rfl)
abbrev cX1_firstState : ByteArray := prog_1_method_6_code
def yX1_firstState : MethodName := ⟨RX1, "firstState", "()LCorridorPlan$State;"⟩
def dkwX1_firstState_1 : List UInt8 := [167, 255, 241, 187, 0, 17, 89, 42, 16, 36, 188, 10, 16, 6, 188, 4, 183, 0, 19, 176]
abbrev dktX1_firstState_1 : List UInt8 := dkwX1_firstState_1 ++ []
def dkwX1_firstState_0 : List UInt8 := [17, 0, 192, 188, 10, 75, 3, 60, 27, 17, 0, 192, 162, 0, 14, 42, 27, 16, 254, 79, 132, 1, 1]
abbrev dktX1_firstState_0 : List UInt8 := dkwX1_firstState_0 ++ dktX1_firstState_1
theorem dksX1_firstState_0 : cX1_firstState.data.toList.drop 0 = dktX1_firstState_0 := by decide +kernel
theorem dksX1_firstState_1 : cX1_firstState.data.toList.drop 23 = dktX1_firstState_1 := dk_seg dksX1_firstState_0 23 rfl rfl
theorem dX1_firstState_0 : decode cX1_firstState 0 = .ok (.sipush 192, 3) := dk_17 0 192 (dk_at dksX1_firstState_0 0 rfl rfl)
theorem dX1_firstState_3 : decode cX1_firstState 3 = .ok (.newarray .int, 2) := dk_188_10 (dk_at dksX1_firstState_0 3 rfl rfl)
theorem dX1_firstState_5 : decode cX1_firstState 5 = .ok (.astore_n 0, 1) := dk_75 (dk_at dksX1_firstState_0 5 rfl rfl)
theorem dX1_firstState_6 : decode cX1_firstState 6 = .ok (.iconst 0, 1) := dk_3 (dk_at dksX1_firstState_0 6 rfl rfl)
theorem dX1_firstState_7 : decode cX1_firstState 7 = .ok (.istore_n 1, 1) := dk_60 (dk_at dksX1_firstState_0 7 rfl rfl)
theorem dX1_firstState_8 : decode cX1_firstState 8 = .ok (.iload_n 1, 1) := dk_27 (dk_at dksX1_firstState_0 8 rfl rfl)
theorem dX1_firstState_9 : decode cX1_firstState 9 = .ok (.sipush 192, 3) := dk_17 0 192 (dk_at dksX1_firstState_0 9 rfl rfl)
theorem dX1_firstState_12 : decode cX1_firstState 12 = .ok (.if_icmp .ge 14, 3) := dk_162 0 14 (dk_at dksX1_firstState_0 12 rfl rfl)
theorem dX1_firstState_15 : decode cX1_firstState 15 = .ok (.aload_n 0, 1) := dk_42 (dk_at dksX1_firstState_0 15 rfl rfl)
theorem dX1_firstState_16 : decode cX1_firstState 16 = .ok (.iload_n 1, 1) := dk_27 (dk_at dksX1_firstState_0 16 rfl rfl)
theorem dX1_firstState_17 : decode cX1_firstState 17 = .ok (.bipush (-2), 2) := dk_16 254 (dk_at dksX1_firstState_0 17 rfl rfl)
theorem dX1_firstState_19 : decode cX1_firstState 19 = .ok (.iastore, 1) := dk_79 (dk_at dksX1_firstState_0 19 rfl rfl)
theorem dX1_firstState_20 : decode cX1_firstState 20 = .ok (.iinc 1 1, 3) := dk_132 1 1 (dk_at dksX1_firstState_0 20 rfl rfl)
theorem dX1_firstState_23 : decode cX1_firstState 23 = .ok (.goto (-15), 3) := dk_167 255 241 (dk_at dksX1_firstState_1 0 rfl rfl)
theorem dX1_firstState_26 : decode cX1_firstState 26 = .ok (.new 17, 3) := dk_187 0 17 (dk_at dksX1_firstState_1 3 rfl rfl)
theorem dX1_firstState_29 : decode cX1_firstState 29 = .ok (.dup, 1) := dk_89 (dk_at dksX1_firstState_1 6 rfl rfl)
theorem dX1_firstState_30 : decode cX1_firstState 30 = .ok (.aload_n 0, 1) := dk_42 (dk_at dksX1_firstState_1 7 rfl rfl)
theorem dX1_firstState_31 : decode cX1_firstState 31 = .ok (.bipush 36, 2) := dk_16 36 (dk_at dksX1_firstState_1 8 rfl rfl)
theorem dX1_firstState_33 : decode cX1_firstState 33 = .ok (.newarray .int, 2) := dk_188_10 (dk_at dksX1_firstState_1 10 rfl rfl)
theorem dX1_firstState_35 : decode cX1_firstState 35 = .ok (.bipush 6, 2) := dk_16 6 (dk_at dksX1_firstState_1 12 rfl rfl)
theorem dX1_firstState_37 : decode cX1_firstState 37 = .ok (.newarray .boolean, 2) := dk_188_4 (dk_at dksX1_firstState_1 14 rfl rfl)
theorem dX1_firstState_39 : decode cX1_firstState 39 = .ok (.invokespecial 19, 3) := dk_183 0 19 (dk_at dksX1_firstState_1 16 rfl rfl)
theorem dX1_firstState_42 : decode cX1_firstState 42 = .ok (.areturn, 1) := dk_176 (dk_at dksX1_firstState_1 19 rfl rfl)
abbrev cX1_lambda_new_0 : ByteArray := prog_1_method_78_code
def yX1_lambda_new_0 : MethodName := ⟨RX1, "lambda$new$0", "(I)I"⟩
def dkwX1_lambda_new_0_0 : List UInt8 := [42, 180, 0, 29, 180, 0, 106, 27, 46, 16, 254, 160, 0, 7, 4, 167, 0, 4, 3, 184, 0, 183, 172]
abbrev dktX1_lambda_new_0_0 : List UInt8 := dkwX1_lambda_new_0_0 ++ []
theorem dksX1_lambda_new_0_0 : cX1_lambda_new_0.data.toList.drop 0 = dktX1_lambda_new_0_0 := by decide +kernel
theorem dX1_lambda_new_0_0 : decode cX1_lambda_new_0 0 = .ok (.aload_n 0, 1) := dk_42 (dk_at dksX1_lambda_new_0_0 0 rfl rfl)
theorem dX1_lambda_new_0_1 : decode cX1_lambda_new_0 1 = .ok (.getfield 29, 3) := dk_180 0 29 (dk_at dksX1_lambda_new_0_0 1 rfl rfl)
theorem dX1_lambda_new_0_4 : decode cX1_lambda_new_0 4 = .ok (.getfield 106, 3) := dk_180 0 106 (dk_at dksX1_lambda_new_0_0 4 rfl rfl)
theorem dX1_lambda_new_0_7 : decode cX1_lambda_new_0 7 = .ok (.iload_n 1, 1) := dk_27 (dk_at dksX1_lambda_new_0_0 7 rfl rfl)
theorem dX1_lambda_new_0_8 : decode cX1_lambda_new_0 8 = .ok (.iaload, 1) := dk_46 (dk_at dksX1_lambda_new_0_0 8 rfl rfl)
theorem dX1_lambda_new_0_9 : decode cX1_lambda_new_0 9 = .ok (.bipush (-2), 2) := dk_16 254 (dk_at dksX1_lambda_new_0_0 9 rfl rfl)
theorem dX1_lambda_new_0_11 : decode cX1_lambda_new_0 11 = .ok (.if_icmp .ne 7, 3) := dk_160 0 7 (dk_at dksX1_lambda_new_0_0 11 rfl rfl)
theorem dX1_lambda_new_0_14 : decode cX1_lambda_new_0 14 = .ok (.iconst 1, 1) := dk_4 (dk_at dksX1_lambda_new_0_0 14 rfl rfl)
theorem dX1_lambda_new_0_15 : decode cX1_lambda_new_0 15 = .ok (.goto 4, 3) := dk_167 0 4 (dk_at dksX1_lambda_new_0_0 15 rfl rfl)
theorem dX1_lambda_new_0_18 : decode cX1_lambda_new_0 18 = .ok (.iconst 0, 1) := dk_3 (dk_at dksX1_lambda_new_0_0 18 rfl rfl)
theorem dX1_lambda_new_0_19 : decode cX1_lambda_new_0 19 = .ok (.invokestatic 183, 3) := dk_184 0 183 (dk_at dksX1_lambda_new_0_0 19 rfl rfl)
theorem dX1_lambda_new_0_22 : decode cX1_lambda_new_0 22 = .ok (.ireturn, 1) := dk_172 (dk_at dksX1_lambda_new_0_0 22 rfl rfl)
abbrev cX1_flag : ByteArray := prog_1_method_5_code
def yX1_flag : MethodName := ⟨RX1, "flag", "(Z)I"⟩
def dkwX1_flag_0 : List UInt8 := [26, 153, 0, 7, 4, 167, 0, 4, 3, 172]
abbrev dktX1_flag_0 : List UInt8 := dkwX1_flag_0 ++ []
theorem dksX1_flag_0 : cX1_flag.data.toList.drop 0 = dktX1_flag_0 := by decide +kernel
theorem dX1_flag_0 : decode cX1_flag 0 = .ok (.iload_n 0, 1) := dk_26 (dk_at dksX1_flag_0 0 rfl rfl)
theorem dX1_flag_1 : decode cX1_flag 1 = .ok (.ifCond .eq 7, 3) := dk_153 0 7 (dk_at dksX1_flag_0 1 rfl rfl)
theorem dX1_flag_4 : decode cX1_flag 4 = .ok (.iconst 1, 1) := dk_4 (dk_at dksX1_flag_0 4 rfl rfl)
theorem dX1_flag_5 : decode cX1_flag 5 = .ok (.goto 4, 3) := dk_167 0 4 (dk_at dksX1_flag_0 5 rfl rfl)
theorem dX1_flag_8 : decode cX1_flag 8 = .ok (.iconst 0, 1) := dk_3 (dk_at dksX1_flag_0 8 rfl rfl)
theorem dX1_flag_9 : decode cX1_flag 9 = .ok (.ireturn, 1) := dk_172 (dk_at dksX1_flag_0 9 rfl rfl)
abbrev cX1_lambda_new_1 : ByteArray := prog_1_method_77_code
def yX1_lambda_new_1 : MethodName := ⟨RX1, "lambda$new$1", "(I)I"⟩
def dkwX1_lambda_new_1_0 : List UInt8 := [42, 180, 0, 29, 180, 0, 106, 27, 46, 2, 160, 0, 7, 4, 167, 0, 4, 3, 184, 0, 183, 172]
abbrev dktX1_lambda_new_1_0 : List UInt8 := dkwX1_lambda_new_1_0 ++ []
theorem dksX1_lambda_new_1_0 : cX1_lambda_new_1.data.toList.drop 0 = dktX1_lambda_new_1_0 := by decide +kernel
theorem dX1_lambda_new_1_0 : decode cX1_lambda_new_1 0 = .ok (.aload_n 0, 1) := dk_42 (dk_at dksX1_lambda_new_1_0 0 rfl rfl)
theorem dX1_lambda_new_1_1 : decode cX1_lambda_new_1 1 = .ok (.getfield 29, 3) := dk_180 0 29 (dk_at dksX1_lambda_new_1_0 1 rfl rfl)
theorem dX1_lambda_new_1_4 : decode cX1_lambda_new_1 4 = .ok (.getfield 106, 3) := dk_180 0 106 (dk_at dksX1_lambda_new_1_0 4 rfl rfl)
theorem dX1_lambda_new_1_7 : decode cX1_lambda_new_1 7 = .ok (.iload_n 1, 1) := dk_27 (dk_at dksX1_lambda_new_1_0 7 rfl rfl)
theorem dX1_lambda_new_1_8 : decode cX1_lambda_new_1 8 = .ok (.iaload, 1) := dk_46 (dk_at dksX1_lambda_new_1_0 8 rfl rfl)
theorem dX1_lambda_new_1_9 : decode cX1_lambda_new_1 9 = .ok (.iconst (-1), 1) := dk_2 (dk_at dksX1_lambda_new_1_0 9 rfl rfl)
theorem dX1_lambda_new_1_10 : decode cX1_lambda_new_1 10 = .ok (.if_icmp .ne 7, 3) := dk_160 0 7 (dk_at dksX1_lambda_new_1_0 10 rfl rfl)
theorem dX1_lambda_new_1_13 : decode cX1_lambda_new_1 13 = .ok (.iconst 1, 1) := dk_4 (dk_at dksX1_lambda_new_1_0 13 rfl rfl)
theorem dX1_lambda_new_1_14 : decode cX1_lambda_new_1 14 = .ok (.goto 4, 3) := dk_167 0 4 (dk_at dksX1_lambda_new_1_0 14 rfl rfl)
theorem dX1_lambda_new_1_17 : decode cX1_lambda_new_1 17 = .ok (.iconst 0, 1) := dk_3 (dk_at dksX1_lambda_new_1_0 17 rfl rfl)
theorem dX1_lambda_new_1_18 : decode cX1_lambda_new_1 18 = .ok (.invokestatic 183, 3) := dk_184 0 183 (dk_at dksX1_lambda_new_1_0 18 rfl rfl)
theorem dX1_lambda_new_1_21 : decode cX1_lambda_new_1 21 = .ok (.ireturn, 1) := dk_172 (dk_at dksX1_lambda_new_1_0 21 rfl rfl)
abbrev cX1_lambda_new_2 : ByteArray := prog_1_method_76_code
def yX1_lambda_new_2 : MethodName := ⟨RX1, "lambda$new$2", "(I)I"⟩
def dkwX1_lambda_new_2_0 : List UInt8 := [42, 27, 182, 1, 138, 172]
abbrev dktX1_lambda_new_2_0 : List UInt8 := dkwX1_lambda_new_2_0 ++ []
theorem dksX1_lambda_new_2_0 : cX1_lambda_new_2.data.toList.drop 0 = dktX1_lambda_new_2_0 := by decide +kernel
theorem dX1_lambda_new_2_0 : decode cX1_lambda_new_2 0 = .ok (.aload_n 0, 1) := dk_42 (dk_at dksX1_lambda_new_2_0 0 rfl rfl)
theorem dX1_lambda_new_2_1 : decode cX1_lambda_new_2 1 = .ok (.iload_n 1, 1) := dk_27 (dk_at dksX1_lambda_new_2_0 1 rfl rfl)
theorem dX1_lambda_new_2_2 : decode cX1_lambda_new_2 2 = .ok (.invokevirtual 394, 3) := dk_182 1 138 (dk_at dksX1_lambda_new_2_0 2 rfl rfl)
theorem dX1_lambda_new_2_5 : decode cX1_lambda_new_2 5 = .ok (.ireturn, 1) := dk_172 (dk_at dksX1_lambda_new_2_0 5 rfl rfl)
abbrev cX1_doorSides : ByteArray := prog_1_method_47_code
def yX1_doorSides : MethodName := ⟨RX1, "doorSides", "(I)I"⟩
def dkwX1_doorSides_1 : List UInt8 := [184, 0, 183, 96, 61, 132, 3, 1, 167, 255, 228, 28, 172]
abbrev dktX1_doorSides_1 : List UInt8 := dkwX1_doorSides_1 ++ []
def dkwX1_doorSides_0 : List UInt8 := [3, 61, 3, 62, 29, 7, 162, 0, 29, 28, 42, 27, 29, 182, 1, 49, 155, 0, 7, 4, 167, 0, 4, 3]
abbrev dktX1_doorSides_0 : List UInt8 := dkwX1_doorSides_0 ++ dktX1_doorSides_1
theorem dksX1_doorSides_0 : cX1_doorSides.data.toList.drop 0 = dktX1_doorSides_0 := by decide +kernel
theorem dksX1_doorSides_1 : cX1_doorSides.data.toList.drop 24 = dktX1_doorSides_1 := dk_seg dksX1_doorSides_0 24 rfl rfl
theorem dX1_doorSides_0 : decode cX1_doorSides 0 = .ok (.iconst 0, 1) := dk_3 (dk_at dksX1_doorSides_0 0 rfl rfl)
theorem dX1_doorSides_1 : decode cX1_doorSides 1 = .ok (.istore_n 2, 1) := dk_61 (dk_at dksX1_doorSides_0 1 rfl rfl)
theorem dX1_doorSides_2 : decode cX1_doorSides 2 = .ok (.iconst 0, 1) := dk_3 (dk_at dksX1_doorSides_0 2 rfl rfl)
theorem dX1_doorSides_3 : decode cX1_doorSides 3 = .ok (.istore_n 3, 1) := dk_62 (dk_at dksX1_doorSides_0 3 rfl rfl)
theorem dX1_doorSides_4 : decode cX1_doorSides 4 = .ok (.iload_n 3, 1) := dk_29 (dk_at dksX1_doorSides_0 4 rfl rfl)
theorem dX1_doorSides_5 : decode cX1_doorSides 5 = .ok (.iconst 4, 1) := dk_7 (dk_at dksX1_doorSides_0 5 rfl rfl)
theorem dX1_doorSides_6 : decode cX1_doorSides 6 = .ok (.if_icmp .ge 29, 3) := dk_162 0 29 (dk_at dksX1_doorSides_0 6 rfl rfl)
theorem dX1_doorSides_9 : decode cX1_doorSides 9 = .ok (.iload_n 2, 1) := dk_28 (dk_at dksX1_doorSides_0 9 rfl rfl)
theorem dX1_doorSides_10 : decode cX1_doorSides 10 = .ok (.aload_n 0, 1) := dk_42 (dk_at dksX1_doorSides_0 10 rfl rfl)
theorem dX1_doorSides_11 : decode cX1_doorSides 11 = .ok (.iload_n 1, 1) := dk_27 (dk_at dksX1_doorSides_0 11 rfl rfl)
theorem dX1_doorSides_12 : decode cX1_doorSides 12 = .ok (.iload_n 3, 1) := dk_29 (dk_at dksX1_doorSides_0 12 rfl rfl)
theorem dX1_doorSides_13 : decode cX1_doorSides 13 = .ok (.invokevirtual 305, 3) := dk_182 1 49 (dk_at dksX1_doorSides_0 13 rfl rfl)
theorem dX1_doorSides_16 : decode cX1_doorSides 16 = .ok (.ifCond .lt 7, 3) := dk_155 0 7 (dk_at dksX1_doorSides_0 16 rfl rfl)
theorem dX1_doorSides_19 : decode cX1_doorSides 19 = .ok (.iconst 1, 1) := dk_4 (dk_at dksX1_doorSides_0 19 rfl rfl)
theorem dX1_doorSides_20 : decode cX1_doorSides 20 = .ok (.goto 4, 3) := dk_167 0 4 (dk_at dksX1_doorSides_0 20 rfl rfl)
theorem dX1_doorSides_23 : decode cX1_doorSides 23 = .ok (.iconst 0, 1) := dk_3 (dk_at dksX1_doorSides_0 23 rfl rfl)
theorem dX1_doorSides_24 : decode cX1_doorSides 24 = .ok (.invokestatic 183, 3) := dk_184 0 183 (dk_at dksX1_doorSides_1 0 rfl rfl)
theorem dX1_doorSides_27 : decode cX1_doorSides 27 = .ok (.iadd, 1) := dk_96 (dk_at dksX1_doorSides_1 3 rfl rfl)
theorem dX1_doorSides_28 : decode cX1_doorSides 28 = .ok (.istore_n 2, 1) := dk_61 (dk_at dksX1_doorSides_1 4 rfl rfl)
theorem dX1_doorSides_29 : decode cX1_doorSides 29 = .ok (.iinc 3 1, 3) := dk_132 3 1 (dk_at dksX1_doorSides_1 5 rfl rfl)
theorem dX1_doorSides_32 : decode cX1_doorSides 32 = .ok (.goto (-28), 3) := dk_167 255 228 (dk_at dksX1_doorSides_1 8 rfl rfl)
theorem dX1_doorSides_35 : decode cX1_doorSides 35 = .ok (.iload_n 2, 1) := dk_28 (dk_at dksX1_doorSides_1 11 rfl rfl)
theorem dX1_doorSides_36 : decode cX1_doorSides 36 = .ok (.ireturn, 1) := dk_172 (dk_at dksX1_doorSides_1 12 rfl rfl)
abbrev cX1_doorTo : ByteArray := prog_1_method_46_code
def yX1_doorTo : MethodName := ⟨RX1, "doorTo", "(II)I"⟩
def dkwX1_doorTo_1 : List UInt8 := [167, 0, 5, 16, 254, 172]
abbrev dktX1_doorTo_1 : List UInt8 := dkwX1_doorTo_1 ++ []
def dkwX1_doorTo_0 : List UInt8 := [42, 180, 0, 29, 180, 0, 106, 27, 46, 2, 160, 0, 15, 42, 180, 0, 29, 27, 28, 182, 0, 109]
abbrev dktX1_doorTo_0 : List UInt8 := dkwX1_doorTo_0 ++ dktX1_doorTo_1
theorem dksX1_doorTo_0 : cX1_doorTo.data.toList.drop 0 = dktX1_doorTo_0 := by decide +kernel
theorem dksX1_doorTo_1 : cX1_doorTo.data.toList.drop 22 = dktX1_doorTo_1 := dk_seg dksX1_doorTo_0 22 rfl rfl
theorem dX1_doorTo_0 : decode cX1_doorTo 0 = .ok (.aload_n 0, 1) := dk_42 (dk_at dksX1_doorTo_0 0 rfl rfl)
theorem dX1_doorTo_1 : decode cX1_doorTo 1 = .ok (.getfield 29, 3) := dk_180 0 29 (dk_at dksX1_doorTo_0 1 rfl rfl)
theorem dX1_doorTo_4 : decode cX1_doorTo 4 = .ok (.getfield 106, 3) := dk_180 0 106 (dk_at dksX1_doorTo_0 4 rfl rfl)
theorem dX1_doorTo_7 : decode cX1_doorTo 7 = .ok (.iload_n 1, 1) := dk_27 (dk_at dksX1_doorTo_0 7 rfl rfl)
theorem dX1_doorTo_8 : decode cX1_doorTo 8 = .ok (.iaload, 1) := dk_46 (dk_at dksX1_doorTo_0 8 rfl rfl)
theorem dX1_doorTo_9 : decode cX1_doorTo 9 = .ok (.iconst (-1), 1) := dk_2 (dk_at dksX1_doorTo_0 9 rfl rfl)
theorem dX1_doorTo_10 : decode cX1_doorTo 10 = .ok (.if_icmp .ne 15, 3) := dk_160 0 15 (dk_at dksX1_doorTo_0 10 rfl rfl)
theorem dX1_doorTo_13 : decode cX1_doorTo 13 = .ok (.aload_n 0, 1) := dk_42 (dk_at dksX1_doorTo_0 13 rfl rfl)
theorem dX1_doorTo_14 : decode cX1_doorTo 14 = .ok (.getfield 29, 3) := dk_180 0 29 (dk_at dksX1_doorTo_0 14 rfl rfl)
theorem dX1_doorTo_17 : decode cX1_doorTo 17 = .ok (.iload_n 1, 1) := dk_27 (dk_at dksX1_doorTo_0 17 rfl rfl)
theorem dX1_doorTo_18 : decode cX1_doorTo 18 = .ok (.iload_n 2, 1) := dk_28 (dk_at dksX1_doorTo_0 18 rfl rfl)
theorem dX1_doorTo_19 : decode cX1_doorTo 19 = .ok (.invokevirtual 109, 3) := dk_182 0 109 (dk_at dksX1_doorTo_0 19 rfl rfl)
theorem dX1_doorTo_22 : decode cX1_doorTo 22 = .ok (.goto 5, 3) := dk_167 0 5 (dk_at dksX1_doorTo_1 0 rfl rfl)
theorem dX1_doorTo_25 : decode cX1_doorTo 25 = .ok (.bipush (-2), 2) := dk_16 254 (dk_at dksX1_doorTo_1 3 rfl rfl)
theorem dX1_doorTo_27 : decode cX1_doorTo 27 = .ok (.ireturn, 1) := dk_172 (dk_at dksX1_doorTo_1 5 rfl rfl)
abbrev cX1_inRange : ByteArray := prog_1_method_1_code
def yX1_inRange : MethodName := ⟨RX1, "inRange", "(III)Z"⟩
def dkwX1_inRange_0 : List UInt8 := [26, 27, 161, 0, 12, 26, 28, 163, 0, 7, 4, 167, 0, 4, 3, 172]
abbrev dktX1_inRange_0 : List UInt8 := dkwX1_inRange_0 ++ []
theorem dksX1_inRange_0 : cX1_inRange.data.toList.drop 0 = dktX1_inRange_0 := by decide +kernel
theorem dX1_inRange_0 : decode cX1_inRange 0 = .ok (.iload_n 0, 1) := dk_26 (dk_at dksX1_inRange_0 0 rfl rfl)
theorem dX1_inRange_1 : decode cX1_inRange 1 = .ok (.iload_n 1, 1) := dk_27 (dk_at dksX1_inRange_0 1 rfl rfl)
theorem dX1_inRange_2 : decode cX1_inRange 2 = .ok (.if_icmp .lt 12, 3) := dk_161 0 12 (dk_at dksX1_inRange_0 2 rfl rfl)
theorem dX1_inRange_5 : decode cX1_inRange 5 = .ok (.iload_n 0, 1) := dk_26 (dk_at dksX1_inRange_0 5 rfl rfl)
theorem dX1_inRange_6 : decode cX1_inRange 6 = .ok (.iload_n 2, 1) := dk_28 (dk_at dksX1_inRange_0 6 rfl rfl)
theorem dX1_inRange_7 : decode cX1_inRange 7 = .ok (.if_icmp .gt 7, 3) := dk_163 0 7 (dk_at dksX1_inRange_0 7 rfl rfl)
theorem dX1_inRange_10 : decode cX1_inRange 10 = .ok (.iconst 1, 1) := dk_4 (dk_at dksX1_inRange_0 10 rfl rfl)
theorem dX1_inRange_11 : decode cX1_inRange 11 = .ok (.goto 4, 3) := dk_167 0 4 (dk_at dksX1_inRange_0 11 rfl rfl)
theorem dX1_inRange_14 : decode cX1_inRange 14 = .ok (.iconst 0, 1) := dk_3 (dk_at dksX1_inRange_0 14 rfl rfl)
theorem dX1_inRange_15 : decode cX1_inRange 15 = .ok (.ireturn, 1) := dk_172 (dk_at dksX1_inRange_0 15 rfl rfl)
abbrev cX1_carveAll : ByteArray := prog_1_method_37_code
def yX1_carveAll : MethodName := ⟨RX1, "carveAll", "()I"⟩
def dkwX1_carveAll_0 : List UInt8 := [42, 182, 0, 134, 42, 182, 0, 232, 172]
abbrev dktX1_carveAll_0 : List UInt8 := dkwX1_carveAll_0 ++ []
theorem dksX1_carveAll_0 : cX1_carveAll.data.toList.drop 0 = dktX1_carveAll_0 := by decide +kernel
theorem dX1_carveAll_0 : decode cX1_carveAll 0 = .ok (.aload_n 0, 1) := dk_42 (dk_at dksX1_carveAll_0 0 rfl rfl)
theorem dX1_carveAll_1 : decode cX1_carveAll 1 = .ok (.invokevirtual 134, 3) := dk_182 0 134 (dk_at dksX1_carveAll_0 1 rfl rfl)
theorem dX1_carveAll_4 : decode cX1_carveAll 4 = .ok (.aload_n 0, 1) := dk_42 (dk_at dksX1_carveAll_0 4 rfl rfl)
theorem dX1_carveAll_5 : decode cX1_carveAll 5 = .ok (.invokevirtual 232, 3) := dk_182 0 232 (dk_at dksX1_carveAll_0 5 rfl rfl)
theorem dX1_carveAll_8 : decode cX1_carveAll 8 = .ok (.ireturn, 1) := dk_172 (dk_at dksX1_carveAll_0 8 rfl rfl)
abbrev cX1_save : ByteArray := prog_1_method_8_code
def yX1_save : MethodName := ⟨RX1, "save", "()V"⟩
def dkwX1_save_1 : List UInt8 := [42, 180, 0, 29, 182, 0, 87, 182, 0, 90, 177]
abbrev dktX1_save_1 : List UInt8 := dkwX1_save_1 ++ []
def dkwX1_save_0 : List UInt8 := [42, 180, 0, 38, 182, 0, 79, 16, 6, 160, 0, 11, 42, 180, 0, 38, 182, 0, 83, 87, 42, 180, 0, 38]
abbrev dktX1_save_0 : List UInt8 := dkwX1_save_0 ++ dktX1_save_1
theorem dksX1_save_0 : cX1_save.data.toList.drop 0 = dktX1_save_0 := by decide +kernel
theorem dksX1_save_1 : cX1_save.data.toList.drop 24 = dktX1_save_1 := dk_seg dksX1_save_0 24 rfl rfl
theorem dX1_save_0 : decode cX1_save 0 = .ok (.aload_n 0, 1) := dk_42 (dk_at dksX1_save_0 0 rfl rfl)
theorem dX1_save_1 : decode cX1_save 1 = .ok (.getfield 38, 3) := dk_180 0 38 (dk_at dksX1_save_0 1 rfl rfl)
theorem dX1_save_4 : decode cX1_save 4 = .ok (.invokevirtual 79, 3) := dk_182 0 79 (dk_at dksX1_save_0 4 rfl rfl)
theorem dX1_save_7 : decode cX1_save 7 = .ok (.bipush 6, 2) := dk_16 6 (dk_at dksX1_save_0 7 rfl rfl)
theorem dX1_save_9 : decode cX1_save 9 = .ok (.if_icmp .ne 11, 3) := dk_160 0 11 (dk_at dksX1_save_0 9 rfl rfl)
theorem dX1_save_12 : decode cX1_save 12 = .ok (.aload_n 0, 1) := dk_42 (dk_at dksX1_save_0 12 rfl rfl)
theorem dX1_save_13 : decode cX1_save 13 = .ok (.getfield 38, 3) := dk_180 0 38 (dk_at dksX1_save_0 13 rfl rfl)
theorem dX1_save_16 : decode cX1_save 16 = .ok (.invokevirtual 83, 3) := dk_182 0 83 (dk_at dksX1_save_0 16 rfl rfl)
theorem dX1_save_19 : decode cX1_save 19 = .ok (.pop, 1) := dk_87 (dk_at dksX1_save_0 19 rfl rfl)
theorem dX1_save_20 : decode cX1_save 20 = .ok (.aload_n 0, 1) := dk_42 (dk_at dksX1_save_0 20 rfl rfl)
theorem dX1_save_21 : decode cX1_save 21 = .ok (.getfield 38, 3) := dk_180 0 38 (dk_at dksX1_save_0 21 rfl rfl)
theorem dX1_save_24 : decode cX1_save 24 = .ok (.aload_n 0, 1) := dk_42 (dk_at dksX1_save_1 0 rfl rfl)
theorem dX1_save_25 : decode cX1_save 25 = .ok (.getfield 29, 3) := dk_180 0 29 (dk_at dksX1_save_1 1 rfl rfl)
theorem dX1_save_28 : decode cX1_save 28 = .ok (.invokevirtual 87, 3) := dk_182 0 87 (dk_at dksX1_save_1 4 rfl rfl)
theorem dX1_save_31 : decode cX1_save 31 = .ok (.invokevirtual 90, 3) := dk_182 0 90 (dk_at dksX1_save_1 7 rfl rfl)
theorem dX1_save_34 : decode cX1_save 34 = .ok (.return_, 1) := dk_177 (dk_at dksX1_save_1 10 rfl rfl)
abbrev cX1_carvesAll : ByteArray := prog_1_method_36_code
def yX1_carvesAll : MethodName := ⟨RX1, "carvesAll", "()I"⟩
def dkwX1_carvesAll_0 : List UInt8 := [3, 60, 42, 182, 0, 228, 153, 0, 9, 132, 1, 1, 167, 255, 246, 27, 172]
abbrev dktX1_carvesAll_0 : List UInt8 := dkwX1_carvesAll_0 ++ []
theorem dksX1_carvesAll_0 : cX1_carvesAll.data.toList.drop 0 = dktX1_carvesAll_0 := by decide +kernel
theorem dX1_carvesAll_0 : decode cX1_carvesAll 0 = .ok (.iconst 0, 1) := dk_3 (dk_at dksX1_carvesAll_0 0 rfl rfl)
theorem dX1_carvesAll_1 : decode cX1_carvesAll 1 = .ok (.istore_n 1, 1) := dk_60 (dk_at dksX1_carvesAll_0 1 rfl rfl)
theorem dX1_carvesAll_2 : decode cX1_carvesAll 2 = .ok (.aload_n 0, 1) := dk_42 (dk_at dksX1_carvesAll_0 2 rfl rfl)
theorem dX1_carvesAll_3 : decode cX1_carvesAll 3 = .ok (.invokevirtual 228, 3) := dk_182 0 228 (dk_at dksX1_carvesAll_0 3 rfl rfl)
theorem dX1_carvesAll_6 : decode cX1_carvesAll 6 = .ok (.ifCond .eq 9, 3) := dk_153 0 9 (dk_at dksX1_carvesAll_0 6 rfl rfl)
theorem dX1_carvesAll_9 : decode cX1_carvesAll 9 = .ok (.iinc 1 1, 3) := dk_132 1 1 (dk_at dksX1_carvesAll_0 9 rfl rfl)
theorem dX1_carvesAll_12 : decode cX1_carvesAll 12 = .ok (.goto (-10), 3) := dk_167 255 246 (dk_at dksX1_carvesAll_0 12 rfl rfl)
theorem dX1_carvesAll_15 : decode cX1_carvesAll 15 = .ok (.iload_n 1, 1) := dk_27 (dk_at dksX1_carvesAll_0 15 rfl rfl)
theorem dX1_carvesAll_16 : decode cX1_carvesAll 16 = .ok (.ireturn, 1) := dk_172 (dk_at dksX1_carvesAll_0 16 rfl rfl)
abbrev cX1_carvesNext : ByteArray := prog_1_method_35_code
def yX1_carvesNext : MethodName := ⟨RX1, "carvesNext", "()Z"⟩
def dkwX1_carvesNext_5 : List UInt8 := [16, 6, 112, 182, 0, 208, 153, 0, 14, 42, 182, 0, 214, 158, 0, 7, 4, 167, 0, 4, 3, 172]
abbrev dktX1_carvesNext_5 : List UInt8 := dkwX1_carvesNext_5 ++ []
def dkwX1_carvesNext_4 : List UInt8 := [167, 0, 4, 28, 61, 132, 3, 1, 167, 255, 161, 27, 2, 160, 0, 5, 3, 172, 42, 27, 16, 6, 108, 27]
abbrev dktX1_carvesNext_4 : List UInt8 := dkwX1_carvesNext_4 ++ dktX1_carvesNext_5
def dkwX1_carvesNext_3 : List UInt8 := [21, 5, 28, 162, 0, 7, 29, 167, 0, 4, 27, 60, 21, 5, 158, 0, 12, 28, 21, 5, 184, 0, 223]
abbrev dktX1_carvesNext_3 : List UInt8 := dkwX1_carvesNext_3 ++ dktX1_carvesNext_4
def dkwX1_carvesNext_2 : List UInt8 := [42, 29, 16, 6, 108, 29, 16, 6, 112, 182, 0, 220, 167, 0, 4, 2, 54, 5, 21, 5, 158, 0, 13]
abbrev dktX1_carvesNext_2 : List UInt8 := dkwX1_carvesNext_2 ++ dktX1_carvesNext_3
def dkwX1_carvesNext_1 : List UInt8 := [42, 180, 0, 29, 180, 0, 217, 29, 46, 158, 0, 7, 4, 167, 0, 4, 3, 54, 4, 21, 4, 153, 0, 18]
abbrev dktX1_carvesNext_1 : List UInt8 := dkwX1_carvesNext_1 ++ dktX1_carvesNext_2
def dkwX1_carvesNext_0 : List UInt8 := [2, 60, 18, 170, 61, 3, 62, 29, 16, 36, 162, 0, 95, 29, 16, 6, 108, 29, 16, 6, 112, 162, 0, 19]
abbrev dktX1_carvesNext_0 : List UInt8 := dkwX1_carvesNext_0 ++ dktX1_carvesNext_1
theorem dksX1_carvesNext_0 : cX1_carvesNext.data.toList.drop 0 = dktX1_carvesNext_0 := by decide +kernel
theorem dksX1_carvesNext_1 : cX1_carvesNext.data.toList.drop 24 = dktX1_carvesNext_1 := dk_seg dksX1_carvesNext_0 24 rfl rfl
theorem dksX1_carvesNext_2 : cX1_carvesNext.data.toList.drop 48 = dktX1_carvesNext_2 := dk_seg dksX1_carvesNext_1 24 rfl rfl
theorem dksX1_carvesNext_3 : cX1_carvesNext.data.toList.drop 71 = dktX1_carvesNext_3 := dk_seg dksX1_carvesNext_2 23 rfl rfl
theorem dksX1_carvesNext_4 : cX1_carvesNext.data.toList.drop 94 = dktX1_carvesNext_4 := dk_seg dksX1_carvesNext_3 23 rfl rfl
theorem dksX1_carvesNext_5 : cX1_carvesNext.data.toList.drop 118 = dktX1_carvesNext_5 := dk_seg dksX1_carvesNext_4 24 rfl rfl
theorem dX1_carvesNext_0 : decode cX1_carvesNext 0 = .ok (.iconst (-1), 1) := dk_2 (dk_at dksX1_carvesNext_0 0 rfl rfl)
theorem dX1_carvesNext_1 : decode cX1_carvesNext 1 = .ok (.istore_n 1, 1) := dk_60 (dk_at dksX1_carvesNext_0 1 rfl rfl)
theorem dX1_carvesNext_2 : decode cX1_carvesNext 2 = .ok (.ldc 170, 2) := dk_18 170 (dk_at dksX1_carvesNext_0 2 rfl rfl)
theorem dX1_carvesNext_4 : decode cX1_carvesNext 4 = .ok (.istore_n 2, 1) := dk_61 (dk_at dksX1_carvesNext_0 4 rfl rfl)
theorem dX1_carvesNext_5 : decode cX1_carvesNext 5 = .ok (.iconst 0, 1) := dk_3 (dk_at dksX1_carvesNext_0 5 rfl rfl)
theorem dX1_carvesNext_6 : decode cX1_carvesNext 6 = .ok (.istore_n 3, 1) := dk_62 (dk_at dksX1_carvesNext_0 6 rfl rfl)
theorem dX1_carvesNext_7 : decode cX1_carvesNext 7 = .ok (.iload_n 3, 1) := dk_29 (dk_at dksX1_carvesNext_0 7 rfl rfl)
theorem dX1_carvesNext_8 : decode cX1_carvesNext 8 = .ok (.bipush 36, 2) := dk_16 36 (dk_at dksX1_carvesNext_0 8 rfl rfl)
theorem dX1_carvesNext_10 : decode cX1_carvesNext 10 = .ok (.if_icmp .ge 95, 3) := dk_162 0 95 (dk_at dksX1_carvesNext_0 10 rfl rfl)
theorem dX1_carvesNext_13 : decode cX1_carvesNext 13 = .ok (.iload_n 3, 1) := dk_29 (dk_at dksX1_carvesNext_0 13 rfl rfl)
theorem dX1_carvesNext_14 : decode cX1_carvesNext 14 = .ok (.bipush 6, 2) := dk_16 6 (dk_at dksX1_carvesNext_0 14 rfl rfl)
theorem dX1_carvesNext_16 : decode cX1_carvesNext 16 = .ok (.idiv, 1) := dk_108 (dk_at dksX1_carvesNext_0 16 rfl rfl)
theorem dX1_carvesNext_17 : decode cX1_carvesNext 17 = .ok (.iload_n 3, 1) := dk_29 (dk_at dksX1_carvesNext_0 17 rfl rfl)
theorem dX1_carvesNext_18 : decode cX1_carvesNext 18 = .ok (.bipush 6, 2) := dk_16 6 (dk_at dksX1_carvesNext_0 18 rfl rfl)
theorem dX1_carvesNext_20 : decode cX1_carvesNext 20 = .ok (.irem, 1) := dk_112 (dk_at dksX1_carvesNext_0 20 rfl rfl)
theorem dX1_carvesNext_21 : decode cX1_carvesNext 21 = .ok (.if_icmp .ge 19, 3) := dk_162 0 19 (dk_at dksX1_carvesNext_0 21 rfl rfl)
theorem dX1_carvesNext_24 : decode cX1_carvesNext 24 = .ok (.aload_n 0, 1) := dk_42 (dk_at dksX1_carvesNext_1 0 rfl rfl)
theorem dX1_carvesNext_25 : decode cX1_carvesNext 25 = .ok (.getfield 29, 3) := dk_180 0 29 (dk_at dksX1_carvesNext_1 1 rfl rfl)
theorem dX1_carvesNext_28 : decode cX1_carvesNext 28 = .ok (.getfield 217, 3) := dk_180 0 217 (dk_at dksX1_carvesNext_1 4 rfl rfl)
theorem dX1_carvesNext_31 : decode cX1_carvesNext 31 = .ok (.iload_n 3, 1) := dk_29 (dk_at dksX1_carvesNext_1 7 rfl rfl)
theorem dX1_carvesNext_32 : decode cX1_carvesNext 32 = .ok (.iaload, 1) := dk_46 (dk_at dksX1_carvesNext_1 8 rfl rfl)
theorem dX1_carvesNext_33 : decode cX1_carvesNext 33 = .ok (.ifCond .le 7, 3) := dk_158 0 7 (dk_at dksX1_carvesNext_1 9 rfl rfl)
theorem dX1_carvesNext_36 : decode cX1_carvesNext 36 = .ok (.iconst 1, 1) := dk_4 (dk_at dksX1_carvesNext_1 12 rfl rfl)
theorem dX1_carvesNext_37 : decode cX1_carvesNext 37 = .ok (.goto 4, 3) := dk_167 0 4 (dk_at dksX1_carvesNext_1 13 rfl rfl)
theorem dX1_carvesNext_40 : decode cX1_carvesNext 40 = .ok (.iconst 0, 1) := dk_3 (dk_at dksX1_carvesNext_1 16 rfl rfl)
theorem dX1_carvesNext_41 : decode cX1_carvesNext 41 = .ok (.istore 4, 2) := dk_54 4 (dk_at dksX1_carvesNext_1 17 rfl rfl)
theorem dX1_carvesNext_43 : decode cX1_carvesNext 43 = .ok (.iload 4, 2) := dk_21 4 (dk_at dksX1_carvesNext_1 19 rfl rfl)
theorem dX1_carvesNext_45 : decode cX1_carvesNext 45 = .ok (.ifCond .eq 18, 3) := dk_153 0 18 (dk_at dksX1_carvesNext_1 21 rfl rfl)
theorem dX1_carvesNext_48 : decode cX1_carvesNext 48 = .ok (.aload_n 0, 1) := dk_42 (dk_at dksX1_carvesNext_2 0 rfl rfl)
theorem dX1_carvesNext_49 : decode cX1_carvesNext 49 = .ok (.iload_n 3, 1) := dk_29 (dk_at dksX1_carvesNext_2 1 rfl rfl)
theorem dX1_carvesNext_50 : decode cX1_carvesNext 50 = .ok (.bipush 6, 2) := dk_16 6 (dk_at dksX1_carvesNext_2 2 rfl rfl)
theorem dX1_carvesNext_52 : decode cX1_carvesNext 52 = .ok (.idiv, 1) := dk_108 (dk_at dksX1_carvesNext_2 4 rfl rfl)
theorem dX1_carvesNext_53 : decode cX1_carvesNext 53 = .ok (.iload_n 3, 1) := dk_29 (dk_at dksX1_carvesNext_2 5 rfl rfl)
theorem dX1_carvesNext_54 : decode cX1_carvesNext 54 = .ok (.bipush 6, 2) := dk_16 6 (dk_at dksX1_carvesNext_2 6 rfl rfl)
theorem dX1_carvesNext_56 : decode cX1_carvesNext 56 = .ok (.irem, 1) := dk_112 (dk_at dksX1_carvesNext_2 8 rfl rfl)
theorem dX1_carvesNext_57 : decode cX1_carvesNext 57 = .ok (.invokevirtual 220, 3) := dk_182 0 220 (dk_at dksX1_carvesNext_2 9 rfl rfl)
theorem dX1_carvesNext_60 : decode cX1_carvesNext 60 = .ok (.goto 4, 3) := dk_167 0 4 (dk_at dksX1_carvesNext_2 12 rfl rfl)
theorem dX1_carvesNext_63 : decode cX1_carvesNext 63 = .ok (.iconst (-1), 1) := dk_2 (dk_at dksX1_carvesNext_2 15 rfl rfl)
theorem dX1_carvesNext_64 : decode cX1_carvesNext 64 = .ok (.istore 5, 2) := dk_54 5 (dk_at dksX1_carvesNext_2 16 rfl rfl)
theorem dX1_carvesNext_66 : decode cX1_carvesNext 66 = .ok (.iload 5, 2) := dk_21 5 (dk_at dksX1_carvesNext_2 18 rfl rfl)
theorem dX1_carvesNext_68 : decode cX1_carvesNext 68 = .ok (.ifCond .le 13, 3) := dk_158 0 13 (dk_at dksX1_carvesNext_2 20 rfl rfl)
theorem dX1_carvesNext_71 : decode cX1_carvesNext 71 = .ok (.iload 5, 2) := dk_21 5 (dk_at dksX1_carvesNext_3 0 rfl rfl)
theorem dX1_carvesNext_73 : decode cX1_carvesNext 73 = .ok (.iload_n 2, 1) := dk_28 (dk_at dksX1_carvesNext_3 2 rfl rfl)
theorem dX1_carvesNext_74 : decode cX1_carvesNext 74 = .ok (.if_icmp .ge 7, 3) := dk_162 0 7 (dk_at dksX1_carvesNext_3 3 rfl rfl)
theorem dX1_carvesNext_77 : decode cX1_carvesNext 77 = .ok (.iload_n 3, 1) := dk_29 (dk_at dksX1_carvesNext_3 6 rfl rfl)
theorem dX1_carvesNext_78 : decode cX1_carvesNext 78 = .ok (.goto 4, 3) := dk_167 0 4 (dk_at dksX1_carvesNext_3 7 rfl rfl)
theorem dX1_carvesNext_81 : decode cX1_carvesNext 81 = .ok (.iload_n 1, 1) := dk_27 (dk_at dksX1_carvesNext_3 10 rfl rfl)
theorem dX1_carvesNext_82 : decode cX1_carvesNext 82 = .ok (.istore_n 1, 1) := dk_60 (dk_at dksX1_carvesNext_3 11 rfl rfl)
theorem dX1_carvesNext_83 : decode cX1_carvesNext 83 = .ok (.iload 5, 2) := dk_21 5 (dk_at dksX1_carvesNext_3 12 rfl rfl)
theorem dX1_carvesNext_85 : decode cX1_carvesNext 85 = .ok (.ifCond .le 12, 3) := dk_158 0 12 (dk_at dksX1_carvesNext_3 14 rfl rfl)
theorem dX1_carvesNext_88 : decode cX1_carvesNext 88 = .ok (.iload_n 2, 1) := dk_28 (dk_at dksX1_carvesNext_3 17 rfl rfl)
theorem dX1_carvesNext_89 : decode cX1_carvesNext 89 = .ok (.iload 5, 2) := dk_21 5 (dk_at dksX1_carvesNext_3 18 rfl rfl)
theorem dX1_carvesNext_91 : decode cX1_carvesNext 91 = .ok (.invokestatic 223, 3) := dk_184 0 223 (dk_at dksX1_carvesNext_3 20 rfl rfl)
theorem dX1_carvesNext_94 : decode cX1_carvesNext 94 = .ok (.goto 4, 3) := dk_167 0 4 (dk_at dksX1_carvesNext_4 0 rfl rfl)
theorem dX1_carvesNext_97 : decode cX1_carvesNext 97 = .ok (.iload_n 2, 1) := dk_28 (dk_at dksX1_carvesNext_4 3 rfl rfl)
theorem dX1_carvesNext_98 : decode cX1_carvesNext 98 = .ok (.istore_n 2, 1) := dk_61 (dk_at dksX1_carvesNext_4 4 rfl rfl)
theorem dX1_carvesNext_99 : decode cX1_carvesNext 99 = .ok (.iinc 3 1, 3) := dk_132 3 1 (dk_at dksX1_carvesNext_4 5 rfl rfl)
theorem dX1_carvesNext_102 : decode cX1_carvesNext 102 = .ok (.goto (-95), 3) := dk_167 255 161 (dk_at dksX1_carvesNext_4 8 rfl rfl)
theorem dX1_carvesNext_105 : decode cX1_carvesNext 105 = .ok (.iload_n 1, 1) := dk_27 (dk_at dksX1_carvesNext_4 11 rfl rfl)
theorem dX1_carvesNext_106 : decode cX1_carvesNext 106 = .ok (.iconst (-1), 1) := dk_2 (dk_at dksX1_carvesNext_4 12 rfl rfl)
theorem dX1_carvesNext_107 : decode cX1_carvesNext 107 = .ok (.if_icmp .ne 5, 3) := dk_160 0 5 (dk_at dksX1_carvesNext_4 13 rfl rfl)
theorem dX1_carvesNext_110 : decode cX1_carvesNext 110 = .ok (.iconst 0, 1) := dk_3 (dk_at dksX1_carvesNext_4 16 rfl rfl)
theorem dX1_carvesNext_111 : decode cX1_carvesNext 111 = .ok (.ireturn, 1) := dk_172 (dk_at dksX1_carvesNext_4 17 rfl rfl)
theorem dX1_carvesNext_112 : decode cX1_carvesNext 112 = .ok (.aload_n 0, 1) := dk_42 (dk_at dksX1_carvesNext_4 18 rfl rfl)
theorem dX1_carvesNext_113 : decode cX1_carvesNext 113 = .ok (.iload_n 1, 1) := dk_27 (dk_at dksX1_carvesNext_4 19 rfl rfl)
theorem dX1_carvesNext_114 : decode cX1_carvesNext 114 = .ok (.bipush 6, 2) := dk_16 6 (dk_at dksX1_carvesNext_4 20 rfl rfl)
theorem dX1_carvesNext_116 : decode cX1_carvesNext 116 = .ok (.idiv, 1) := dk_108 (dk_at dksX1_carvesNext_4 22 rfl rfl)
theorem dX1_carvesNext_117 : decode cX1_carvesNext 117 = .ok (.iload_n 1, 1) := dk_27 (dk_at dksX1_carvesNext_4 23 rfl rfl)
theorem dX1_carvesNext_118 : decode cX1_carvesNext 118 = .ok (.bipush 6, 2) := dk_16 6 (dk_at dksX1_carvesNext_5 0 rfl rfl)
theorem dX1_carvesNext_120 : decode cX1_carvesNext 120 = .ok (.irem, 1) := dk_112 (dk_at dksX1_carvesNext_5 2 rfl rfl)
theorem dX1_carvesNext_121 : decode cX1_carvesNext 121 = .ok (.invokevirtual 208, 3) := dk_182 0 208 (dk_at dksX1_carvesNext_5 3 rfl rfl)
theorem dX1_carvesNext_124 : decode cX1_carvesNext 124 = .ok (.ifCond .eq 14, 3) := dk_153 0 14 (dk_at dksX1_carvesNext_5 6 rfl rfl)
theorem dX1_carvesNext_127 : decode cX1_carvesNext 127 = .ok (.aload_n 0, 1) := dk_42 (dk_at dksX1_carvesNext_5 9 rfl rfl)
theorem dX1_carvesNext_128 : decode cX1_carvesNext 128 = .ok (.invokevirtual 214, 3) := dk_182 0 214 (dk_at dksX1_carvesNext_5 10 rfl rfl)
theorem dX1_carvesNext_131 : decode cX1_carvesNext 131 = .ok (.ifCond .le 7, 3) := dk_158 0 7 (dk_at dksX1_carvesNext_5 13 rfl rfl)
theorem dX1_carvesNext_134 : decode cX1_carvesNext 134 = .ok (.iconst 1, 1) := dk_4 (dk_at dksX1_carvesNext_5 16 rfl rfl)
theorem dX1_carvesNext_135 : decode cX1_carvesNext 135 = .ok (.goto 4, 3) := dk_167 0 4 (dk_at dksX1_carvesNext_5 17 rfl rfl)
theorem dX1_carvesNext_138 : decode cX1_carvesNext 138 = .ok (.iconst 0, 1) := dk_3 (dk_at dksX1_carvesNext_5 20 rfl rfl)
theorem dX1_carvesNext_139 : decode cX1_carvesNext 139 = .ok (.ireturn, 1) := dk_172 (dk_at dksX1_carvesNext_5 21 rfl rfl)
abbrev cX1_costOf : ByteArray := prog_1_method_31_code
def yX1_costOf : MethodName := ⟨RX1, "costOf", "(II)I"⟩
def dkwX1_costOf_0 : List UInt8 := [42, 27, 28, 182, 0, 208, 153, 0, 10, 42, 182, 0, 211, 167, 0, 4, 2, 172]
abbrev dktX1_costOf_0 : List UInt8 := dkwX1_costOf_0 ++ []
theorem dksX1_costOf_0 : cX1_costOf.data.toList.drop 0 = dktX1_costOf_0 := by decide +kernel
theorem dX1_costOf_0 : decode cX1_costOf 0 = .ok (.aload_n 0, 1) := dk_42 (dk_at dksX1_costOf_0 0 rfl rfl)
theorem dX1_costOf_1 : decode cX1_costOf 1 = .ok (.iload_n 1, 1) := dk_27 (dk_at dksX1_costOf_0 1 rfl rfl)
theorem dX1_costOf_2 : decode cX1_costOf 2 = .ok (.iload_n 2, 1) := dk_28 (dk_at dksX1_costOf_0 2 rfl rfl)
theorem dX1_costOf_3 : decode cX1_costOf 3 = .ok (.invokevirtual 208, 3) := dk_182 0 208 (dk_at dksX1_costOf_0 3 rfl rfl)
theorem dX1_costOf_6 : decode cX1_costOf 6 = .ok (.ifCond .eq 10, 3) := dk_153 0 10 (dk_at dksX1_costOf_0 6 rfl rfl)
theorem dX1_costOf_9 : decode cX1_costOf 9 = .ok (.aload_n 0, 1) := dk_42 (dk_at dksX1_costOf_0 9 rfl rfl)
theorem dX1_costOf_10 : decode cX1_costOf 10 = .ok (.invokevirtual 211, 3) := dk_182 0 211 (dk_at dksX1_costOf_0 10 rfl rfl)
theorem dX1_costOf_13 : decode cX1_costOf 13 = .ok (.goto 4, 3) := dk_167 0 4 (dk_at dksX1_costOf_0 13 rfl rfl)
theorem dX1_costOf_16 : decode cX1_costOf 16 = .ok (.iconst (-1), 1) := dk_2 (dk_at dksX1_costOf_0 16 rfl rfl)
theorem dX1_costOf_17 : decode cX1_costOf 17 = .ok (.ireturn, 1) := dk_172 (dk_at dksX1_costOf_0 17 rfl rfl)
abbrev cX1_layWay : ByteArray := prog_1_method_29_code
def yX1_layWay : MethodName := ⟨RX1, "layWay", "(II)Z"⟩
def dkwX1_layWay_3 : List UInt8 := [182, 0, 205, 62, 167, 255, 211, 42, 180, 0, 202, 158, 0, 7, 4, 167, 0, 4, 3, 172]
abbrev dktX1_layWay_3 : List UInt8 := dkwX1_layWay_3 ++ []
def dkwX1_layWay_2 : List UInt8 := [180, 0, 202, 4, 96, 181, 0, 202, 42, 180, 0, 58, 29, 46, 4, 160, 0, 7, 2, 167, 0, 8, 42, 29]
abbrev dktX1_layWay_2 : List UInt8 := dkwX1_layWay_2 ++ dktX1_layWay_3
def dkwX1_layWay_1 : List UInt8 := [42, 3, 181, 0, 202, 29, 2, 159, 0, 46, 42, 180, 0, 69, 42, 180, 0, 202, 29, 79, 42, 89]
abbrev dktX1_layWay_1 : List UInt8 := dkwX1_layWay_1 ++ dktX1_layWay_2
def dkwX1_layWay_0 : List UInt8 := [42, 42, 180, 0, 29, 27, 28, 182, 0, 193, 181, 0, 153, 42, 28, 182, 0, 196, 42, 27, 182, 0, 199, 62]
abbrev dktX1_layWay_0 : List UInt8 := dkwX1_layWay_0 ++ dktX1_layWay_1
theorem dksX1_layWay_0 : cX1_layWay.data.toList.drop 0 = dktX1_layWay_0 := by decide +kernel
theorem dksX1_layWay_1 : cX1_layWay.data.toList.drop 24 = dktX1_layWay_1 := dk_seg dksX1_layWay_0 24 rfl rfl
theorem dksX1_layWay_2 : cX1_layWay.data.toList.drop 46 = dktX1_layWay_2 := dk_seg dksX1_layWay_1 22 rfl rfl
theorem dksX1_layWay_3 : cX1_layWay.data.toList.drop 70 = dktX1_layWay_3 := dk_seg dksX1_layWay_2 24 rfl rfl
theorem dX1_layWay_0 : decode cX1_layWay 0 = .ok (.aload_n 0, 1) := dk_42 (dk_at dksX1_layWay_0 0 rfl rfl)
theorem dX1_layWay_1 : decode cX1_layWay 1 = .ok (.aload_n 0, 1) := dk_42 (dk_at dksX1_layWay_0 1 rfl rfl)
theorem dX1_layWay_2 : decode cX1_layWay 2 = .ok (.getfield 29, 3) := dk_180 0 29 (dk_at dksX1_layWay_0 2 rfl rfl)
theorem dX1_layWay_5 : decode cX1_layWay 5 = .ok (.iload_n 1, 1) := dk_27 (dk_at dksX1_layWay_0 5 rfl rfl)
theorem dX1_layWay_6 : decode cX1_layWay 6 = .ok (.iload_n 2, 1) := dk_28 (dk_at dksX1_layWay_0 6 rfl rfl)
theorem dX1_layWay_7 : decode cX1_layWay 7 = .ok (.invokevirtual 193, 3) := dk_182 0 193 (dk_at dksX1_layWay_0 7 rfl rfl)
theorem dX1_layWay_10 : decode cX1_layWay 10 = .ok (.putfield 153, 3) := dk_181 0 153 (dk_at dksX1_layWay_0 10 rfl rfl)
theorem dX1_layWay_13 : decode cX1_layWay 13 = .ok (.aload_n 0, 1) := dk_42 (dk_at dksX1_layWay_0 13 rfl rfl)
theorem dX1_layWay_14 : decode cX1_layWay 14 = .ok (.iload_n 2, 1) := dk_28 (dk_at dksX1_layWay_0 14 rfl rfl)
theorem dX1_layWay_15 : decode cX1_layWay 15 = .ok (.invokevirtual 196, 3) := dk_182 0 196 (dk_at dksX1_layWay_0 15 rfl rfl)
theorem dX1_layWay_18 : decode cX1_layWay 18 = .ok (.aload_n 0, 1) := dk_42 (dk_at dksX1_layWay_0 18 rfl rfl)
theorem dX1_layWay_19 : decode cX1_layWay 19 = .ok (.iload_n 1, 1) := dk_27 (dk_at dksX1_layWay_0 19 rfl rfl)
theorem dX1_layWay_20 : decode cX1_layWay 20 = .ok (.invokevirtual 199, 3) := dk_182 0 199 (dk_at dksX1_layWay_0 20 rfl rfl)
theorem dX1_layWay_23 : decode cX1_layWay 23 = .ok (.istore_n 3, 1) := dk_62 (dk_at dksX1_layWay_0 23 rfl rfl)
theorem dX1_layWay_24 : decode cX1_layWay 24 = .ok (.aload_n 0, 1) := dk_42 (dk_at dksX1_layWay_1 0 rfl rfl)
theorem dX1_layWay_25 : decode cX1_layWay 25 = .ok (.iconst 0, 1) := dk_3 (dk_at dksX1_layWay_1 1 rfl rfl)
theorem dX1_layWay_26 : decode cX1_layWay 26 = .ok (.putfield 202, 3) := dk_181 0 202 (dk_at dksX1_layWay_1 2 rfl rfl)
theorem dX1_layWay_29 : decode cX1_layWay 29 = .ok (.iload_n 3, 1) := dk_29 (dk_at dksX1_layWay_1 5 rfl rfl)
theorem dX1_layWay_30 : decode cX1_layWay 30 = .ok (.iconst (-1), 1) := dk_2 (dk_at dksX1_layWay_1 6 rfl rfl)
theorem dX1_layWay_31 : decode cX1_layWay 31 = .ok (.if_icmp .eq 46, 3) := dk_159 0 46 (dk_at dksX1_layWay_1 7 rfl rfl)
theorem dX1_layWay_34 : decode cX1_layWay 34 = .ok (.aload_n 0, 1) := dk_42 (dk_at dksX1_layWay_1 10 rfl rfl)
theorem dX1_layWay_35 : decode cX1_layWay 35 = .ok (.getfield 69, 3) := dk_180 0 69 (dk_at dksX1_layWay_1 11 rfl rfl)
theorem dX1_layWay_38 : decode cX1_layWay 38 = .ok (.aload_n 0, 1) := dk_42 (dk_at dksX1_layWay_1 14 rfl rfl)
theorem dX1_layWay_39 : decode cX1_layWay 39 = .ok (.getfield 202, 3) := dk_180 0 202 (dk_at dksX1_layWay_1 15 rfl rfl)
theorem dX1_layWay_42 : decode cX1_layWay 42 = .ok (.iload_n 3, 1) := dk_29 (dk_at dksX1_layWay_1 18 rfl rfl)
theorem dX1_layWay_43 : decode cX1_layWay 43 = .ok (.iastore, 1) := dk_79 (dk_at dksX1_layWay_1 19 rfl rfl)
theorem dX1_layWay_44 : decode cX1_layWay 44 = .ok (.aload_n 0, 1) := dk_42 (dk_at dksX1_layWay_1 20 rfl rfl)
theorem dX1_layWay_45 : decode cX1_layWay 45 = .ok (.dup, 1) := dk_89 (dk_at dksX1_layWay_1 21 rfl rfl)
theorem dX1_layWay_46 : decode cX1_layWay 46 = .ok (.getfield 202, 3) := dk_180 0 202 (dk_at dksX1_layWay_2 0 rfl rfl)
theorem dX1_layWay_49 : decode cX1_layWay 49 = .ok (.iconst 1, 1) := dk_4 (dk_at dksX1_layWay_2 3 rfl rfl)
theorem dX1_layWay_50 : decode cX1_layWay 50 = .ok (.iadd, 1) := dk_96 (dk_at dksX1_layWay_2 4 rfl rfl)
theorem dX1_layWay_51 : decode cX1_layWay 51 = .ok (.putfield 202, 3) := dk_181 0 202 (dk_at dksX1_layWay_2 5 rfl rfl)
theorem dX1_layWay_54 : decode cX1_layWay 54 = .ok (.aload_n 0, 1) := dk_42 (dk_at dksX1_layWay_2 8 rfl rfl)
theorem dX1_layWay_55 : decode cX1_layWay 55 = .ok (.getfield 58, 3) := dk_180 0 58 (dk_at dksX1_layWay_2 9 rfl rfl)
theorem dX1_layWay_58 : decode cX1_layWay 58 = .ok (.iload_n 3, 1) := dk_29 (dk_at dksX1_layWay_2 12 rfl rfl)
theorem dX1_layWay_59 : decode cX1_layWay 59 = .ok (.iaload, 1) := dk_46 (dk_at dksX1_layWay_2 13 rfl rfl)
theorem dX1_layWay_60 : decode cX1_layWay 60 = .ok (.iconst 1, 1) := dk_4 (dk_at dksX1_layWay_2 14 rfl rfl)
theorem dX1_layWay_61 : decode cX1_layWay 61 = .ok (.if_icmp .ne 7, 3) := dk_160 0 7 (dk_at dksX1_layWay_2 15 rfl rfl)
theorem dX1_layWay_64 : decode cX1_layWay 64 = .ok (.iconst (-1), 1) := dk_2 (dk_at dksX1_layWay_2 18 rfl rfl)
theorem dX1_layWay_65 : decode cX1_layWay 65 = .ok (.goto 8, 3) := dk_167 0 8 (dk_at dksX1_layWay_2 19 rfl rfl)
theorem dX1_layWay_68 : decode cX1_layWay 68 = .ok (.aload_n 0, 1) := dk_42 (dk_at dksX1_layWay_2 22 rfl rfl)
theorem dX1_layWay_69 : decode cX1_layWay 69 = .ok (.iload_n 3, 1) := dk_29 (dk_at dksX1_layWay_2 23 rfl rfl)
theorem dX1_layWay_70 : decode cX1_layWay 70 = .ok (.invokevirtual 205, 3) := dk_182 0 205 (dk_at dksX1_layWay_3 0 rfl rfl)
theorem dX1_layWay_73 : decode cX1_layWay 73 = .ok (.istore_n 3, 1) := dk_62 (dk_at dksX1_layWay_3 3 rfl rfl)
theorem dX1_layWay_74 : decode cX1_layWay 74 = .ok (.goto (-45), 3) := dk_167 255 211 (dk_at dksX1_layWay_3 4 rfl rfl)
theorem dX1_layWay_77 : decode cX1_layWay 77 = .ok (.aload_n 0, 1) := dk_42 (dk_at dksX1_layWay_3 7 rfl rfl)
theorem dX1_layWay_78 : decode cX1_layWay 78 = .ok (.getfield 202, 3) := dk_180 0 202 (dk_at dksX1_layWay_3 8 rfl rfl)
theorem dX1_layWay_81 : decode cX1_layWay 81 = .ok (.ifCond .le 7, 3) := dk_158 0 7 (dk_at dksX1_layWay_3 11 rfl rfl)
theorem dX1_layWay_84 : decode cX1_layWay 84 = .ok (.iconst 1, 1) := dk_4 (dk_at dksX1_layWay_3 14 rfl rfl)
theorem dX1_layWay_85 : decode cX1_layWay 85 = .ok (.goto 4, 3) := dk_167 0 4 (dk_at dksX1_layWay_3 15 rfl rfl)
theorem dX1_layWay_88 : decode cX1_layWay 88 = .ok (.iconst 0, 1) := dk_3 (dk_at dksX1_layWay_3 18 rfl rfl)
theorem dX1_layWay_89 : decode cX1_layWay 89 = .ok (.ireturn, 1) := dk_172 (dk_at dksX1_layWay_3 19 rfl rfl)
abbrev cX1_layFar : ByteArray := prog_1_method_25_code
def yX1_layFar : MethodName := ⟨RX1, "layFar", "(I)V"⟩
def dkwX1_layFar_10 : List UInt8 := [42, 180, 0, 65, 21, 6, 4, 84, 132, 5, 1, 167, 255, 132, 167, 255, 95, 177]
abbrev dktX1_layFar_10 : List UInt8 := dkwX1_layFar_10 ++ []
def dkwX1_layFar_9 : List UInt8 := [21, 6, 79, 29, 42, 180, 0, 65, 21, 6, 51, 154, 0, 7, 4, 167, 0, 4, 3, 184, 0, 183, 96, 62]
abbrev dktX1_layFar_9 : List UInt8 := dkwX1_layFar_9 ++ dktX1_layFar_10
def dkwX1_layFar_8 : List UInt8 := [46, 162, 0, 55, 42, 180, 0, 58, 21, 6, 21, 7, 79, 42, 180, 0, 62, 28, 29, 96, 17, 0, 192, 112]
abbrev dktX1_layFar_8 : List UInt8 := dkwX1_layFar_8 ++ dktX1_layFar_9
def dkwX1_layFar_7 : List UInt8 := [130, 182, 0, 180, 54, 7, 21, 7, 21, 6, 2, 160, 0, 7, 3, 167, 0, 10, 42, 180, 0, 58, 21, 6]
abbrev dktX1_layFar_7 : List UInt8 := dkwX1_layFar_7 ++ dktX1_layFar_8
def dkwX1_layFar_6 : List UInt8 := [2, 159, 0, 12, 42, 21, 6, 182, 0, 174, 154, 0, 8, 18, 170, 167, 0, 13, 42, 21, 6, 21, 5, 4]
abbrev dktX1_layFar_6 : List UInt8 := dkwX1_layFar_6 ++ dktX1_layFar_7
def dkwX1_layFar_5 : List UInt8 := [21, 4, 3, 84, 3, 54, 5, 21, 5, 7, 162, 0, 124, 21, 4, 21, 5, 184, 0, 167, 54, 6, 21, 6]
abbrev dktX1_layFar_5 : List UInt8 := dkwX1_layFar_5 ++ dktX1_layFar_6
def dkwX1_layFar_4 : List UInt8 := [42, 180, 0, 62, 28, 46, 54, 4, 28, 4, 96, 17, 0, 192, 112, 61, 132, 3, 255, 42, 180, 0, 65]
abbrev dktX1_layFar_4 : List UInt8 := dkwX1_layFar_4 ++ dktX1_layFar_5
def dkwX1_layFar_3 : List UInt8 := [153, 0, 14, 42, 180, 0, 62, 29, 21, 4, 79, 132, 3, 1, 132, 4, 1, 167, 255, 176, 29, 158, 0, 163]
abbrev dktX1_layFar_3 : List UInt8 := dkwX1_layFar_3 ++ dktX1_layFar_4
def dkwX1_layFar_2 : List UInt8 := [21, 5, 153, 0, 7, 4, 167, 0, 5, 18, 170, 79, 42, 180, 0, 65, 21, 4, 21, 5, 84, 21, 5]
abbrev dktX1_layFar_2 : List UInt8 := dkwX1_layFar_2 ++ dktX1_layFar_3
def dkwX1_layFar_1 : List UInt8 := [42, 21, 4, 27, 182, 0, 177, 153, 0, 7, 4, 167, 0, 4, 3, 54, 5, 42, 180, 0, 58, 21, 4]
abbrev dktX1_layFar_1 : List UInt8 := dkwX1_layFar_1 ++ dktX1_layFar_2
def dkwX1_layFar_0 : List UInt8 := [3, 61, 3, 62, 3, 54, 4, 21, 4, 17, 0, 192, 162, 0, 78, 42, 21, 4, 182, 0, 174, 153, 0, 17]
abbrev dktX1_layFar_0 : List UInt8 := dkwX1_layFar_0 ++ dktX1_layFar_1
theorem dksX1_layFar_0 : cX1_layFar.data.toList.drop 0 = dktX1_layFar_0 := by decide +kernel
theorem dksX1_layFar_1 : cX1_layFar.data.toList.drop 24 = dktX1_layFar_1 := dk_seg dksX1_layFar_0 24 rfl rfl
theorem dksX1_layFar_2 : cX1_layFar.data.toList.drop 47 = dktX1_layFar_2 := dk_seg dksX1_layFar_1 23 rfl rfl
theorem dksX1_layFar_3 : cX1_layFar.data.toList.drop 70 = dktX1_layFar_3 := dk_seg dksX1_layFar_2 23 rfl rfl
theorem dksX1_layFar_4 : cX1_layFar.data.toList.drop 94 = dktX1_layFar_4 := dk_seg dksX1_layFar_3 24 rfl rfl
theorem dksX1_layFar_5 : cX1_layFar.data.toList.drop 117 = dktX1_layFar_5 := dk_seg dksX1_layFar_4 23 rfl rfl
theorem dksX1_layFar_6 : cX1_layFar.data.toList.drop 141 = dktX1_layFar_6 := dk_seg dksX1_layFar_5 24 rfl rfl
theorem dksX1_layFar_7 : cX1_layFar.data.toList.drop 165 = dktX1_layFar_7 := dk_seg dksX1_layFar_6 24 rfl rfl
theorem dksX1_layFar_8 : cX1_layFar.data.toList.drop 189 = dktX1_layFar_8 := dk_seg dksX1_layFar_7 24 rfl rfl
theorem dksX1_layFar_9 : cX1_layFar.data.toList.drop 213 = dktX1_layFar_9 := dk_seg dksX1_layFar_8 24 rfl rfl
theorem dksX1_layFar_10 : cX1_layFar.data.toList.drop 237 = dktX1_layFar_10 := dk_seg dksX1_layFar_9 24 rfl rfl
theorem dX1_layFar_0 : decode cX1_layFar 0 = .ok (.iconst 0, 1) := dk_3 (dk_at dksX1_layFar_0 0 rfl rfl)
theorem dX1_layFar_1 : decode cX1_layFar 1 = .ok (.istore_n 2, 1) := dk_61 (dk_at dksX1_layFar_0 1 rfl rfl)
theorem dX1_layFar_2 : decode cX1_layFar 2 = .ok (.iconst 0, 1) := dk_3 (dk_at dksX1_layFar_0 2 rfl rfl)
theorem dX1_layFar_3 : decode cX1_layFar 3 = .ok (.istore_n 3, 1) := dk_62 (dk_at dksX1_layFar_0 3 rfl rfl)
theorem dX1_layFar_4 : decode cX1_layFar 4 = .ok (.iconst 0, 1) := dk_3 (dk_at dksX1_layFar_0 4 rfl rfl)
theorem dX1_layFar_5 : decode cX1_layFar 5 = .ok (.istore 4, 2) := dk_54 4 (dk_at dksX1_layFar_0 5 rfl rfl)
theorem dX1_layFar_7 : decode cX1_layFar 7 = .ok (.iload 4, 2) := dk_21 4 (dk_at dksX1_layFar_0 7 rfl rfl)
theorem dX1_layFar_9 : decode cX1_layFar 9 = .ok (.sipush 192, 3) := dk_17 0 192 (dk_at dksX1_layFar_0 9 rfl rfl)
theorem dX1_layFar_12 : decode cX1_layFar 12 = .ok (.if_icmp .ge 78, 3) := dk_162 0 78 (dk_at dksX1_layFar_0 12 rfl rfl)
theorem dX1_layFar_15 : decode cX1_layFar 15 = .ok (.aload_n 0, 1) := dk_42 (dk_at dksX1_layFar_0 15 rfl rfl)
theorem dX1_layFar_16 : decode cX1_layFar 16 = .ok (.iload 4, 2) := dk_21 4 (dk_at dksX1_layFar_0 16 rfl rfl)
theorem dX1_layFar_18 : decode cX1_layFar 18 = .ok (.invokevirtual 174, 3) := dk_182 0 174 (dk_at dksX1_layFar_0 18 rfl rfl)
theorem dX1_layFar_21 : decode cX1_layFar 21 = .ok (.ifCond .eq 17, 3) := dk_153 0 17 (dk_at dksX1_layFar_0 21 rfl rfl)
theorem dX1_layFar_24 : decode cX1_layFar 24 = .ok (.aload_n 0, 1) := dk_42 (dk_at dksX1_layFar_1 0 rfl rfl)
theorem dX1_layFar_25 : decode cX1_layFar 25 = .ok (.iload 4, 2) := dk_21 4 (dk_at dksX1_layFar_1 1 rfl rfl)
theorem dX1_layFar_27 : decode cX1_layFar 27 = .ok (.iload_n 1, 1) := dk_27 (dk_at dksX1_layFar_1 3 rfl rfl)
theorem dX1_layFar_28 : decode cX1_layFar 28 = .ok (.invokevirtual 177, 3) := dk_182 0 177 (dk_at dksX1_layFar_1 4 rfl rfl)
theorem dX1_layFar_31 : decode cX1_layFar 31 = .ok (.ifCond .eq 7, 3) := dk_153 0 7 (dk_at dksX1_layFar_1 7 rfl rfl)
theorem dX1_layFar_34 : decode cX1_layFar 34 = .ok (.iconst 1, 1) := dk_4 (dk_at dksX1_layFar_1 10 rfl rfl)
theorem dX1_layFar_35 : decode cX1_layFar 35 = .ok (.goto 4, 3) := dk_167 0 4 (dk_at dksX1_layFar_1 11 rfl rfl)
theorem dX1_layFar_38 : decode cX1_layFar 38 = .ok (.iconst 0, 1) := dk_3 (dk_at dksX1_layFar_1 14 rfl rfl)
theorem dX1_layFar_39 : decode cX1_layFar 39 = .ok (.istore 5, 2) := dk_54 5 (dk_at dksX1_layFar_1 15 rfl rfl)
theorem dX1_layFar_41 : decode cX1_layFar 41 = .ok (.aload_n 0, 1) := dk_42 (dk_at dksX1_layFar_1 17 rfl rfl)
theorem dX1_layFar_42 : decode cX1_layFar 42 = .ok (.getfield 58, 3) := dk_180 0 58 (dk_at dksX1_layFar_1 18 rfl rfl)
theorem dX1_layFar_45 : decode cX1_layFar 45 = .ok (.iload 4, 2) := dk_21 4 (dk_at dksX1_layFar_1 21 rfl rfl)
theorem dX1_layFar_47 : decode cX1_layFar 47 = .ok (.iload 5, 2) := dk_21 5 (dk_at dksX1_layFar_2 0 rfl rfl)
theorem dX1_layFar_49 : decode cX1_layFar 49 = .ok (.ifCond .eq 7, 3) := dk_153 0 7 (dk_at dksX1_layFar_2 2 rfl rfl)
theorem dX1_layFar_52 : decode cX1_layFar 52 = .ok (.iconst 1, 1) := dk_4 (dk_at dksX1_layFar_2 5 rfl rfl)
theorem dX1_layFar_53 : decode cX1_layFar 53 = .ok (.goto 5, 3) := dk_167 0 5 (dk_at dksX1_layFar_2 6 rfl rfl)
theorem dX1_layFar_56 : decode cX1_layFar 56 = .ok (.ldc 170, 2) := dk_18 170 (dk_at dksX1_layFar_2 9 rfl rfl)
theorem dX1_layFar_58 : decode cX1_layFar 58 = .ok (.iastore, 1) := dk_79 (dk_at dksX1_layFar_2 11 rfl rfl)
theorem dX1_layFar_59 : decode cX1_layFar 59 = .ok (.aload_n 0, 1) := dk_42 (dk_at dksX1_layFar_2 12 rfl rfl)
theorem dX1_layFar_60 : decode cX1_layFar 60 = .ok (.getfield 65, 3) := dk_180 0 65 (dk_at dksX1_layFar_2 13 rfl rfl)
theorem dX1_layFar_63 : decode cX1_layFar 63 = .ok (.iload 4, 2) := dk_21 4 (dk_at dksX1_layFar_2 16 rfl rfl)
theorem dX1_layFar_65 : decode cX1_layFar 65 = .ok (.iload 5, 2) := dk_21 5 (dk_at dksX1_layFar_2 18 rfl rfl)
theorem dX1_layFar_67 : decode cX1_layFar 67 = .ok (.bastore, 1) := dk_84 (dk_at dksX1_layFar_2 20 rfl rfl)
theorem dX1_layFar_68 : decode cX1_layFar 68 = .ok (.iload 5, 2) := dk_21 5 (dk_at dksX1_layFar_2 21 rfl rfl)
theorem dX1_layFar_70 : decode cX1_layFar 70 = .ok (.ifCond .eq 14, 3) := dk_153 0 14 (dk_at dksX1_layFar_3 0 rfl rfl)
theorem dX1_layFar_73 : decode cX1_layFar 73 = .ok (.aload_n 0, 1) := dk_42 (dk_at dksX1_layFar_3 3 rfl rfl)
theorem dX1_layFar_74 : decode cX1_layFar 74 = .ok (.getfield 62, 3) := dk_180 0 62 (dk_at dksX1_layFar_3 4 rfl rfl)
theorem dX1_layFar_77 : decode cX1_layFar 77 = .ok (.iload_n 3, 1) := dk_29 (dk_at dksX1_layFar_3 7 rfl rfl)
theorem dX1_layFar_78 : decode cX1_layFar 78 = .ok (.iload 4, 2) := dk_21 4 (dk_at dksX1_layFar_3 8 rfl rfl)
theorem dX1_layFar_80 : decode cX1_layFar 80 = .ok (.iastore, 1) := dk_79 (dk_at dksX1_layFar_3 10 rfl rfl)
theorem dX1_layFar_81 : decode cX1_layFar 81 = .ok (.iinc 3 1, 3) := dk_132 3 1 (dk_at dksX1_layFar_3 11 rfl rfl)
theorem dX1_layFar_84 : decode cX1_layFar 84 = .ok (.iinc 4 1, 3) := dk_132 4 1 (dk_at dksX1_layFar_3 14 rfl rfl)
theorem dX1_layFar_87 : decode cX1_layFar 87 = .ok (.goto (-80), 3) := dk_167 255 176 (dk_at dksX1_layFar_3 17 rfl rfl)
theorem dX1_layFar_90 : decode cX1_layFar 90 = .ok (.iload_n 3, 1) := dk_29 (dk_at dksX1_layFar_3 20 rfl rfl)
theorem dX1_layFar_91 : decode cX1_layFar 91 = .ok (.ifCond .le 163, 3) := dk_158 0 163 (dk_at dksX1_layFar_3 21 rfl rfl)
theorem dX1_layFar_94 : decode cX1_layFar 94 = .ok (.aload_n 0, 1) := dk_42 (dk_at dksX1_layFar_4 0 rfl rfl)
theorem dX1_layFar_95 : decode cX1_layFar 95 = .ok (.getfield 62, 3) := dk_180 0 62 (dk_at dksX1_layFar_4 1 rfl rfl)
theorem dX1_layFar_98 : decode cX1_layFar 98 = .ok (.iload_n 2, 1) := dk_28 (dk_at dksX1_layFar_4 4 rfl rfl)
theorem dX1_layFar_99 : decode cX1_layFar 99 = .ok (.iaload, 1) := dk_46 (dk_at dksX1_layFar_4 5 rfl rfl)
theorem dX1_layFar_100 : decode cX1_layFar 100 = .ok (.istore 4, 2) := dk_54 4 (dk_at dksX1_layFar_4 6 rfl rfl)
theorem dX1_layFar_102 : decode cX1_layFar 102 = .ok (.iload_n 2, 1) := dk_28 (dk_at dksX1_layFar_4 8 rfl rfl)
theorem dX1_layFar_103 : decode cX1_layFar 103 = .ok (.iconst 1, 1) := dk_4 (dk_at dksX1_layFar_4 9 rfl rfl)
theorem dX1_layFar_104 : decode cX1_layFar 104 = .ok (.iadd, 1) := dk_96 (dk_at dksX1_layFar_4 10 rfl rfl)
theorem dX1_layFar_105 : decode cX1_layFar 105 = .ok (.sipush 192, 3) := dk_17 0 192 (dk_at dksX1_layFar_4 11 rfl rfl)
theorem dX1_layFar_108 : decode cX1_layFar 108 = .ok (.irem, 1) := dk_112 (dk_at dksX1_layFar_4 14 rfl rfl)
theorem dX1_layFar_109 : decode cX1_layFar 109 = .ok (.istore_n 2, 1) := dk_61 (dk_at dksX1_layFar_4 15 rfl rfl)
theorem dX1_layFar_110 : decode cX1_layFar 110 = .ok (.iinc 3 (-1), 3) := dk_132 3 255 (dk_at dksX1_layFar_4 16 rfl rfl)
theorem dX1_layFar_113 : decode cX1_layFar 113 = .ok (.aload_n 0, 1) := dk_42 (dk_at dksX1_layFar_4 19 rfl rfl)
theorem dX1_layFar_114 : decode cX1_layFar 114 = .ok (.getfield 65, 3) := dk_180 0 65 (dk_at dksX1_layFar_4 20 rfl rfl)
theorem dX1_layFar_117 : decode cX1_layFar 117 = .ok (.iload 4, 2) := dk_21 4 (dk_at dksX1_layFar_5 0 rfl rfl)
theorem dX1_layFar_119 : decode cX1_layFar 119 = .ok (.iconst 0, 1) := dk_3 (dk_at dksX1_layFar_5 2 rfl rfl)
theorem dX1_layFar_120 : decode cX1_layFar 120 = .ok (.bastore, 1) := dk_84 (dk_at dksX1_layFar_5 3 rfl rfl)
theorem dX1_layFar_121 : decode cX1_layFar 121 = .ok (.iconst 0, 1) := dk_3 (dk_at dksX1_layFar_5 4 rfl rfl)
theorem dX1_layFar_122 : decode cX1_layFar 122 = .ok (.istore 5, 2) := dk_54 5 (dk_at dksX1_layFar_5 5 rfl rfl)
theorem dX1_layFar_124 : decode cX1_layFar 124 = .ok (.iload 5, 2) := dk_21 5 (dk_at dksX1_layFar_5 7 rfl rfl)
theorem dX1_layFar_126 : decode cX1_layFar 126 = .ok (.iconst 4, 1) := dk_7 (dk_at dksX1_layFar_5 9 rfl rfl)
theorem dX1_layFar_127 : decode cX1_layFar 127 = .ok (.if_icmp .ge 124, 3) := dk_162 0 124 (dk_at dksX1_layFar_5 10 rfl rfl)
theorem dX1_layFar_130 : decode cX1_layFar 130 = .ok (.iload 4, 2) := dk_21 4 (dk_at dksX1_layFar_5 13 rfl rfl)
theorem dX1_layFar_132 : decode cX1_layFar 132 = .ok (.iload 5, 2) := dk_21 5 (dk_at dksX1_layFar_5 15 rfl rfl)
theorem dX1_layFar_134 : decode cX1_layFar 134 = .ok (.invokestatic 167, 3) := dk_184 0 167 (dk_at dksX1_layFar_5 17 rfl rfl)
theorem dX1_layFar_137 : decode cX1_layFar 137 = .ok (.istore 6, 2) := dk_54 6 (dk_at dksX1_layFar_5 20 rfl rfl)
theorem dX1_layFar_139 : decode cX1_layFar 139 = .ok (.iload 6, 2) := dk_21 6 (dk_at dksX1_layFar_5 22 rfl rfl)
theorem dX1_layFar_141 : decode cX1_layFar 141 = .ok (.iconst (-1), 1) := dk_2 (dk_at dksX1_layFar_6 0 rfl rfl)
theorem dX1_layFar_142 : decode cX1_layFar 142 = .ok (.if_icmp .eq 12, 3) := dk_159 0 12 (dk_at dksX1_layFar_6 1 rfl rfl)
theorem dX1_layFar_145 : decode cX1_layFar 145 = .ok (.aload_n 0, 1) := dk_42 (dk_at dksX1_layFar_6 4 rfl rfl)
theorem dX1_layFar_146 : decode cX1_layFar 146 = .ok (.iload 6, 2) := dk_21 6 (dk_at dksX1_layFar_6 5 rfl rfl)
theorem dX1_layFar_148 : decode cX1_layFar 148 = .ok (.invokevirtual 174, 3) := dk_182 0 174 (dk_at dksX1_layFar_6 7 rfl rfl)
theorem dX1_layFar_151 : decode cX1_layFar 151 = .ok (.ifCond .ne 8, 3) := dk_154 0 8 (dk_at dksX1_layFar_6 10 rfl rfl)
theorem dX1_layFar_154 : decode cX1_layFar 154 = .ok (.ldc 170, 2) := dk_18 170 (dk_at dksX1_layFar_6 13 rfl rfl)
theorem dX1_layFar_156 : decode cX1_layFar 156 = .ok (.goto 13, 3) := dk_167 0 13 (dk_at dksX1_layFar_6 15 rfl rfl)
theorem dX1_layFar_159 : decode cX1_layFar 159 = .ok (.aload_n 0, 1) := dk_42 (dk_at dksX1_layFar_6 18 rfl rfl)
theorem dX1_layFar_160 : decode cX1_layFar 160 = .ok (.iload 6, 2) := dk_21 6 (dk_at dksX1_layFar_6 19 rfl rfl)
theorem dX1_layFar_162 : decode cX1_layFar 162 = .ok (.iload 5, 2) := dk_21 5 (dk_at dksX1_layFar_6 21 rfl rfl)
theorem dX1_layFar_164 : decode cX1_layFar 164 = .ok (.iconst 1, 1) := dk_4 (dk_at dksX1_layFar_6 23 rfl rfl)
theorem dX1_layFar_165 : decode cX1_layFar 165 = .ok (.ixor, 1) := dk_130 (dk_at dksX1_layFar_7 0 rfl rfl)
theorem dX1_layFar_166 : decode cX1_layFar 166 = .ok (.invokevirtual 180, 3) := dk_182 0 180 (dk_at dksX1_layFar_7 1 rfl rfl)
theorem dX1_layFar_169 : decode cX1_layFar 169 = .ok (.istore 7, 2) := dk_54 7 (dk_at dksX1_layFar_7 4 rfl rfl)
theorem dX1_layFar_171 : decode cX1_layFar 171 = .ok (.iload 7, 2) := dk_21 7 (dk_at dksX1_layFar_7 6 rfl rfl)
theorem dX1_layFar_173 : decode cX1_layFar 173 = .ok (.iload 6, 2) := dk_21 6 (dk_at dksX1_layFar_7 8 rfl rfl)
theorem dX1_layFar_175 : decode cX1_layFar 175 = .ok (.iconst (-1), 1) := dk_2 (dk_at dksX1_layFar_7 10 rfl rfl)
theorem dX1_layFar_176 : decode cX1_layFar 176 = .ok (.if_icmp .ne 7, 3) := dk_160 0 7 (dk_at dksX1_layFar_7 11 rfl rfl)
theorem dX1_layFar_179 : decode cX1_layFar 179 = .ok (.iconst 0, 1) := dk_3 (dk_at dksX1_layFar_7 14 rfl rfl)
theorem dX1_layFar_180 : decode cX1_layFar 180 = .ok (.goto 10, 3) := dk_167 0 10 (dk_at dksX1_layFar_7 15 rfl rfl)
theorem dX1_layFar_183 : decode cX1_layFar 183 = .ok (.aload_n 0, 1) := dk_42 (dk_at dksX1_layFar_7 18 rfl rfl)
theorem dX1_layFar_184 : decode cX1_layFar 184 = .ok (.getfield 58, 3) := dk_180 0 58 (dk_at dksX1_layFar_7 19 rfl rfl)
theorem dX1_layFar_187 : decode cX1_layFar 187 = .ok (.iload 6, 2) := dk_21 6 (dk_at dksX1_layFar_7 22 rfl rfl)
theorem dX1_layFar_189 : decode cX1_layFar 189 = .ok (.iaload, 1) := dk_46 (dk_at dksX1_layFar_8 0 rfl rfl)
theorem dX1_layFar_190 : decode cX1_layFar 190 = .ok (.if_icmp .ge 55, 3) := dk_162 0 55 (dk_at dksX1_layFar_8 1 rfl rfl)
theorem dX1_layFar_193 : decode cX1_layFar 193 = .ok (.aload_n 0, 1) := dk_42 (dk_at dksX1_layFar_8 4 rfl rfl)
theorem dX1_layFar_194 : decode cX1_layFar 194 = .ok (.getfield 58, 3) := dk_180 0 58 (dk_at dksX1_layFar_8 5 rfl rfl)
theorem dX1_layFar_197 : decode cX1_layFar 197 = .ok (.iload 6, 2) := dk_21 6 (dk_at dksX1_layFar_8 8 rfl rfl)
theorem dX1_layFar_199 : decode cX1_layFar 199 = .ok (.iload 7, 2) := dk_21 7 (dk_at dksX1_layFar_8 10 rfl rfl)
theorem dX1_layFar_201 : decode cX1_layFar 201 = .ok (.iastore, 1) := dk_79 (dk_at dksX1_layFar_8 12 rfl rfl)
theorem dX1_layFar_202 : decode cX1_layFar 202 = .ok (.aload_n 0, 1) := dk_42 (dk_at dksX1_layFar_8 13 rfl rfl)
theorem dX1_layFar_203 : decode cX1_layFar 203 = .ok (.getfield 62, 3) := dk_180 0 62 (dk_at dksX1_layFar_8 14 rfl rfl)
theorem dX1_layFar_206 : decode cX1_layFar 206 = .ok (.iload_n 2, 1) := dk_28 (dk_at dksX1_layFar_8 17 rfl rfl)
theorem dX1_layFar_207 : decode cX1_layFar 207 = .ok (.iload_n 3, 1) := dk_29 (dk_at dksX1_layFar_8 18 rfl rfl)
theorem dX1_layFar_208 : decode cX1_layFar 208 = .ok (.iadd, 1) := dk_96 (dk_at dksX1_layFar_8 19 rfl rfl)
theorem dX1_layFar_209 : decode cX1_layFar 209 = .ok (.sipush 192, 3) := dk_17 0 192 (dk_at dksX1_layFar_8 20 rfl rfl)
theorem dX1_layFar_212 : decode cX1_layFar 212 = .ok (.irem, 1) := dk_112 (dk_at dksX1_layFar_8 23 rfl rfl)
theorem dX1_layFar_213 : decode cX1_layFar 213 = .ok (.iload 6, 2) := dk_21 6 (dk_at dksX1_layFar_9 0 rfl rfl)
theorem dX1_layFar_215 : decode cX1_layFar 215 = .ok (.iastore, 1) := dk_79 (dk_at dksX1_layFar_9 2 rfl rfl)
theorem dX1_layFar_216 : decode cX1_layFar 216 = .ok (.iload_n 3, 1) := dk_29 (dk_at dksX1_layFar_9 3 rfl rfl)
theorem dX1_layFar_217 : decode cX1_layFar 217 = .ok (.aload_n 0, 1) := dk_42 (dk_at dksX1_layFar_9 4 rfl rfl)
theorem dX1_layFar_218 : decode cX1_layFar 218 = .ok (.getfield 65, 3) := dk_180 0 65 (dk_at dksX1_layFar_9 5 rfl rfl)
theorem dX1_layFar_221 : decode cX1_layFar 221 = .ok (.iload 6, 2) := dk_21 6 (dk_at dksX1_layFar_9 8 rfl rfl)
theorem dX1_layFar_223 : decode cX1_layFar 223 = .ok (.baload, 1) := dk_51 (dk_at dksX1_layFar_9 10 rfl rfl)
theorem dX1_layFar_224 : decode cX1_layFar 224 = .ok (.ifCond .ne 7, 3) := dk_154 0 7 (dk_at dksX1_layFar_9 11 rfl rfl)
theorem dX1_layFar_227 : decode cX1_layFar 227 = .ok (.iconst 1, 1) := dk_4 (dk_at dksX1_layFar_9 14 rfl rfl)
theorem dX1_layFar_228 : decode cX1_layFar 228 = .ok (.goto 4, 3) := dk_167 0 4 (dk_at dksX1_layFar_9 15 rfl rfl)
theorem dX1_layFar_231 : decode cX1_layFar 231 = .ok (.iconst 0, 1) := dk_3 (dk_at dksX1_layFar_9 18 rfl rfl)
theorem dX1_layFar_232 : decode cX1_layFar 232 = .ok (.invokestatic 183, 3) := dk_184 0 183 (dk_at dksX1_layFar_9 19 rfl rfl)
theorem dX1_layFar_235 : decode cX1_layFar 235 = .ok (.iadd, 1) := dk_96 (dk_at dksX1_layFar_9 22 rfl rfl)
theorem dX1_layFar_236 : decode cX1_layFar 236 = .ok (.istore_n 3, 1) := dk_62 (dk_at dksX1_layFar_9 23 rfl rfl)
theorem dX1_layFar_237 : decode cX1_layFar 237 = .ok (.aload_n 0, 1) := dk_42 (dk_at dksX1_layFar_10 0 rfl rfl)
theorem dX1_layFar_238 : decode cX1_layFar 238 = .ok (.getfield 65, 3) := dk_180 0 65 (dk_at dksX1_layFar_10 1 rfl rfl)
theorem dX1_layFar_241 : decode cX1_layFar 241 = .ok (.iload 6, 2) := dk_21 6 (dk_at dksX1_layFar_10 4 rfl rfl)
theorem dX1_layFar_243 : decode cX1_layFar 243 = .ok (.iconst 1, 1) := dk_4 (dk_at dksX1_layFar_10 6 rfl rfl)
theorem dX1_layFar_244 : decode cX1_layFar 244 = .ok (.bastore, 1) := dk_84 (dk_at dksX1_layFar_10 7 rfl rfl)
theorem dX1_layFar_245 : decode cX1_layFar 245 = .ok (.iinc 5 1, 3) := dk_132 5 1 (dk_at dksX1_layFar_10 8 rfl rfl)
theorem dX1_layFar_248 : decode cX1_layFar 248 = .ok (.goto (-124), 3) := dk_167 255 132 (dk_at dksX1_layFar_10 11 rfl rfl)
theorem dX1_layFar_251 : decode cX1_layFar 251 = .ok (.goto (-161), 3) := dk_167 255 95 (dk_at dksX1_layFar_10 14 rfl rfl)
theorem dX1_layFar_254 : decode cX1_layFar 254 = .ok (.return_, 1) := dk_177 (dk_at dksX1_layFar_10 17 rfl rfl)
abbrev cX1_canStand : ByteArray := prog_1_method_19_code
def yX1_canStand : MethodName := ⟨RX1, "canStand", "(I)Z"⟩
def dkwX1_canStand_4 : List UInt8 := [167, 0, 4, 3, 54, 4, 132, 5, 1, 167, 255, 196, 21, 4, 172]
abbrev dktX1_canStand_4 : List UInt8 := dkwX1_canStand_4 ++ []
def dkwX1_canStand_3 : List UInt8 := [16, 16, 21, 5, 42, 180, 0, 153, 108, 104, 96, 21, 5, 42, 180, 0, 153, 112, 96, 46, 156, 0, 7, 4]
abbrev dktX1_canStand_3 : List UInt8 := dkwX1_canStand_3 ++ dktX1_canStand_4
def dkwX1_canStand_2 : List UInt8 := [180, 0, 153, 42, 180, 0, 153, 104, 162, 0, 52, 21, 4, 153, 0, 47, 42, 180, 0, 29, 180, 0, 106, 27]
abbrev dktX1_canStand_2 : List UInt8 := dkwX1_canStand_2 ++ dktX1_canStand_3
def dkwX1_canStand_1 : List UInt8 := [180, 0, 153, 96, 16, 12, 163, 0, 7, 4, 167, 0, 4, 3, 54, 4, 3, 54, 5, 21, 5, 42]
abbrev dktX1_canStand_1 : List UInt8 := dkwX1_canStand_1 ++ dktX1_canStand_2
def dkwX1_canStand_0 : List UInt8 := [27, 16, 16, 112, 61, 27, 16, 16, 108, 62, 28, 42, 180, 0, 153, 96, 16, 16, 163, 0, 18, 29, 42]
abbrev dktX1_canStand_0 : List UInt8 := dkwX1_canStand_0 ++ dktX1_canStand_1
theorem dksX1_canStand_0 : cX1_canStand.data.toList.drop 0 = dktX1_canStand_0 := by decide +kernel
theorem dksX1_canStand_1 : cX1_canStand.data.toList.drop 23 = dktX1_canStand_1 := dk_seg dksX1_canStand_0 23 rfl rfl
theorem dksX1_canStand_2 : cX1_canStand.data.toList.drop 45 = dktX1_canStand_2 := dk_seg dksX1_canStand_1 22 rfl rfl
theorem dksX1_canStand_3 : cX1_canStand.data.toList.drop 69 = dktX1_canStand_3 := dk_seg dksX1_canStand_2 24 rfl rfl
theorem dksX1_canStand_4 : cX1_canStand.data.toList.drop 93 = dktX1_canStand_4 := dk_seg dksX1_canStand_3 24 rfl rfl
theorem dX1_canStand_0 : decode cX1_canStand 0 = .ok (.iload_n 1, 1) := dk_27 (dk_at dksX1_canStand_0 0 rfl rfl)
theorem dX1_canStand_1 : decode cX1_canStand 1 = .ok (.bipush 16, 2) := dk_16 16 (dk_at dksX1_canStand_0 1 rfl rfl)
theorem dX1_canStand_3 : decode cX1_canStand 3 = .ok (.irem, 1) := dk_112 (dk_at dksX1_canStand_0 3 rfl rfl)
theorem dX1_canStand_4 : decode cX1_canStand 4 = .ok (.istore_n 2, 1) := dk_61 (dk_at dksX1_canStand_0 4 rfl rfl)
theorem dX1_canStand_5 : decode cX1_canStand 5 = .ok (.iload_n 1, 1) := dk_27 (dk_at dksX1_canStand_0 5 rfl rfl)
theorem dX1_canStand_6 : decode cX1_canStand 6 = .ok (.bipush 16, 2) := dk_16 16 (dk_at dksX1_canStand_0 6 rfl rfl)
theorem dX1_canStand_8 : decode cX1_canStand 8 = .ok (.idiv, 1) := dk_108 (dk_at dksX1_canStand_0 8 rfl rfl)
theorem dX1_canStand_9 : decode cX1_canStand 9 = .ok (.istore_n 3, 1) := dk_62 (dk_at dksX1_canStand_0 9 rfl rfl)
theorem dX1_canStand_10 : decode cX1_canStand 10 = .ok (.iload_n 2, 1) := dk_28 (dk_at dksX1_canStand_0 10 rfl rfl)
theorem dX1_canStand_11 : decode cX1_canStand 11 = .ok (.aload_n 0, 1) := dk_42 (dk_at dksX1_canStand_0 11 rfl rfl)
theorem dX1_canStand_12 : decode cX1_canStand 12 = .ok (.getfield 153, 3) := dk_180 0 153 (dk_at dksX1_canStand_0 12 rfl rfl)
theorem dX1_canStand_15 : decode cX1_canStand 15 = .ok (.iadd, 1) := dk_96 (dk_at dksX1_canStand_0 15 rfl rfl)
theorem dX1_canStand_16 : decode cX1_canStand 16 = .ok (.bipush 16, 2) := dk_16 16 (dk_at dksX1_canStand_0 16 rfl rfl)
theorem dX1_canStand_18 : decode cX1_canStand 18 = .ok (.if_icmp .gt 18, 3) := dk_163 0 18 (dk_at dksX1_canStand_0 18 rfl rfl)
theorem dX1_canStand_21 : decode cX1_canStand 21 = .ok (.iload_n 3, 1) := dk_29 (dk_at dksX1_canStand_0 21 rfl rfl)
theorem dX1_canStand_22 : decode cX1_canStand 22 = .ok (.aload_n 0, 1) := dk_42 (dk_at dksX1_canStand_0 22 rfl rfl)
theorem dX1_canStand_23 : decode cX1_canStand 23 = .ok (.getfield 153, 3) := dk_180 0 153 (dk_at dksX1_canStand_1 0 rfl rfl)
theorem dX1_canStand_26 : decode cX1_canStand 26 = .ok (.iadd, 1) := dk_96 (dk_at dksX1_canStand_1 3 rfl rfl)
theorem dX1_canStand_27 : decode cX1_canStand 27 = .ok (.bipush 12, 2) := dk_16 12 (dk_at dksX1_canStand_1 4 rfl rfl)
theorem dX1_canStand_29 : decode cX1_canStand 29 = .ok (.if_icmp .gt 7, 3) := dk_163 0 7 (dk_at dksX1_canStand_1 6 rfl rfl)
theorem dX1_canStand_32 : decode cX1_canStand 32 = .ok (.iconst 1, 1) := dk_4 (dk_at dksX1_canStand_1 9 rfl rfl)
theorem dX1_canStand_33 : decode cX1_canStand 33 = .ok (.goto 4, 3) := dk_167 0 4 (dk_at dksX1_canStand_1 10 rfl rfl)
theorem dX1_canStand_36 : decode cX1_canStand 36 = .ok (.iconst 0, 1) := dk_3 (dk_at dksX1_canStand_1 13 rfl rfl)
theorem dX1_canStand_37 : decode cX1_canStand 37 = .ok (.istore 4, 2) := dk_54 4 (dk_at dksX1_canStand_1 14 rfl rfl)
theorem dX1_canStand_39 : decode cX1_canStand 39 = .ok (.iconst 0, 1) := dk_3 (dk_at dksX1_canStand_1 16 rfl rfl)
theorem dX1_canStand_40 : decode cX1_canStand 40 = .ok (.istore 5, 2) := dk_54 5 (dk_at dksX1_canStand_1 17 rfl rfl)
theorem dX1_canStand_42 : decode cX1_canStand 42 = .ok (.iload 5, 2) := dk_21 5 (dk_at dksX1_canStand_1 19 rfl rfl)
theorem dX1_canStand_44 : decode cX1_canStand 44 = .ok (.aload_n 0, 1) := dk_42 (dk_at dksX1_canStand_1 21 rfl rfl)
theorem dX1_canStand_45 : decode cX1_canStand 45 = .ok (.getfield 153, 3) := dk_180 0 153 (dk_at dksX1_canStand_2 0 rfl rfl)
theorem dX1_canStand_48 : decode cX1_canStand 48 = .ok (.aload_n 0, 1) := dk_42 (dk_at dksX1_canStand_2 3 rfl rfl)
theorem dX1_canStand_49 : decode cX1_canStand 49 = .ok (.getfield 153, 3) := dk_180 0 153 (dk_at dksX1_canStand_2 4 rfl rfl)
theorem dX1_canStand_52 : decode cX1_canStand 52 = .ok (.imul, 1) := dk_104 (dk_at dksX1_canStand_2 7 rfl rfl)
theorem dX1_canStand_53 : decode cX1_canStand 53 = .ok (.if_icmp .ge 52, 3) := dk_162 0 52 (dk_at dksX1_canStand_2 8 rfl rfl)
theorem dX1_canStand_56 : decode cX1_canStand 56 = .ok (.iload 4, 2) := dk_21 4 (dk_at dksX1_canStand_2 11 rfl rfl)
theorem dX1_canStand_58 : decode cX1_canStand 58 = .ok (.ifCond .eq 47, 3) := dk_153 0 47 (dk_at dksX1_canStand_2 13 rfl rfl)
theorem dX1_canStand_61 : decode cX1_canStand 61 = .ok (.aload_n 0, 1) := dk_42 (dk_at dksX1_canStand_2 16 rfl rfl)
theorem dX1_canStand_62 : decode cX1_canStand 62 = .ok (.getfield 29, 3) := dk_180 0 29 (dk_at dksX1_canStand_2 17 rfl rfl)
theorem dX1_canStand_65 : decode cX1_canStand 65 = .ok (.getfield 106, 3) := dk_180 0 106 (dk_at dksX1_canStand_2 20 rfl rfl)
theorem dX1_canStand_68 : decode cX1_canStand 68 = .ok (.iload_n 1, 1) := dk_27 (dk_at dksX1_canStand_2 23 rfl rfl)
theorem dX1_canStand_69 : decode cX1_canStand 69 = .ok (.bipush 16, 2) := dk_16 16 (dk_at dksX1_canStand_3 0 rfl rfl)
theorem dX1_canStand_71 : decode cX1_canStand 71 = .ok (.iload 5, 2) := dk_21 5 (dk_at dksX1_canStand_3 2 rfl rfl)
theorem dX1_canStand_73 : decode cX1_canStand 73 = .ok (.aload_n 0, 1) := dk_42 (dk_at dksX1_canStand_3 4 rfl rfl)
theorem dX1_canStand_74 : decode cX1_canStand 74 = .ok (.getfield 153, 3) := dk_180 0 153 (dk_at dksX1_canStand_3 5 rfl rfl)
theorem dX1_canStand_77 : decode cX1_canStand 77 = .ok (.idiv, 1) := dk_108 (dk_at dksX1_canStand_3 8 rfl rfl)
theorem dX1_canStand_78 : decode cX1_canStand 78 = .ok (.imul, 1) := dk_104 (dk_at dksX1_canStand_3 9 rfl rfl)
theorem dX1_canStand_79 : decode cX1_canStand 79 = .ok (.iadd, 1) := dk_96 (dk_at dksX1_canStand_3 10 rfl rfl)
theorem dX1_canStand_80 : decode cX1_canStand 80 = .ok (.iload 5, 2) := dk_21 5 (dk_at dksX1_canStand_3 11 rfl rfl)
theorem dX1_canStand_82 : decode cX1_canStand 82 = .ok (.aload_n 0, 1) := dk_42 (dk_at dksX1_canStand_3 13 rfl rfl)
theorem dX1_canStand_83 : decode cX1_canStand 83 = .ok (.getfield 153, 3) := dk_180 0 153 (dk_at dksX1_canStand_3 14 rfl rfl)
theorem dX1_canStand_86 : decode cX1_canStand 86 = .ok (.irem, 1) := dk_112 (dk_at dksX1_canStand_3 17 rfl rfl)
theorem dX1_canStand_87 : decode cX1_canStand 87 = .ok (.iadd, 1) := dk_96 (dk_at dksX1_canStand_3 18 rfl rfl)
theorem dX1_canStand_88 : decode cX1_canStand 88 = .ok (.iaload, 1) := dk_46 (dk_at dksX1_canStand_3 19 rfl rfl)
theorem dX1_canStand_89 : decode cX1_canStand 89 = .ok (.ifCond .ge 7, 3) := dk_156 0 7 (dk_at dksX1_canStand_3 20 rfl rfl)
theorem dX1_canStand_92 : decode cX1_canStand 92 = .ok (.iconst 1, 1) := dk_4 (dk_at dksX1_canStand_3 23 rfl rfl)
theorem dX1_canStand_93 : decode cX1_canStand 93 = .ok (.goto 4, 3) := dk_167 0 4 (dk_at dksX1_canStand_4 0 rfl rfl)
theorem dX1_canStand_96 : decode cX1_canStand 96 = .ok (.iconst 0, 1) := dk_3 (dk_at dksX1_canStand_4 3 rfl rfl)
theorem dX1_canStand_97 : decode cX1_canStand 97 = .ok (.istore 4, 2) := dk_54 4 (dk_at dksX1_canStand_4 4 rfl rfl)
theorem dX1_canStand_99 : decode cX1_canStand 99 = .ok (.iinc 5 1, 3) := dk_132 5 1 (dk_at dksX1_canStand_4 6 rfl rfl)
theorem dX1_canStand_102 : decode cX1_canStand 102 = .ok (.goto (-60), 3) := dk_167 255 196 (dk_at dksX1_canStand_4 9 rfl rfl)
theorem dX1_canStand_105 : decode cX1_canStand 105 = .ok (.iload 4, 2) := dk_21 4 (dk_at dksX1_canStand_4 12 rfl rfl)
theorem dX1_canStand_107 : decode cX1_canStand 107 = .ok (.ireturn, 1) := dk_172 (dk_at dksX1_canStand_4 14 rfl rfl)
abbrev cX1_isAt : ByteArray := prog_1_method_22_code
def yX1_isAt : MethodName := ⟨RX1, "isAt", "(II)Z"⟩
def dkwX1_isAt_3 : List UInt8 := [132, 4, 1, 167, 255, 186, 29, 172]
abbrev dktX1_isAt_3 : List UInt8 := dkwX1_isAt_3 ++ []
def dkwX1_isAt_2 : List UInt8 := [42, 180, 0, 29, 21, 5, 21, 4, 7, 112, 182, 0, 109, 28, 160, 0, 7, 4, 167, 0, 4, 3, 128, 62]
abbrev dktX1_isAt_2 : List UInt8 := dkwX1_isAt_2 ++ dktX1_isAt_3
def dkwX1_isAt_1 : List UInt8 := [21, 4, 7, 108, 42, 180, 0, 153, 108, 104, 96, 21, 4, 7, 108, 42, 180, 0, 153, 112, 96, 54, 5, 29]
abbrev dktX1_isAt_1 : List UInt8 := dkwX1_isAt_1 ++ dktX1_isAt_2
def dkwX1_isAt_0 : List UInt8 := [3, 62, 3, 54, 4, 21, 4, 7, 42, 180, 0, 153, 104, 42, 180, 0, 153, 104, 162, 0, 60, 27, 16, 16]
abbrev dktX1_isAt_0 : List UInt8 := dkwX1_isAt_0 ++ dktX1_isAt_1
theorem dksX1_isAt_0 : cX1_isAt.data.toList.drop 0 = dktX1_isAt_0 := by decide +kernel
theorem dksX1_isAt_1 : cX1_isAt.data.toList.drop 24 = dktX1_isAt_1 := dk_seg dksX1_isAt_0 24 rfl rfl
theorem dksX1_isAt_2 : cX1_isAt.data.toList.drop 48 = dktX1_isAt_2 := dk_seg dksX1_isAt_1 24 rfl rfl
theorem dksX1_isAt_3 : cX1_isAt.data.toList.drop 72 = dktX1_isAt_3 := dk_seg dksX1_isAt_2 24 rfl rfl
theorem dX1_isAt_0 : decode cX1_isAt 0 = .ok (.iconst 0, 1) := dk_3 (dk_at dksX1_isAt_0 0 rfl rfl)
theorem dX1_isAt_1 : decode cX1_isAt 1 = .ok (.istore_n 3, 1) := dk_62 (dk_at dksX1_isAt_0 1 rfl rfl)
theorem dX1_isAt_2 : decode cX1_isAt 2 = .ok (.iconst 0, 1) := dk_3 (dk_at dksX1_isAt_0 2 rfl rfl)
theorem dX1_isAt_3 : decode cX1_isAt 3 = .ok (.istore 4, 2) := dk_54 4 (dk_at dksX1_isAt_0 3 rfl rfl)
theorem dX1_isAt_5 : decode cX1_isAt 5 = .ok (.iload 4, 2) := dk_21 4 (dk_at dksX1_isAt_0 5 rfl rfl)
theorem dX1_isAt_7 : decode cX1_isAt 7 = .ok (.iconst 4, 1) := dk_7 (dk_at dksX1_isAt_0 7 rfl rfl)
theorem dX1_isAt_8 : decode cX1_isAt 8 = .ok (.aload_n 0, 1) := dk_42 (dk_at dksX1_isAt_0 8 rfl rfl)
theorem dX1_isAt_9 : decode cX1_isAt 9 = .ok (.getfield 153, 3) := dk_180 0 153 (dk_at dksX1_isAt_0 9 rfl rfl)
theorem dX1_isAt_12 : decode cX1_isAt 12 = .ok (.imul, 1) := dk_104 (dk_at dksX1_isAt_0 12 rfl rfl)
theorem dX1_isAt_13 : decode cX1_isAt 13 = .ok (.aload_n 0, 1) := dk_42 (dk_at dksX1_isAt_0 13 rfl rfl)
theorem dX1_isAt_14 : decode cX1_isAt 14 = .ok (.getfield 153, 3) := dk_180 0 153 (dk_at dksX1_isAt_0 14 rfl rfl)
theorem dX1_isAt_17 : decode cX1_isAt 17 = .ok (.imul, 1) := dk_104 (dk_at dksX1_isAt_0 17 rfl rfl)
theorem dX1_isAt_18 : decode cX1_isAt 18 = .ok (.if_icmp .ge 60, 3) := dk_162 0 60 (dk_at dksX1_isAt_0 18 rfl rfl)
theorem dX1_isAt_21 : decode cX1_isAt 21 = .ok (.iload_n 1, 1) := dk_27 (dk_at dksX1_isAt_0 21 rfl rfl)
theorem dX1_isAt_22 : decode cX1_isAt 22 = .ok (.bipush 16, 2) := dk_16 16 (dk_at dksX1_isAt_0 22 rfl rfl)
theorem dX1_isAt_24 : decode cX1_isAt 24 = .ok (.iload 4, 2) := dk_21 4 (dk_at dksX1_isAt_1 0 rfl rfl)
theorem dX1_isAt_26 : decode cX1_isAt 26 = .ok (.iconst 4, 1) := dk_7 (dk_at dksX1_isAt_1 2 rfl rfl)
theorem dX1_isAt_27 : decode cX1_isAt 27 = .ok (.idiv, 1) := dk_108 (dk_at dksX1_isAt_1 3 rfl rfl)
theorem dX1_isAt_28 : decode cX1_isAt 28 = .ok (.aload_n 0, 1) := dk_42 (dk_at dksX1_isAt_1 4 rfl rfl)
theorem dX1_isAt_29 : decode cX1_isAt 29 = .ok (.getfield 153, 3) := dk_180 0 153 (dk_at dksX1_isAt_1 5 rfl rfl)
theorem dX1_isAt_32 : decode cX1_isAt 32 = .ok (.idiv, 1) := dk_108 (dk_at dksX1_isAt_1 8 rfl rfl)
theorem dX1_isAt_33 : decode cX1_isAt 33 = .ok (.imul, 1) := dk_104 (dk_at dksX1_isAt_1 9 rfl rfl)
theorem dX1_isAt_34 : decode cX1_isAt 34 = .ok (.iadd, 1) := dk_96 (dk_at dksX1_isAt_1 10 rfl rfl)
theorem dX1_isAt_35 : decode cX1_isAt 35 = .ok (.iload 4, 2) := dk_21 4 (dk_at dksX1_isAt_1 11 rfl rfl)
theorem dX1_isAt_37 : decode cX1_isAt 37 = .ok (.iconst 4, 1) := dk_7 (dk_at dksX1_isAt_1 13 rfl rfl)
theorem dX1_isAt_38 : decode cX1_isAt 38 = .ok (.idiv, 1) := dk_108 (dk_at dksX1_isAt_1 14 rfl rfl)
theorem dX1_isAt_39 : decode cX1_isAt 39 = .ok (.aload_n 0, 1) := dk_42 (dk_at dksX1_isAt_1 15 rfl rfl)
theorem dX1_isAt_40 : decode cX1_isAt 40 = .ok (.getfield 153, 3) := dk_180 0 153 (dk_at dksX1_isAt_1 16 rfl rfl)
theorem dX1_isAt_43 : decode cX1_isAt 43 = .ok (.irem, 1) := dk_112 (dk_at dksX1_isAt_1 19 rfl rfl)
theorem dX1_isAt_44 : decode cX1_isAt 44 = .ok (.iadd, 1) := dk_96 (dk_at dksX1_isAt_1 20 rfl rfl)
theorem dX1_isAt_45 : decode cX1_isAt 45 = .ok (.istore 5, 2) := dk_54 5 (dk_at dksX1_isAt_1 21 rfl rfl)
theorem dX1_isAt_47 : decode cX1_isAt 47 = .ok (.iload_n 3, 1) := dk_29 (dk_at dksX1_isAt_1 23 rfl rfl)
theorem dX1_isAt_48 : decode cX1_isAt 48 = .ok (.aload_n 0, 1) := dk_42 (dk_at dksX1_isAt_2 0 rfl rfl)
theorem dX1_isAt_49 : decode cX1_isAt 49 = .ok (.getfield 29, 3) := dk_180 0 29 (dk_at dksX1_isAt_2 1 rfl rfl)
theorem dX1_isAt_52 : decode cX1_isAt 52 = .ok (.iload 5, 2) := dk_21 5 (dk_at dksX1_isAt_2 4 rfl rfl)
theorem dX1_isAt_54 : decode cX1_isAt 54 = .ok (.iload 4, 2) := dk_21 4 (dk_at dksX1_isAt_2 6 rfl rfl)
theorem dX1_isAt_56 : decode cX1_isAt 56 = .ok (.iconst 4, 1) := dk_7 (dk_at dksX1_isAt_2 8 rfl rfl)
theorem dX1_isAt_57 : decode cX1_isAt 57 = .ok (.irem, 1) := dk_112 (dk_at dksX1_isAt_2 9 rfl rfl)
theorem dX1_isAt_58 : decode cX1_isAt 58 = .ok (.invokevirtual 109, 3) := dk_182 0 109 (dk_at dksX1_isAt_2 10 rfl rfl)
theorem dX1_isAt_61 : decode cX1_isAt 61 = .ok (.iload_n 2, 1) := dk_28 (dk_at dksX1_isAt_2 13 rfl rfl)
theorem dX1_isAt_62 : decode cX1_isAt 62 = .ok (.if_icmp .ne 7, 3) := dk_160 0 7 (dk_at dksX1_isAt_2 14 rfl rfl)
theorem dX1_isAt_65 : decode cX1_isAt 65 = .ok (.iconst 1, 1) := dk_4 (dk_at dksX1_isAt_2 17 rfl rfl)
theorem dX1_isAt_66 : decode cX1_isAt 66 = .ok (.goto 4, 3) := dk_167 0 4 (dk_at dksX1_isAt_2 18 rfl rfl)
theorem dX1_isAt_69 : decode cX1_isAt 69 = .ok (.iconst 0, 1) := dk_3 (dk_at dksX1_isAt_2 21 rfl rfl)
theorem dX1_isAt_70 : decode cX1_isAt 70 = .ok (.ior, 1) := dk_128 (dk_at dksX1_isAt_2 22 rfl rfl)
theorem dX1_isAt_71 : decode cX1_isAt 71 = .ok (.istore_n 3, 1) := dk_62 (dk_at dksX1_isAt_2 23 rfl rfl)
theorem dX1_isAt_72 : decode cX1_isAt 72 = .ok (.iinc 4 1, 3) := dk_132 4 1 (dk_at dksX1_isAt_3 0 rfl rfl)
theorem dX1_isAt_75 : decode cX1_isAt 75 = .ok (.goto (-70), 3) := dk_167 255 186 (dk_at dksX1_isAt_3 3 rfl rfl)
theorem dX1_isAt_78 : decode cX1_isAt 78 = .ok (.iload_n 3, 1) := dk_29 (dk_at dksX1_isAt_3 6 rfl rfl)
theorem dX1_isAt_79 : decode cX1_isAt 79 = .ok (.ireturn, 1) := dk_172 (dk_at dksX1_isAt_3 7 rfl rfl)
abbrev cX1_next : ByteArray := prog_1_method_23_code
def yX1_next : MethodName := ⟨RX1, "next", "(II)I"⟩
def dkwX1_next_1 : List UInt8 := [184, 0, 163, 153, 0, 12, 16, 16, 29, 104, 28, 96, 167, 0, 4, 2, 172]
abbrev dktX1_next_1 : List UInt8 := dkwX1_next_1 ++ []
def dkwX1_next_0 : List UInt8 := [26, 16, 16, 112, 178, 0, 157, 27, 46, 96, 61, 26, 16, 16, 108, 178, 0, 160, 27, 46, 96, 62, 28, 29]
abbrev dktX1_next_0 : List UInt8 := dkwX1_next_0 ++ dktX1_next_1
theorem dksX1_next_0 : cX1_next.data.toList.drop 0 = dktX1_next_0 := by decide +kernel
theorem dksX1_next_1 : cX1_next.data.toList.drop 24 = dktX1_next_1 := dk_seg dksX1_next_0 24 rfl rfl
theorem dX1_next_0 : decode cX1_next 0 = .ok (.iload_n 0, 1) := dk_26 (dk_at dksX1_next_0 0 rfl rfl)
theorem dX1_next_1 : decode cX1_next 1 = .ok (.bipush 16, 2) := dk_16 16 (dk_at dksX1_next_0 1 rfl rfl)
theorem dX1_next_3 : decode cX1_next 3 = .ok (.irem, 1) := dk_112 (dk_at dksX1_next_0 3 rfl rfl)
theorem dX1_next_4 : decode cX1_next 4 = .ok (.getstatic 157, 3) := dk_178 0 157 (dk_at dksX1_next_0 4 rfl rfl)
theorem dX1_next_7 : decode cX1_next 7 = .ok (.iload_n 1, 1) := dk_27 (dk_at dksX1_next_0 7 rfl rfl)
theorem dX1_next_8 : decode cX1_next 8 = .ok (.iaload, 1) := dk_46 (dk_at dksX1_next_0 8 rfl rfl)
theorem dX1_next_9 : decode cX1_next 9 = .ok (.iadd, 1) := dk_96 (dk_at dksX1_next_0 9 rfl rfl)
theorem dX1_next_10 : decode cX1_next 10 = .ok (.istore_n 2, 1) := dk_61 (dk_at dksX1_next_0 10 rfl rfl)
theorem dX1_next_11 : decode cX1_next 11 = .ok (.iload_n 0, 1) := dk_26 (dk_at dksX1_next_0 11 rfl rfl)
theorem dX1_next_12 : decode cX1_next 12 = .ok (.bipush 16, 2) := dk_16 16 (dk_at dksX1_next_0 12 rfl rfl)
theorem dX1_next_14 : decode cX1_next 14 = .ok (.idiv, 1) := dk_108 (dk_at dksX1_next_0 14 rfl rfl)
theorem dX1_next_15 : decode cX1_next 15 = .ok (.getstatic 160, 3) := dk_178 0 160 (dk_at dksX1_next_0 15 rfl rfl)
theorem dX1_next_18 : decode cX1_next 18 = .ok (.iload_n 1, 1) := dk_27 (dk_at dksX1_next_0 18 rfl rfl)
theorem dX1_next_19 : decode cX1_next 19 = .ok (.iaload, 1) := dk_46 (dk_at dksX1_next_0 19 rfl rfl)
theorem dX1_next_20 : decode cX1_next 20 = .ok (.iadd, 1) := dk_96 (dk_at dksX1_next_0 20 rfl rfl)
theorem dX1_next_21 : decode cX1_next 21 = .ok (.istore_n 3, 1) := dk_62 (dk_at dksX1_next_0 21 rfl rfl)
theorem dX1_next_22 : decode cX1_next 22 = .ok (.iload_n 2, 1) := dk_28 (dk_at dksX1_next_0 22 rfl rfl)
theorem dX1_next_23 : decode cX1_next 23 = .ok (.iload_n 3, 1) := dk_29 (dk_at dksX1_next_0 23 rfl rfl)
theorem dX1_next_24 : decode cX1_next 24 = .ok (.invokestatic 163, 3) := dk_184 0 163 (dk_at dksX1_next_1 0 rfl rfl)
theorem dX1_next_27 : decode cX1_next 27 = .ok (.ifCond .eq 12, 3) := dk_153 0 12 (dk_at dksX1_next_1 3 rfl rfl)
theorem dX1_next_30 : decode cX1_next 30 = .ok (.bipush 16, 2) := dk_16 16 (dk_at dksX1_next_1 6 rfl rfl)
theorem dX1_next_32 : decode cX1_next 32 = .ok (.iload_n 3, 1) := dk_29 (dk_at dksX1_next_1 8 rfl rfl)
theorem dX1_next_33 : decode cX1_next 33 = .ok (.imul, 1) := dk_104 (dk_at dksX1_next_1 9 rfl rfl)
theorem dX1_next_34 : decode cX1_next 34 = .ok (.iload_n 2, 1) := dk_28 (dk_at dksX1_next_1 10 rfl rfl)
theorem dX1_next_35 : decode cX1_next 35 = .ok (.iadd, 1) := dk_96 (dk_at dksX1_next_1 11 rfl rfl)
theorem dX1_next_36 : decode cX1_next 36 = .ok (.goto 4, 3) := dk_167 0 4 (dk_at dksX1_next_1 12 rfl rfl)
theorem dX1_next_39 : decode cX1_next 39 = .ok (.iconst (-1), 1) := dk_2 (dk_at dksX1_next_1 15 rfl rfl)
theorem dX1_next_40 : decode cX1_next 40 = .ok (.ireturn, 1) := dk_172 (dk_at dksX1_next_1 16 rfl rfl)
abbrev cX1_isSquare : ByteArray := prog_1_method_10_code
def yX1_isSquare : MethodName := ⟨RX1, "isSquare", "(II)Z"⟩
def dkwX1_isSquare_1 : List UInt8 := [3, 172]
abbrev dktX1_isSquare_1 : List UInt8 := dkwX1_isSquare_1 ++ []
def dkwX1_isSquare_0 : List UInt8 := [26, 3, 16, 15, 184, 0, 94, 153, 0, 17, 27, 3, 16, 11, 184, 0, 94, 153, 0, 7, 4, 167, 0, 4]
abbrev dktX1_isSquare_0 : List UInt8 := dkwX1_isSquare_0 ++ dktX1_isSquare_1
theorem dksX1_isSquare_0 : cX1_isSquare.data.toList.drop 0 = dktX1_isSquare_0 := by decide +kernel
theorem dksX1_isSquare_1 : cX1_isSquare.data.toList.drop 24 = dktX1_isSquare_1 := dk_seg dksX1_isSquare_0 24 rfl rfl
theorem dX1_isSquare_0 : decode cX1_isSquare 0 = .ok (.iload_n 0, 1) := dk_26 (dk_at dksX1_isSquare_0 0 rfl rfl)
theorem dX1_isSquare_1 : decode cX1_isSquare 1 = .ok (.iconst 0, 1) := dk_3 (dk_at dksX1_isSquare_0 1 rfl rfl)
theorem dX1_isSquare_2 : decode cX1_isSquare 2 = .ok (.bipush 15, 2) := dk_16 15 (dk_at dksX1_isSquare_0 2 rfl rfl)
theorem dX1_isSquare_4 : decode cX1_isSquare 4 = .ok (.invokestatic 94, 3) := dk_184 0 94 (dk_at dksX1_isSquare_0 4 rfl rfl)
theorem dX1_isSquare_7 : decode cX1_isSquare 7 = .ok (.ifCond .eq 17, 3) := dk_153 0 17 (dk_at dksX1_isSquare_0 7 rfl rfl)
theorem dX1_isSquare_10 : decode cX1_isSquare 10 = .ok (.iload_n 1, 1) := dk_27 (dk_at dksX1_isSquare_0 10 rfl rfl)
theorem dX1_isSquare_11 : decode cX1_isSquare 11 = .ok (.iconst 0, 1) := dk_3 (dk_at dksX1_isSquare_0 11 rfl rfl)
theorem dX1_isSquare_12 : decode cX1_isSquare 12 = .ok (.bipush 11, 2) := dk_16 11 (dk_at dksX1_isSquare_0 12 rfl rfl)
theorem dX1_isSquare_14 : decode cX1_isSquare 14 = .ok (.invokestatic 94, 3) := dk_184 0 94 (dk_at dksX1_isSquare_0 14 rfl rfl)
theorem dX1_isSquare_17 : decode cX1_isSquare 17 = .ok (.ifCond .eq 7, 3) := dk_153 0 7 (dk_at dksX1_isSquare_0 17 rfl rfl)
theorem dX1_isSquare_20 : decode cX1_isSquare 20 = .ok (.iconst 1, 1) := dk_4 (dk_at dksX1_isSquare_0 20 rfl rfl)
theorem dX1_isSquare_21 : decode cX1_isSquare 21 = .ok (.goto 4, 3) := dk_167 0 4 (dk_at dksX1_isSquare_0 21 rfl rfl)
theorem dX1_isSquare_24 : decode cX1_isSquare 24 = .ok (.iconst 0, 1) := dk_3 (dk_at dksX1_isSquare_1 0 rfl rfl)
theorem dX1_isSquare_25 : decode cX1_isSquare 25 = .ok (.ireturn, 1) := dk_172 (dk_at dksX1_isSquare_1 1 rfl rfl)
abbrev cX1_takes : ByteArray := prog_1_method_24_code
def yX1_takes : MethodName := ⟨RX1, "takes", "(II)I"⟩
def dkwX1_takes_2 : List UInt8 := [180, 0, 58, 29, 46, 96, 167, 0, 5, 18, 170, 172]
abbrev dktX1_takes_2 : List UInt8 := dkwX1_takes_2 ++ []
def dkwX1_takes_1 : List UInt8 := [167, 0, 4, 3, 54, 4, 21, 4, 153, 0, 25, 17, 3, 232, 42, 29, 28, 182, 0, 171, 104, 4, 96, 42]
abbrev dktX1_takes_1 : List UInt8 := dkwX1_takes_1 ++ dktX1_takes_2
def dkwX1_takes_0 : List UInt8 := [27, 28, 184, 0, 167, 62, 29, 2, 159, 0, 18, 42, 180, 0, 58, 29, 46, 18, 170, 159, 0, 7, 4]
abbrev dktX1_takes_0 : List UInt8 := dkwX1_takes_0 ++ dktX1_takes_1
theorem dksX1_takes_0 : cX1_takes.data.toList.drop 0 = dktX1_takes_0 := by decide +kernel
theorem dksX1_takes_1 : cX1_takes.data.toList.drop 23 = dktX1_takes_1 := dk_seg dksX1_takes_0 23 rfl rfl
theorem dksX1_takes_2 : cX1_takes.data.toList.drop 47 = dktX1_takes_2 := dk_seg dksX1_takes_1 24 rfl rfl
theorem dX1_takes_0 : decode cX1_takes 0 = .ok (.iload_n 1, 1) := dk_27 (dk_at dksX1_takes_0 0 rfl rfl)
theorem dX1_takes_1 : decode cX1_takes 1 = .ok (.iload_n 2, 1) := dk_28 (dk_at dksX1_takes_0 1 rfl rfl)
theorem dX1_takes_2 : decode cX1_takes 2 = .ok (.invokestatic 167, 3) := dk_184 0 167 (dk_at dksX1_takes_0 2 rfl rfl)
theorem dX1_takes_5 : decode cX1_takes 5 = .ok (.istore_n 3, 1) := dk_62 (dk_at dksX1_takes_0 5 rfl rfl)
theorem dX1_takes_6 : decode cX1_takes 6 = .ok (.iload_n 3, 1) := dk_29 (dk_at dksX1_takes_0 6 rfl rfl)
theorem dX1_takes_7 : decode cX1_takes 7 = .ok (.iconst (-1), 1) := dk_2 (dk_at dksX1_takes_0 7 rfl rfl)
theorem dX1_takes_8 : decode cX1_takes 8 = .ok (.if_icmp .eq 18, 3) := dk_159 0 18 (dk_at dksX1_takes_0 8 rfl rfl)
theorem dX1_takes_11 : decode cX1_takes 11 = .ok (.aload_n 0, 1) := dk_42 (dk_at dksX1_takes_0 11 rfl rfl)
theorem dX1_takes_12 : decode cX1_takes 12 = .ok (.getfield 58, 3) := dk_180 0 58 (dk_at dksX1_takes_0 12 rfl rfl)
theorem dX1_takes_15 : decode cX1_takes 15 = .ok (.iload_n 3, 1) := dk_29 (dk_at dksX1_takes_0 15 rfl rfl)
theorem dX1_takes_16 : decode cX1_takes 16 = .ok (.iaload, 1) := dk_46 (dk_at dksX1_takes_0 16 rfl rfl)
theorem dX1_takes_17 : decode cX1_takes 17 = .ok (.ldc 170, 2) := dk_18 170 (dk_at dksX1_takes_0 17 rfl rfl)
theorem dX1_takes_19 : decode cX1_takes 19 = .ok (.if_icmp .eq 7, 3) := dk_159 0 7 (dk_at dksX1_takes_0 19 rfl rfl)
theorem dX1_takes_22 : decode cX1_takes 22 = .ok (.iconst 1, 1) := dk_4 (dk_at dksX1_takes_0 22 rfl rfl)
theorem dX1_takes_23 : decode cX1_takes 23 = .ok (.goto 4, 3) := dk_167 0 4 (dk_at dksX1_takes_1 0 rfl rfl)
theorem dX1_takes_26 : decode cX1_takes 26 = .ok (.iconst 0, 1) := dk_3 (dk_at dksX1_takes_1 3 rfl rfl)
theorem dX1_takes_27 : decode cX1_takes 27 = .ok (.istore 4, 2) := dk_54 4 (dk_at dksX1_takes_1 4 rfl rfl)
theorem dX1_takes_29 : decode cX1_takes 29 = .ok (.iload 4, 2) := dk_21 4 (dk_at dksX1_takes_1 6 rfl rfl)
theorem dX1_takes_31 : decode cX1_takes 31 = .ok (.ifCond .eq 25, 3) := dk_153 0 25 (dk_at dksX1_takes_1 8 rfl rfl)
theorem dX1_takes_34 : decode cX1_takes 34 = .ok (.sipush 1000, 3) := dk_17 3 232 (dk_at dksX1_takes_1 11 rfl rfl)
theorem dX1_takes_37 : decode cX1_takes 37 = .ok (.aload_n 0, 1) := dk_42 (dk_at dksX1_takes_1 14 rfl rfl)
theorem dX1_takes_38 : decode cX1_takes 38 = .ok (.iload_n 3, 1) := dk_29 (dk_at dksX1_takes_1 15 rfl rfl)
theorem dX1_takes_39 : decode cX1_takes 39 = .ok (.iload_n 2, 1) := dk_28 (dk_at dksX1_takes_1 16 rfl rfl)
theorem dX1_takes_40 : decode cX1_takes 40 = .ok (.invokevirtual 171, 3) := dk_182 0 171 (dk_at dksX1_takes_1 17 rfl rfl)
theorem dX1_takes_43 : decode cX1_takes 43 = .ok (.imul, 1) := dk_104 (dk_at dksX1_takes_1 20 rfl rfl)
theorem dX1_takes_44 : decode cX1_takes 44 = .ok (.iconst 1, 1) := dk_4 (dk_at dksX1_takes_1 21 rfl rfl)
theorem dX1_takes_45 : decode cX1_takes 45 = .ok (.iadd, 1) := dk_96 (dk_at dksX1_takes_1 22 rfl rfl)
theorem dX1_takes_46 : decode cX1_takes 46 = .ok (.aload_n 0, 1) := dk_42 (dk_at dksX1_takes_1 23 rfl rfl)
theorem dX1_takes_47 : decode cX1_takes 47 = .ok (.getfield 58, 3) := dk_180 0 58 (dk_at dksX1_takes_2 0 rfl rfl)
theorem dX1_takes_50 : decode cX1_takes 50 = .ok (.iload_n 3, 1) := dk_29 (dk_at dksX1_takes_2 3 rfl rfl)
theorem dX1_takes_51 : decode cX1_takes 51 = .ok (.iaload, 1) := dk_46 (dk_at dksX1_takes_2 4 rfl rfl)
theorem dX1_takes_52 : decode cX1_takes 52 = .ok (.iadd, 1) := dk_96 (dk_at dksX1_takes_2 5 rfl rfl)
theorem dX1_takes_53 : decode cX1_takes 53 = .ok (.goto 5, 3) := dk_167 0 5 (dk_at dksX1_takes_2 6 rfl rfl)
theorem dX1_takes_56 : decode cX1_takes 56 = .ok (.ldc 170, 2) := dk_18 170 (dk_at dksX1_takes_2 9 rfl rfl)
theorem dX1_takes_58 : decode cX1_takes 58 = .ok (.ireturn, 1) := dk_172 (dk_at dksX1_takes_2 11 rfl rfl)
abbrev cX1_newRock : ByteArray := prog_1_method_21_code
def yX1_newRock : MethodName := ⟨RX1, "newRock", "(II)I"⟩
def dkwX1_newRock_4 : List UInt8 := [21, 5, 96, 185, 0, 101, 2, 0, 96, 62, 132, 4, 1, 167, 255, 156, 29, 172]
abbrev dktX1_newRock_4 : List UInt8 := dkwX1_newRock_4 ++ []
def dkwX1_newRock_3 : List UInt8 := [167, 0, 9, 42, 180, 0, 153, 4, 100, 54, 6, 29, 42, 180, 0, 46, 27, 16, 16, 21, 6, 104, 96]
abbrev dktX1_newRock_3 : List UInt8 := dkwX1_newRock_3 ++ dktX1_newRock_4
def dkwX1_newRock_2 : List UInt8 := [178, 0, 160, 28, 46, 154, 0, 8, 21, 4, 167, 0, 21, 178, 0, 160, 28, 46, 156, 0, 7, 3]
abbrev dktX1_newRock_2 : List UInt8 := dkwX1_newRock_2 ++ dktX1_newRock_3
def dkwX1_newRock_1 : List UInt8 := [167, 0, 21, 178, 0, 157, 28, 46, 156, 0, 7, 3, 167, 0, 9, 42, 180, 0, 153, 4, 100, 54, 5]
abbrev dktX1_newRock_1 : List UInt8 := dkwX1_newRock_1 ++ dktX1_newRock_2
def dkwX1_newRock_0 : List UInt8 := [3, 62, 3, 54, 4, 21, 4, 42, 180, 0, 153, 162, 0, 97, 178, 0, 157, 28, 46, 154, 0, 8, 21, 4]
abbrev dktX1_newRock_0 : List UInt8 := dkwX1_newRock_0 ++ dktX1_newRock_1
theorem dksX1_newRock_0 : cX1_newRock.data.toList.drop 0 = dktX1_newRock_0 := by decide +kernel
theorem dksX1_newRock_1 : cX1_newRock.data.toList.drop 24 = dktX1_newRock_1 := dk_seg dksX1_newRock_0 24 rfl rfl
theorem dksX1_newRock_2 : cX1_newRock.data.toList.drop 47 = dktX1_newRock_2 := dk_seg dksX1_newRock_1 23 rfl rfl
theorem dksX1_newRock_3 : cX1_newRock.data.toList.drop 69 = dktX1_newRock_3 := dk_seg dksX1_newRock_2 22 rfl rfl
theorem dksX1_newRock_4 : cX1_newRock.data.toList.drop 92 = dktX1_newRock_4 := dk_seg dksX1_newRock_3 23 rfl rfl
theorem dX1_newRock_0 : decode cX1_newRock 0 = .ok (.iconst 0, 1) := dk_3 (dk_at dksX1_newRock_0 0 rfl rfl)
theorem dX1_newRock_1 : decode cX1_newRock 1 = .ok (.istore_n 3, 1) := dk_62 (dk_at dksX1_newRock_0 1 rfl rfl)
theorem dX1_newRock_2 : decode cX1_newRock 2 = .ok (.iconst 0, 1) := dk_3 (dk_at dksX1_newRock_0 2 rfl rfl)
theorem dX1_newRock_3 : decode cX1_newRock 3 = .ok (.istore 4, 2) := dk_54 4 (dk_at dksX1_newRock_0 3 rfl rfl)
theorem dX1_newRock_5 : decode cX1_newRock 5 = .ok (.iload 4, 2) := dk_21 4 (dk_at dksX1_newRock_0 5 rfl rfl)
theorem dX1_newRock_7 : decode cX1_newRock 7 = .ok (.aload_n 0, 1) := dk_42 (dk_at dksX1_newRock_0 7 rfl rfl)
theorem dX1_newRock_8 : decode cX1_newRock 8 = .ok (.getfield 153, 3) := dk_180 0 153 (dk_at dksX1_newRock_0 8 rfl rfl)
theorem dX1_newRock_11 : decode cX1_newRock 11 = .ok (.if_icmp .ge 97, 3) := dk_162 0 97 (dk_at dksX1_newRock_0 11 rfl rfl)
theorem dX1_newRock_14 : decode cX1_newRock 14 = .ok (.getstatic 157, 3) := dk_178 0 157 (dk_at dksX1_newRock_0 14 rfl rfl)
theorem dX1_newRock_17 : decode cX1_newRock 17 = .ok (.iload_n 2, 1) := dk_28 (dk_at dksX1_newRock_0 17 rfl rfl)
theorem dX1_newRock_18 : decode cX1_newRock 18 = .ok (.iaload, 1) := dk_46 (dk_at dksX1_newRock_0 18 rfl rfl)
theorem dX1_newRock_19 : decode cX1_newRock 19 = .ok (.ifCond .ne 8, 3) := dk_154 0 8 (dk_at dksX1_newRock_0 19 rfl rfl)
theorem dX1_newRock_22 : decode cX1_newRock 22 = .ok (.iload 4, 2) := dk_21 4 (dk_at dksX1_newRock_0 22 rfl rfl)
theorem dX1_newRock_24 : decode cX1_newRock 24 = .ok (.goto 21, 3) := dk_167 0 21 (dk_at dksX1_newRock_1 0 rfl rfl)
theorem dX1_newRock_27 : decode cX1_newRock 27 = .ok (.getstatic 157, 3) := dk_178 0 157 (dk_at dksX1_newRock_1 3 rfl rfl)
theorem dX1_newRock_30 : decode cX1_newRock 30 = .ok (.iload_n 2, 1) := dk_28 (dk_at dksX1_newRock_1 6 rfl rfl)
theorem dX1_newRock_31 : decode cX1_newRock 31 = .ok (.iaload, 1) := dk_46 (dk_at dksX1_newRock_1 7 rfl rfl)
theorem dX1_newRock_32 : decode cX1_newRock 32 = .ok (.ifCond .ge 7, 3) := dk_156 0 7 (dk_at dksX1_newRock_1 8 rfl rfl)
theorem dX1_newRock_35 : decode cX1_newRock 35 = .ok (.iconst 0, 1) := dk_3 (dk_at dksX1_newRock_1 11 rfl rfl)
theorem dX1_newRock_36 : decode cX1_newRock 36 = .ok (.goto 9, 3) := dk_167 0 9 (dk_at dksX1_newRock_1 12 rfl rfl)
theorem dX1_newRock_39 : decode cX1_newRock 39 = .ok (.aload_n 0, 1) := dk_42 (dk_at dksX1_newRock_1 15 rfl rfl)
theorem dX1_newRock_40 : decode cX1_newRock 40 = .ok (.getfield 153, 3) := dk_180 0 153 (dk_at dksX1_newRock_1 16 rfl rfl)
theorem dX1_newRock_43 : decode cX1_newRock 43 = .ok (.iconst 1, 1) := dk_4 (dk_at dksX1_newRock_1 19 rfl rfl)
theorem dX1_newRock_44 : decode cX1_newRock 44 = .ok (.isub, 1) := dk_100 (dk_at dksX1_newRock_1 20 rfl rfl)
theorem dX1_newRock_45 : decode cX1_newRock 45 = .ok (.istore 5, 2) := dk_54 5 (dk_at dksX1_newRock_1 21 rfl rfl)
theorem dX1_newRock_47 : decode cX1_newRock 47 = .ok (.getstatic 160, 3) := dk_178 0 160 (dk_at dksX1_newRock_2 0 rfl rfl)
theorem dX1_newRock_50 : decode cX1_newRock 50 = .ok (.iload_n 2, 1) := dk_28 (dk_at dksX1_newRock_2 3 rfl rfl)
theorem dX1_newRock_51 : decode cX1_newRock 51 = .ok (.iaload, 1) := dk_46 (dk_at dksX1_newRock_2 4 rfl rfl)
theorem dX1_newRock_52 : decode cX1_newRock 52 = .ok (.ifCond .ne 8, 3) := dk_154 0 8 (dk_at dksX1_newRock_2 5 rfl rfl)
theorem dX1_newRock_55 : decode cX1_newRock 55 = .ok (.iload 4, 2) := dk_21 4 (dk_at dksX1_newRock_2 8 rfl rfl)
theorem dX1_newRock_57 : decode cX1_newRock 57 = .ok (.goto 21, 3) := dk_167 0 21 (dk_at dksX1_newRock_2 10 rfl rfl)
theorem dX1_newRock_60 : decode cX1_newRock 60 = .ok (.getstatic 160, 3) := dk_178 0 160 (dk_at dksX1_newRock_2 13 rfl rfl)
theorem dX1_newRock_63 : decode cX1_newRock 63 = .ok (.iload_n 2, 1) := dk_28 (dk_at dksX1_newRock_2 16 rfl rfl)
theorem dX1_newRock_64 : decode cX1_newRock 64 = .ok (.iaload, 1) := dk_46 (dk_at dksX1_newRock_2 17 rfl rfl)
theorem dX1_newRock_65 : decode cX1_newRock 65 = .ok (.ifCond .ge 7, 3) := dk_156 0 7 (dk_at dksX1_newRock_2 18 rfl rfl)
theorem dX1_newRock_68 : decode cX1_newRock 68 = .ok (.iconst 0, 1) := dk_3 (dk_at dksX1_newRock_2 21 rfl rfl)
theorem dX1_newRock_69 : decode cX1_newRock 69 = .ok (.goto 9, 3) := dk_167 0 9 (dk_at dksX1_newRock_3 0 rfl rfl)
theorem dX1_newRock_72 : decode cX1_newRock 72 = .ok (.aload_n 0, 1) := dk_42 (dk_at dksX1_newRock_3 3 rfl rfl)
theorem dX1_newRock_73 : decode cX1_newRock 73 = .ok (.getfield 153, 3) := dk_180 0 153 (dk_at dksX1_newRock_3 4 rfl rfl)
theorem dX1_newRock_76 : decode cX1_newRock 76 = .ok (.iconst 1, 1) := dk_4 (dk_at dksX1_newRock_3 7 rfl rfl)
theorem dX1_newRock_77 : decode cX1_newRock 77 = .ok (.isub, 1) := dk_100 (dk_at dksX1_newRock_3 8 rfl rfl)
theorem dX1_newRock_78 : decode cX1_newRock 78 = .ok (.istore 6, 2) := dk_54 6 (dk_at dksX1_newRock_3 9 rfl rfl)
theorem dX1_newRock_80 : decode cX1_newRock 80 = .ok (.iload_n 3, 1) := dk_29 (dk_at dksX1_newRock_3 11 rfl rfl)
theorem dX1_newRock_81 : decode cX1_newRock 81 = .ok (.aload_n 0, 1) := dk_42 (dk_at dksX1_newRock_3 12 rfl rfl)
theorem dX1_newRock_82 : decode cX1_newRock 82 = .ok (.getfield 46, 3) := dk_180 0 46 (dk_at dksX1_newRock_3 13 rfl rfl)
theorem dX1_newRock_85 : decode cX1_newRock 85 = .ok (.iload_n 1, 1) := dk_27 (dk_at dksX1_newRock_3 16 rfl rfl)
theorem dX1_newRock_86 : decode cX1_newRock 86 = .ok (.bipush 16, 2) := dk_16 16 (dk_at dksX1_newRock_3 17 rfl rfl)
theorem dX1_newRock_88 : decode cX1_newRock 88 = .ok (.iload 6, 2) := dk_21 6 (dk_at dksX1_newRock_3 19 rfl rfl)
theorem dX1_newRock_90 : decode cX1_newRock 90 = .ok (.imul, 1) := dk_104 (dk_at dksX1_newRock_3 21 rfl rfl)
theorem dX1_newRock_91 : decode cX1_newRock 91 = .ok (.iadd, 1) := dk_96 (dk_at dksX1_newRock_3 22 rfl rfl)
theorem dX1_newRock_92 : decode cX1_newRock 92 = .ok (.iload 5, 2) := dk_21 5 (dk_at dksX1_newRock_4 0 rfl rfl)
theorem dX1_newRock_94 : decode cX1_newRock 94 = .ok (.iadd, 1) := dk_96 (dk_at dksX1_newRock_4 2 rfl rfl)
theorem dX1_newRock_95 : decode cX1_newRock 95 = .ok (.invokeinterface 101 2, 5) := by decide +kernel
theorem dX1_newRock_100 : decode cX1_newRock 100 = .ok (.iadd, 1) := dk_96 (dk_at dksX1_newRock_4 8 rfl rfl)
theorem dX1_newRock_101 : decode cX1_newRock 101 = .ok (.istore_n 3, 1) := dk_62 (dk_at dksX1_newRock_4 9 rfl rfl)
theorem dX1_newRock_102 : decode cX1_newRock 102 = .ok (.iinc 4 1, 3) := dk_132 4 1 (dk_at dksX1_newRock_4 10 rfl rfl)
theorem dX1_newRock_105 : decode cX1_newRock 105 = .ok (.goto (-100), 3) := dk_167 255 156 (dk_at dksX1_newRock_4 13 rfl rfl)
theorem dX1_newRock_108 : decode cX1_newRock 108 = .ok (.iload_n 3, 1) := dk_29 (dk_at dksX1_newRock_4 16 rfl rfl)
theorem dX1_newRock_109 : decode cX1_newRock 109 = .ok (.ireturn, 1) := dk_172 (dk_at dksX1_newRock_4 17 rfl rfl)
abbrev cX1_begin : ByteArray := prog_1_method_27_code
def yX1_begin : MethodName := ⟨RX1, "begin", "(I)I"⟩
def dkwX1_begin_3 : List UInt8 := [153, 0, 12, 42, 21, 4, 182, 0, 190, 167, 0, 4, 29, 62, 132, 4, 1, 167, 255, 178, 28, 172]
abbrev dktX1_begin_3 : List UInt8 := dkwX1_begin_3 ++ []
def dkwX1_begin_2 : List UInt8 := [162, 0, 7, 4, 167, 0, 4, 3, 54, 5, 21, 5, 153, 0, 8, 21, 4, 167, 0, 4, 28, 61, 21, 5]
abbrev dktX1_begin_2 : List UInt8 := dkwX1_begin_2 ++ dktX1_begin_3
def dkwX1_begin_1 : List UInt8 := [18, 170, 159, 0, 27, 42, 21, 4, 27, 182, 0, 177, 153, 0, 17, 42, 21, 4, 182, 0, 190, 29]
abbrev dktX1_begin_1 : List UInt8 := dkwX1_begin_1 ++ dktX1_begin_2
def dkwX1_begin_0 : List UInt8 := [2, 61, 18, 170, 62, 3, 54, 4, 21, 4, 17, 0, 192, 162, 0, 76, 42, 180, 0, 58, 21, 4, 46]
abbrev dktX1_begin_0 : List UInt8 := dkwX1_begin_0 ++ dktX1_begin_1
theorem dksX1_begin_0 : cX1_begin.data.toList.drop 0 = dktX1_begin_0 := by decide +kernel
theorem dksX1_begin_1 : cX1_begin.data.toList.drop 23 = dktX1_begin_1 := dk_seg dksX1_begin_0 23 rfl rfl
theorem dksX1_begin_2 : cX1_begin.data.toList.drop 45 = dktX1_begin_2 := dk_seg dksX1_begin_1 22 rfl rfl
theorem dksX1_begin_3 : cX1_begin.data.toList.drop 69 = dktX1_begin_3 := dk_seg dksX1_begin_2 24 rfl rfl
theorem dX1_begin_0 : decode cX1_begin 0 = .ok (.iconst (-1), 1) := dk_2 (dk_at dksX1_begin_0 0 rfl rfl)
theorem dX1_begin_1 : decode cX1_begin 1 = .ok (.istore_n 2, 1) := dk_61 (dk_at dksX1_begin_0 1 rfl rfl)
theorem dX1_begin_2 : decode cX1_begin 2 = .ok (.ldc 170, 2) := dk_18 170 (dk_at dksX1_begin_0 2 rfl rfl)
theorem dX1_begin_4 : decode cX1_begin 4 = .ok (.istore_n 3, 1) := dk_62 (dk_at dksX1_begin_0 4 rfl rfl)
theorem dX1_begin_5 : decode cX1_begin 5 = .ok (.iconst 0, 1) := dk_3 (dk_at dksX1_begin_0 5 rfl rfl)
theorem dX1_begin_6 : decode cX1_begin 6 = .ok (.istore 4, 2) := dk_54 4 (dk_at dksX1_begin_0 6 rfl rfl)
theorem dX1_begin_8 : decode cX1_begin 8 = .ok (.iload 4, 2) := dk_21 4 (dk_at dksX1_begin_0 8 rfl rfl)
theorem dX1_begin_10 : decode cX1_begin 10 = .ok (.sipush 192, 3) := dk_17 0 192 (dk_at dksX1_begin_0 10 rfl rfl)
theorem dX1_begin_13 : decode cX1_begin 13 = .ok (.if_icmp .ge 76, 3) := dk_162 0 76 (dk_at dksX1_begin_0 13 rfl rfl)
theorem dX1_begin_16 : decode cX1_begin 16 = .ok (.aload_n 0, 1) := dk_42 (dk_at dksX1_begin_0 16 rfl rfl)
theorem dX1_begin_17 : decode cX1_begin 17 = .ok (.getfield 58, 3) := dk_180 0 58 (dk_at dksX1_begin_0 17 rfl rfl)
theorem dX1_begin_20 : decode cX1_begin 20 = .ok (.iload 4, 2) := dk_21 4 (dk_at dksX1_begin_0 20 rfl rfl)
theorem dX1_begin_22 : decode cX1_begin 22 = .ok (.iaload, 1) := dk_46 (dk_at dksX1_begin_0 22 rfl rfl)
theorem dX1_begin_23 : decode cX1_begin 23 = .ok (.ldc 170, 2) := dk_18 170 (dk_at dksX1_begin_1 0 rfl rfl)
theorem dX1_begin_25 : decode cX1_begin 25 = .ok (.if_icmp .eq 27, 3) := dk_159 0 27 (dk_at dksX1_begin_1 2 rfl rfl)
theorem dX1_begin_28 : decode cX1_begin 28 = .ok (.aload_n 0, 1) := dk_42 (dk_at dksX1_begin_1 5 rfl rfl)
theorem dX1_begin_29 : decode cX1_begin 29 = .ok (.iload 4, 2) := dk_21 4 (dk_at dksX1_begin_1 6 rfl rfl)
theorem dX1_begin_31 : decode cX1_begin 31 = .ok (.iload_n 1, 1) := dk_27 (dk_at dksX1_begin_1 8 rfl rfl)
theorem dX1_begin_32 : decode cX1_begin 32 = .ok (.invokevirtual 177, 3) := dk_182 0 177 (dk_at dksX1_begin_1 9 rfl rfl)
theorem dX1_begin_35 : decode cX1_begin 35 = .ok (.ifCond .eq 17, 3) := dk_153 0 17 (dk_at dksX1_begin_1 12 rfl rfl)
theorem dX1_begin_38 : decode cX1_begin 38 = .ok (.aload_n 0, 1) := dk_42 (dk_at dksX1_begin_1 15 rfl rfl)
theorem dX1_begin_39 : decode cX1_begin 39 = .ok (.iload 4, 2) := dk_21 4 (dk_at dksX1_begin_1 16 rfl rfl)
theorem dX1_begin_41 : decode cX1_begin 41 = .ok (.invokevirtual 190, 3) := dk_182 0 190 (dk_at dksX1_begin_1 18 rfl rfl)
theorem dX1_begin_44 : decode cX1_begin 44 = .ok (.iload_n 3, 1) := dk_29 (dk_at dksX1_begin_1 21 rfl rfl)
theorem dX1_begin_45 : decode cX1_begin 45 = .ok (.if_icmp .ge 7, 3) := dk_162 0 7 (dk_at dksX1_begin_2 0 rfl rfl)
theorem dX1_begin_48 : decode cX1_begin 48 = .ok (.iconst 1, 1) := dk_4 (dk_at dksX1_begin_2 3 rfl rfl)
theorem dX1_begin_49 : decode cX1_begin 49 = .ok (.goto 4, 3) := dk_167 0 4 (dk_at dksX1_begin_2 4 rfl rfl)
theorem dX1_begin_52 : decode cX1_begin 52 = .ok (.iconst 0, 1) := dk_3 (dk_at dksX1_begin_2 7 rfl rfl)
theorem dX1_begin_53 : decode cX1_begin 53 = .ok (.istore 5, 2) := dk_54 5 (dk_at dksX1_begin_2 8 rfl rfl)
theorem dX1_begin_55 : decode cX1_begin 55 = .ok (.iload 5, 2) := dk_21 5 (dk_at dksX1_begin_2 10 rfl rfl)
theorem dX1_begin_57 : decode cX1_begin 57 = .ok (.ifCond .eq 8, 3) := dk_153 0 8 (dk_at dksX1_begin_2 12 rfl rfl)
theorem dX1_begin_60 : decode cX1_begin 60 = .ok (.iload 4, 2) := dk_21 4 (dk_at dksX1_begin_2 15 rfl rfl)
theorem dX1_begin_62 : decode cX1_begin 62 = .ok (.goto 4, 3) := dk_167 0 4 (dk_at dksX1_begin_2 17 rfl rfl)
theorem dX1_begin_65 : decode cX1_begin 65 = .ok (.iload_n 2, 1) := dk_28 (dk_at dksX1_begin_2 20 rfl rfl)
theorem dX1_begin_66 : decode cX1_begin 66 = .ok (.istore_n 2, 1) := dk_61 (dk_at dksX1_begin_2 21 rfl rfl)
theorem dX1_begin_67 : decode cX1_begin 67 = .ok (.iload 5, 2) := dk_21 5 (dk_at dksX1_begin_2 22 rfl rfl)
theorem dX1_begin_69 : decode cX1_begin 69 = .ok (.ifCond .eq 12, 3) := dk_153 0 12 (dk_at dksX1_begin_3 0 rfl rfl)
theorem dX1_begin_72 : decode cX1_begin 72 = .ok (.aload_n 0, 1) := dk_42 (dk_at dksX1_begin_3 3 rfl rfl)
theorem dX1_begin_73 : decode cX1_begin 73 = .ok (.iload 4, 2) := dk_21 4 (dk_at dksX1_begin_3 4 rfl rfl)
theorem dX1_begin_75 : decode cX1_begin 75 = .ok (.invokevirtual 190, 3) := dk_182 0 190 (dk_at dksX1_begin_3 6 rfl rfl)
theorem dX1_begin_78 : decode cX1_begin 78 = .ok (.goto 4, 3) := dk_167 0 4 (dk_at dksX1_begin_3 9 rfl rfl)
theorem dX1_begin_81 : decode cX1_begin 81 = .ok (.iload_n 3, 1) := dk_29 (dk_at dksX1_begin_3 12 rfl rfl)
theorem dX1_begin_82 : decode cX1_begin 82 = .ok (.istore_n 3, 1) := dk_62 (dk_at dksX1_begin_3 13 rfl rfl)
theorem dX1_begin_83 : decode cX1_begin 83 = .ok (.iinc 4 1, 3) := dk_132 4 1 (dk_at dksX1_begin_3 14 rfl rfl)
theorem dX1_begin_86 : decode cX1_begin 86 = .ok (.goto (-78), 3) := dk_167 255 178 (dk_at dksX1_begin_3 17 rfl rfl)
theorem dX1_begin_89 : decode cX1_begin 89 = .ok (.iload_n 2, 1) := dk_28 (dk_at dksX1_begin_3 20 rfl rfl)
theorem dX1_begin_90 : decode cX1_begin 90 = .ok (.ireturn, 1) := dk_172 (dk_at dksX1_begin_3 21 rfl rfl)
abbrev cX1_whole : ByteArray := prog_1_method_26_code
def yX1_whole : MethodName := ⟨RX1, "whole", "(I)I"⟩
def dkwX1_whole_1 : List UInt8 := [104, 42, 180, 0, 58, 27, 46, 96, 172]
abbrev dktX1_whole_1 : List UInt8 := dkwX1_whole_1 ++ []
def dkwX1_whole_0 : List UInt8 := [42, 180, 0, 58, 27, 46, 18, 170, 160, 0, 8, 18, 170, 167, 0, 19, 17, 3, 232, 42, 27, 182, 0, 187]
abbrev dktX1_whole_0 : List UInt8 := dkwX1_whole_0 ++ dktX1_whole_1
theorem dksX1_whole_0 : cX1_whole.data.toList.drop 0 = dktX1_whole_0 := by decide +kernel
theorem dksX1_whole_1 : cX1_whole.data.toList.drop 24 = dktX1_whole_1 := dk_seg dksX1_whole_0 24 rfl rfl
theorem dX1_whole_0 : decode cX1_whole 0 = .ok (.aload_n 0, 1) := dk_42 (dk_at dksX1_whole_0 0 rfl rfl)
theorem dX1_whole_1 : decode cX1_whole 1 = .ok (.getfield 58, 3) := dk_180 0 58 (dk_at dksX1_whole_0 1 rfl rfl)
theorem dX1_whole_4 : decode cX1_whole 4 = .ok (.iload_n 1, 1) := dk_27 (dk_at dksX1_whole_0 4 rfl rfl)
theorem dX1_whole_5 : decode cX1_whole 5 = .ok (.iaload, 1) := dk_46 (dk_at dksX1_whole_0 5 rfl rfl)
theorem dX1_whole_6 : decode cX1_whole 6 = .ok (.ldc 170, 2) := dk_18 170 (dk_at dksX1_whole_0 6 rfl rfl)
theorem dX1_whole_8 : decode cX1_whole 8 = .ok (.if_icmp .ne 8, 3) := dk_160 0 8 (dk_at dksX1_whole_0 8 rfl rfl)
theorem dX1_whole_11 : decode cX1_whole 11 = .ok (.ldc 170, 2) := dk_18 170 (dk_at dksX1_whole_0 11 rfl rfl)
theorem dX1_whole_13 : decode cX1_whole 13 = .ok (.goto 19, 3) := dk_167 0 19 (dk_at dksX1_whole_0 13 rfl rfl)
theorem dX1_whole_16 : decode cX1_whole 16 = .ok (.sipush 1000, 3) := dk_17 3 232 (dk_at dksX1_whole_0 16 rfl rfl)
theorem dX1_whole_19 : decode cX1_whole 19 = .ok (.aload_n 0, 1) := dk_42 (dk_at dksX1_whole_0 19 rfl rfl)
theorem dX1_whole_20 : decode cX1_whole 20 = .ok (.iload_n 1, 1) := dk_27 (dk_at dksX1_whole_0 20 rfl rfl)
theorem dX1_whole_21 : decode cX1_whole 21 = .ok (.invokevirtual 187, 3) := dk_182 0 187 (dk_at dksX1_whole_0 21 rfl rfl)
theorem dX1_whole_24 : decode cX1_whole 24 = .ok (.imul, 1) := dk_104 (dk_at dksX1_whole_1 0 rfl rfl)
theorem dX1_whole_25 : decode cX1_whole 25 = .ok (.aload_n 0, 1) := dk_42 (dk_at dksX1_whole_1 1 rfl rfl)
theorem dX1_whole_26 : decode cX1_whole 26 = .ok (.getfield 58, 3) := dk_180 0 58 (dk_at dksX1_whole_1 2 rfl rfl)
theorem dX1_whole_29 : decode cX1_whole 29 = .ok (.iload_n 1, 1) := dk_27 (dk_at dksX1_whole_1 5 rfl rfl)
theorem dX1_whole_30 : decode cX1_whole 30 = .ok (.iaload, 1) := dk_46 (dk_at dksX1_whole_1 6 rfl rfl)
theorem dX1_whole_31 : decode cX1_whole 31 = .ok (.iadd, 1) := dk_96 (dk_at dksX1_whole_1 7 rfl rfl)
theorem dX1_whole_32 : decode cX1_whole 32 = .ok (.ireturn, 1) := dk_172 (dk_at dksX1_whole_1 8 rfl rfl)
abbrev cX1_rockOn : ByteArray := prog_1_method_20_code
def yX1_rockOn : MethodName := ⟨RX1, "rockOn", "(I)I"⟩
def dkwX1_rockOn_2 : List UInt8 := [132, 3, 1, 167, 255, 210, 28, 172]
abbrev dktX1_rockOn_2 : List UInt8 := dkwX1_rockOn_2 ++ []
def dkwX1_rockOn_1 : List UInt8 := [16, 16, 29, 42, 180, 0, 153, 108, 104, 96, 29, 42, 180, 0, 153, 112, 96, 185, 0, 101, 2, 0, 96, 61]
abbrev dktX1_rockOn_1 : List UInt8 := dkwX1_rockOn_1 ++ dktX1_rockOn_2
def dkwX1_rockOn_0 : List UInt8 := [3, 61, 3, 62, 29, 42, 180, 0, 153, 42, 180, 0, 153, 104, 162, 0, 39, 28, 42, 180, 0, 46, 27]
abbrev dktX1_rockOn_0 : List UInt8 := dkwX1_rockOn_0 ++ dktX1_rockOn_1
theorem dksX1_rockOn_0 : cX1_rockOn.data.toList.drop 0 = dktX1_rockOn_0 := by decide +kernel
theorem dksX1_rockOn_1 : cX1_rockOn.data.toList.drop 23 = dktX1_rockOn_1 := dk_seg dksX1_rockOn_0 23 rfl rfl
theorem dksX1_rockOn_2 : cX1_rockOn.data.toList.drop 47 = dktX1_rockOn_2 := dk_seg dksX1_rockOn_1 24 rfl rfl
theorem dX1_rockOn_0 : decode cX1_rockOn 0 = .ok (.iconst 0, 1) := dk_3 (dk_at dksX1_rockOn_0 0 rfl rfl)
theorem dX1_rockOn_1 : decode cX1_rockOn 1 = .ok (.istore_n 2, 1) := dk_61 (dk_at dksX1_rockOn_0 1 rfl rfl)
theorem dX1_rockOn_2 : decode cX1_rockOn 2 = .ok (.iconst 0, 1) := dk_3 (dk_at dksX1_rockOn_0 2 rfl rfl)
theorem dX1_rockOn_3 : decode cX1_rockOn 3 = .ok (.istore_n 3, 1) := dk_62 (dk_at dksX1_rockOn_0 3 rfl rfl)
theorem dX1_rockOn_4 : decode cX1_rockOn 4 = .ok (.iload_n 3, 1) := dk_29 (dk_at dksX1_rockOn_0 4 rfl rfl)
theorem dX1_rockOn_5 : decode cX1_rockOn 5 = .ok (.aload_n 0, 1) := dk_42 (dk_at dksX1_rockOn_0 5 rfl rfl)
theorem dX1_rockOn_6 : decode cX1_rockOn 6 = .ok (.getfield 153, 3) := dk_180 0 153 (dk_at dksX1_rockOn_0 6 rfl rfl)
theorem dX1_rockOn_9 : decode cX1_rockOn 9 = .ok (.aload_n 0, 1) := dk_42 (dk_at dksX1_rockOn_0 9 rfl rfl)
theorem dX1_rockOn_10 : decode cX1_rockOn 10 = .ok (.getfield 153, 3) := dk_180 0 153 (dk_at dksX1_rockOn_0 10 rfl rfl)
theorem dX1_rockOn_13 : decode cX1_rockOn 13 = .ok (.imul, 1) := dk_104 (dk_at dksX1_rockOn_0 13 rfl rfl)
theorem dX1_rockOn_14 : decode cX1_rockOn 14 = .ok (.if_icmp .ge 39, 3) := dk_162 0 39 (dk_at dksX1_rockOn_0 14 rfl rfl)
theorem dX1_rockOn_17 : decode cX1_rockOn 17 = .ok (.iload_n 2, 1) := dk_28 (dk_at dksX1_rockOn_0 17 rfl rfl)
theorem dX1_rockOn_18 : decode cX1_rockOn 18 = .ok (.aload_n 0, 1) := dk_42 (dk_at dksX1_rockOn_0 18 rfl rfl)
theorem dX1_rockOn_19 : decode cX1_rockOn 19 = .ok (.getfield 46, 3) := dk_180 0 46 (dk_at dksX1_rockOn_0 19 rfl rfl)
theorem dX1_rockOn_22 : decode cX1_rockOn 22 = .ok (.iload_n 1, 1) := dk_27 (dk_at dksX1_rockOn_0 22 rfl rfl)
theorem dX1_rockOn_23 : decode cX1_rockOn 23 = .ok (.bipush 16, 2) := dk_16 16 (dk_at dksX1_rockOn_1 0 rfl rfl)
theorem dX1_rockOn_25 : decode cX1_rockOn 25 = .ok (.iload_n 3, 1) := dk_29 (dk_at dksX1_rockOn_1 2 rfl rfl)
theorem dX1_rockOn_26 : decode cX1_rockOn 26 = .ok (.aload_n 0, 1) := dk_42 (dk_at dksX1_rockOn_1 3 rfl rfl)
theorem dX1_rockOn_27 : decode cX1_rockOn 27 = .ok (.getfield 153, 3) := dk_180 0 153 (dk_at dksX1_rockOn_1 4 rfl rfl)
theorem dX1_rockOn_30 : decode cX1_rockOn 30 = .ok (.idiv, 1) := dk_108 (dk_at dksX1_rockOn_1 7 rfl rfl)
theorem dX1_rockOn_31 : decode cX1_rockOn 31 = .ok (.imul, 1) := dk_104 (dk_at dksX1_rockOn_1 8 rfl rfl)
theorem dX1_rockOn_32 : decode cX1_rockOn 32 = .ok (.iadd, 1) := dk_96 (dk_at dksX1_rockOn_1 9 rfl rfl)
theorem dX1_rockOn_33 : decode cX1_rockOn 33 = .ok (.iload_n 3, 1) := dk_29 (dk_at dksX1_rockOn_1 10 rfl rfl)
theorem dX1_rockOn_34 : decode cX1_rockOn 34 = .ok (.aload_n 0, 1) := dk_42 (dk_at dksX1_rockOn_1 11 rfl rfl)
theorem dX1_rockOn_35 : decode cX1_rockOn 35 = .ok (.getfield 153, 3) := dk_180 0 153 (dk_at dksX1_rockOn_1 12 rfl rfl)
theorem dX1_rockOn_38 : decode cX1_rockOn 38 = .ok (.irem, 1) := dk_112 (dk_at dksX1_rockOn_1 15 rfl rfl)
theorem dX1_rockOn_39 : decode cX1_rockOn 39 = .ok (.iadd, 1) := dk_96 (dk_at dksX1_rockOn_1 16 rfl rfl)
theorem dX1_rockOn_40 : decode cX1_rockOn 40 = .ok (.invokeinterface 101 2, 5) := by decide +kernel
theorem dX1_rockOn_45 : decode cX1_rockOn 45 = .ok (.iadd, 1) := dk_96 (dk_at dksX1_rockOn_1 22 rfl rfl)
theorem dX1_rockOn_46 : decode cX1_rockOn 46 = .ok (.istore_n 2, 1) := dk_61 (dk_at dksX1_rockOn_1 23 rfl rfl)
theorem dX1_rockOn_47 : decode cX1_rockOn 47 = .ok (.iinc 3 1, 3) := dk_132 3 1 (dk_at dksX1_rockOn_2 0 rfl rfl)
theorem dX1_rockOn_50 : decode cX1_rockOn 50 = .ok (.goto (-46), 3) := dk_167 255 210 (dk_at dksX1_rockOn_2 3 rfl rfl)
theorem dX1_rockOn_53 : decode cX1_rockOn 53 = .ok (.iload_n 2, 1) := dk_28 (dk_at dksX1_rockOn_2 6 rfl rfl)
theorem dX1_rockOn_54 : decode cX1_rockOn 54 = .ok (.ireturn, 1) := dk_172 (dk_at dksX1_rockOn_2 7 rfl rfl)
abbrev cX1_goOn : ByteArray := prog_1_method_28_code
def yX1_goOn : MethodName := ⟨RX1, "goOn", "(I)I"⟩
def dkwX1_goOn_2 : List UInt8 := [21, 5, 28, 162, 0, 8, 21, 5, 167, 0, 4, 28, 61, 132, 3, 1, 167, 255, 196, 28, 172]
abbrev dktX1_goOn_2 : List UInt8 := dkwX1_goOn_2 ++ []
def dkwX1_goOn_1 : List UInt8 := [4, 167, 0, 4, 3, 54, 4, 27, 29, 184, 0, 167, 54, 5, 21, 4, 153, 0, 19, 28, 2, 159, 0, 9]
abbrev dktX1_goOn_1 : List UInt8 := dkwX1_goOn_1 ++ dktX1_goOn_2
def dkwX1_goOn_0 : List UInt8 := [2, 61, 3, 62, 29, 7, 162, 0, 61, 42, 27, 29, 182, 0, 180, 42, 180, 0, 58, 27, 46, 160, 0, 7]
abbrev dktX1_goOn_0 : List UInt8 := dkwX1_goOn_0 ++ dktX1_goOn_1
theorem dksX1_goOn_0 : cX1_goOn.data.toList.drop 0 = dktX1_goOn_0 := by decide +kernel
theorem dksX1_goOn_1 : cX1_goOn.data.toList.drop 24 = dktX1_goOn_1 := dk_seg dksX1_goOn_0 24 rfl rfl
theorem dksX1_goOn_2 : cX1_goOn.data.toList.drop 48 = dktX1_goOn_2 := dk_seg dksX1_goOn_1 24 rfl rfl
theorem dX1_goOn_0 : decode cX1_goOn 0 = .ok (.iconst (-1), 1) := dk_2 (dk_at dksX1_goOn_0 0 rfl rfl)
theorem dX1_goOn_1 : decode cX1_goOn 1 = .ok (.istore_n 2, 1) := dk_61 (dk_at dksX1_goOn_0 1 rfl rfl)
theorem dX1_goOn_2 : decode cX1_goOn 2 = .ok (.iconst 0, 1) := dk_3 (dk_at dksX1_goOn_0 2 rfl rfl)
theorem dX1_goOn_3 : decode cX1_goOn 3 = .ok (.istore_n 3, 1) := dk_62 (dk_at dksX1_goOn_0 3 rfl rfl)
theorem dX1_goOn_4 : decode cX1_goOn 4 = .ok (.iload_n 3, 1) := dk_29 (dk_at dksX1_goOn_0 4 rfl rfl)
theorem dX1_goOn_5 : decode cX1_goOn 5 = .ok (.iconst 4, 1) := dk_7 (dk_at dksX1_goOn_0 5 rfl rfl)
theorem dX1_goOn_6 : decode cX1_goOn 6 = .ok (.if_icmp .ge 61, 3) := dk_162 0 61 (dk_at dksX1_goOn_0 6 rfl rfl)
theorem dX1_goOn_9 : decode cX1_goOn 9 = .ok (.aload_n 0, 1) := dk_42 (dk_at dksX1_goOn_0 9 rfl rfl)
theorem dX1_goOn_10 : decode cX1_goOn 10 = .ok (.iload_n 1, 1) := dk_27 (dk_at dksX1_goOn_0 10 rfl rfl)
theorem dX1_goOn_11 : decode cX1_goOn 11 = .ok (.iload_n 3, 1) := dk_29 (dk_at dksX1_goOn_0 11 rfl rfl)
theorem dX1_goOn_12 : decode cX1_goOn 12 = .ok (.invokevirtual 180, 3) := dk_182 0 180 (dk_at dksX1_goOn_0 12 rfl rfl)
theorem dX1_goOn_15 : decode cX1_goOn 15 = .ok (.aload_n 0, 1) := dk_42 (dk_at dksX1_goOn_0 15 rfl rfl)
theorem dX1_goOn_16 : decode cX1_goOn 16 = .ok (.getfield 58, 3) := dk_180 0 58 (dk_at dksX1_goOn_0 16 rfl rfl)
theorem dX1_goOn_19 : decode cX1_goOn 19 = .ok (.iload_n 1, 1) := dk_27 (dk_at dksX1_goOn_0 19 rfl rfl)
theorem dX1_goOn_20 : decode cX1_goOn 20 = .ok (.iaload, 1) := dk_46 (dk_at dksX1_goOn_0 20 rfl rfl)
theorem dX1_goOn_21 : decode cX1_goOn 21 = .ok (.if_icmp .ne 7, 3) := dk_160 0 7 (dk_at dksX1_goOn_0 21 rfl rfl)
theorem dX1_goOn_24 : decode cX1_goOn 24 = .ok (.iconst 1, 1) := dk_4 (dk_at dksX1_goOn_1 0 rfl rfl)
theorem dX1_goOn_25 : decode cX1_goOn 25 = .ok (.goto 4, 3) := dk_167 0 4 (dk_at dksX1_goOn_1 1 rfl rfl)
theorem dX1_goOn_28 : decode cX1_goOn 28 = .ok (.iconst 0, 1) := dk_3 (dk_at dksX1_goOn_1 4 rfl rfl)
theorem dX1_goOn_29 : decode cX1_goOn 29 = .ok (.istore 4, 2) := dk_54 4 (dk_at dksX1_goOn_1 5 rfl rfl)
theorem dX1_goOn_31 : decode cX1_goOn 31 = .ok (.iload_n 1, 1) := dk_27 (dk_at dksX1_goOn_1 7 rfl rfl)
theorem dX1_goOn_32 : decode cX1_goOn 32 = .ok (.iload_n 3, 1) := dk_29 (dk_at dksX1_goOn_1 8 rfl rfl)
theorem dX1_goOn_33 : decode cX1_goOn 33 = .ok (.invokestatic 167, 3) := dk_184 0 167 (dk_at dksX1_goOn_1 9 rfl rfl)
theorem dX1_goOn_36 : decode cX1_goOn 36 = .ok (.istore 5, 2) := dk_54 5 (dk_at dksX1_goOn_1 12 rfl rfl)
theorem dX1_goOn_38 : decode cX1_goOn 38 = .ok (.iload 4, 2) := dk_21 4 (dk_at dksX1_goOn_1 14 rfl rfl)
theorem dX1_goOn_40 : decode cX1_goOn 40 = .ok (.ifCond .eq 19, 3) := dk_153 0 19 (dk_at dksX1_goOn_1 16 rfl rfl)
theorem dX1_goOn_43 : decode cX1_goOn 43 = .ok (.iload_n 2, 1) := dk_28 (dk_at dksX1_goOn_1 19 rfl rfl)
theorem dX1_goOn_44 : decode cX1_goOn 44 = .ok (.iconst (-1), 1) := dk_2 (dk_at dksX1_goOn_1 20 rfl rfl)
theorem dX1_goOn_45 : decode cX1_goOn 45 = .ok (.if_icmp .eq 9, 3) := dk_159 0 9 (dk_at dksX1_goOn_1 21 rfl rfl)
theorem dX1_goOn_48 : decode cX1_goOn 48 = .ok (.iload 5, 2) := dk_21 5 (dk_at dksX1_goOn_2 0 rfl rfl)
theorem dX1_goOn_50 : decode cX1_goOn 50 = .ok (.iload_n 2, 1) := dk_28 (dk_at dksX1_goOn_2 2 rfl rfl)
theorem dX1_goOn_51 : decode cX1_goOn 51 = .ok (.if_icmp .ge 8, 3) := dk_162 0 8 (dk_at dksX1_goOn_2 3 rfl rfl)
theorem dX1_goOn_54 : decode cX1_goOn 54 = .ok (.iload 5, 2) := dk_21 5 (dk_at dksX1_goOn_2 6 rfl rfl)
theorem dX1_goOn_56 : decode cX1_goOn 56 = .ok (.goto 4, 3) := dk_167 0 4 (dk_at dksX1_goOn_2 8 rfl rfl)
theorem dX1_goOn_59 : decode cX1_goOn 59 = .ok (.iload_n 2, 1) := dk_28 (dk_at dksX1_goOn_2 11 rfl rfl)
theorem dX1_goOn_60 : decode cX1_goOn 60 = .ok (.istore_n 2, 1) := dk_61 (dk_at dksX1_goOn_2 12 rfl rfl)
theorem dX1_goOn_61 : decode cX1_goOn 61 = .ok (.iinc 3 1, 3) := dk_132 3 1 (dk_at dksX1_goOn_2 13 rfl rfl)
theorem dX1_goOn_64 : decode cX1_goOn 64 = .ok (.goto (-60), 3) := dk_167 255 196 (dk_at dksX1_goOn_2 16 rfl rfl)
theorem dX1_goOn_67 : decode cX1_goOn 67 = .ok (.iload_n 2, 1) := dk_28 (dk_at dksX1_goOn_2 19 rfl rfl)
theorem dX1_goOn_68 : decode cX1_goOn 68 = .ok (.ireturn, 1) := dk_172 (dk_at dksX1_goOn_2 20 rfl rfl)
abbrev cX1_costLaid : ByteArray := prog_1_method_30_code
def yX1_costLaid : MethodName := ⟨RX1, "costLaid", "()I"⟩
def dkwX1_costLaid_0 : List UInt8 := [42, 42, 180, 0, 69, 3, 46, 182, 0, 190, 17, 3, 232, 108, 172]
abbrev dktX1_costLaid_0 : List UInt8 := dkwX1_costLaid_0 ++ []
theorem dksX1_costLaid_0 : cX1_costLaid.data.toList.drop 0 = dktX1_costLaid_0 := by decide +kernel
theorem dX1_costLaid_0 : decode cX1_costLaid 0 = .ok (.aload_n 0, 1) := dk_42 (dk_at dksX1_costLaid_0 0 rfl rfl)
theorem dX1_costLaid_1 : decode cX1_costLaid 1 = .ok (.aload_n 0, 1) := dk_42 (dk_at dksX1_costLaid_0 1 rfl rfl)
theorem dX1_costLaid_2 : decode cX1_costLaid 2 = .ok (.getfield 69, 3) := dk_180 0 69 (dk_at dksX1_costLaid_0 2 rfl rfl)
theorem dX1_costLaid_5 : decode cX1_costLaid 5 = .ok (.iconst 0, 1) := dk_3 (dk_at dksX1_costLaid_0 5 rfl rfl)
theorem dX1_costLaid_6 : decode cX1_costLaid 6 = .ok (.iaload, 1) := dk_46 (dk_at dksX1_costLaid_0 6 rfl rfl)
theorem dX1_costLaid_7 : decode cX1_costLaid 7 = .ok (.invokevirtual 190, 3) := dk_182 0 190 (dk_at dksX1_costLaid_0 7 rfl rfl)
theorem dX1_costLaid_10 : decode cX1_costLaid 10 = .ok (.sipush 1000, 3) := dk_17 3 232 (dk_at dksX1_costLaid_0 10 rfl rfl)
theorem dX1_costLaid_13 : decode cX1_costLaid 13 = .ok (.idiv, 1) := dk_108 (dk_at dksX1_costLaid_0 13 rfl rfl)
theorem dX1_costLaid_14 : decode cX1_costLaid 14 = .ok (.ireturn, 1) := dk_172 (dk_at dksX1_costLaid_0 14 rfl rfl)
abbrev cX1_digWay : ByteArray := prog_1_method_32_code
def yX1_digWay : MethodName := ⟨RX1, "digWay", "()I"⟩
def dkwX1_digWay_4 : List UInt8 := [132, 2, 1, 167, 255, 163, 27, 172]
abbrev dktX1_digWay_4 : List UInt8 := dkwX1_digWay_4 ++ []
def dkwX1_digWay_3 : List UInt8 := [180, 0, 46, 21, 4, 185, 0, 101, 2, 0, 96, 60, 42, 180, 0, 29, 180, 0, 106, 21, 4, 2, 79]
abbrev dktX1_digWay_3 : List UInt8 := dkwX1_digWay_3 ++ dktX1_digWay_4
def dkwX1_digWay_2 : List UInt8 := [108, 46, 16, 16, 29, 42, 180, 0, 153, 108, 104, 96, 29, 42, 180, 0, 153, 112, 96, 54, 4, 27, 42]
abbrev dktX1_digWay_2 : List UInt8 := dkwX1_digWay_2 ++ dktX1_digWay_3
def dkwX1_digWay_1 : List UInt8 := [180, 0, 153, 42, 180, 0, 153, 104, 112, 62, 42, 180, 0, 69, 28, 42, 180, 0, 153, 42, 180, 0, 153, 104]
abbrev dktX1_digWay_1 : List UInt8 := dkwX1_digWay_1 ++ dktX1_digWay_2
def dkwX1_digWay_0 : List UInt8 := [3, 60, 3, 61, 28, 42, 180, 0, 202, 42, 180, 0, 153, 104, 42, 180, 0, 153, 104, 162, 0, 81, 28, 42]
abbrev dktX1_digWay_0 : List UInt8 := dkwX1_digWay_0 ++ dktX1_digWay_1
theorem dksX1_digWay_0 : cX1_digWay.data.toList.drop 0 = dktX1_digWay_0 := by decide +kernel
theorem dksX1_digWay_1 : cX1_digWay.data.toList.drop 24 = dktX1_digWay_1 := dk_seg dksX1_digWay_0 24 rfl rfl
theorem dksX1_digWay_2 : cX1_digWay.data.toList.drop 48 = dktX1_digWay_2 := dk_seg dksX1_digWay_1 24 rfl rfl
theorem dksX1_digWay_3 : cX1_digWay.data.toList.drop 71 = dktX1_digWay_3 := dk_seg dksX1_digWay_2 23 rfl rfl
theorem dksX1_digWay_4 : cX1_digWay.data.toList.drop 94 = dktX1_digWay_4 := dk_seg dksX1_digWay_3 23 rfl rfl
theorem dX1_digWay_0 : decode cX1_digWay 0 = .ok (.iconst 0, 1) := dk_3 (dk_at dksX1_digWay_0 0 rfl rfl)
theorem dX1_digWay_1 : decode cX1_digWay 1 = .ok (.istore_n 1, 1) := dk_60 (dk_at dksX1_digWay_0 1 rfl rfl)
theorem dX1_digWay_2 : decode cX1_digWay 2 = .ok (.iconst 0, 1) := dk_3 (dk_at dksX1_digWay_0 2 rfl rfl)
theorem dX1_digWay_3 : decode cX1_digWay 3 = .ok (.istore_n 2, 1) := dk_61 (dk_at dksX1_digWay_0 3 rfl rfl)
theorem dX1_digWay_4 : decode cX1_digWay 4 = .ok (.iload_n 2, 1) := dk_28 (dk_at dksX1_digWay_0 4 rfl rfl)
theorem dX1_digWay_5 : decode cX1_digWay 5 = .ok (.aload_n 0, 1) := dk_42 (dk_at dksX1_digWay_0 5 rfl rfl)
theorem dX1_digWay_6 : decode cX1_digWay 6 = .ok (.getfield 202, 3) := dk_180 0 202 (dk_at dksX1_digWay_0 6 rfl rfl)
theorem dX1_digWay_9 : decode cX1_digWay 9 = .ok (.aload_n 0, 1) := dk_42 (dk_at dksX1_digWay_0 9 rfl rfl)
theorem dX1_digWay_10 : decode cX1_digWay 10 = .ok (.getfield 153, 3) := dk_180 0 153 (dk_at dksX1_digWay_0 10 rfl rfl)
theorem dX1_digWay_13 : decode cX1_digWay 13 = .ok (.imul, 1) := dk_104 (dk_at dksX1_digWay_0 13 rfl rfl)
theorem dX1_digWay_14 : decode cX1_digWay 14 = .ok (.aload_n 0, 1) := dk_42 (dk_at dksX1_digWay_0 14 rfl rfl)
theorem dX1_digWay_15 : decode cX1_digWay 15 = .ok (.getfield 153, 3) := dk_180 0 153 (dk_at dksX1_digWay_0 15 rfl rfl)
theorem dX1_digWay_18 : decode cX1_digWay 18 = .ok (.imul, 1) := dk_104 (dk_at dksX1_digWay_0 18 rfl rfl)
theorem dX1_digWay_19 : decode cX1_digWay 19 = .ok (.if_icmp .ge 81, 3) := dk_162 0 81 (dk_at dksX1_digWay_0 19 rfl rfl)
theorem dX1_digWay_22 : decode cX1_digWay 22 = .ok (.iload_n 2, 1) := dk_28 (dk_at dksX1_digWay_0 22 rfl rfl)
theorem dX1_digWay_23 : decode cX1_digWay 23 = .ok (.aload_n 0, 1) := dk_42 (dk_at dksX1_digWay_0 23 rfl rfl)
theorem dX1_digWay_24 : decode cX1_digWay 24 = .ok (.getfield 153, 3) := dk_180 0 153 (dk_at dksX1_digWay_1 0 rfl rfl)
theorem dX1_digWay_27 : decode cX1_digWay 27 = .ok (.aload_n 0, 1) := dk_42 (dk_at dksX1_digWay_1 3 rfl rfl)
theorem dX1_digWay_28 : decode cX1_digWay 28 = .ok (.getfield 153, 3) := dk_180 0 153 (dk_at dksX1_digWay_1 4 rfl rfl)
theorem dX1_digWay_31 : decode cX1_digWay 31 = .ok (.imul, 1) := dk_104 (dk_at dksX1_digWay_1 7 rfl rfl)
theorem dX1_digWay_32 : decode cX1_digWay 32 = .ok (.irem, 1) := dk_112 (dk_at dksX1_digWay_1 8 rfl rfl)
theorem dX1_digWay_33 : decode cX1_digWay 33 = .ok (.istore_n 3, 1) := dk_62 (dk_at dksX1_digWay_1 9 rfl rfl)
theorem dX1_digWay_34 : decode cX1_digWay 34 = .ok (.aload_n 0, 1) := dk_42 (dk_at dksX1_digWay_1 10 rfl rfl)
theorem dX1_digWay_35 : decode cX1_digWay 35 = .ok (.getfield 69, 3) := dk_180 0 69 (dk_at dksX1_digWay_1 11 rfl rfl)
theorem dX1_digWay_38 : decode cX1_digWay 38 = .ok (.iload_n 2, 1) := dk_28 (dk_at dksX1_digWay_1 14 rfl rfl)
theorem dX1_digWay_39 : decode cX1_digWay 39 = .ok (.aload_n 0, 1) := dk_42 (dk_at dksX1_digWay_1 15 rfl rfl)
theorem dX1_digWay_40 : decode cX1_digWay 40 = .ok (.getfield 153, 3) := dk_180 0 153 (dk_at dksX1_digWay_1 16 rfl rfl)
theorem dX1_digWay_43 : decode cX1_digWay 43 = .ok (.aload_n 0, 1) := dk_42 (dk_at dksX1_digWay_1 19 rfl rfl)
theorem dX1_digWay_44 : decode cX1_digWay 44 = .ok (.getfield 153, 3) := dk_180 0 153 (dk_at dksX1_digWay_1 20 rfl rfl)
theorem dX1_digWay_47 : decode cX1_digWay 47 = .ok (.imul, 1) := dk_104 (dk_at dksX1_digWay_1 23 rfl rfl)
theorem dX1_digWay_48 : decode cX1_digWay 48 = .ok (.idiv, 1) := dk_108 (dk_at dksX1_digWay_2 0 rfl rfl)
theorem dX1_digWay_49 : decode cX1_digWay 49 = .ok (.iaload, 1) := dk_46 (dk_at dksX1_digWay_2 1 rfl rfl)
theorem dX1_digWay_50 : decode cX1_digWay 50 = .ok (.bipush 16, 2) := dk_16 16 (dk_at dksX1_digWay_2 2 rfl rfl)
theorem dX1_digWay_52 : decode cX1_digWay 52 = .ok (.iload_n 3, 1) := dk_29 (dk_at dksX1_digWay_2 4 rfl rfl)
theorem dX1_digWay_53 : decode cX1_digWay 53 = .ok (.aload_n 0, 1) := dk_42 (dk_at dksX1_digWay_2 5 rfl rfl)
theorem dX1_digWay_54 : decode cX1_digWay 54 = .ok (.getfield 153, 3) := dk_180 0 153 (dk_at dksX1_digWay_2 6 rfl rfl)
theorem dX1_digWay_57 : decode cX1_digWay 57 = .ok (.idiv, 1) := dk_108 (dk_at dksX1_digWay_2 9 rfl rfl)
theorem dX1_digWay_58 : decode cX1_digWay 58 = .ok (.imul, 1) := dk_104 (dk_at dksX1_digWay_2 10 rfl rfl)
theorem dX1_digWay_59 : decode cX1_digWay 59 = .ok (.iadd, 1) := dk_96 (dk_at dksX1_digWay_2 11 rfl rfl)
theorem dX1_digWay_60 : decode cX1_digWay 60 = .ok (.iload_n 3, 1) := dk_29 (dk_at dksX1_digWay_2 12 rfl rfl)
theorem dX1_digWay_61 : decode cX1_digWay 61 = .ok (.aload_n 0, 1) := dk_42 (dk_at dksX1_digWay_2 13 rfl rfl)
theorem dX1_digWay_62 : decode cX1_digWay 62 = .ok (.getfield 153, 3) := dk_180 0 153 (dk_at dksX1_digWay_2 14 rfl rfl)
theorem dX1_digWay_65 : decode cX1_digWay 65 = .ok (.irem, 1) := dk_112 (dk_at dksX1_digWay_2 17 rfl rfl)
theorem dX1_digWay_66 : decode cX1_digWay 66 = .ok (.iadd, 1) := dk_96 (dk_at dksX1_digWay_2 18 rfl rfl)
theorem dX1_digWay_67 : decode cX1_digWay 67 = .ok (.istore 4, 2) := dk_54 4 (dk_at dksX1_digWay_2 19 rfl rfl)
theorem dX1_digWay_69 : decode cX1_digWay 69 = .ok (.iload_n 1, 1) := dk_27 (dk_at dksX1_digWay_2 21 rfl rfl)
theorem dX1_digWay_70 : decode cX1_digWay 70 = .ok (.aload_n 0, 1) := dk_42 (dk_at dksX1_digWay_2 22 rfl rfl)
theorem dX1_digWay_71 : decode cX1_digWay 71 = .ok (.getfield 46, 3) := dk_180 0 46 (dk_at dksX1_digWay_3 0 rfl rfl)
theorem dX1_digWay_74 : decode cX1_digWay 74 = .ok (.iload 4, 2) := dk_21 4 (dk_at dksX1_digWay_3 3 rfl rfl)
theorem dX1_digWay_76 : decode cX1_digWay 76 = .ok (.invokeinterface 101 2, 5) := by decide +kernel
theorem dX1_digWay_81 : decode cX1_digWay 81 = .ok (.iadd, 1) := dk_96 (dk_at dksX1_digWay_3 10 rfl rfl)
theorem dX1_digWay_82 : decode cX1_digWay 82 = .ok (.istore_n 1, 1) := dk_60 (dk_at dksX1_digWay_3 11 rfl rfl)
theorem dX1_digWay_83 : decode cX1_digWay 83 = .ok (.aload_n 0, 1) := dk_42 (dk_at dksX1_digWay_3 12 rfl rfl)
theorem dX1_digWay_84 : decode cX1_digWay 84 = .ok (.getfield 29, 3) := dk_180 0 29 (dk_at dksX1_digWay_3 13 rfl rfl)
theorem dX1_digWay_87 : decode cX1_digWay 87 = .ok (.getfield 106, 3) := dk_180 0 106 (dk_at dksX1_digWay_3 16 rfl rfl)
theorem dX1_digWay_90 : decode cX1_digWay 90 = .ok (.iload 4, 2) := dk_21 4 (dk_at dksX1_digWay_3 19 rfl rfl)
theorem dX1_digWay_92 : decode cX1_digWay 92 = .ok (.iconst (-1), 1) := dk_2 (dk_at dksX1_digWay_3 21 rfl rfl)
theorem dX1_digWay_93 : decode cX1_digWay 93 = .ok (.iastore, 1) := dk_79 (dk_at dksX1_digWay_3 22 rfl rfl)
theorem dX1_digWay_94 : decode cX1_digWay 94 = .ok (.iinc 2 1, 3) := dk_132 2 1 (dk_at dksX1_digWay_4 0 rfl rfl)
theorem dX1_digWay_97 : decode cX1_digWay 97 = .ok (.goto (-93), 3) := dk_167 255 163 (dk_at dksX1_digWay_4 3 rfl rfl)
theorem dX1_digWay_100 : decode cX1_digWay 100 = .ok (.iload_n 1, 1) := dk_27 (dk_at dksX1_digWay_4 6 rfl rfl)
theorem dX1_digWay_101 : decode cX1_digWay 101 = .ok (.ireturn, 1) := dk_172 (dk_at dksX1_digWay_4 7 rfl rfl)
abbrev cX1_fillUp : ByteArray := prog_1_method_38_code
def yX1_fillUp : MethodName := ⟨RX1, "fillUp", "()I"⟩
def dkwX1_fillUp_10 : List UInt8 := [29, 46, 79, 28, 21, 4, 184, 0, 183, 96, 61, 132, 3, 1, 167, 255, 184, 28, 172]
abbrev dktX1_fillUp_10 : List UInt8 := dkwX1_fillUp_10 ++ []
def dkwX1_fillUp_9 : List UInt8 := [180, 0, 29, 180, 0, 106, 29, 21, 4, 153, 0, 8, 16, 254, 167, 0, 12, 42, 180, 0, 29, 180, 0, 106]
abbrev dktX1_fillUp_9 : List UInt8 := dkwX1_fillUp_9 ++ dktX1_fillUp_10
def dkwX1_fillUp_8 : List UInt8 := [180, 0, 106, 29, 46, 2, 160, 0, 13, 43, 29, 51, 154, 0, 7, 4, 167, 0, 4, 3, 54, 4, 42]
abbrev dktX1_fillUp_8 : List UInt8 := dkwX1_fillUp_8 ++ dktX1_fillUp_9
def dkwX1_fillUp_7 : List UInt8 := [167, 255, 176, 132, 2, 1, 167, 255, 99, 3, 61, 3, 62, 29, 17, 0, 192, 162, 0, 71, 42, 180, 0, 29]
abbrev dktX1_fillUp_7 : List UInt8 := dkwX1_fillUp_7 ++ dktX1_fillUp_8
def dkwX1_fillUp_6 : List UInt8 := [21, 6, 42, 180, 0, 153, 108, 104, 96, 21, 6, 42, 180, 0, 153, 112, 96, 4, 84, 132, 5, 1]
abbrev dktX1_fillUp_6 : List UInt8 := dkwX1_fillUp_6 ++ dktX1_fillUp_7
def dkwX1_fillUp_5 : List UInt8 := [112, 54, 6, 43, 42, 180, 0, 69, 21, 5, 42, 180, 0, 153, 42, 180, 0, 153, 104, 108, 46, 16, 16]
abbrev dktX1_fillUp_5 : List UInt8 := dkwX1_fillUp_5 ++ dktX1_fillUp_6
def dkwX1_fillUp_4 : List UInt8 := [42, 180, 0, 153, 104, 42, 180, 0, 153, 104, 162, 0, 62, 21, 5, 42, 180, 0, 153, 42, 180, 0, 153, 104]
abbrev dktX1_fillUp_4 : List UInt8 := dkwX1_fillUp_4 ++ dktX1_fillUp_5
def dkwX1_fillUp_3 : List UInt8 := [154, 0, 7, 4, 167, 0, 4, 3, 54, 4, 3, 54, 5, 21, 4, 153, 0, 81, 21, 5, 42, 180, 0, 202]
abbrev dktX1_fillUp_3 : List UInt8 := dkwX1_fillUp_3 ++ dktX1_fillUp_4
def dkwX1_fillUp_2 : List UInt8 := [29, 153, 0, 29, 42, 28, 16, 6, 108, 28, 16, 6, 112, 182, 0, 208, 153, 0, 14, 42, 182, 0, 211]
abbrev dktX1_fillUp_2 : List UInt8 := dkwX1_fillUp_2 ++ dktX1_fillUp_3
def dkwX1_fillUp_1 : List UInt8 := [16, 6, 112, 162, 0, 19, 42, 180, 0, 29, 180, 0, 217, 28, 46, 158, 0, 7, 4, 167, 0, 4, 3, 62]
abbrev dktX1_fillUp_1 : List UInt8 := dkwX1_fillUp_1 ++ dktX1_fillUp_2
def dkwX1_fillUp_0 : List UInt8 := [42, 182, 0, 134, 17, 0, 192, 188, 4, 76, 3, 61, 28, 16, 36, 162, 0, 157, 28, 16, 6, 108, 28]
abbrev dktX1_fillUp_0 : List UInt8 := dkwX1_fillUp_0 ++ dktX1_fillUp_1
theorem dksX1_fillUp_0 : cX1_fillUp.data.toList.drop 0 = dktX1_fillUp_0 := by decide +kernel
theorem dksX1_fillUp_1 : cX1_fillUp.data.toList.drop 23 = dktX1_fillUp_1 := dk_seg dksX1_fillUp_0 23 rfl rfl
theorem dksX1_fillUp_2 : cX1_fillUp.data.toList.drop 47 = dktX1_fillUp_2 := dk_seg dksX1_fillUp_1 24 rfl rfl
theorem dksX1_fillUp_3 : cX1_fillUp.data.toList.drop 70 = dktX1_fillUp_3 := dk_seg dksX1_fillUp_2 23 rfl rfl
theorem dksX1_fillUp_4 : cX1_fillUp.data.toList.drop 94 = dktX1_fillUp_4 := dk_seg dksX1_fillUp_3 24 rfl rfl
theorem dksX1_fillUp_5 : cX1_fillUp.data.toList.drop 118 = dktX1_fillUp_5 := dk_seg dksX1_fillUp_4 24 rfl rfl
theorem dksX1_fillUp_6 : cX1_fillUp.data.toList.drop 141 = dktX1_fillUp_6 := dk_seg dksX1_fillUp_5 23 rfl rfl
theorem dksX1_fillUp_7 : cX1_fillUp.data.toList.drop 163 = dktX1_fillUp_7 := dk_seg dksX1_fillUp_6 22 rfl rfl
theorem dksX1_fillUp_8 : cX1_fillUp.data.toList.drop 187 = dktX1_fillUp_8 := dk_seg dksX1_fillUp_7 24 rfl rfl
theorem dksX1_fillUp_9 : cX1_fillUp.data.toList.drop 210 = dktX1_fillUp_9 := dk_seg dksX1_fillUp_8 23 rfl rfl
theorem dksX1_fillUp_10 : cX1_fillUp.data.toList.drop 234 = dktX1_fillUp_10 := dk_seg dksX1_fillUp_9 24 rfl rfl
theorem dX1_fillUp_0 : decode cX1_fillUp 0 = .ok (.aload_n 0, 1) := dk_42 (dk_at dksX1_fillUp_0 0 rfl rfl)
theorem dX1_fillUp_1 : decode cX1_fillUp 1 = .ok (.invokevirtual 134, 3) := dk_182 0 134 (dk_at dksX1_fillUp_0 1 rfl rfl)
theorem dX1_fillUp_4 : decode cX1_fillUp 4 = .ok (.sipush 192, 3) := dk_17 0 192 (dk_at dksX1_fillUp_0 4 rfl rfl)
theorem dX1_fillUp_7 : decode cX1_fillUp 7 = .ok (.newarray .boolean, 2) := dk_188_4 (dk_at dksX1_fillUp_0 7 rfl rfl)
theorem dX1_fillUp_9 : decode cX1_fillUp 9 = .ok (.astore_n 1, 1) := dk_76 (dk_at dksX1_fillUp_0 9 rfl rfl)
theorem dX1_fillUp_10 : decode cX1_fillUp 10 = .ok (.iconst 0, 1) := dk_3 (dk_at dksX1_fillUp_0 10 rfl rfl)
theorem dX1_fillUp_11 : decode cX1_fillUp 11 = .ok (.istore_n 2, 1) := dk_61 (dk_at dksX1_fillUp_0 11 rfl rfl)
theorem dX1_fillUp_12 : decode cX1_fillUp 12 = .ok (.iload_n 2, 1) := dk_28 (dk_at dksX1_fillUp_0 12 rfl rfl)
theorem dX1_fillUp_13 : decode cX1_fillUp 13 = .ok (.bipush 36, 2) := dk_16 36 (dk_at dksX1_fillUp_0 13 rfl rfl)
theorem dX1_fillUp_15 : decode cX1_fillUp 15 = .ok (.if_icmp .ge 157, 3) := dk_162 0 157 (dk_at dksX1_fillUp_0 15 rfl rfl)
theorem dX1_fillUp_18 : decode cX1_fillUp 18 = .ok (.iload_n 2, 1) := dk_28 (dk_at dksX1_fillUp_0 18 rfl rfl)
theorem dX1_fillUp_19 : decode cX1_fillUp 19 = .ok (.bipush 6, 2) := dk_16 6 (dk_at dksX1_fillUp_0 19 rfl rfl)
theorem dX1_fillUp_21 : decode cX1_fillUp 21 = .ok (.idiv, 1) := dk_108 (dk_at dksX1_fillUp_0 21 rfl rfl)
theorem dX1_fillUp_22 : decode cX1_fillUp 22 = .ok (.iload_n 2, 1) := dk_28 (dk_at dksX1_fillUp_0 22 rfl rfl)
theorem dX1_fillUp_23 : decode cX1_fillUp 23 = .ok (.bipush 6, 2) := dk_16 6 (dk_at dksX1_fillUp_1 0 rfl rfl)
theorem dX1_fillUp_25 : decode cX1_fillUp 25 = .ok (.irem, 1) := dk_112 (dk_at dksX1_fillUp_1 2 rfl rfl)
theorem dX1_fillUp_26 : decode cX1_fillUp 26 = .ok (.if_icmp .ge 19, 3) := dk_162 0 19 (dk_at dksX1_fillUp_1 3 rfl rfl)
theorem dX1_fillUp_29 : decode cX1_fillUp 29 = .ok (.aload_n 0, 1) := dk_42 (dk_at dksX1_fillUp_1 6 rfl rfl)
theorem dX1_fillUp_30 : decode cX1_fillUp 30 = .ok (.getfield 29, 3) := dk_180 0 29 (dk_at dksX1_fillUp_1 7 rfl rfl)
theorem dX1_fillUp_33 : decode cX1_fillUp 33 = .ok (.getfield 217, 3) := dk_180 0 217 (dk_at dksX1_fillUp_1 10 rfl rfl)
theorem dX1_fillUp_36 : decode cX1_fillUp 36 = .ok (.iload_n 2, 1) := dk_28 (dk_at dksX1_fillUp_1 13 rfl rfl)
theorem dX1_fillUp_37 : decode cX1_fillUp 37 = .ok (.iaload, 1) := dk_46 (dk_at dksX1_fillUp_1 14 rfl rfl)
theorem dX1_fillUp_38 : decode cX1_fillUp 38 = .ok (.ifCond .le 7, 3) := dk_158 0 7 (dk_at dksX1_fillUp_1 15 rfl rfl)
theorem dX1_fillUp_41 : decode cX1_fillUp 41 = .ok (.iconst 1, 1) := dk_4 (dk_at dksX1_fillUp_1 18 rfl rfl)
theorem dX1_fillUp_42 : decode cX1_fillUp 42 = .ok (.goto 4, 3) := dk_167 0 4 (dk_at dksX1_fillUp_1 19 rfl rfl)
theorem dX1_fillUp_45 : decode cX1_fillUp 45 = .ok (.iconst 0, 1) := dk_3 (dk_at dksX1_fillUp_1 22 rfl rfl)
theorem dX1_fillUp_46 : decode cX1_fillUp 46 = .ok (.istore_n 3, 1) := dk_62 (dk_at dksX1_fillUp_1 23 rfl rfl)
theorem dX1_fillUp_47 : decode cX1_fillUp 47 = .ok (.iload_n 3, 1) := dk_29 (dk_at dksX1_fillUp_2 0 rfl rfl)
theorem dX1_fillUp_48 : decode cX1_fillUp 48 = .ok (.ifCond .eq 29, 3) := dk_153 0 29 (dk_at dksX1_fillUp_2 1 rfl rfl)
theorem dX1_fillUp_51 : decode cX1_fillUp 51 = .ok (.aload_n 0, 1) := dk_42 (dk_at dksX1_fillUp_2 4 rfl rfl)
theorem dX1_fillUp_52 : decode cX1_fillUp 52 = .ok (.iload_n 2, 1) := dk_28 (dk_at dksX1_fillUp_2 5 rfl rfl)
theorem dX1_fillUp_53 : decode cX1_fillUp 53 = .ok (.bipush 6, 2) := dk_16 6 (dk_at dksX1_fillUp_2 6 rfl rfl)
theorem dX1_fillUp_55 : decode cX1_fillUp 55 = .ok (.idiv, 1) := dk_108 (dk_at dksX1_fillUp_2 8 rfl rfl)
theorem dX1_fillUp_56 : decode cX1_fillUp 56 = .ok (.iload_n 2, 1) := dk_28 (dk_at dksX1_fillUp_2 9 rfl rfl)
theorem dX1_fillUp_57 : decode cX1_fillUp 57 = .ok (.bipush 6, 2) := dk_16 6 (dk_at dksX1_fillUp_2 10 rfl rfl)
theorem dX1_fillUp_59 : decode cX1_fillUp 59 = .ok (.irem, 1) := dk_112 (dk_at dksX1_fillUp_2 12 rfl rfl)
theorem dX1_fillUp_60 : decode cX1_fillUp 60 = .ok (.invokevirtual 208, 3) := dk_182 0 208 (dk_at dksX1_fillUp_2 13 rfl rfl)
theorem dX1_fillUp_63 : decode cX1_fillUp 63 = .ok (.ifCond .eq 14, 3) := dk_153 0 14 (dk_at dksX1_fillUp_2 16 rfl rfl)
theorem dX1_fillUp_66 : decode cX1_fillUp 66 = .ok (.aload_n 0, 1) := dk_42 (dk_at dksX1_fillUp_2 19 rfl rfl)
theorem dX1_fillUp_67 : decode cX1_fillUp 67 = .ok (.invokevirtual 211, 3) := dk_182 0 211 (dk_at dksX1_fillUp_2 20 rfl rfl)
theorem dX1_fillUp_70 : decode cX1_fillUp 70 = .ok (.ifCond .ne 7, 3) := dk_154 0 7 (dk_at dksX1_fillUp_3 0 rfl rfl)
theorem dX1_fillUp_73 : decode cX1_fillUp 73 = .ok (.iconst 1, 1) := dk_4 (dk_at dksX1_fillUp_3 3 rfl rfl)
theorem dX1_fillUp_74 : decode cX1_fillUp 74 = .ok (.goto 4, 3) := dk_167 0 4 (dk_at dksX1_fillUp_3 4 rfl rfl)
theorem dX1_fillUp_77 : decode cX1_fillUp 77 = .ok (.iconst 0, 1) := dk_3 (dk_at dksX1_fillUp_3 7 rfl rfl)
theorem dX1_fillUp_78 : decode cX1_fillUp 78 = .ok (.istore 4, 2) := dk_54 4 (dk_at dksX1_fillUp_3 8 rfl rfl)
theorem dX1_fillUp_80 : decode cX1_fillUp 80 = .ok (.iconst 0, 1) := dk_3 (dk_at dksX1_fillUp_3 10 rfl rfl)
theorem dX1_fillUp_81 : decode cX1_fillUp 81 = .ok (.istore 5, 2) := dk_54 5 (dk_at dksX1_fillUp_3 11 rfl rfl)
theorem dX1_fillUp_83 : decode cX1_fillUp 83 = .ok (.iload 4, 2) := dk_21 4 (dk_at dksX1_fillUp_3 13 rfl rfl)
theorem dX1_fillUp_85 : decode cX1_fillUp 85 = .ok (.ifCond .eq 81, 3) := dk_153 0 81 (dk_at dksX1_fillUp_3 15 rfl rfl)
theorem dX1_fillUp_88 : decode cX1_fillUp 88 = .ok (.iload 5, 2) := dk_21 5 (dk_at dksX1_fillUp_3 18 rfl rfl)
theorem dX1_fillUp_90 : decode cX1_fillUp 90 = .ok (.aload_n 0, 1) := dk_42 (dk_at dksX1_fillUp_3 20 rfl rfl)
theorem dX1_fillUp_91 : decode cX1_fillUp 91 = .ok (.getfield 202, 3) := dk_180 0 202 (dk_at dksX1_fillUp_3 21 rfl rfl)
theorem dX1_fillUp_94 : decode cX1_fillUp 94 = .ok (.aload_n 0, 1) := dk_42 (dk_at dksX1_fillUp_4 0 rfl rfl)
theorem dX1_fillUp_95 : decode cX1_fillUp 95 = .ok (.getfield 153, 3) := dk_180 0 153 (dk_at dksX1_fillUp_4 1 rfl rfl)
theorem dX1_fillUp_98 : decode cX1_fillUp 98 = .ok (.imul, 1) := dk_104 (dk_at dksX1_fillUp_4 4 rfl rfl)
theorem dX1_fillUp_99 : decode cX1_fillUp 99 = .ok (.aload_n 0, 1) := dk_42 (dk_at dksX1_fillUp_4 5 rfl rfl)
theorem dX1_fillUp_100 : decode cX1_fillUp 100 = .ok (.getfield 153, 3) := dk_180 0 153 (dk_at dksX1_fillUp_4 6 rfl rfl)
theorem dX1_fillUp_103 : decode cX1_fillUp 103 = .ok (.imul, 1) := dk_104 (dk_at dksX1_fillUp_4 9 rfl rfl)
theorem dX1_fillUp_104 : decode cX1_fillUp 104 = .ok (.if_icmp .ge 62, 3) := dk_162 0 62 (dk_at dksX1_fillUp_4 10 rfl rfl)
theorem dX1_fillUp_107 : decode cX1_fillUp 107 = .ok (.iload 5, 2) := dk_21 5 (dk_at dksX1_fillUp_4 13 rfl rfl)
theorem dX1_fillUp_109 : decode cX1_fillUp 109 = .ok (.aload_n 0, 1) := dk_42 (dk_at dksX1_fillUp_4 15 rfl rfl)
theorem dX1_fillUp_110 : decode cX1_fillUp 110 = .ok (.getfield 153, 3) := dk_180 0 153 (dk_at dksX1_fillUp_4 16 rfl rfl)
theorem dX1_fillUp_113 : decode cX1_fillUp 113 = .ok (.aload_n 0, 1) := dk_42 (dk_at dksX1_fillUp_4 19 rfl rfl)
theorem dX1_fillUp_114 : decode cX1_fillUp 114 = .ok (.getfield 153, 3) := dk_180 0 153 (dk_at dksX1_fillUp_4 20 rfl rfl)
theorem dX1_fillUp_117 : decode cX1_fillUp 117 = .ok (.imul, 1) := dk_104 (dk_at dksX1_fillUp_4 23 rfl rfl)
theorem dX1_fillUp_118 : decode cX1_fillUp 118 = .ok (.irem, 1) := dk_112 (dk_at dksX1_fillUp_5 0 rfl rfl)
theorem dX1_fillUp_119 : decode cX1_fillUp 119 = .ok (.istore 6, 2) := dk_54 6 (dk_at dksX1_fillUp_5 1 rfl rfl)
theorem dX1_fillUp_121 : decode cX1_fillUp 121 = .ok (.aload_n 1, 1) := dk_43 (dk_at dksX1_fillUp_5 3 rfl rfl)
theorem dX1_fillUp_122 : decode cX1_fillUp 122 = .ok (.aload_n 0, 1) := dk_42 (dk_at dksX1_fillUp_5 4 rfl rfl)
theorem dX1_fillUp_123 : decode cX1_fillUp 123 = .ok (.getfield 69, 3) := dk_180 0 69 (dk_at dksX1_fillUp_5 5 rfl rfl)
theorem dX1_fillUp_126 : decode cX1_fillUp 126 = .ok (.iload 5, 2) := dk_21 5 (dk_at dksX1_fillUp_5 8 rfl rfl)
theorem dX1_fillUp_128 : decode cX1_fillUp 128 = .ok (.aload_n 0, 1) := dk_42 (dk_at dksX1_fillUp_5 10 rfl rfl)
theorem dX1_fillUp_129 : decode cX1_fillUp 129 = .ok (.getfield 153, 3) := dk_180 0 153 (dk_at dksX1_fillUp_5 11 rfl rfl)
theorem dX1_fillUp_132 : decode cX1_fillUp 132 = .ok (.aload_n 0, 1) := dk_42 (dk_at dksX1_fillUp_5 14 rfl rfl)
theorem dX1_fillUp_133 : decode cX1_fillUp 133 = .ok (.getfield 153, 3) := dk_180 0 153 (dk_at dksX1_fillUp_5 15 rfl rfl)
theorem dX1_fillUp_136 : decode cX1_fillUp 136 = .ok (.imul, 1) := dk_104 (dk_at dksX1_fillUp_5 18 rfl rfl)
theorem dX1_fillUp_137 : decode cX1_fillUp 137 = .ok (.idiv, 1) := dk_108 (dk_at dksX1_fillUp_5 19 rfl rfl)
theorem dX1_fillUp_138 : decode cX1_fillUp 138 = .ok (.iaload, 1) := dk_46 (dk_at dksX1_fillUp_5 20 rfl rfl)
theorem dX1_fillUp_139 : decode cX1_fillUp 139 = .ok (.bipush 16, 2) := dk_16 16 (dk_at dksX1_fillUp_5 21 rfl rfl)
theorem dX1_fillUp_141 : decode cX1_fillUp 141 = .ok (.iload 6, 2) := dk_21 6 (dk_at dksX1_fillUp_6 0 rfl rfl)
theorem dX1_fillUp_143 : decode cX1_fillUp 143 = .ok (.aload_n 0, 1) := dk_42 (dk_at dksX1_fillUp_6 2 rfl rfl)
theorem dX1_fillUp_144 : decode cX1_fillUp 144 = .ok (.getfield 153, 3) := dk_180 0 153 (dk_at dksX1_fillUp_6 3 rfl rfl)
theorem dX1_fillUp_147 : decode cX1_fillUp 147 = .ok (.idiv, 1) := dk_108 (dk_at dksX1_fillUp_6 6 rfl rfl)
theorem dX1_fillUp_148 : decode cX1_fillUp 148 = .ok (.imul, 1) := dk_104 (dk_at dksX1_fillUp_6 7 rfl rfl)
theorem dX1_fillUp_149 : decode cX1_fillUp 149 = .ok (.iadd, 1) := dk_96 (dk_at dksX1_fillUp_6 8 rfl rfl)
theorem dX1_fillUp_150 : decode cX1_fillUp 150 = .ok (.iload 6, 2) := dk_21 6 (dk_at dksX1_fillUp_6 9 rfl rfl)
theorem dX1_fillUp_152 : decode cX1_fillUp 152 = .ok (.aload_n 0, 1) := dk_42 (dk_at dksX1_fillUp_6 11 rfl rfl)
theorem dX1_fillUp_153 : decode cX1_fillUp 153 = .ok (.getfield 153, 3) := dk_180 0 153 (dk_at dksX1_fillUp_6 12 rfl rfl)
theorem dX1_fillUp_156 : decode cX1_fillUp 156 = .ok (.irem, 1) := dk_112 (dk_at dksX1_fillUp_6 15 rfl rfl)
theorem dX1_fillUp_157 : decode cX1_fillUp 157 = .ok (.iadd, 1) := dk_96 (dk_at dksX1_fillUp_6 16 rfl rfl)
theorem dX1_fillUp_158 : decode cX1_fillUp 158 = .ok (.iconst 1, 1) := dk_4 (dk_at dksX1_fillUp_6 17 rfl rfl)
theorem dX1_fillUp_159 : decode cX1_fillUp 159 = .ok (.bastore, 1) := dk_84 (dk_at dksX1_fillUp_6 18 rfl rfl)
theorem dX1_fillUp_160 : decode cX1_fillUp 160 = .ok (.iinc 5 1, 3) := dk_132 5 1 (dk_at dksX1_fillUp_6 19 rfl rfl)
theorem dX1_fillUp_163 : decode cX1_fillUp 163 = .ok (.goto (-80), 3) := dk_167 255 176 (dk_at dksX1_fillUp_7 0 rfl rfl)
theorem dX1_fillUp_166 : decode cX1_fillUp 166 = .ok (.iinc 2 1, 3) := dk_132 2 1 (dk_at dksX1_fillUp_7 3 rfl rfl)
theorem dX1_fillUp_169 : decode cX1_fillUp 169 = .ok (.goto (-157), 3) := dk_167 255 99 (dk_at dksX1_fillUp_7 6 rfl rfl)
theorem dX1_fillUp_172 : decode cX1_fillUp 172 = .ok (.iconst 0, 1) := dk_3 (dk_at dksX1_fillUp_7 9 rfl rfl)
theorem dX1_fillUp_173 : decode cX1_fillUp 173 = .ok (.istore_n 2, 1) := dk_61 (dk_at dksX1_fillUp_7 10 rfl rfl)
theorem dX1_fillUp_174 : decode cX1_fillUp 174 = .ok (.iconst 0, 1) := dk_3 (dk_at dksX1_fillUp_7 11 rfl rfl)
theorem dX1_fillUp_175 : decode cX1_fillUp 175 = .ok (.istore_n 3, 1) := dk_62 (dk_at dksX1_fillUp_7 12 rfl rfl)
theorem dX1_fillUp_176 : decode cX1_fillUp 176 = .ok (.iload_n 3, 1) := dk_29 (dk_at dksX1_fillUp_7 13 rfl rfl)
theorem dX1_fillUp_177 : decode cX1_fillUp 177 = .ok (.sipush 192, 3) := dk_17 0 192 (dk_at dksX1_fillUp_7 14 rfl rfl)
theorem dX1_fillUp_180 : decode cX1_fillUp 180 = .ok (.if_icmp .ge 71, 3) := dk_162 0 71 (dk_at dksX1_fillUp_7 17 rfl rfl)
theorem dX1_fillUp_183 : decode cX1_fillUp 183 = .ok (.aload_n 0, 1) := dk_42 (dk_at dksX1_fillUp_7 20 rfl rfl)
theorem dX1_fillUp_184 : decode cX1_fillUp 184 = .ok (.getfield 29, 3) := dk_180 0 29 (dk_at dksX1_fillUp_7 21 rfl rfl)
theorem dX1_fillUp_187 : decode cX1_fillUp 187 = .ok (.getfield 106, 3) := dk_180 0 106 (dk_at dksX1_fillUp_8 0 rfl rfl)
theorem dX1_fillUp_190 : decode cX1_fillUp 190 = .ok (.iload_n 3, 1) := dk_29 (dk_at dksX1_fillUp_8 3 rfl rfl)
theorem dX1_fillUp_191 : decode cX1_fillUp 191 = .ok (.iaload, 1) := dk_46 (dk_at dksX1_fillUp_8 4 rfl rfl)
theorem dX1_fillUp_192 : decode cX1_fillUp 192 = .ok (.iconst (-1), 1) := dk_2 (dk_at dksX1_fillUp_8 5 rfl rfl)
theorem dX1_fillUp_193 : decode cX1_fillUp 193 = .ok (.if_icmp .ne 13, 3) := dk_160 0 13 (dk_at dksX1_fillUp_8 6 rfl rfl)
theorem dX1_fillUp_196 : decode cX1_fillUp 196 = .ok (.aload_n 1, 1) := dk_43 (dk_at dksX1_fillUp_8 9 rfl rfl)
theorem dX1_fillUp_197 : decode cX1_fillUp 197 = .ok (.iload_n 3, 1) := dk_29 (dk_at dksX1_fillUp_8 10 rfl rfl)
theorem dX1_fillUp_198 : decode cX1_fillUp 198 = .ok (.baload, 1) := dk_51 (dk_at dksX1_fillUp_8 11 rfl rfl)
theorem dX1_fillUp_199 : decode cX1_fillUp 199 = .ok (.ifCond .ne 7, 3) := dk_154 0 7 (dk_at dksX1_fillUp_8 12 rfl rfl)
theorem dX1_fillUp_202 : decode cX1_fillUp 202 = .ok (.iconst 1, 1) := dk_4 (dk_at dksX1_fillUp_8 15 rfl rfl)
theorem dX1_fillUp_203 : decode cX1_fillUp 203 = .ok (.goto 4, 3) := dk_167 0 4 (dk_at dksX1_fillUp_8 16 rfl rfl)
theorem dX1_fillUp_206 : decode cX1_fillUp 206 = .ok (.iconst 0, 1) := dk_3 (dk_at dksX1_fillUp_8 19 rfl rfl)
theorem dX1_fillUp_207 : decode cX1_fillUp 207 = .ok (.istore 4, 2) := dk_54 4 (dk_at dksX1_fillUp_8 20 rfl rfl)
theorem dX1_fillUp_209 : decode cX1_fillUp 209 = .ok (.aload_n 0, 1) := dk_42 (dk_at dksX1_fillUp_8 22 rfl rfl)
theorem dX1_fillUp_210 : decode cX1_fillUp 210 = .ok (.getfield 29, 3) := dk_180 0 29 (dk_at dksX1_fillUp_9 0 rfl rfl)
theorem dX1_fillUp_213 : decode cX1_fillUp 213 = .ok (.getfield 106, 3) := dk_180 0 106 (dk_at dksX1_fillUp_9 3 rfl rfl)
theorem dX1_fillUp_216 : decode cX1_fillUp 216 = .ok (.iload_n 3, 1) := dk_29 (dk_at dksX1_fillUp_9 6 rfl rfl)
theorem dX1_fillUp_217 : decode cX1_fillUp 217 = .ok (.iload 4, 2) := dk_21 4 (dk_at dksX1_fillUp_9 7 rfl rfl)
theorem dX1_fillUp_219 : decode cX1_fillUp 219 = .ok (.ifCond .eq 8, 3) := dk_153 0 8 (dk_at dksX1_fillUp_9 9 rfl rfl)
theorem dX1_fillUp_222 : decode cX1_fillUp 222 = .ok (.bipush (-2), 2) := dk_16 254 (dk_at dksX1_fillUp_9 12 rfl rfl)
theorem dX1_fillUp_224 : decode cX1_fillUp 224 = .ok (.goto 12, 3) := dk_167 0 12 (dk_at dksX1_fillUp_9 14 rfl rfl)
theorem dX1_fillUp_227 : decode cX1_fillUp 227 = .ok (.aload_n 0, 1) := dk_42 (dk_at dksX1_fillUp_9 17 rfl rfl)
theorem dX1_fillUp_228 : decode cX1_fillUp 228 = .ok (.getfield 29, 3) := dk_180 0 29 (dk_at dksX1_fillUp_9 18 rfl rfl)
theorem dX1_fillUp_231 : decode cX1_fillUp 231 = .ok (.getfield 106, 3) := dk_180 0 106 (dk_at dksX1_fillUp_9 21 rfl rfl)
theorem dX1_fillUp_234 : decode cX1_fillUp 234 = .ok (.iload_n 3, 1) := dk_29 (dk_at dksX1_fillUp_10 0 rfl rfl)
theorem dX1_fillUp_235 : decode cX1_fillUp 235 = .ok (.iaload, 1) := dk_46 (dk_at dksX1_fillUp_10 1 rfl rfl)
theorem dX1_fillUp_236 : decode cX1_fillUp 236 = .ok (.iastore, 1) := dk_79 (dk_at dksX1_fillUp_10 2 rfl rfl)
theorem dX1_fillUp_237 : decode cX1_fillUp 237 = .ok (.iload_n 2, 1) := dk_28 (dk_at dksX1_fillUp_10 3 rfl rfl)
theorem dX1_fillUp_238 : decode cX1_fillUp 238 = .ok (.iload 4, 2) := dk_21 4 (dk_at dksX1_fillUp_10 4 rfl rfl)
theorem dX1_fillUp_240 : decode cX1_fillUp 240 = .ok (.invokestatic 183, 3) := dk_184 0 183 (dk_at dksX1_fillUp_10 6 rfl rfl)
theorem dX1_fillUp_243 : decode cX1_fillUp 243 = .ok (.iadd, 1) := dk_96 (dk_at dksX1_fillUp_10 9 rfl rfl)
theorem dX1_fillUp_244 : decode cX1_fillUp 244 = .ok (.istore_n 2, 1) := dk_61 (dk_at dksX1_fillUp_10 10 rfl rfl)
theorem dX1_fillUp_245 : decode cX1_fillUp 245 = .ok (.iinc 3 1, 3) := dk_132 3 1 (dk_at dksX1_fillUp_10 11 rfl rfl)
theorem dX1_fillUp_248 : decode cX1_fillUp 248 = .ok (.goto (-72), 3) := dk_167 255 184 (dk_at dksX1_fillUp_10 14 rfl rfl)
theorem dX1_fillUp_251 : decode cX1_fillUp 251 = .ok (.iload_n 2, 1) := dk_28 (dk_at dksX1_fillUp_10 17 rfl rfl)
theorem dX1_fillUp_252 : decode cX1_fillUp 252 = .ok (.ireturn, 1) := dk_172 (dk_at dksX1_fillUp_10 18 rfl rfl)
abbrev cX1_clearBuffer : ByteArray := prog_1_method_41_code
def yX1_clearBuffer : MethodName := ⟨RX1, "clearBuffer", "()I"⟩
def dkwX1_clearBuffer_0 : List UInt8 := [42, 180, 0, 75, 182, 0, 237, 60, 42, 180, 0, 75, 3, 182, 0, 244, 27, 172]
abbrev dktX1_clearBuffer_0 : List UInt8 := dkwX1_clearBuffer_0 ++ []
theorem dksX1_clearBuffer_0 : cX1_clearBuffer.data.toList.drop 0 = dktX1_clearBuffer_0 := by decide +kernel
theorem dX1_clearBuffer_0 : decode cX1_clearBuffer 0 = .ok (.aload_n 0, 1) := dk_42 (dk_at dksX1_clearBuffer_0 0 rfl rfl)
theorem dX1_clearBuffer_1 : decode cX1_clearBuffer 1 = .ok (.getfield 75, 3) := dk_180 0 75 (dk_at dksX1_clearBuffer_0 1 rfl rfl)
theorem dX1_clearBuffer_4 : decode cX1_clearBuffer 4 = .ok (.invokevirtual 237, 3) := dk_182 0 237 (dk_at dksX1_clearBuffer_0 4 rfl rfl)
theorem dX1_clearBuffer_7 : decode cX1_clearBuffer 7 = .ok (.istore_n 1, 1) := dk_60 (dk_at dksX1_clearBuffer_0 7 rfl rfl)
theorem dX1_clearBuffer_8 : decode cX1_clearBuffer 8 = .ok (.aload_n 0, 1) := dk_42 (dk_at dksX1_clearBuffer_0 8 rfl rfl)
theorem dX1_clearBuffer_9 : decode cX1_clearBuffer 9 = .ok (.getfield 75, 3) := dk_180 0 75 (dk_at dksX1_clearBuffer_0 9 rfl rfl)
theorem dX1_clearBuffer_12 : decode cX1_clearBuffer 12 = .ok (.iconst 0, 1) := dk_3 (dk_at dksX1_clearBuffer_0 12 rfl rfl)
theorem dX1_clearBuffer_13 : decode cX1_clearBuffer 13 = .ok (.invokevirtual 244, 3) := dk_182 0 244 (dk_at dksX1_clearBuffer_0 13 rfl rfl)
theorem dX1_clearBuffer_16 : decode cX1_clearBuffer 16 = .ok (.iload_n 1, 1) := dk_27 (dk_at dksX1_clearBuffer_0 16 rfl rfl)
theorem dX1_clearBuffer_17 : decode cX1_clearBuffer 17 = .ok (.ireturn, 1) := dk_172 (dk_at dksX1_clearBuffer_0 17 rfl rfl)
abbrev cX1_firstError : ByteArray := prog_1_method_42_code
def yX1_firstError : MethodName := ⟨RX1, "firstError", "()I"⟩
def dkwX1_firstError_0 : List UInt8 := [187, 0, 247, 89, 42, 183, 0, 249, 76, 43, 182, 0, 252, 61, 43, 180, 0, 255, 172]
abbrev dktX1_firstError_0 : List UInt8 := dkwX1_firstError_0 ++ []
theorem dksX1_firstError_0 : cX1_firstError.data.toList.drop 0 = dktX1_firstError_0 := by decide +kernel
theorem dX1_firstError_0 : decode cX1_firstError 0 = .ok (.new 247, 3) := dk_187 0 247 (dk_at dksX1_firstError_0 0 rfl rfl)
theorem dX1_firstError_3 : decode cX1_firstError 3 = .ok (.dup, 1) := dk_89 (dk_at dksX1_firstError_0 3 rfl rfl)
theorem dX1_firstError_4 : decode cX1_firstError 4 = .ok (.aload_n 0, 1) := dk_42 (dk_at dksX1_firstError_0 4 rfl rfl)
theorem dX1_firstError_5 : decode cX1_firstError 5 = .ok (.invokespecial 249, 3) := dk_183 0 249 (dk_at dksX1_firstError_0 5 rfl rfl)
theorem dX1_firstError_8 : decode cX1_firstError 8 = .ok (.astore_n 1, 1) := dk_76 (dk_at dksX1_firstError_0 8 rfl rfl)
theorem dX1_firstError_9 : decode cX1_firstError 9 = .ok (.aload_n 1, 1) := dk_43 (dk_at dksX1_firstError_0 9 rfl rfl)
theorem dX1_firstError_10 : decode cX1_firstError 10 = .ok (.invokevirtual 252, 3) := dk_182 0 252 (dk_at dksX1_firstError_0 10 rfl rfl)
theorem dX1_firstError_13 : decode cX1_firstError 13 = .ok (.istore_n 2, 1) := dk_61 (dk_at dksX1_firstError_0 13 rfl rfl)
theorem dX1_firstError_14 : decode cX1_firstError 14 = .ok (.aload_n 1, 1) := dk_43 (dk_at dksX1_firstError_0 14 rfl rfl)
theorem dX1_firstError_15 : decode cX1_firstError 15 = .ok (.getfield 255, 3) := dk_180 0 255 (dk_at dksX1_firstError_0 15 rfl rfl)
theorem dX1_firstError_18 : decode cX1_firstError 18 = .ok (.ireturn, 1) := dk_172 (dk_at dksX1_firstError_0 18 rfl rfl)
abbrev cX1_allCost : ByteArray := prog_1_method_69_code
def yX1_allCost : MethodName := ⟨RX1, "allCost", "()I"⟩
theorem dX1_allCost_0 : decode cX1_allCost 0 = .ok (.aload_n 0, 1) := by decide +kernel
theorem dX1_allCost_1 : decode cX1_allCost 1 = .ok (.invokevirtual 359, 3) := by decide +kernel
theorem dX1_allCost_4 : decode cX1_allCost 4 = .ok (.ireturn, 1) := by decide +kernel
abbrev cX1_allThen : ByteArray := prog_1_method_68_code
def yX1_allThen : MethodName := ⟨RX1, "allThen", "()I"⟩
def dkwX1_allThen_1 : List UInt8 := [182, 0, 232, 62, 28, 42, 180, 0, 46, 184, 1, 84, 100, 54, 4, 42, 43, 181, 0, 29, 21, 4, 172]
abbrev dktX1_allThen_1 : List UInt8 := dkwX1_allThen_1 ++ []
def dkwX1_allThen_0 : List UInt8 := [42, 180, 0, 29, 76, 42, 180, 0, 46, 184, 1, 84, 61, 42, 43, 182, 0, 87, 181, 0, 29, 42]
abbrev dktX1_allThen_0 : List UInt8 := dkwX1_allThen_0 ++ dktX1_allThen_1
theorem dksX1_allThen_0 : cX1_allThen.data.toList.drop 0 = dktX1_allThen_0 := by decide +kernel
theorem dksX1_allThen_1 : cX1_allThen.data.toList.drop 22 = dktX1_allThen_1 := dk_seg dksX1_allThen_0 22 rfl rfl
theorem dX1_allThen_0 : decode cX1_allThen 0 = .ok (.aload_n 0, 1) := dk_42 (dk_at dksX1_allThen_0 0 rfl rfl)
theorem dX1_allThen_1 : decode cX1_allThen 1 = .ok (.getfield 29, 3) := dk_180 0 29 (dk_at dksX1_allThen_0 1 rfl rfl)
theorem dX1_allThen_4 : decode cX1_allThen 4 = .ok (.astore_n 1, 1) := dk_76 (dk_at dksX1_allThen_0 4 rfl rfl)
theorem dX1_allThen_5 : decode cX1_allThen 5 = .ok (.aload_n 0, 1) := dk_42 (dk_at dksX1_allThen_0 5 rfl rfl)
theorem dX1_allThen_6 : decode cX1_allThen 6 = .ok (.getfield 46, 3) := dk_180 0 46 (dk_at dksX1_allThen_0 6 rfl rfl)
theorem dX1_allThen_9 : decode cX1_allThen 9 = .ok (.invokestatic 340, 3) := dk_184 1 84 (dk_at dksX1_allThen_0 9 rfl rfl)
theorem dX1_allThen_12 : decode cX1_allThen 12 = .ok (.istore_n 2, 1) := dk_61 (dk_at dksX1_allThen_0 12 rfl rfl)
theorem dX1_allThen_13 : decode cX1_allThen 13 = .ok (.aload_n 0, 1) := dk_42 (dk_at dksX1_allThen_0 13 rfl rfl)
theorem dX1_allThen_14 : decode cX1_allThen 14 = .ok (.aload_n 1, 1) := dk_43 (dk_at dksX1_allThen_0 14 rfl rfl)
theorem dX1_allThen_15 : decode cX1_allThen 15 = .ok (.invokevirtual 87, 3) := dk_182 0 87 (dk_at dksX1_allThen_0 15 rfl rfl)
theorem dX1_allThen_18 : decode cX1_allThen 18 = .ok (.putfield 29, 3) := dk_181 0 29 (dk_at dksX1_allThen_0 18 rfl rfl)
theorem dX1_allThen_21 : decode cX1_allThen 21 = .ok (.aload_n 0, 1) := dk_42 (dk_at dksX1_allThen_0 21 rfl rfl)
theorem dX1_allThen_22 : decode cX1_allThen 22 = .ok (.invokevirtual 232, 3) := dk_182 0 232 (dk_at dksX1_allThen_1 0 rfl rfl)
theorem dX1_allThen_25 : decode cX1_allThen 25 = .ok (.istore_n 3, 1) := dk_62 (dk_at dksX1_allThen_1 3 rfl rfl)
theorem dX1_allThen_26 : decode cX1_allThen 26 = .ok (.iload_n 2, 1) := dk_28 (dk_at dksX1_allThen_1 4 rfl rfl)
theorem dX1_allThen_27 : decode cX1_allThen 27 = .ok (.aload_n 0, 1) := dk_42 (dk_at dksX1_allThen_1 5 rfl rfl)
theorem dX1_allThen_28 : decode cX1_allThen 28 = .ok (.getfield 46, 3) := dk_180 0 46 (dk_at dksX1_allThen_1 6 rfl rfl)
theorem dX1_allThen_31 : decode cX1_allThen 31 = .ok (.invokestatic 340, 3) := dk_184 1 84 (dk_at dksX1_allThen_1 9 rfl rfl)
theorem dX1_allThen_34 : decode cX1_allThen 34 = .ok (.isub, 1) := dk_100 (dk_at dksX1_allThen_1 12 rfl rfl)
theorem dX1_allThen_35 : decode cX1_allThen 35 = .ok (.istore 4, 2) := dk_54 4 (dk_at dksX1_allThen_1 13 rfl rfl)
theorem dX1_allThen_37 : decode cX1_allThen 37 = .ok (.aload_n 0, 1) := dk_42 (dk_at dksX1_allThen_1 15 rfl rfl)
theorem dX1_allThen_38 : decode cX1_allThen 38 = .ok (.aload_n 1, 1) := dk_43 (dk_at dksX1_allThen_1 16 rfl rfl)
theorem dX1_allThen_39 : decode cX1_allThen 39 = .ok (.putfield 29, 3) := dk_181 0 29 (dk_at dksX1_allThen_1 17 rfl rfl)
theorem dX1_allThen_42 : decode cX1_allThen 42 = .ok (.iload 4, 2) := dk_21 4 (dk_at dksX1_allThen_1 20 rfl rfl)
theorem dX1_allThen_44 : decode cX1_allThen 44 = .ok (.ireturn, 1) := dk_172 (dk_at dksX1_allThen_1 22 rfl rfl)
abbrev cX1_sum : ByteArray := prog_1_method_11_code
def yX1_sum : MethodName := ⟨RX1, "sum", "(LCorridorPlan$Measure;)I"⟩
def dkwX1_sum_1 : List UInt8 := [167, 255, 236, 27, 172]
abbrev dktX1_sum_1 : List UInt8 := dkwX1_sum_1 ++ []
def dkwX1_sum_0 : List UInt8 := [3, 60, 3, 61, 28, 17, 0, 192, 162, 0, 19, 27, 42, 28, 185, 0, 101, 2, 0, 96, 60, 132, 2, 1]
abbrev dktX1_sum_0 : List UInt8 := dkwX1_sum_0 ++ dktX1_sum_1
theorem dksX1_sum_0 : cX1_sum.data.toList.drop 0 = dktX1_sum_0 := by decide +kernel
theorem dksX1_sum_1 : cX1_sum.data.toList.drop 24 = dktX1_sum_1 := dk_seg dksX1_sum_0 24 rfl rfl
theorem dX1_sum_0 : decode cX1_sum 0 = .ok (.iconst 0, 1) := dk_3 (dk_at dksX1_sum_0 0 rfl rfl)
theorem dX1_sum_1 : decode cX1_sum 1 = .ok (.istore_n 1, 1) := dk_60 (dk_at dksX1_sum_0 1 rfl rfl)
theorem dX1_sum_2 : decode cX1_sum 2 = .ok (.iconst 0, 1) := dk_3 (dk_at dksX1_sum_0 2 rfl rfl)
theorem dX1_sum_3 : decode cX1_sum 3 = .ok (.istore_n 2, 1) := dk_61 (dk_at dksX1_sum_0 3 rfl rfl)
theorem dX1_sum_4 : decode cX1_sum 4 = .ok (.iload_n 2, 1) := dk_28 (dk_at dksX1_sum_0 4 rfl rfl)
theorem dX1_sum_5 : decode cX1_sum 5 = .ok (.sipush 192, 3) := dk_17 0 192 (dk_at dksX1_sum_0 5 rfl rfl)
theorem dX1_sum_8 : decode cX1_sum 8 = .ok (.if_icmp .ge 19, 3) := dk_162 0 19 (dk_at dksX1_sum_0 8 rfl rfl)
theorem dX1_sum_11 : decode cX1_sum 11 = .ok (.iload_n 1, 1) := dk_27 (dk_at dksX1_sum_0 11 rfl rfl)
theorem dX1_sum_12 : decode cX1_sum 12 = .ok (.aload_n 0, 1) := dk_42 (dk_at dksX1_sum_0 12 rfl rfl)
theorem dX1_sum_13 : decode cX1_sum 13 = .ok (.iload_n 2, 1) := dk_28 (dk_at dksX1_sum_0 13 rfl rfl)
theorem dX1_sum_14 : decode cX1_sum 14 = .ok (.invokeinterface 101 2, 5) := by decide +kernel
theorem dX1_sum_19 : decode cX1_sum 19 = .ok (.iadd, 1) := dk_96 (dk_at dksX1_sum_0 19 rfl rfl)
theorem dX1_sum_20 : decode cX1_sum 20 = .ok (.istore_n 1, 1) := dk_60 (dk_at dksX1_sum_0 20 rfl rfl)
theorem dX1_sum_21 : decode cX1_sum 21 = .ok (.iinc 2 1, 3) := dk_132 2 1 (dk_at dksX1_sum_0 21 rfl rfl)
theorem dX1_sum_24 : decode cX1_sum 24 = .ok (.goto (-20), 3) := dk_167 255 236 (dk_at dksX1_sum_1 0 rfl rfl)
theorem dX1_sum_27 : decode cX1_sum 27 = .ok (.iload_n 1, 1) := dk_27 (dk_at dksX1_sum_1 3 rfl rfl)
theorem dX1_sum_28 : decode cX1_sum 28 = .ok (.ireturn, 1) := dk_172 (dk_at dksX1_sum_1 4 rfl rfl)
abbrev cX1_openShare : ByteArray := prog_1_method_71_code
def yX1_openShare : MethodName := ⟨RX1, "openShare", "()D"⟩
theorem dX1_openShare_0 : decode cX1_openShare 0 = .ok (.aload_n 0, 1) := by decide +kernel
theorem dX1_openShare_1 : decode cX1_openShare 1 = .ok (.invokevirtual 362, 3) := by decide +kernel
theorem dX1_openShare_4 : decode cX1_openShare 4 = .ok (.dreturn, 1) := by decide +kernel
abbrev cX1_openNow : ByteArray := prog_1_method_70_code
def yX1_openNow : MethodName := ⟨RX1, "openNow", "()D"⟩
def dkwX1_openNow_1 : List UInt8 := [111, 175]
abbrev dktX1_openNow_1 : List UInt8 := dkwX1_openNow_1 ++ []
def dkwX1_openNow_0 : List UInt8 := [42, 6, 182, 1, 88, 60, 27, 154, 0, 7, 15, 167, 0, 14, 27, 42, 7, 182, 1, 88, 100, 135, 27, 135]
abbrev dktX1_openNow_0 : List UInt8 := dkwX1_openNow_0 ++ dktX1_openNow_1
theorem dksX1_openNow_0 : cX1_openNow.data.toList.drop 0 = dktX1_openNow_0 := by decide +kernel
theorem dksX1_openNow_1 : cX1_openNow.data.toList.drop 24 = dktX1_openNow_1 := dk_seg dksX1_openNow_0 24 rfl rfl
theorem dX1_openNow_0 : decode cX1_openNow 0 = .ok (.aload_n 0, 1) := dk_42 (dk_at dksX1_openNow_0 0 rfl rfl)
theorem dX1_openNow_1 : decode cX1_openNow 1 = .ok (.iconst 3, 1) := dk_6 (dk_at dksX1_openNow_0 1 rfl rfl)
theorem dX1_openNow_2 : decode cX1_openNow 2 = .ok (.invokevirtual 344, 3) := dk_182 1 88 (dk_at dksX1_openNow_0 2 rfl rfl)
theorem dX1_openNow_5 : decode cX1_openNow 5 = .ok (.istore_n 1, 1) := dk_60 (dk_at dksX1_openNow_0 5 rfl rfl)
theorem dX1_openNow_6 : decode cX1_openNow 6 = .ok (.iload_n 1, 1) := dk_27 (dk_at dksX1_openNow_0 6 rfl rfl)
theorem dX1_openNow_7 : decode cX1_openNow 7 = .ok (.ifCond .ne 7, 3) := dk_154 0 7 (dk_at dksX1_openNow_0 7 rfl rfl)
theorem dX1_openNow_10 : decode cX1_openNow 10 = .ok (.dconst 1, 1) := dk_15 (dk_at dksX1_openNow_0 10 rfl rfl)
theorem dX1_openNow_11 : decode cX1_openNow 11 = .ok (.goto 14, 3) := dk_167 0 14 (dk_at dksX1_openNow_0 11 rfl rfl)
theorem dX1_openNow_14 : decode cX1_openNow 14 = .ok (.iload_n 1, 1) := dk_27 (dk_at dksX1_openNow_0 14 rfl rfl)
theorem dX1_openNow_15 : decode cX1_openNow 15 = .ok (.aload_n 0, 1) := dk_42 (dk_at dksX1_openNow_0 15 rfl rfl)
theorem dX1_openNow_16 : decode cX1_openNow 16 = .ok (.iconst 4, 1) := dk_7 (dk_at dksX1_openNow_0 16 rfl rfl)
theorem dX1_openNow_17 : decode cX1_openNow 17 = .ok (.invokevirtual 344, 3) := dk_182 1 88 (dk_at dksX1_openNow_0 17 rfl rfl)
theorem dX1_openNow_20 : decode cX1_openNow 20 = .ok (.isub, 1) := dk_100 (dk_at dksX1_openNow_0 20 rfl rfl)
theorem dX1_openNow_21 : decode cX1_openNow 21 = .ok (.i2d, 1) := dk_135 (dk_at dksX1_openNow_0 21 rfl rfl)
theorem dX1_openNow_22 : decode cX1_openNow 22 = .ok (.iload_n 1, 1) := dk_27 (dk_at dksX1_openNow_0 22 rfl rfl)
theorem dX1_openNow_23 : decode cX1_openNow 23 = .ok (.i2d, 1) := dk_135 (dk_at dksX1_openNow_0 23 rfl rfl)
theorem dX1_openNow_24 : decode cX1_openNow 24 = .ok (.ddiv, 1) := dk_111 (dk_at dksX1_openNow_1 0 rfl rfl)
theorem dX1_openNow_25 : decode cX1_openNow 25 = .ok (.dreturn, 1) := dk_175 (dk_at dksX1_openNow_1 1 rfl rfl)
abbrev cX1_ofWalks : ByteArray := prog_1_method_60_code
def yX1_ofWalks : MethodName := ⟨RX1, "ofWalks", "(I)I"⟩
def dkwX1_ofWalks_4 : List UInt8 := [184, 1, 58, 96, 61, 132, 3, 1, 167, 255, 162, 28, 172]
abbrev dktX1_ofWalks_4 : List UInt8 := dkwX1_ofWalks_4 ++ []
def dkwX1_ofWalks_3 : List UInt8 := [160, 0, 19, 21, 4, 153, 0, 7, 4, 167, 0, 4, 3, 184, 0, 183, 167, 0, 9, 3, 21, 4]
abbrev dktX1_ofWalks_3 : List UInt8 := dkwX1_ofWalks_3 ++ dktX1_ofWalks_4
def dkwX1_ofWalks_2 : List UInt8 := [108, 29, 16, 6, 112, 182, 0, 220, 54, 4, 28, 27, 6, 160, 0, 7, 4, 167, 0, 30, 27, 7]
abbrev dktX1_ofWalks_2 : List UInt8 := dkwX1_ofWalks_2 ++ dktX1_ofWalks_3
def dkwX1_ofWalks_1 : List UInt8 := [180, 0, 29, 180, 0, 217, 29, 46, 158, 0, 65, 27, 6, 160, 0, 7, 2, 167, 0, 15, 42, 29, 16, 6]
abbrev dktX1_ofWalks_1 : List UInt8 := dkwX1_ofWalks_1 ++ dktX1_ofWalks_2
def dkwX1_ofWalks_0 : List UInt8 := [3, 61, 3, 62, 29, 16, 36, 162, 0, 94, 29, 16, 6, 108, 29, 16, 6, 112, 162, 0, 77, 42]
abbrev dktX1_ofWalks_0 : List UInt8 := dkwX1_ofWalks_0 ++ dktX1_ofWalks_1
theorem dksX1_ofWalks_0 : cX1_ofWalks.data.toList.drop 0 = dktX1_ofWalks_0 := by decide +kernel
theorem dksX1_ofWalks_1 : cX1_ofWalks.data.toList.drop 22 = dktX1_ofWalks_1 := dk_seg dksX1_ofWalks_0 22 rfl rfl
theorem dksX1_ofWalks_2 : cX1_ofWalks.data.toList.drop 46 = dktX1_ofWalks_2 := dk_seg dksX1_ofWalks_1 24 rfl rfl
theorem dksX1_ofWalks_3 : cX1_ofWalks.data.toList.drop 68 = dktX1_ofWalks_3 := dk_seg dksX1_ofWalks_2 22 rfl rfl
theorem dksX1_ofWalks_4 : cX1_ofWalks.data.toList.drop 90 = dktX1_ofWalks_4 := dk_seg dksX1_ofWalks_3 22 rfl rfl
theorem dX1_ofWalks_0 : decode cX1_ofWalks 0 = .ok (.iconst 0, 1) := dk_3 (dk_at dksX1_ofWalks_0 0 rfl rfl)
theorem dX1_ofWalks_1 : decode cX1_ofWalks 1 = .ok (.istore_n 2, 1) := dk_61 (dk_at dksX1_ofWalks_0 1 rfl rfl)
theorem dX1_ofWalks_2 : decode cX1_ofWalks 2 = .ok (.iconst 0, 1) := dk_3 (dk_at dksX1_ofWalks_0 2 rfl rfl)
theorem dX1_ofWalks_3 : decode cX1_ofWalks 3 = .ok (.istore_n 3, 1) := dk_62 (dk_at dksX1_ofWalks_0 3 rfl rfl)
theorem dX1_ofWalks_4 : decode cX1_ofWalks 4 = .ok (.iload_n 3, 1) := dk_29 (dk_at dksX1_ofWalks_0 4 rfl rfl)
theorem dX1_ofWalks_5 : decode cX1_ofWalks 5 = .ok (.bipush 36, 2) := dk_16 36 (dk_at dksX1_ofWalks_0 5 rfl rfl)
theorem dX1_ofWalks_7 : decode cX1_ofWalks 7 = .ok (.if_icmp .ge 94, 3) := dk_162 0 94 (dk_at dksX1_ofWalks_0 7 rfl rfl)
theorem dX1_ofWalks_10 : decode cX1_ofWalks 10 = .ok (.iload_n 3, 1) := dk_29 (dk_at dksX1_ofWalks_0 10 rfl rfl)
theorem dX1_ofWalks_11 : decode cX1_ofWalks 11 = .ok (.bipush 6, 2) := dk_16 6 (dk_at dksX1_ofWalks_0 11 rfl rfl)
theorem dX1_ofWalks_13 : decode cX1_ofWalks 13 = .ok (.idiv, 1) := dk_108 (dk_at dksX1_ofWalks_0 13 rfl rfl)
theorem dX1_ofWalks_14 : decode cX1_ofWalks 14 = .ok (.iload_n 3, 1) := dk_29 (dk_at dksX1_ofWalks_0 14 rfl rfl)
theorem dX1_ofWalks_15 : decode cX1_ofWalks 15 = .ok (.bipush 6, 2) := dk_16 6 (dk_at dksX1_ofWalks_0 15 rfl rfl)
theorem dX1_ofWalks_17 : decode cX1_ofWalks 17 = .ok (.irem, 1) := dk_112 (dk_at dksX1_ofWalks_0 17 rfl rfl)
theorem dX1_ofWalks_18 : decode cX1_ofWalks 18 = .ok (.if_icmp .ge 77, 3) := dk_162 0 77 (dk_at dksX1_ofWalks_0 18 rfl rfl)
theorem dX1_ofWalks_21 : decode cX1_ofWalks 21 = .ok (.aload_n 0, 1) := dk_42 (dk_at dksX1_ofWalks_0 21 rfl rfl)
theorem dX1_ofWalks_22 : decode cX1_ofWalks 22 = .ok (.getfield 29, 3) := dk_180 0 29 (dk_at dksX1_ofWalks_1 0 rfl rfl)
theorem dX1_ofWalks_25 : decode cX1_ofWalks 25 = .ok (.getfield 217, 3) := dk_180 0 217 (dk_at dksX1_ofWalks_1 3 rfl rfl)
theorem dX1_ofWalks_28 : decode cX1_ofWalks 28 = .ok (.iload_n 3, 1) := dk_29 (dk_at dksX1_ofWalks_1 6 rfl rfl)
theorem dX1_ofWalks_29 : decode cX1_ofWalks 29 = .ok (.iaload, 1) := dk_46 (dk_at dksX1_ofWalks_1 7 rfl rfl)
theorem dX1_ofWalks_30 : decode cX1_ofWalks 30 = .ok (.ifCond .le 65, 3) := dk_158 0 65 (dk_at dksX1_ofWalks_1 8 rfl rfl)
theorem dX1_ofWalks_33 : decode cX1_ofWalks 33 = .ok (.iload_n 1, 1) := dk_27 (dk_at dksX1_ofWalks_1 11 rfl rfl)
theorem dX1_ofWalks_34 : decode cX1_ofWalks 34 = .ok (.iconst 3, 1) := dk_6 (dk_at dksX1_ofWalks_1 12 rfl rfl)
theorem dX1_ofWalks_35 : decode cX1_ofWalks 35 = .ok (.if_icmp .ne 7, 3) := dk_160 0 7 (dk_at dksX1_ofWalks_1 13 rfl rfl)
theorem dX1_ofWalks_38 : decode cX1_ofWalks 38 = .ok (.iconst (-1), 1) := dk_2 (dk_at dksX1_ofWalks_1 16 rfl rfl)
theorem dX1_ofWalks_39 : decode cX1_ofWalks 39 = .ok (.goto 15, 3) := dk_167 0 15 (dk_at dksX1_ofWalks_1 17 rfl rfl)
theorem dX1_ofWalks_42 : decode cX1_ofWalks 42 = .ok (.aload_n 0, 1) := dk_42 (dk_at dksX1_ofWalks_1 20 rfl rfl)
theorem dX1_ofWalks_43 : decode cX1_ofWalks 43 = .ok (.iload_n 3, 1) := dk_29 (dk_at dksX1_ofWalks_1 21 rfl rfl)
theorem dX1_ofWalks_44 : decode cX1_ofWalks 44 = .ok (.bipush 6, 2) := dk_16 6 (dk_at dksX1_ofWalks_1 22 rfl rfl)
theorem dX1_ofWalks_46 : decode cX1_ofWalks 46 = .ok (.idiv, 1) := dk_108 (dk_at dksX1_ofWalks_2 0 rfl rfl)
theorem dX1_ofWalks_47 : decode cX1_ofWalks 47 = .ok (.iload_n 3, 1) := dk_29 (dk_at dksX1_ofWalks_2 1 rfl rfl)
theorem dX1_ofWalks_48 : decode cX1_ofWalks 48 = .ok (.bipush 6, 2) := dk_16 6 (dk_at dksX1_ofWalks_2 2 rfl rfl)
theorem dX1_ofWalks_50 : decode cX1_ofWalks 50 = .ok (.irem, 1) := dk_112 (dk_at dksX1_ofWalks_2 4 rfl rfl)
theorem dX1_ofWalks_51 : decode cX1_ofWalks 51 = .ok (.invokevirtual 220, 3) := dk_182 0 220 (dk_at dksX1_ofWalks_2 5 rfl rfl)
theorem dX1_ofWalks_54 : decode cX1_ofWalks 54 = .ok (.istore 4, 2) := dk_54 4 (dk_at dksX1_ofWalks_2 8 rfl rfl)
theorem dX1_ofWalks_56 : decode cX1_ofWalks 56 = .ok (.iload_n 2, 1) := dk_28 (dk_at dksX1_ofWalks_2 10 rfl rfl)
theorem dX1_ofWalks_57 : decode cX1_ofWalks 57 = .ok (.iload_n 1, 1) := dk_27 (dk_at dksX1_ofWalks_2 11 rfl rfl)
theorem dX1_ofWalks_58 : decode cX1_ofWalks 58 = .ok (.iconst 3, 1) := dk_6 (dk_at dksX1_ofWalks_2 12 rfl rfl)
theorem dX1_ofWalks_59 : decode cX1_ofWalks 59 = .ok (.if_icmp .ne 7, 3) := dk_160 0 7 (dk_at dksX1_ofWalks_2 13 rfl rfl)
theorem dX1_ofWalks_62 : decode cX1_ofWalks 62 = .ok (.iconst 1, 1) := dk_4 (dk_at dksX1_ofWalks_2 16 rfl rfl)
theorem dX1_ofWalks_63 : decode cX1_ofWalks 63 = .ok (.goto 30, 3) := dk_167 0 30 (dk_at dksX1_ofWalks_2 17 rfl rfl)
theorem dX1_ofWalks_66 : decode cX1_ofWalks 66 = .ok (.iload_n 1, 1) := dk_27 (dk_at dksX1_ofWalks_2 20 rfl rfl)
theorem dX1_ofWalks_67 : decode cX1_ofWalks 67 = .ok (.iconst 4, 1) := dk_7 (dk_at dksX1_ofWalks_2 21 rfl rfl)
theorem dX1_ofWalks_68 : decode cX1_ofWalks 68 = .ok (.if_icmp .ne 19, 3) := dk_160 0 19 (dk_at dksX1_ofWalks_3 0 rfl rfl)
theorem dX1_ofWalks_71 : decode cX1_ofWalks 71 = .ok (.iload 4, 2) := dk_21 4 (dk_at dksX1_ofWalks_3 3 rfl rfl)
theorem dX1_ofWalks_73 : decode cX1_ofWalks 73 = .ok (.ifCond .eq 7, 3) := dk_153 0 7 (dk_at dksX1_ofWalks_3 5 rfl rfl)
theorem dX1_ofWalks_76 : decode cX1_ofWalks 76 = .ok (.iconst 1, 1) := dk_4 (dk_at dksX1_ofWalks_3 8 rfl rfl)
theorem dX1_ofWalks_77 : decode cX1_ofWalks 77 = .ok (.goto 4, 3) := dk_167 0 4 (dk_at dksX1_ofWalks_3 9 rfl rfl)
theorem dX1_ofWalks_80 : decode cX1_ofWalks 80 = .ok (.iconst 0, 1) := dk_3 (dk_at dksX1_ofWalks_3 12 rfl rfl)
theorem dX1_ofWalks_81 : decode cX1_ofWalks 81 = .ok (.invokestatic 183, 3) := dk_184 0 183 (dk_at dksX1_ofWalks_3 13 rfl rfl)
theorem dX1_ofWalks_84 : decode cX1_ofWalks 84 = .ok (.goto 9, 3) := dk_167 0 9 (dk_at dksX1_ofWalks_3 16 rfl rfl)
theorem dX1_ofWalks_87 : decode cX1_ofWalks 87 = .ok (.iconst 0, 1) := dk_3 (dk_at dksX1_ofWalks_3 19 rfl rfl)
theorem dX1_ofWalks_88 : decode cX1_ofWalks 88 = .ok (.iload 4, 2) := dk_21 4 (dk_at dksX1_ofWalks_3 20 rfl rfl)
theorem dX1_ofWalks_90 : decode cX1_ofWalks 90 = .ok (.invokestatic 314, 3) := dk_184 1 58 (dk_at dksX1_ofWalks_4 0 rfl rfl)
theorem dX1_ofWalks_93 : decode cX1_ofWalks 93 = .ok (.iadd, 1) := dk_96 (dk_at dksX1_ofWalks_4 3 rfl rfl)
theorem dX1_ofWalks_94 : decode cX1_ofWalks 94 = .ok (.istore_n 2, 1) := dk_61 (dk_at dksX1_ofWalks_4 4 rfl rfl)
theorem dX1_ofWalks_95 : decode cX1_ofWalks 95 = .ok (.iinc 3 1, 3) := dk_132 3 1 (dk_at dksX1_ofWalks_4 5 rfl rfl)
theorem dX1_ofWalks_98 : decode cX1_ofWalks 98 = .ok (.goto (-94), 3) := dk_167 255 162 (dk_at dksX1_ofWalks_4 8 rfl rfl)
theorem dX1_ofWalks_101 : decode cX1_ofWalks 101 = .ok (.iload_n 2, 1) := dk_28 (dk_at dksX1_ofWalks_4 11 rfl rfl)
theorem dX1_ofWalks_102 : decode cX1_ofWalks 102 = .ok (.ireturn, 1) := dk_172 (dk_at dksX1_ofWalks_4 12 rfl rfl)
abbrev cX1_digest : ByteArray := prog_1_method_75_code
def yX1_digest : MethodName := ⟨RX1, "digest", "()J"⟩
def dkwX1_digest_8 : List UInt8 := [42, 42, 180, 0, 75, 27, 182, 1, 134, 133, 182, 1, 116, 132, 1, 1, 167, 255, 229, 42, 180, 1, 112, 173]
abbrev dktX1_digest_8 : List UInt8 := dkwX1_digest_8 ++ []
def dkwX1_digest_7 : List UInt8 := [42, 180, 0, 75, 182, 0, 237, 133, 182, 1, 116, 3, 60, 27, 42, 180, 0, 75, 182, 0, 237, 162, 0, 22]
abbrev dktX1_digest_7 : List UInt8 := dkwX1_digest_7 ++ dktX1_digest_8
def dkwX1_digest_6 : List UInt8 := [182, 1, 116, 42, 42, 182, 1, 103, 133, 182, 1, 116, 42, 42, 182, 1, 106, 184, 1, 128, 182, 1, 116, 42]
abbrev dktX1_digest_6 : List UInt8 := dkwX1_digest_6 ++ dktX1_digest_7
def dkwX1_digest_5 : List UInt8 := [132, 1, 1, 167, 255, 236, 42, 182, 1, 125, 2, 159, 0, 16, 42, 42, 42, 182, 1, 125, 182, 1, 100, 133]
abbrev dktX1_digest_5 : List UInt8 := dkwX1_digest_5 ++ dktX1_digest_6
def dkwX1_digest_4 : List UInt8 := [182, 1, 122, 3, 60, 27, 6, 162, 0, 21, 42, 42, 16, 104, 27, 182, 1, 97, 133, 182, 1, 116]
abbrev dktX1_digest_4 : List UInt8 := dkwX1_digest_4 ++ dktX1_digest_5
def dkwX1_digest_3 : List UInt8 := [27, 46, 2, 160, 0, 14, 42, 42, 27, 4, 182, 1, 55, 133, 182, 1, 116, 132, 1, 1, 167, 255, 211, 42]
abbrev dktX1_digest_3 : List UInt8 := dkwX1_digest_3 ++ dktX1_digest_4
def dkwX1_digest_2 : List UInt8 := [17, 0, 192, 162, 0, 44, 42, 42, 27, 3, 182, 1, 55, 133, 182, 1, 116, 42, 180, 0, 29, 180, 0, 106]
abbrev dktX1_digest_2 : List UInt8 := dkwX1_digest_2 ++ dktX1_digest_3
def dkwX1_digest_1 : List UInt8 := [182, 1, 116, 132, 1, 1, 167, 255, 237, 42, 42, 180, 0, 29, 180, 0, 235, 133, 182, 1, 116, 3, 60, 27]
abbrev dktX1_digest_1 : List UInt8 := dkwX1_digest_1 ++ dktX1_digest_2
def dkwX1_digest_0 : List UInt8 := [42, 20, 1, 120, 181, 1, 112, 3, 60, 27, 16, 9, 162, 0, 19, 42, 42, 27, 182, 1, 94, 133]
abbrev dktX1_digest_0 : List UInt8 := dkwX1_digest_0 ++ dktX1_digest_1
theorem dksX1_digest_0 : cX1_digest.data.toList.drop 0 = dktX1_digest_0 := by decide +kernel
theorem dksX1_digest_1 : cX1_digest.data.toList.drop 22 = dktX1_digest_1 := dk_seg dksX1_digest_0 22 rfl rfl
theorem dksX1_digest_2 : cX1_digest.data.toList.drop 46 = dktX1_digest_2 := dk_seg dksX1_digest_1 24 rfl rfl
theorem dksX1_digest_3 : cX1_digest.data.toList.drop 70 = dktX1_digest_3 := dk_seg dksX1_digest_2 24 rfl rfl
theorem dksX1_digest_4 : cX1_digest.data.toList.drop 94 = dktX1_digest_4 := dk_seg dksX1_digest_3 24 rfl rfl
theorem dksX1_digest_5 : cX1_digest.data.toList.drop 116 = dktX1_digest_5 := dk_seg dksX1_digest_4 22 rfl rfl
theorem dksX1_digest_6 : cX1_digest.data.toList.drop 140 = dktX1_digest_6 := dk_seg dksX1_digest_5 24 rfl rfl
theorem dksX1_digest_7 : cX1_digest.data.toList.drop 164 = dktX1_digest_7 := dk_seg dksX1_digest_6 24 rfl rfl
theorem dksX1_digest_8 : cX1_digest.data.toList.drop 188 = dktX1_digest_8 := dk_seg dksX1_digest_7 24 rfl rfl
theorem dX1_digest_0 : decode cX1_digest 0 = .ok (.aload_n 0, 1) := dk_42 (dk_at dksX1_digest_0 0 rfl rfl)
theorem dX1_digest_1 : decode cX1_digest 1 = .ok (.ldc2_w 376, 3) := dk_20 1 120 (dk_at dksX1_digest_0 1 rfl rfl)
theorem dX1_digest_4 : decode cX1_digest 4 = .ok (.putfield 368, 3) := dk_181 1 112 (dk_at dksX1_digest_0 4 rfl rfl)
theorem dX1_digest_7 : decode cX1_digest 7 = .ok (.iconst 0, 1) := dk_3 (dk_at dksX1_digest_0 7 rfl rfl)
theorem dX1_digest_8 : decode cX1_digest 8 = .ok (.istore_n 1, 1) := dk_60 (dk_at dksX1_digest_0 8 rfl rfl)
theorem dX1_digest_9 : decode cX1_digest 9 = .ok (.iload_n 1, 1) := dk_27 (dk_at dksX1_digest_0 9 rfl rfl)
theorem dX1_digest_10 : decode cX1_digest 10 = .ok (.bipush 9, 2) := dk_16 9 (dk_at dksX1_digest_0 10 rfl rfl)
theorem dX1_digest_12 : decode cX1_digest 12 = .ok (.if_icmp .ge 19, 3) := dk_162 0 19 (dk_at dksX1_digest_0 12 rfl rfl)
theorem dX1_digest_15 : decode cX1_digest 15 = .ok (.aload_n 0, 1) := dk_42 (dk_at dksX1_digest_0 15 rfl rfl)
theorem dX1_digest_16 : decode cX1_digest 16 = .ok (.aload_n 0, 1) := dk_42 (dk_at dksX1_digest_0 16 rfl rfl)
theorem dX1_digest_17 : decode cX1_digest 17 = .ok (.iload_n 1, 1) := dk_27 (dk_at dksX1_digest_0 17 rfl rfl)
theorem dX1_digest_18 : decode cX1_digest 18 = .ok (.invokevirtual 350, 3) := dk_182 1 94 (dk_at dksX1_digest_0 18 rfl rfl)
theorem dX1_digest_21 : decode cX1_digest 21 = .ok (.i2l, 1) := dk_133 (dk_at dksX1_digest_0 21 rfl rfl)
theorem dX1_digest_22 : decode cX1_digest 22 = .ok (.invokevirtual 372, 3) := dk_182 1 116 (dk_at dksX1_digest_1 0 rfl rfl)
theorem dX1_digest_25 : decode cX1_digest 25 = .ok (.iinc 1 1, 3) := dk_132 1 1 (dk_at dksX1_digest_1 3 rfl rfl)
theorem dX1_digest_28 : decode cX1_digest 28 = .ok (.goto (-19), 3) := dk_167 255 237 (dk_at dksX1_digest_1 6 rfl rfl)
theorem dX1_digest_31 : decode cX1_digest 31 = .ok (.aload_n 0, 1) := dk_42 (dk_at dksX1_digest_1 9 rfl rfl)
theorem dX1_digest_32 : decode cX1_digest 32 = .ok (.aload_n 0, 1) := dk_42 (dk_at dksX1_digest_1 10 rfl rfl)
theorem dX1_digest_33 : decode cX1_digest 33 = .ok (.getfield 29, 3) := dk_180 0 29 (dk_at dksX1_digest_1 11 rfl rfl)
theorem dX1_digest_36 : decode cX1_digest 36 = .ok (.getfield 235, 3) := dk_180 0 235 (dk_at dksX1_digest_1 14 rfl rfl)
theorem dX1_digest_39 : decode cX1_digest 39 = .ok (.i2l, 1) := dk_133 (dk_at dksX1_digest_1 17 rfl rfl)
theorem dX1_digest_40 : decode cX1_digest 40 = .ok (.invokevirtual 372, 3) := dk_182 1 116 (dk_at dksX1_digest_1 18 rfl rfl)
theorem dX1_digest_43 : decode cX1_digest 43 = .ok (.iconst 0, 1) := dk_3 (dk_at dksX1_digest_1 21 rfl rfl)
theorem dX1_digest_44 : decode cX1_digest 44 = .ok (.istore_n 1, 1) := dk_60 (dk_at dksX1_digest_1 22 rfl rfl)
theorem dX1_digest_45 : decode cX1_digest 45 = .ok (.iload_n 1, 1) := dk_27 (dk_at dksX1_digest_1 23 rfl rfl)
theorem dX1_digest_46 : decode cX1_digest 46 = .ok (.sipush 192, 3) := dk_17 0 192 (dk_at dksX1_digest_2 0 rfl rfl)
theorem dX1_digest_49 : decode cX1_digest 49 = .ok (.if_icmp .ge 44, 3) := dk_162 0 44 (dk_at dksX1_digest_2 3 rfl rfl)
theorem dX1_digest_52 : decode cX1_digest 52 = .ok (.aload_n 0, 1) := dk_42 (dk_at dksX1_digest_2 6 rfl rfl)
theorem dX1_digest_53 : decode cX1_digest 53 = .ok (.aload_n 0, 1) := dk_42 (dk_at dksX1_digest_2 7 rfl rfl)
theorem dX1_digest_54 : decode cX1_digest 54 = .ok (.iload_n 1, 1) := dk_27 (dk_at dksX1_digest_2 8 rfl rfl)
theorem dX1_digest_55 : decode cX1_digest 55 = .ok (.iconst 0, 1) := dk_3 (dk_at dksX1_digest_2 9 rfl rfl)
theorem dX1_digest_56 : decode cX1_digest 56 = .ok (.invokevirtual 311, 3) := dk_182 1 55 (dk_at dksX1_digest_2 10 rfl rfl)
theorem dX1_digest_59 : decode cX1_digest 59 = .ok (.i2l, 1) := dk_133 (dk_at dksX1_digest_2 13 rfl rfl)
theorem dX1_digest_60 : decode cX1_digest 60 = .ok (.invokevirtual 372, 3) := dk_182 1 116 (dk_at dksX1_digest_2 14 rfl rfl)
theorem dX1_digest_63 : decode cX1_digest 63 = .ok (.aload_n 0, 1) := dk_42 (dk_at dksX1_digest_2 17 rfl rfl)
theorem dX1_digest_64 : decode cX1_digest 64 = .ok (.getfield 29, 3) := dk_180 0 29 (dk_at dksX1_digest_2 18 rfl rfl)
theorem dX1_digest_67 : decode cX1_digest 67 = .ok (.getfield 106, 3) := dk_180 0 106 (dk_at dksX1_digest_2 21 rfl rfl)
theorem dX1_digest_70 : decode cX1_digest 70 = .ok (.iload_n 1, 1) := dk_27 (dk_at dksX1_digest_3 0 rfl rfl)
theorem dX1_digest_71 : decode cX1_digest 71 = .ok (.iaload, 1) := dk_46 (dk_at dksX1_digest_3 1 rfl rfl)
theorem dX1_digest_72 : decode cX1_digest 72 = .ok (.iconst (-1), 1) := dk_2 (dk_at dksX1_digest_3 2 rfl rfl)
theorem dX1_digest_73 : decode cX1_digest 73 = .ok (.if_icmp .ne 14, 3) := dk_160 0 14 (dk_at dksX1_digest_3 3 rfl rfl)
theorem dX1_digest_76 : decode cX1_digest 76 = .ok (.aload_n 0, 1) := dk_42 (dk_at dksX1_digest_3 6 rfl rfl)
theorem dX1_digest_77 : decode cX1_digest 77 = .ok (.aload_n 0, 1) := dk_42 (dk_at dksX1_digest_3 7 rfl rfl)
theorem dX1_digest_78 : decode cX1_digest 78 = .ok (.iload_n 1, 1) := dk_27 (dk_at dksX1_digest_3 8 rfl rfl)
theorem dX1_digest_79 : decode cX1_digest 79 = .ok (.iconst 1, 1) := dk_4 (dk_at dksX1_digest_3 9 rfl rfl)
theorem dX1_digest_80 : decode cX1_digest 80 = .ok (.invokevirtual 311, 3) := dk_182 1 55 (dk_at dksX1_digest_3 10 rfl rfl)
theorem dX1_digest_83 : decode cX1_digest 83 = .ok (.i2l, 1) := dk_133 (dk_at dksX1_digest_3 13 rfl rfl)
theorem dX1_digest_84 : decode cX1_digest 84 = .ok (.invokevirtual 372, 3) := dk_182 1 116 (dk_at dksX1_digest_3 14 rfl rfl)
theorem dX1_digest_87 : decode cX1_digest 87 = .ok (.iinc 1 1, 3) := dk_132 1 1 (dk_at dksX1_digest_3 17 rfl rfl)
theorem dX1_digest_90 : decode cX1_digest 90 = .ok (.goto (-45), 3) := dk_167 255 211 (dk_at dksX1_digest_3 20 rfl rfl)
theorem dX1_digest_93 : decode cX1_digest 93 = .ok (.aload_n 0, 1) := dk_42 (dk_at dksX1_digest_3 23 rfl rfl)
theorem dX1_digest_94 : decode cX1_digest 94 = .ok (.invokevirtual 378, 3) := dk_182 1 122 (dk_at dksX1_digest_4 0 rfl rfl)
theorem dX1_digest_97 : decode cX1_digest 97 = .ok (.iconst 0, 1) := dk_3 (dk_at dksX1_digest_4 3 rfl rfl)
theorem dX1_digest_98 : decode cX1_digest 98 = .ok (.istore_n 1, 1) := dk_60 (dk_at dksX1_digest_4 4 rfl rfl)
theorem dX1_digest_99 : decode cX1_digest 99 = .ok (.iload_n 1, 1) := dk_27 (dk_at dksX1_digest_4 5 rfl rfl)
theorem dX1_digest_100 : decode cX1_digest 100 = .ok (.iconst 3, 1) := dk_6 (dk_at dksX1_digest_4 6 rfl rfl)
theorem dX1_digest_101 : decode cX1_digest 101 = .ok (.if_icmp .ge 21, 3) := dk_162 0 21 (dk_at dksX1_digest_4 7 rfl rfl)
theorem dX1_digest_104 : decode cX1_digest 104 = .ok (.aload_n 0, 1) := dk_42 (dk_at dksX1_digest_4 10 rfl rfl)
theorem dX1_digest_105 : decode cX1_digest 105 = .ok (.aload_n 0, 1) := dk_42 (dk_at dksX1_digest_4 11 rfl rfl)
theorem dX1_digest_106 : decode cX1_digest 106 = .ok (.bipush 104, 2) := dk_16 104 (dk_at dksX1_digest_4 12 rfl rfl)
theorem dX1_digest_108 : decode cX1_digest 108 = .ok (.iload_n 1, 1) := dk_27 (dk_at dksX1_digest_4 14 rfl rfl)
theorem dX1_digest_109 : decode cX1_digest 109 = .ok (.invokevirtual 353, 3) := dk_182 1 97 (dk_at dksX1_digest_4 15 rfl rfl)
theorem dX1_digest_112 : decode cX1_digest 112 = .ok (.i2l, 1) := dk_133 (dk_at dksX1_digest_4 18 rfl rfl)
theorem dX1_digest_113 : decode cX1_digest 113 = .ok (.invokevirtual 372, 3) := dk_182 1 116 (dk_at dksX1_digest_4 19 rfl rfl)
theorem dX1_digest_116 : decode cX1_digest 116 = .ok (.iinc 1 1, 3) := dk_132 1 1 (dk_at dksX1_digest_5 0 rfl rfl)
theorem dX1_digest_119 : decode cX1_digest 119 = .ok (.goto (-20), 3) := dk_167 255 236 (dk_at dksX1_digest_5 3 rfl rfl)
theorem dX1_digest_122 : decode cX1_digest 122 = .ok (.aload_n 0, 1) := dk_42 (dk_at dksX1_digest_5 6 rfl rfl)
theorem dX1_digest_123 : decode cX1_digest 123 = .ok (.invokevirtual 381, 3) := dk_182 1 125 (dk_at dksX1_digest_5 7 rfl rfl)
theorem dX1_digest_126 : decode cX1_digest 126 = .ok (.iconst (-1), 1) := dk_2 (dk_at dksX1_digest_5 10 rfl rfl)
theorem dX1_digest_127 : decode cX1_digest 127 = .ok (.if_icmp .eq 16, 3) := dk_159 0 16 (dk_at dksX1_digest_5 11 rfl rfl)
theorem dX1_digest_130 : decode cX1_digest 130 = .ok (.aload_n 0, 1) := dk_42 (dk_at dksX1_digest_5 14 rfl rfl)
theorem dX1_digest_131 : decode cX1_digest 131 = .ok (.aload_n 0, 1) := dk_42 (dk_at dksX1_digest_5 15 rfl rfl)
theorem dX1_digest_132 : decode cX1_digest 132 = .ok (.aload_n 0, 1) := dk_42 (dk_at dksX1_digest_5 16 rfl rfl)
theorem dX1_digest_133 : decode cX1_digest 133 = .ok (.invokevirtual 381, 3) := dk_182 1 125 (dk_at dksX1_digest_5 17 rfl rfl)
theorem dX1_digest_136 : decode cX1_digest 136 = .ok (.invokevirtual 356, 3) := dk_182 1 100 (dk_at dksX1_digest_5 20 rfl rfl)
theorem dX1_digest_139 : decode cX1_digest 139 = .ok (.i2l, 1) := dk_133 (dk_at dksX1_digest_5 23 rfl rfl)
theorem dX1_digest_140 : decode cX1_digest 140 = .ok (.invokevirtual 372, 3) := dk_182 1 116 (dk_at dksX1_digest_6 0 rfl rfl)
theorem dX1_digest_143 : decode cX1_digest 143 = .ok (.aload_n 0, 1) := dk_42 (dk_at dksX1_digest_6 3 rfl rfl)
theorem dX1_digest_144 : decode cX1_digest 144 = .ok (.aload_n 0, 1) := dk_42 (dk_at dksX1_digest_6 4 rfl rfl)
theorem dX1_digest_145 : decode cX1_digest 145 = .ok (.invokevirtual 359, 3) := dk_182 1 103 (dk_at dksX1_digest_6 5 rfl rfl)
theorem dX1_digest_148 : decode cX1_digest 148 = .ok (.i2l, 1) := dk_133 (dk_at dksX1_digest_6 8 rfl rfl)
theorem dX1_digest_149 : decode cX1_digest 149 = .ok (.invokevirtual 372, 3) := dk_182 1 116 (dk_at dksX1_digest_6 9 rfl rfl)
theorem dX1_digest_152 : decode cX1_digest 152 = .ok (.aload_n 0, 1) := dk_42 (dk_at dksX1_digest_6 12 rfl rfl)
theorem dX1_digest_153 : decode cX1_digest 153 = .ok (.aload_n 0, 1) := dk_42 (dk_at dksX1_digest_6 13 rfl rfl)
theorem dX1_digest_154 : decode cX1_digest 154 = .ok (.invokevirtual 362, 3) := dk_182 1 106 (dk_at dksX1_digest_6 14 rfl rfl)
theorem dX1_digest_157 : decode cX1_digest 157 = .ok (.invokestatic 384, 3) := dk_184 1 128 (dk_at dksX1_digest_6 17 rfl rfl)
theorem dX1_digest_160 : decode cX1_digest 160 = .ok (.invokevirtual 372, 3) := dk_182 1 116 (dk_at dksX1_digest_6 20 rfl rfl)
theorem dX1_digest_163 : decode cX1_digest 163 = .ok (.aload_n 0, 1) := dk_42 (dk_at dksX1_digest_6 23 rfl rfl)
theorem dX1_digest_164 : decode cX1_digest 164 = .ok (.aload_n 0, 1) := dk_42 (dk_at dksX1_digest_7 0 rfl rfl)
theorem dX1_digest_165 : decode cX1_digest 165 = .ok (.getfield 75, 3) := dk_180 0 75 (dk_at dksX1_digest_7 1 rfl rfl)
theorem dX1_digest_168 : decode cX1_digest 168 = .ok (.invokevirtual 237, 3) := dk_182 0 237 (dk_at dksX1_digest_7 4 rfl rfl)
theorem dX1_digest_171 : decode cX1_digest 171 = .ok (.i2l, 1) := dk_133 (dk_at dksX1_digest_7 7 rfl rfl)
theorem dX1_digest_172 : decode cX1_digest 172 = .ok (.invokevirtual 372, 3) := dk_182 1 116 (dk_at dksX1_digest_7 8 rfl rfl)
theorem dX1_digest_175 : decode cX1_digest 175 = .ok (.iconst 0, 1) := dk_3 (dk_at dksX1_digest_7 11 rfl rfl)
theorem dX1_digest_176 : decode cX1_digest 176 = .ok (.istore_n 1, 1) := dk_60 (dk_at dksX1_digest_7 12 rfl rfl)
theorem dX1_digest_177 : decode cX1_digest 177 = .ok (.iload_n 1, 1) := dk_27 (dk_at dksX1_digest_7 13 rfl rfl)
theorem dX1_digest_178 : decode cX1_digest 178 = .ok (.aload_n 0, 1) := dk_42 (dk_at dksX1_digest_7 14 rfl rfl)
theorem dX1_digest_179 : decode cX1_digest 179 = .ok (.getfield 75, 3) := dk_180 0 75 (dk_at dksX1_digest_7 15 rfl rfl)
theorem dX1_digest_182 : decode cX1_digest 182 = .ok (.invokevirtual 237, 3) := dk_182 0 237 (dk_at dksX1_digest_7 18 rfl rfl)
theorem dX1_digest_185 : decode cX1_digest 185 = .ok (.if_icmp .ge 22, 3) := dk_162 0 22 (dk_at dksX1_digest_7 21 rfl rfl)
theorem dX1_digest_188 : decode cX1_digest 188 = .ok (.aload_n 0, 1) := dk_42 (dk_at dksX1_digest_8 0 rfl rfl)
theorem dX1_digest_189 : decode cX1_digest 189 = .ok (.aload_n 0, 1) := dk_42 (dk_at dksX1_digest_8 1 rfl rfl)
theorem dX1_digest_190 : decode cX1_digest 190 = .ok (.getfield 75, 3) := dk_180 0 75 (dk_at dksX1_digest_8 2 rfl rfl)
theorem dX1_digest_193 : decode cX1_digest 193 = .ok (.iload_n 1, 1) := dk_27 (dk_at dksX1_digest_8 5 rfl rfl)
theorem dX1_digest_194 : decode cX1_digest 194 = .ok (.invokevirtual 390, 3) := dk_182 1 134 (dk_at dksX1_digest_8 6 rfl rfl)
theorem dX1_digest_197 : decode cX1_digest 197 = .ok (.i2l, 1) := dk_133 (dk_at dksX1_digest_8 9 rfl rfl)
theorem dX1_digest_198 : decode cX1_digest 198 = .ok (.invokevirtual 372, 3) := dk_182 1 116 (dk_at dksX1_digest_8 10 rfl rfl)
theorem dX1_digest_201 : decode cX1_digest 201 = .ok (.iinc 1 1, 3) := dk_132 1 1 (dk_at dksX1_digest_8 13 rfl rfl)
theorem dX1_digest_204 : decode cX1_digest 204 = .ok (.goto (-27), 3) := dk_167 255 229 (dk_at dksX1_digest_8 16 rfl rfl)
theorem dX1_digest_207 : decode cX1_digest 207 = .ok (.aload_n 0, 1) := dk_42 (dk_at dksX1_digest_8 19 rfl rfl)
theorem dX1_digest_208 : decode cX1_digest 208 = .ok (.getfield 368, 3) := dk_180 1 112 (dk_at dksX1_digest_8 20 rfl rfl)
theorem dX1_digest_211 : decode cX1_digest 211 = .ok (.lreturn, 1) := dk_173 (dk_at dksX1_digest_8 23 rfl rfl)
abbrev cX1_counted : ByteArray := prog_1_method_62_code
def yX1_counted : MethodName := ⟨RX1, "counted", "(I)I"⟩
def dkwX1_counted_4 : List UInt8 := [172]
abbrev dktX1_counted_4 : List UInt8 := dkwX1_counted_4 ++ []
def dkwX1_counted_3 : List UInt8 := [182, 1, 88, 172, 42, 180, 0, 55, 184, 1, 84, 172, 42, 182, 1, 91, 172, 42, 180, 0, 38, 182, 0, 79]
abbrev dktX1_counted_3 : List UInt8 := dkwX1_counted_3 ++ dktX1_counted_4
def dkwX1_counted_2 : List UInt8 := [42, 182, 1, 81, 172, 42, 180, 0, 51, 184, 1, 84, 172, 42, 180, 0, 46, 184, 1, 84, 172, 42, 27]
abbrev dktX1_counted_2 : List UInt8 := dkwX1_counted_2 ++ dktX1_counted_3
def dkwX1_counted_1 : List UInt8 := [170, 0, 0, 0, 0, 0, 87, 0, 0, 0, 0, 0, 0, 0, 7, 0, 0, 0, 47, 0, 0, 0, 52, 0, 0, 0, 60, 0, 0, 0, 68, 0, 0, 0, 68, 0, 0, 0, 74, 0, 0, 0, 82, 0, 0, 0, 68]
abbrev dktX1_counted_1 : List UInt8 := dkwX1_counted_1 ++ dktX1_counted_2
def dkwX1_counted_0 : List UInt8 := [27]
abbrev dktX1_counted_0 : List UInt8 := dkwX1_counted_0 ++ dktX1_counted_1
theorem dksX1_counted_0 : cX1_counted.data.toList.drop 0 = dktX1_counted_0 := by decide +kernel
theorem dksX1_counted_1 : cX1_counted.data.toList.drop 1 = dktX1_counted_1 := dk_seg dksX1_counted_0 1 rfl rfl
theorem dksX1_counted_2 : cX1_counted.data.toList.drop 48 = dktX1_counted_2 := dk_seg dksX1_counted_1 47 rfl rfl
theorem dksX1_counted_3 : cX1_counted.data.toList.drop 71 = dktX1_counted_3 := dk_seg dksX1_counted_2 23 rfl rfl
theorem dksX1_counted_4 : cX1_counted.data.toList.drop 95 = dktX1_counted_4 := dk_seg dksX1_counted_3 24 rfl rfl
theorem dX1_counted_0 : decode cX1_counted 0 = .ok (.iload_n 1, 1) := dk_27 (dk_at dksX1_counted_0 0 rfl rfl)
theorem dX1_counted_1 : decode cX1_counted 1 = .ok (.tableswitch 87 0 7 #[47, 52, 60, 68, 68, 74, 82, 68], 47) := by decide +kernel
theorem dX1_counted_48 : decode cX1_counted 48 = .ok (.aload_n 0, 1) := dk_42 (dk_at dksX1_counted_2 0 rfl rfl)
theorem dX1_counted_49 : decode cX1_counted 49 = .ok (.invokevirtual 337, 3) := dk_182 1 81 (dk_at dksX1_counted_2 1 rfl rfl)
theorem dX1_counted_52 : decode cX1_counted 52 = .ok (.ireturn, 1) := dk_172 (dk_at dksX1_counted_2 4 rfl rfl)
theorem dX1_counted_53 : decode cX1_counted 53 = .ok (.aload_n 0, 1) := dk_42 (dk_at dksX1_counted_2 5 rfl rfl)
theorem dX1_counted_54 : decode cX1_counted 54 = .ok (.getfield 51, 3) := dk_180 0 51 (dk_at dksX1_counted_2 6 rfl rfl)
theorem dX1_counted_57 : decode cX1_counted 57 = .ok (.invokestatic 340, 3) := dk_184 1 84 (dk_at dksX1_counted_2 9 rfl rfl)
theorem dX1_counted_60 : decode cX1_counted 60 = .ok (.ireturn, 1) := dk_172 (dk_at dksX1_counted_2 12 rfl rfl)
theorem dX1_counted_61 : decode cX1_counted 61 = .ok (.aload_n 0, 1) := dk_42 (dk_at dksX1_counted_2 13 rfl rfl)
theorem dX1_counted_62 : decode cX1_counted 62 = .ok (.getfield 46, 3) := dk_180 0 46 (dk_at dksX1_counted_2 14 rfl rfl)
theorem dX1_counted_65 : decode cX1_counted 65 = .ok (.invokestatic 340, 3) := dk_184 1 84 (dk_at dksX1_counted_2 17 rfl rfl)
theorem dX1_counted_68 : decode cX1_counted 68 = .ok (.ireturn, 1) := dk_172 (dk_at dksX1_counted_2 20 rfl rfl)
theorem dX1_counted_69 : decode cX1_counted 69 = .ok (.aload_n 0, 1) := dk_42 (dk_at dksX1_counted_2 21 rfl rfl)
theorem dX1_counted_70 : decode cX1_counted 70 = .ok (.iload_n 1, 1) := dk_27 (dk_at dksX1_counted_2 22 rfl rfl)
theorem dX1_counted_71 : decode cX1_counted 71 = .ok (.invokevirtual 344, 3) := dk_182 1 88 (dk_at dksX1_counted_3 0 rfl rfl)
theorem dX1_counted_74 : decode cX1_counted 74 = .ok (.ireturn, 1) := dk_172 (dk_at dksX1_counted_3 3 rfl rfl)
theorem dX1_counted_75 : decode cX1_counted 75 = .ok (.aload_n 0, 1) := dk_42 (dk_at dksX1_counted_3 4 rfl rfl)
theorem dX1_counted_76 : decode cX1_counted 76 = .ok (.getfield 55, 3) := dk_180 0 55 (dk_at dksX1_counted_3 5 rfl rfl)
theorem dX1_counted_79 : decode cX1_counted 79 = .ok (.invokestatic 340, 3) := dk_184 1 84 (dk_at dksX1_counted_3 8 rfl rfl)
theorem dX1_counted_82 : decode cX1_counted 82 = .ok (.ireturn, 1) := dk_172 (dk_at dksX1_counted_3 11 rfl rfl)
theorem dX1_counted_83 : decode cX1_counted 83 = .ok (.aload_n 0, 1) := dk_42 (dk_at dksX1_counted_3 12 rfl rfl)
theorem dX1_counted_84 : decode cX1_counted 84 = .ok (.invokevirtual 347, 3) := dk_182 1 91 (dk_at dksX1_counted_3 13 rfl rfl)
theorem dX1_counted_87 : decode cX1_counted 87 = .ok (.ireturn, 1) := dk_172 (dk_at dksX1_counted_3 16 rfl rfl)
theorem dX1_counted_88 : decode cX1_counted 88 = .ok (.aload_n 0, 1) := dk_42 (dk_at dksX1_counted_3 17 rfl rfl)
theorem dX1_counted_89 : decode cX1_counted 89 = .ok (.getfield 38, 3) := dk_180 0 38 (dk_at dksX1_counted_3 18 rfl rfl)
theorem dX1_counted_92 : decode cX1_counted 92 = .ok (.invokevirtual 79, 3) := dk_182 0 79 (dk_at dksX1_counted_3 21 rfl rfl)
theorem dX1_counted_95 : decode cX1_counted 95 = .ok (.ireturn, 1) := dk_172 (dk_at dksX1_counted_4 0 rfl rfl)
abbrev cX1_roomCount : ByteArray := prog_1_method_61_code
def yX1_roomCount : MethodName := ⟨RX1, "roomCount", "()I"⟩
def dkwX1_roomCount_1 : List UInt8 := [21, 4, 51, 54, 5, 27, 21, 5, 184, 0, 183, 96, 60, 132, 4, 1, 167, 255, 233, 27, 172]
abbrev dktX1_roomCount_1 : List UInt8 := dkwX1_roomCount_1 ++ []
def dkwX1_roomCount_0 : List UInt8 := [3, 60, 42, 180, 0, 29, 180, 0, 98, 77, 44, 190, 62, 3, 54, 4, 21, 4, 29, 162, 0, 23, 44]
abbrev dktX1_roomCount_0 : List UInt8 := dkwX1_roomCount_0 ++ dktX1_roomCount_1
theorem dksX1_roomCount_0 : cX1_roomCount.data.toList.drop 0 = dktX1_roomCount_0 := by decide +kernel
theorem dksX1_roomCount_1 : cX1_roomCount.data.toList.drop 23 = dktX1_roomCount_1 := dk_seg dksX1_roomCount_0 23 rfl rfl
theorem dX1_roomCount_0 : decode cX1_roomCount 0 = .ok (.iconst 0, 1) := dk_3 (dk_at dksX1_roomCount_0 0 rfl rfl)
theorem dX1_roomCount_1 : decode cX1_roomCount 1 = .ok (.istore_n 1, 1) := dk_60 (dk_at dksX1_roomCount_0 1 rfl rfl)
theorem dX1_roomCount_2 : decode cX1_roomCount 2 = .ok (.aload_n 0, 1) := dk_42 (dk_at dksX1_roomCount_0 2 rfl rfl)
theorem dX1_roomCount_3 : decode cX1_roomCount 3 = .ok (.getfield 29, 3) := dk_180 0 29 (dk_at dksX1_roomCount_0 3 rfl rfl)
theorem dX1_roomCount_6 : decode cX1_roomCount 6 = .ok (.getfield 98, 3) := dk_180 0 98 (dk_at dksX1_roomCount_0 6 rfl rfl)
theorem dX1_roomCount_9 : decode cX1_roomCount 9 = .ok (.astore_n 2, 1) := dk_77 (dk_at dksX1_roomCount_0 9 rfl rfl)
theorem dX1_roomCount_10 : decode cX1_roomCount 10 = .ok (.aload_n 2, 1) := dk_44 (dk_at dksX1_roomCount_0 10 rfl rfl)
theorem dX1_roomCount_11 : decode cX1_roomCount 11 = .ok (.arraylength, 1) := dk_190 (dk_at dksX1_roomCount_0 11 rfl rfl)
theorem dX1_roomCount_12 : decode cX1_roomCount 12 = .ok (.istore_n 3, 1) := dk_62 (dk_at dksX1_roomCount_0 12 rfl rfl)
theorem dX1_roomCount_13 : decode cX1_roomCount 13 = .ok (.iconst 0, 1) := dk_3 (dk_at dksX1_roomCount_0 13 rfl rfl)
theorem dX1_roomCount_14 : decode cX1_roomCount 14 = .ok (.istore 4, 2) := dk_54 4 (dk_at dksX1_roomCount_0 14 rfl rfl)
theorem dX1_roomCount_16 : decode cX1_roomCount 16 = .ok (.iload 4, 2) := dk_21 4 (dk_at dksX1_roomCount_0 16 rfl rfl)
theorem dX1_roomCount_18 : decode cX1_roomCount 18 = .ok (.iload_n 3, 1) := dk_29 (dk_at dksX1_roomCount_0 18 rfl rfl)
theorem dX1_roomCount_19 : decode cX1_roomCount 19 = .ok (.if_icmp .ge 23, 3) := dk_162 0 23 (dk_at dksX1_roomCount_0 19 rfl rfl)
theorem dX1_roomCount_22 : decode cX1_roomCount 22 = .ok (.aload_n 2, 1) := dk_44 (dk_at dksX1_roomCount_0 22 rfl rfl)
theorem dX1_roomCount_23 : decode cX1_roomCount 23 = .ok (.iload 4, 2) := dk_21 4 (dk_at dksX1_roomCount_1 0 rfl rfl)
theorem dX1_roomCount_25 : decode cX1_roomCount 25 = .ok (.baload, 1) := dk_51 (dk_at dksX1_roomCount_1 2 rfl rfl)
theorem dX1_roomCount_26 : decode cX1_roomCount 26 = .ok (.istore 5, 2) := dk_54 5 (dk_at dksX1_roomCount_1 3 rfl rfl)
theorem dX1_roomCount_28 : decode cX1_roomCount 28 = .ok (.iload_n 1, 1) := dk_27 (dk_at dksX1_roomCount_1 5 rfl rfl)
theorem dX1_roomCount_29 : decode cX1_roomCount 29 = .ok (.iload 5, 2) := dk_21 5 (dk_at dksX1_roomCount_1 6 rfl rfl)
theorem dX1_roomCount_31 : decode cX1_roomCount 31 = .ok (.invokestatic 183, 3) := dk_184 0 183 (dk_at dksX1_roomCount_1 8 rfl rfl)
theorem dX1_roomCount_34 : decode cX1_roomCount 34 = .ok (.iadd, 1) := dk_96 (dk_at dksX1_roomCount_1 11 rfl rfl)
theorem dX1_roomCount_35 : decode cX1_roomCount 35 = .ok (.istore_n 1, 1) := dk_60 (dk_at dksX1_roomCount_1 12 rfl rfl)
theorem dX1_roomCount_36 : decode cX1_roomCount 36 = .ok (.iinc 4 1, 3) := dk_132 4 1 (dk_at dksX1_roomCount_1 13 rfl rfl)
theorem dX1_roomCount_39 : decode cX1_roomCount 39 = .ok (.goto (-23), 3) := dk_167 255 233 (dk_at dksX1_roomCount_1 16 rfl rfl)
theorem dX1_roomCount_42 : decode cX1_roomCount 42 = .ok (.iload_n 1, 1) := dk_27 (dk_at dksX1_roomCount_1 19 rfl rfl)
theorem dX1_roomCount_43 : decode cX1_roomCount 43 = .ok (.ireturn, 1) := dk_172 (dk_at dksX1_roomCount_1 20 rfl rfl)
abbrev cX1_facingPairs : ByteArray := prog_1_method_49_code
def yX1_facingPairs : MethodName := ⟨RX1, "facingPairs", "()I"⟩
def dkwX1_facingPairs_1 : List UInt8 := [132, 2, 1, 167, 255, 233, 27, 5, 108, 172]
abbrev dktX1_facingPairs_1 : List UInt8 := dkwX1_facingPairs_1 ++ []
def dkwX1_facingPairs_0 : List UInt8 := [3, 60, 3, 61, 28, 17, 3, 0, 162, 0, 22, 27, 42, 28, 7, 108, 28, 7, 112, 182, 1, 52, 96, 60]
abbrev dktX1_facingPairs_0 : List UInt8 := dkwX1_facingPairs_0 ++ dktX1_facingPairs_1
theorem dksX1_facingPairs_0 : cX1_facingPairs.data.toList.drop 0 = dktX1_facingPairs_0 := by decide +kernel
theorem dksX1_facingPairs_1 : cX1_facingPairs.data.toList.drop 24 = dktX1_facingPairs_1 := dk_seg dksX1_facingPairs_0 24 rfl rfl
theorem dX1_facingPairs_0 : decode cX1_facingPairs 0 = .ok (.iconst 0, 1) := dk_3 (dk_at dksX1_facingPairs_0 0 rfl rfl)
theorem dX1_facingPairs_1 : decode cX1_facingPairs 1 = .ok (.istore_n 1, 1) := dk_60 (dk_at dksX1_facingPairs_0 1 rfl rfl)
theorem dX1_facingPairs_2 : decode cX1_facingPairs 2 = .ok (.iconst 0, 1) := dk_3 (dk_at dksX1_facingPairs_0 2 rfl rfl)
theorem dX1_facingPairs_3 : decode cX1_facingPairs 3 = .ok (.istore_n 2, 1) := dk_61 (dk_at dksX1_facingPairs_0 3 rfl rfl)
theorem dX1_facingPairs_4 : decode cX1_facingPairs 4 = .ok (.iload_n 2, 1) := dk_28 (dk_at dksX1_facingPairs_0 4 rfl rfl)
theorem dX1_facingPairs_5 : decode cX1_facingPairs 5 = .ok (.sipush 768, 3) := dk_17 3 0 (dk_at dksX1_facingPairs_0 5 rfl rfl)
theorem dX1_facingPairs_8 : decode cX1_facingPairs 8 = .ok (.if_icmp .ge 22, 3) := dk_162 0 22 (dk_at dksX1_facingPairs_0 8 rfl rfl)
theorem dX1_facingPairs_11 : decode cX1_facingPairs 11 = .ok (.iload_n 1, 1) := dk_27 (dk_at dksX1_facingPairs_0 11 rfl rfl)
theorem dX1_facingPairs_12 : decode cX1_facingPairs 12 = .ok (.aload_n 0, 1) := dk_42 (dk_at dksX1_facingPairs_0 12 rfl rfl)
theorem dX1_facingPairs_13 : decode cX1_facingPairs 13 = .ok (.iload_n 2, 1) := dk_28 (dk_at dksX1_facingPairs_0 13 rfl rfl)
theorem dX1_facingPairs_14 : decode cX1_facingPairs 14 = .ok (.iconst 4, 1) := dk_7 (dk_at dksX1_facingPairs_0 14 rfl rfl)
theorem dX1_facingPairs_15 : decode cX1_facingPairs 15 = .ok (.idiv, 1) := dk_108 (dk_at dksX1_facingPairs_0 15 rfl rfl)
theorem dX1_facingPairs_16 : decode cX1_facingPairs 16 = .ok (.iload_n 2, 1) := dk_28 (dk_at dksX1_facingPairs_0 16 rfl rfl)
theorem dX1_facingPairs_17 : decode cX1_facingPairs 17 = .ok (.iconst 4, 1) := dk_7 (dk_at dksX1_facingPairs_0 17 rfl rfl)
theorem dX1_facingPairs_18 : decode cX1_facingPairs 18 = .ok (.irem, 1) := dk_112 (dk_at dksX1_facingPairs_0 18 rfl rfl)
theorem dX1_facingPairs_19 : decode cX1_facingPairs 19 = .ok (.invokevirtual 308, 3) := dk_182 1 52 (dk_at dksX1_facingPairs_0 19 rfl rfl)
theorem dX1_facingPairs_22 : decode cX1_facingPairs 22 = .ok (.iadd, 1) := dk_96 (dk_at dksX1_facingPairs_0 22 rfl rfl)
theorem dX1_facingPairs_23 : decode cX1_facingPairs 23 = .ok (.istore_n 1, 1) := dk_60 (dk_at dksX1_facingPairs_0 23 rfl rfl)
theorem dX1_facingPairs_24 : decode cX1_facingPairs 24 = .ok (.iinc 2 1, 3) := dk_132 2 1 (dk_at dksX1_facingPairs_1 0 rfl rfl)
theorem dX1_facingPairs_27 : decode cX1_facingPairs 27 = .ok (.goto (-23), 3) := dk_167 255 233 (dk_at dksX1_facingPairs_1 3 rfl rfl)
theorem dX1_facingPairs_30 : decode cX1_facingPairs 30 = .ok (.iload_n 1, 1) := dk_27 (dk_at dksX1_facingPairs_1 6 rfl rfl)
theorem dX1_facingPairs_31 : decode cX1_facingPairs 31 = .ok (.iconst 2, 1) := dk_5 (dk_at dksX1_facingPairs_1 7 rfl rfl)
theorem dX1_facingPairs_32 : decode cX1_facingPairs 32 = .ok (.idiv, 1) := dk_108 (dk_at dksX1_facingPairs_1 8 rfl rfl)
theorem dX1_facingPairs_33 : decode cX1_facingPairs 33 = .ok (.ireturn, 1) := dk_172 (dk_at dksX1_facingPairs_1 9 rfl rfl)
abbrev cX1_facing : ByteArray := prog_1_method_48_code
def yX1_facing : MethodName := ⟨RX1, "facing", "(II)I"⟩
def dkwX1_facing_4 : List UInt8 := [132, 6, 1, 167, 255, 176, 29, 156, 0, 7, 3, 167, 0, 5, 21, 4, 172]
abbrev dktX1_facing_4 : List UInt8 := dkwX1_facing_4 ++ []
def dkwX1_facing_3 : List UInt8 := [159, 0, 7, 4, 167, 0, 4, 3, 184, 0, 183, 96, 54, 4, 21, 5, 28, 4, 130, 184, 0, 167, 54, 5]
abbrev dktX1_facing_3 : List UInt8 := dkwX1_facing_3 ++ dktX1_facing_4
def dkwX1_facing_2 : List UInt8 := [160, 0, 54, 42, 21, 5, 28, 4, 130, 182, 1, 49, 54, 7, 21, 4, 21, 7, 155, 0, 13, 21, 7, 29]
abbrev dktX1_facing_2 : List UInt8 := dkwX1_facing_2 ++ dktX1_facing_3
def dkwX1_facing_1 : List UInt8 := [180, 0, 235, 163, 0, 74, 21, 5, 2, 159, 0, 68, 42, 180, 0, 29, 180, 0, 106, 21, 5, 46, 2]
abbrev dktX1_facing_1 : List UInt8 := dkwX1_facing_1 ++ dktX1_facing_2
def dkwX1_facing_0 : List UInt8 := [42, 27, 28, 182, 1, 49, 62, 3, 54, 4, 27, 54, 5, 3, 54, 6, 21, 6, 42, 180, 0, 29]
abbrev dktX1_facing_0 : List UInt8 := dkwX1_facing_0 ++ dktX1_facing_1
theorem dksX1_facing_0 : cX1_facing.data.toList.drop 0 = dktX1_facing_0 := by decide +kernel
theorem dksX1_facing_1 : cX1_facing.data.toList.drop 22 = dktX1_facing_1 := dk_seg dksX1_facing_0 22 rfl rfl
theorem dksX1_facing_2 : cX1_facing.data.toList.drop 45 = dktX1_facing_2 := dk_seg dksX1_facing_1 23 rfl rfl
theorem dksX1_facing_3 : cX1_facing.data.toList.drop 69 = dktX1_facing_3 := dk_seg dksX1_facing_2 24 rfl rfl
theorem dksX1_facing_4 : cX1_facing.data.toList.drop 93 = dktX1_facing_4 := dk_seg dksX1_facing_3 24 rfl rfl
theorem dX1_facing_0 : decode cX1_facing 0 = .ok (.aload_n 0, 1) := dk_42 (dk_at dksX1_facing_0 0 rfl rfl)
theorem dX1_facing_1 : decode cX1_facing 1 = .ok (.iload_n 1, 1) := dk_27 (dk_at dksX1_facing_0 1 rfl rfl)
theorem dX1_facing_2 : decode cX1_facing 2 = .ok (.iload_n 2, 1) := dk_28 (dk_at dksX1_facing_0 2 rfl rfl)
theorem dX1_facing_3 : decode cX1_facing 3 = .ok (.invokevirtual 305, 3) := dk_182 1 49 (dk_at dksX1_facing_0 3 rfl rfl)
theorem dX1_facing_6 : decode cX1_facing 6 = .ok (.istore_n 3, 1) := dk_62 (dk_at dksX1_facing_0 6 rfl rfl)
theorem dX1_facing_7 : decode cX1_facing 7 = .ok (.iconst 0, 1) := dk_3 (dk_at dksX1_facing_0 7 rfl rfl)
theorem dX1_facing_8 : decode cX1_facing 8 = .ok (.istore 4, 2) := dk_54 4 (dk_at dksX1_facing_0 8 rfl rfl)
theorem dX1_facing_10 : decode cX1_facing 10 = .ok (.iload_n 1, 1) := dk_27 (dk_at dksX1_facing_0 10 rfl rfl)
theorem dX1_facing_11 : decode cX1_facing 11 = .ok (.istore 5, 2) := dk_54 5 (dk_at dksX1_facing_0 11 rfl rfl)
theorem dX1_facing_13 : decode cX1_facing 13 = .ok (.iconst 0, 1) := dk_3 (dk_at dksX1_facing_0 13 rfl rfl)
theorem dX1_facing_14 : decode cX1_facing 14 = .ok (.istore 6, 2) := dk_54 6 (dk_at dksX1_facing_0 14 rfl rfl)
theorem dX1_facing_16 : decode cX1_facing 16 = .ok (.iload 6, 2) := dk_21 6 (dk_at dksX1_facing_0 16 rfl rfl)
theorem dX1_facing_18 : decode cX1_facing 18 = .ok (.aload_n 0, 1) := dk_42 (dk_at dksX1_facing_0 18 rfl rfl)
theorem dX1_facing_19 : decode cX1_facing 19 = .ok (.getfield 29, 3) := dk_180 0 29 (dk_at dksX1_facing_0 19 rfl rfl)
theorem dX1_facing_22 : decode cX1_facing 22 = .ok (.getfield 235, 3) := dk_180 0 235 (dk_at dksX1_facing_1 0 rfl rfl)
theorem dX1_facing_25 : decode cX1_facing 25 = .ok (.if_icmp .gt 74, 3) := dk_163 0 74 (dk_at dksX1_facing_1 3 rfl rfl)
theorem dX1_facing_28 : decode cX1_facing 28 = .ok (.iload 5, 2) := dk_21 5 (dk_at dksX1_facing_1 6 rfl rfl)
theorem dX1_facing_30 : decode cX1_facing 30 = .ok (.iconst (-1), 1) := dk_2 (dk_at dksX1_facing_1 8 rfl rfl)
theorem dX1_facing_31 : decode cX1_facing 31 = .ok (.if_icmp .eq 68, 3) := dk_159 0 68 (dk_at dksX1_facing_1 9 rfl rfl)
theorem dX1_facing_34 : decode cX1_facing 34 = .ok (.aload_n 0, 1) := dk_42 (dk_at dksX1_facing_1 12 rfl rfl)
theorem dX1_facing_35 : decode cX1_facing 35 = .ok (.getfield 29, 3) := dk_180 0 29 (dk_at dksX1_facing_1 13 rfl rfl)
theorem dX1_facing_38 : decode cX1_facing 38 = .ok (.getfield 106, 3) := dk_180 0 106 (dk_at dksX1_facing_1 16 rfl rfl)
theorem dX1_facing_41 : decode cX1_facing 41 = .ok (.iload 5, 2) := dk_21 5 (dk_at dksX1_facing_1 19 rfl rfl)
theorem dX1_facing_43 : decode cX1_facing 43 = .ok (.iaload, 1) := dk_46 (dk_at dksX1_facing_1 21 rfl rfl)
theorem dX1_facing_44 : decode cX1_facing 44 = .ok (.iconst (-1), 1) := dk_2 (dk_at dksX1_facing_1 22 rfl rfl)
theorem dX1_facing_45 : decode cX1_facing 45 = .ok (.if_icmp .ne 54, 3) := dk_160 0 54 (dk_at dksX1_facing_2 0 rfl rfl)
theorem dX1_facing_48 : decode cX1_facing 48 = .ok (.aload_n 0, 1) := dk_42 (dk_at dksX1_facing_2 3 rfl rfl)
theorem dX1_facing_49 : decode cX1_facing 49 = .ok (.iload 5, 2) := dk_21 5 (dk_at dksX1_facing_2 4 rfl rfl)
theorem dX1_facing_51 : decode cX1_facing 51 = .ok (.iload_n 2, 1) := dk_28 (dk_at dksX1_facing_2 6 rfl rfl)
theorem dX1_facing_52 : decode cX1_facing 52 = .ok (.iconst 1, 1) := dk_4 (dk_at dksX1_facing_2 7 rfl rfl)
theorem dX1_facing_53 : decode cX1_facing 53 = .ok (.ixor, 1) := dk_130 (dk_at dksX1_facing_2 8 rfl rfl)
theorem dX1_facing_54 : decode cX1_facing 54 = .ok (.invokevirtual 305, 3) := dk_182 1 49 (dk_at dksX1_facing_2 9 rfl rfl)
theorem dX1_facing_57 : decode cX1_facing 57 = .ok (.istore 7, 2) := dk_54 7 (dk_at dksX1_facing_2 12 rfl rfl)
theorem dX1_facing_59 : decode cX1_facing 59 = .ok (.iload 4, 2) := dk_21 4 (dk_at dksX1_facing_2 14 rfl rfl)
theorem dX1_facing_61 : decode cX1_facing 61 = .ok (.iload 7, 2) := dk_21 7 (dk_at dksX1_facing_2 16 rfl rfl)
theorem dX1_facing_63 : decode cX1_facing 63 = .ok (.ifCond .lt 13, 3) := dk_155 0 13 (dk_at dksX1_facing_2 18 rfl rfl)
theorem dX1_facing_66 : decode cX1_facing 66 = .ok (.iload 7, 2) := dk_21 7 (dk_at dksX1_facing_2 21 rfl rfl)
theorem dX1_facing_68 : decode cX1_facing 68 = .ok (.iload_n 3, 1) := dk_29 (dk_at dksX1_facing_2 23 rfl rfl)
theorem dX1_facing_69 : decode cX1_facing 69 = .ok (.if_icmp .eq 7, 3) := dk_159 0 7 (dk_at dksX1_facing_3 0 rfl rfl)
theorem dX1_facing_72 : decode cX1_facing 72 = .ok (.iconst 1, 1) := dk_4 (dk_at dksX1_facing_3 3 rfl rfl)
theorem dX1_facing_73 : decode cX1_facing 73 = .ok (.goto 4, 3) := dk_167 0 4 (dk_at dksX1_facing_3 4 rfl rfl)
theorem dX1_facing_76 : decode cX1_facing 76 = .ok (.iconst 0, 1) := dk_3 (dk_at dksX1_facing_3 7 rfl rfl)
theorem dX1_facing_77 : decode cX1_facing 77 = .ok (.invokestatic 183, 3) := dk_184 0 183 (dk_at dksX1_facing_3 8 rfl rfl)
theorem dX1_facing_80 : decode cX1_facing 80 = .ok (.iadd, 1) := dk_96 (dk_at dksX1_facing_3 11 rfl rfl)
theorem dX1_facing_81 : decode cX1_facing 81 = .ok (.istore 4, 2) := dk_54 4 (dk_at dksX1_facing_3 12 rfl rfl)
theorem dX1_facing_83 : decode cX1_facing 83 = .ok (.iload 5, 2) := dk_21 5 (dk_at dksX1_facing_3 14 rfl rfl)
theorem dX1_facing_85 : decode cX1_facing 85 = .ok (.iload_n 2, 1) := dk_28 (dk_at dksX1_facing_3 16 rfl rfl)
theorem dX1_facing_86 : decode cX1_facing 86 = .ok (.iconst 1, 1) := dk_4 (dk_at dksX1_facing_3 17 rfl rfl)
theorem dX1_facing_87 : decode cX1_facing 87 = .ok (.ixor, 1) := dk_130 (dk_at dksX1_facing_3 18 rfl rfl)
theorem dX1_facing_88 : decode cX1_facing 88 = .ok (.invokestatic 167, 3) := dk_184 0 167 (dk_at dksX1_facing_3 19 rfl rfl)
theorem dX1_facing_91 : decode cX1_facing 91 = .ok (.istore 5, 2) := dk_54 5 (dk_at dksX1_facing_3 22 rfl rfl)
theorem dX1_facing_93 : decode cX1_facing 93 = .ok (.iinc 6 1, 3) := dk_132 6 1 (dk_at dksX1_facing_4 0 rfl rfl)
theorem dX1_facing_96 : decode cX1_facing 96 = .ok (.goto (-80), 3) := dk_167 255 176 (dk_at dksX1_facing_4 3 rfl rfl)
theorem dX1_facing_99 : decode cX1_facing 99 = .ok (.iload_n 3, 1) := dk_29 (dk_at dksX1_facing_4 6 rfl rfl)
theorem dX1_facing_100 : decode cX1_facing 100 = .ok (.ifCond .ge 7, 3) := dk_156 0 7 (dk_at dksX1_facing_4 7 rfl rfl)
theorem dX1_facing_103 : decode cX1_facing 103 = .ok (.iconst 0, 1) := dk_3 (dk_at dksX1_facing_4 10 rfl rfl)
theorem dX1_facing_104 : decode cX1_facing 104 = .ok (.goto 5, 3) := dk_167 0 5 (dk_at dksX1_facing_4 11 rfl rfl)
theorem dX1_facing_107 : decode cX1_facing 107 = .ok (.iload 4, 2) := dk_21 4 (dk_at dksX1_facing_4 14 rfl rfl)
theorem dX1_facing_109 : decode cX1_facing 109 = .ok (.ireturn, 1) := dk_172 (dk_at dksX1_facing_4 16 rfl rfl)
abbrev cX1_mix : ByteArray := prog_1_method_72_code
def yX1_mix : MethodName := ⟨RX1, "mix", "(J)V"⟩
def dkwX1_mix_0 : List UInt8 := [42, 20, 1, 110, 42, 180, 1, 112, 105, 31, 97, 181, 1, 112, 177]
abbrev dktX1_mix_0 : List UInt8 := dkwX1_mix_0 ++ []
theorem dksX1_mix_0 : cX1_mix.data.toList.drop 0 = dktX1_mix_0 := by decide +kernel
theorem dX1_mix_0 : decode cX1_mix 0 = .ok (.aload_n 0, 1) := dk_42 (dk_at dksX1_mix_0 0 rfl rfl)
theorem dX1_mix_1 : decode cX1_mix 1 = .ok (.ldc2_w 366, 3) := dk_20 1 110 (dk_at dksX1_mix_0 1 rfl rfl)
theorem dX1_mix_4 : decode cX1_mix 4 = .ok (.aload_n 0, 1) := dk_42 (dk_at dksX1_mix_0 4 rfl rfl)
theorem dX1_mix_5 : decode cX1_mix 5 = .ok (.getfield 368, 3) := dk_180 1 112 (dk_at dksX1_mix_0 5 rfl rfl)
theorem dX1_mix_8 : decode cX1_mix 8 = .ok (.lmul, 1) := dk_105 (dk_at dksX1_mix_0 8 rfl rfl)
theorem dX1_mix_9 : decode cX1_mix 9 = .ok (.lload_n 1, 1) := dk_31 (dk_at dksX1_mix_0 9 rfl rfl)
theorem dX1_mix_10 : decode cX1_mix 10 = .ok (.ladd, 1) := dk_97 (dk_at dksX1_mix_0 10 rfl rfl)
theorem dX1_mix_11 : decode cX1_mix 11 = .ok (.putfield 368, 3) := dk_181 1 112 (dk_at dksX1_mix_0 11 rfl rfl)
theorem dX1_mix_14 : decode cX1_mix 14 = .ok (.return_, 1) := dk_177 (dk_at dksX1_mix_0 14 rfl rfl)
abbrev cX1_squarePart : ByteArray := prog_1_method_50_code
def yX1_squarePart : MethodName := ⟨RX1, "squarePart", "(II)I"⟩
def dkwX1_squarePart_1 : List UInt8 := [185, 0, 101, 2, 0, 172]
abbrev dktX1_squarePart_1 : List UInt8 := dkwX1_squarePart_1 ++ []
def dkwX1_squarePart_0 : List UInt8 := [28, 154, 0, 15, 42, 180, 0, 29, 180, 0, 106, 27, 46, 167, 0, 13, 42, 180, 0, 55, 27]
abbrev dktX1_squarePart_0 : List UInt8 := dkwX1_squarePart_0 ++ dktX1_squarePart_1
theorem dksX1_squarePart_0 : cX1_squarePart.data.toList.drop 0 = dktX1_squarePart_0 := by decide +kernel
theorem dksX1_squarePart_1 : cX1_squarePart.data.toList.drop 21 = dktX1_squarePart_1 := dk_seg dksX1_squarePart_0 21 rfl rfl
theorem dX1_squarePart_0 : decode cX1_squarePart 0 = .ok (.iload_n 2, 1) := dk_28 (dk_at dksX1_squarePart_0 0 rfl rfl)
theorem dX1_squarePart_1 : decode cX1_squarePart 1 = .ok (.ifCond .ne 15, 3) := dk_154 0 15 (dk_at dksX1_squarePart_0 1 rfl rfl)
theorem dX1_squarePart_4 : decode cX1_squarePart 4 = .ok (.aload_n 0, 1) := dk_42 (dk_at dksX1_squarePart_0 4 rfl rfl)
theorem dX1_squarePart_5 : decode cX1_squarePart 5 = .ok (.getfield 29, 3) := dk_180 0 29 (dk_at dksX1_squarePart_0 5 rfl rfl)
theorem dX1_squarePart_8 : decode cX1_squarePart 8 = .ok (.getfield 106, 3) := dk_180 0 106 (dk_at dksX1_squarePart_0 8 rfl rfl)
theorem dX1_squarePart_11 : decode cX1_squarePart 11 = .ok (.iload_n 1, 1) := dk_27 (dk_at dksX1_squarePart_0 11 rfl rfl)
theorem dX1_squarePart_12 : decode cX1_squarePart 12 = .ok (.iaload, 1) := dk_46 (dk_at dksX1_squarePart_0 12 rfl rfl)
theorem dX1_squarePart_13 : decode cX1_squarePart 13 = .ok (.goto 13, 3) := dk_167 0 13 (dk_at dksX1_squarePart_0 13 rfl rfl)
theorem dX1_squarePart_16 : decode cX1_squarePart 16 = .ok (.aload_n 0, 1) := dk_42 (dk_at dksX1_squarePart_0 16 rfl rfl)
theorem dX1_squarePart_17 : decode cX1_squarePart 17 = .ok (.getfield 55, 3) := dk_180 0 55 (dk_at dksX1_squarePart_0 17 rfl rfl)
theorem dX1_squarePart_20 : decode cX1_squarePart 20 = .ok (.iload_n 1, 1) := dk_27 (dk_at dksX1_squarePart_0 20 rfl rfl)
theorem dX1_squarePart_21 : decode cX1_squarePart 21 = .ok (.invokeinterface 101 2, 5) := by decide +kernel
theorem dX1_squarePart_26 : decode cX1_squarePart 26 = .ok (.ireturn, 1) := dk_172 (dk_at dksX1_squarePart_1 5 rfl rfl)
abbrev cX1_mixRooms : ByteArray := prog_1_method_73_code
def yX1_mixRooms : MethodName := ⟨RX1, "mixRooms", "()V"⟩
def dkwX1_mixRooms_6 : List UInt8 := [182, 1, 77, 133, 182, 1, 116, 132, 3, 1, 167, 255, 229, 132, 1, 1, 167, 255, 161, 177]
abbrev dktX1_mixRooms_6 : List UInt8 := dkwX1_mixRooms_6 ++ []
def dkwX1_mixRooms_5 : List UInt8 := [182, 0, 208, 61, 3, 62, 29, 8, 162, 0, 28, 42, 42, 28, 27, 16, 6, 108, 27, 16, 6, 112, 29]
abbrev dktX1_mixRooms_5 : List UInt8 := dkwX1_mixRooms_5 ++ dktX1_mixRooms_6
def dkwX1_mixRooms_4 : List UInt8 := [180, 0, 29, 180, 0, 98, 27, 16, 6, 112, 51, 153, 0, 48, 42, 27, 16, 6, 108, 27, 16, 6, 112]
abbrev dktX1_mixRooms_4 : List UInt8 := dkwX1_mixRooms_4 ++ dktX1_mixRooms_5
def dkwX1_mixRooms_3 : List UInt8 := [27, 16, 6, 112, 162, 0, 78, 42, 180, 0, 29, 180, 0, 98, 27, 16, 6, 108, 51, 153, 0, 63, 42]
abbrev dktX1_mixRooms_3 : List UInt8 := dkwX1_mixRooms_3 ++ dktX1_mixRooms_4
def dkwX1_mixRooms_2 : List UInt8 := [132, 2, 1, 167, 255, 236, 132, 1, 1, 167, 255, 204, 3, 60, 27, 16, 36, 162, 0, 95, 27, 16, 6, 108]
abbrev dktX1_mixRooms_2 : List UInt8 := dkwX1_mixRooms_2 ++ dktX1_mixRooms_3
def dkwX1_mixRooms_1 : List UInt8 := [182, 1, 116, 3, 61, 28, 16, 8, 162, 0, 20, 42, 42, 27, 28, 182, 1, 74, 133, 182, 1, 116]
abbrev dktX1_mixRooms_1 : List UInt8 := dkwX1_mixRooms_1 ++ dktX1_mixRooms_2
def dkwX1_mixRooms_0 : List UInt8 := [3, 60, 27, 16, 6, 162, 0, 52, 42, 180, 0, 29, 180, 0, 98, 27, 51, 153, 0, 34, 42, 27, 133]
abbrev dktX1_mixRooms_0 : List UInt8 := dkwX1_mixRooms_0 ++ dktX1_mixRooms_1
theorem dksX1_mixRooms_0 : cX1_mixRooms.data.toList.drop 0 = dktX1_mixRooms_0 := by decide +kernel
theorem dksX1_mixRooms_1 : cX1_mixRooms.data.toList.drop 23 = dktX1_mixRooms_1 := dk_seg dksX1_mixRooms_0 23 rfl rfl
theorem dksX1_mixRooms_2 : cX1_mixRooms.data.toList.drop 45 = dktX1_mixRooms_2 := dk_seg dksX1_mixRooms_1 22 rfl rfl
theorem dksX1_mixRooms_3 : cX1_mixRooms.data.toList.drop 69 = dktX1_mixRooms_3 := dk_seg dksX1_mixRooms_2 24 rfl rfl
theorem dksX1_mixRooms_4 : cX1_mixRooms.data.toList.drop 92 = dktX1_mixRooms_4 := dk_seg dksX1_mixRooms_3 23 rfl rfl
theorem dksX1_mixRooms_5 : cX1_mixRooms.data.toList.drop 115 = dktX1_mixRooms_5 := dk_seg dksX1_mixRooms_4 23 rfl rfl
theorem dksX1_mixRooms_6 : cX1_mixRooms.data.toList.drop 138 = dktX1_mixRooms_6 := dk_seg dksX1_mixRooms_5 23 rfl rfl
theorem dX1_mixRooms_0 : decode cX1_mixRooms 0 = .ok (.iconst 0, 1) := dk_3 (dk_at dksX1_mixRooms_0 0 rfl rfl)
theorem dX1_mixRooms_1 : decode cX1_mixRooms 1 = .ok (.istore_n 1, 1) := dk_60 (dk_at dksX1_mixRooms_0 1 rfl rfl)
theorem dX1_mixRooms_2 : decode cX1_mixRooms 2 = .ok (.iload_n 1, 1) := dk_27 (dk_at dksX1_mixRooms_0 2 rfl rfl)
theorem dX1_mixRooms_3 : decode cX1_mixRooms 3 = .ok (.bipush 6, 2) := dk_16 6 (dk_at dksX1_mixRooms_0 3 rfl rfl)
theorem dX1_mixRooms_5 : decode cX1_mixRooms 5 = .ok (.if_icmp .ge 52, 3) := dk_162 0 52 (dk_at dksX1_mixRooms_0 5 rfl rfl)
theorem dX1_mixRooms_8 : decode cX1_mixRooms 8 = .ok (.aload_n 0, 1) := dk_42 (dk_at dksX1_mixRooms_0 8 rfl rfl)
theorem dX1_mixRooms_9 : decode cX1_mixRooms 9 = .ok (.getfield 29, 3) := dk_180 0 29 (dk_at dksX1_mixRooms_0 9 rfl rfl)
theorem dX1_mixRooms_12 : decode cX1_mixRooms 12 = .ok (.getfield 98, 3) := dk_180 0 98 (dk_at dksX1_mixRooms_0 12 rfl rfl)
theorem dX1_mixRooms_15 : decode cX1_mixRooms 15 = .ok (.iload_n 1, 1) := dk_27 (dk_at dksX1_mixRooms_0 15 rfl rfl)
theorem dX1_mixRooms_16 : decode cX1_mixRooms 16 = .ok (.baload, 1) := dk_51 (dk_at dksX1_mixRooms_0 16 rfl rfl)
theorem dX1_mixRooms_17 : decode cX1_mixRooms 17 = .ok (.ifCond .eq 34, 3) := dk_153 0 34 (dk_at dksX1_mixRooms_0 17 rfl rfl)
theorem dX1_mixRooms_20 : decode cX1_mixRooms 20 = .ok (.aload_n 0, 1) := dk_42 (dk_at dksX1_mixRooms_0 20 rfl rfl)
theorem dX1_mixRooms_21 : decode cX1_mixRooms 21 = .ok (.iload_n 1, 1) := dk_27 (dk_at dksX1_mixRooms_0 21 rfl rfl)
theorem dX1_mixRooms_22 : decode cX1_mixRooms 22 = .ok (.i2l, 1) := dk_133 (dk_at dksX1_mixRooms_0 22 rfl rfl)
theorem dX1_mixRooms_23 : decode cX1_mixRooms 23 = .ok (.invokevirtual 372, 3) := dk_182 1 116 (dk_at dksX1_mixRooms_1 0 rfl rfl)
theorem dX1_mixRooms_26 : decode cX1_mixRooms 26 = .ok (.iconst 0, 1) := dk_3 (dk_at dksX1_mixRooms_1 3 rfl rfl)
theorem dX1_mixRooms_27 : decode cX1_mixRooms 27 = .ok (.istore_n 2, 1) := dk_61 (dk_at dksX1_mixRooms_1 4 rfl rfl)
theorem dX1_mixRooms_28 : decode cX1_mixRooms 28 = .ok (.iload_n 2, 1) := dk_28 (dk_at dksX1_mixRooms_1 5 rfl rfl)
theorem dX1_mixRooms_29 : decode cX1_mixRooms 29 = .ok (.bipush 8, 2) := dk_16 8 (dk_at dksX1_mixRooms_1 6 rfl rfl)
theorem dX1_mixRooms_31 : decode cX1_mixRooms 31 = .ok (.if_icmp .ge 20, 3) := dk_162 0 20 (dk_at dksX1_mixRooms_1 8 rfl rfl)
theorem dX1_mixRooms_34 : decode cX1_mixRooms 34 = .ok (.aload_n 0, 1) := dk_42 (dk_at dksX1_mixRooms_1 11 rfl rfl)
theorem dX1_mixRooms_35 : decode cX1_mixRooms 35 = .ok (.aload_n 0, 1) := dk_42 (dk_at dksX1_mixRooms_1 12 rfl rfl)
theorem dX1_mixRooms_36 : decode cX1_mixRooms 36 = .ok (.iload_n 1, 1) := dk_27 (dk_at dksX1_mixRooms_1 13 rfl rfl)
theorem dX1_mixRooms_37 : decode cX1_mixRooms 37 = .ok (.iload_n 2, 1) := dk_28 (dk_at dksX1_mixRooms_1 14 rfl rfl)
theorem dX1_mixRooms_38 : decode cX1_mixRooms 38 = .ok (.invokevirtual 330, 3) := dk_182 1 74 (dk_at dksX1_mixRooms_1 15 rfl rfl)
theorem dX1_mixRooms_41 : decode cX1_mixRooms 41 = .ok (.i2l, 1) := dk_133 (dk_at dksX1_mixRooms_1 18 rfl rfl)
theorem dX1_mixRooms_42 : decode cX1_mixRooms 42 = .ok (.invokevirtual 372, 3) := dk_182 1 116 (dk_at dksX1_mixRooms_1 19 rfl rfl)
theorem dX1_mixRooms_45 : decode cX1_mixRooms 45 = .ok (.iinc 2 1, 3) := dk_132 2 1 (dk_at dksX1_mixRooms_2 0 rfl rfl)
theorem dX1_mixRooms_48 : decode cX1_mixRooms 48 = .ok (.goto (-20), 3) := dk_167 255 236 (dk_at dksX1_mixRooms_2 3 rfl rfl)
theorem dX1_mixRooms_51 : decode cX1_mixRooms 51 = .ok (.iinc 1 1, 3) := dk_132 1 1 (dk_at dksX1_mixRooms_2 6 rfl rfl)
theorem dX1_mixRooms_54 : decode cX1_mixRooms 54 = .ok (.goto (-52), 3) := dk_167 255 204 (dk_at dksX1_mixRooms_2 9 rfl rfl)
theorem dX1_mixRooms_57 : decode cX1_mixRooms 57 = .ok (.iconst 0, 1) := dk_3 (dk_at dksX1_mixRooms_2 12 rfl rfl)
theorem dX1_mixRooms_58 : decode cX1_mixRooms 58 = .ok (.istore_n 1, 1) := dk_60 (dk_at dksX1_mixRooms_2 13 rfl rfl)
theorem dX1_mixRooms_59 : decode cX1_mixRooms 59 = .ok (.iload_n 1, 1) := dk_27 (dk_at dksX1_mixRooms_2 14 rfl rfl)
theorem dX1_mixRooms_60 : decode cX1_mixRooms 60 = .ok (.bipush 36, 2) := dk_16 36 (dk_at dksX1_mixRooms_2 15 rfl rfl)
theorem dX1_mixRooms_62 : decode cX1_mixRooms 62 = .ok (.if_icmp .ge 95, 3) := dk_162 0 95 (dk_at dksX1_mixRooms_2 17 rfl rfl)
theorem dX1_mixRooms_65 : decode cX1_mixRooms 65 = .ok (.iload_n 1, 1) := dk_27 (dk_at dksX1_mixRooms_2 20 rfl rfl)
theorem dX1_mixRooms_66 : decode cX1_mixRooms 66 = .ok (.bipush 6, 2) := dk_16 6 (dk_at dksX1_mixRooms_2 21 rfl rfl)
theorem dX1_mixRooms_68 : decode cX1_mixRooms 68 = .ok (.idiv, 1) := dk_108 (dk_at dksX1_mixRooms_2 23 rfl rfl)
theorem dX1_mixRooms_69 : decode cX1_mixRooms 69 = .ok (.iload_n 1, 1) := dk_27 (dk_at dksX1_mixRooms_3 0 rfl rfl)
theorem dX1_mixRooms_70 : decode cX1_mixRooms 70 = .ok (.bipush 6, 2) := dk_16 6 (dk_at dksX1_mixRooms_3 1 rfl rfl)
theorem dX1_mixRooms_72 : decode cX1_mixRooms 72 = .ok (.irem, 1) := dk_112 (dk_at dksX1_mixRooms_3 3 rfl rfl)
theorem dX1_mixRooms_73 : decode cX1_mixRooms 73 = .ok (.if_icmp .ge 78, 3) := dk_162 0 78 (dk_at dksX1_mixRooms_3 4 rfl rfl)
theorem dX1_mixRooms_76 : decode cX1_mixRooms 76 = .ok (.aload_n 0, 1) := dk_42 (dk_at dksX1_mixRooms_3 7 rfl rfl)
theorem dX1_mixRooms_77 : decode cX1_mixRooms 77 = .ok (.getfield 29, 3) := dk_180 0 29 (dk_at dksX1_mixRooms_3 8 rfl rfl)
theorem dX1_mixRooms_80 : decode cX1_mixRooms 80 = .ok (.getfield 98, 3) := dk_180 0 98 (dk_at dksX1_mixRooms_3 11 rfl rfl)
theorem dX1_mixRooms_83 : decode cX1_mixRooms 83 = .ok (.iload_n 1, 1) := dk_27 (dk_at dksX1_mixRooms_3 14 rfl rfl)
theorem dX1_mixRooms_84 : decode cX1_mixRooms 84 = .ok (.bipush 6, 2) := dk_16 6 (dk_at dksX1_mixRooms_3 15 rfl rfl)
theorem dX1_mixRooms_86 : decode cX1_mixRooms 86 = .ok (.idiv, 1) := dk_108 (dk_at dksX1_mixRooms_3 17 rfl rfl)
theorem dX1_mixRooms_87 : decode cX1_mixRooms 87 = .ok (.baload, 1) := dk_51 (dk_at dksX1_mixRooms_3 18 rfl rfl)
theorem dX1_mixRooms_88 : decode cX1_mixRooms 88 = .ok (.ifCond .eq 63, 3) := dk_153 0 63 (dk_at dksX1_mixRooms_3 19 rfl rfl)
theorem dX1_mixRooms_91 : decode cX1_mixRooms 91 = .ok (.aload_n 0, 1) := dk_42 (dk_at dksX1_mixRooms_3 22 rfl rfl)
theorem dX1_mixRooms_92 : decode cX1_mixRooms 92 = .ok (.getfield 29, 3) := dk_180 0 29 (dk_at dksX1_mixRooms_4 0 rfl rfl)
theorem dX1_mixRooms_95 : decode cX1_mixRooms 95 = .ok (.getfield 98, 3) := dk_180 0 98 (dk_at dksX1_mixRooms_4 3 rfl rfl)
theorem dX1_mixRooms_98 : decode cX1_mixRooms 98 = .ok (.iload_n 1, 1) := dk_27 (dk_at dksX1_mixRooms_4 6 rfl rfl)
theorem dX1_mixRooms_99 : decode cX1_mixRooms 99 = .ok (.bipush 6, 2) := dk_16 6 (dk_at dksX1_mixRooms_4 7 rfl rfl)
theorem dX1_mixRooms_101 : decode cX1_mixRooms 101 = .ok (.irem, 1) := dk_112 (dk_at dksX1_mixRooms_4 9 rfl rfl)
theorem dX1_mixRooms_102 : decode cX1_mixRooms 102 = .ok (.baload, 1) := dk_51 (dk_at dksX1_mixRooms_4 10 rfl rfl)
theorem dX1_mixRooms_103 : decode cX1_mixRooms 103 = .ok (.ifCond .eq 48, 3) := dk_153 0 48 (dk_at dksX1_mixRooms_4 11 rfl rfl)
theorem dX1_mixRooms_106 : decode cX1_mixRooms 106 = .ok (.aload_n 0, 1) := dk_42 (dk_at dksX1_mixRooms_4 14 rfl rfl)
theorem dX1_mixRooms_107 : decode cX1_mixRooms 107 = .ok (.iload_n 1, 1) := dk_27 (dk_at dksX1_mixRooms_4 15 rfl rfl)
theorem dX1_mixRooms_108 : decode cX1_mixRooms 108 = .ok (.bipush 6, 2) := dk_16 6 (dk_at dksX1_mixRooms_4 16 rfl rfl)
theorem dX1_mixRooms_110 : decode cX1_mixRooms 110 = .ok (.idiv, 1) := dk_108 (dk_at dksX1_mixRooms_4 18 rfl rfl)
theorem dX1_mixRooms_111 : decode cX1_mixRooms 111 = .ok (.iload_n 1, 1) := dk_27 (dk_at dksX1_mixRooms_4 19 rfl rfl)
theorem dX1_mixRooms_112 : decode cX1_mixRooms 112 = .ok (.bipush 6, 2) := dk_16 6 (dk_at dksX1_mixRooms_4 20 rfl rfl)
theorem dX1_mixRooms_114 : decode cX1_mixRooms 114 = .ok (.irem, 1) := dk_112 (dk_at dksX1_mixRooms_4 22 rfl rfl)
theorem dX1_mixRooms_115 : decode cX1_mixRooms 115 = .ok (.invokevirtual 208, 3) := dk_182 0 208 (dk_at dksX1_mixRooms_5 0 rfl rfl)
theorem dX1_mixRooms_118 : decode cX1_mixRooms 118 = .ok (.istore_n 2, 1) := dk_61 (dk_at dksX1_mixRooms_5 3 rfl rfl)
theorem dX1_mixRooms_119 : decode cX1_mixRooms 119 = .ok (.iconst 0, 1) := dk_3 (dk_at dksX1_mixRooms_5 4 rfl rfl)
theorem dX1_mixRooms_120 : decode cX1_mixRooms 120 = .ok (.istore_n 3, 1) := dk_62 (dk_at dksX1_mixRooms_5 5 rfl rfl)
theorem dX1_mixRooms_121 : decode cX1_mixRooms 121 = .ok (.iload_n 3, 1) := dk_29 (dk_at dksX1_mixRooms_5 6 rfl rfl)
theorem dX1_mixRooms_122 : decode cX1_mixRooms 122 = .ok (.iconst 5, 1) := dk_8 (dk_at dksX1_mixRooms_5 7 rfl rfl)
theorem dX1_mixRooms_123 : decode cX1_mixRooms 123 = .ok (.if_icmp .ge 28, 3) := dk_162 0 28 (dk_at dksX1_mixRooms_5 8 rfl rfl)
theorem dX1_mixRooms_126 : decode cX1_mixRooms 126 = .ok (.aload_n 0, 1) := dk_42 (dk_at dksX1_mixRooms_5 11 rfl rfl)
theorem dX1_mixRooms_127 : decode cX1_mixRooms 127 = .ok (.aload_n 0, 1) := dk_42 (dk_at dksX1_mixRooms_5 12 rfl rfl)
theorem dX1_mixRooms_128 : decode cX1_mixRooms 128 = .ok (.iload_n 2, 1) := dk_28 (dk_at dksX1_mixRooms_5 13 rfl rfl)
theorem dX1_mixRooms_129 : decode cX1_mixRooms 129 = .ok (.iload_n 1, 1) := dk_27 (dk_at dksX1_mixRooms_5 14 rfl rfl)
theorem dX1_mixRooms_130 : decode cX1_mixRooms 130 = .ok (.bipush 6, 2) := dk_16 6 (dk_at dksX1_mixRooms_5 15 rfl rfl)
theorem dX1_mixRooms_132 : decode cX1_mixRooms 132 = .ok (.idiv, 1) := dk_108 (dk_at dksX1_mixRooms_5 17 rfl rfl)
theorem dX1_mixRooms_133 : decode cX1_mixRooms 133 = .ok (.iload_n 1, 1) := dk_27 (dk_at dksX1_mixRooms_5 18 rfl rfl)
theorem dX1_mixRooms_134 : decode cX1_mixRooms 134 = .ok (.bipush 6, 2) := dk_16 6 (dk_at dksX1_mixRooms_5 19 rfl rfl)
theorem dX1_mixRooms_136 : decode cX1_mixRooms 136 = .ok (.irem, 1) := dk_112 (dk_at dksX1_mixRooms_5 21 rfl rfl)
theorem dX1_mixRooms_137 : decode cX1_mixRooms 137 = .ok (.iload_n 3, 1) := dk_29 (dk_at dksX1_mixRooms_5 22 rfl rfl)
theorem dX1_mixRooms_138 : decode cX1_mixRooms 138 = .ok (.invokevirtual 333, 3) := dk_182 1 77 (dk_at dksX1_mixRooms_6 0 rfl rfl)
theorem dX1_mixRooms_141 : decode cX1_mixRooms 141 = .ok (.i2l, 1) := dk_133 (dk_at dksX1_mixRooms_6 3 rfl rfl)
theorem dX1_mixRooms_142 : decode cX1_mixRooms 142 = .ok (.invokevirtual 372, 3) := dk_182 1 116 (dk_at dksX1_mixRooms_6 4 rfl rfl)
theorem dX1_mixRooms_145 : decode cX1_mixRooms 145 = .ok (.iinc 3 1, 3) := dk_132 3 1 (dk_at dksX1_mixRooms_6 7 rfl rfl)
theorem dX1_mixRooms_148 : decode cX1_mixRooms 148 = .ok (.goto (-27), 3) := dk_167 255 229 (dk_at dksX1_mixRooms_6 10 rfl rfl)
theorem dX1_mixRooms_151 : decode cX1_mixRooms 151 = .ok (.iinc 1 1, 3) := dk_132 1 1 (dk_at dksX1_mixRooms_6 13 rfl rfl)
theorem dX1_mixRooms_154 : decode cX1_mixRooms 154 = .ok (.goto (-95), 3) := dk_167 255 161 (dk_at dksX1_mixRooms_6 16 rfl rfl)
theorem dX1_mixRooms_157 : decode cX1_mixRooms 157 = .ok (.return_, 1) := dk_177 (dk_at dksX1_mixRooms_6 19 rfl rfl)
abbrev cX1_chamberPart : ByteArray := prog_1_method_56_code
def yX1_chamberPart : MethodName := ⟨RX1, "chamberPart", "(II)I"⟩
def dkwX1_chamberPart_5 : List UInt8 := [182, 1, 67, 172, 42, 27, 28, 16, 7, 160, 0, 7, 4, 167, 0, 4, 3, 182, 1, 71, 172]
abbrev dktX1_chamberPart_5 : List UInt8 := dkwX1_chamberPart_5 ++ []
def dkwX1_chamberPart_4 : List UInt8 := [27, 182, 1, 61, 16, 16, 108, 100, 4, 96, 172, 42, 27, 28, 8, 160, 0, 7, 4, 167, 0, 4, 3]
abbrev dktX1_chamberPart_4 : List UInt8 := dkwX1_chamberPart_4 ++ dktX1_chamberPart_5
def dkwX1_chamberPart_3 : List UInt8 := [16, 16, 112, 42, 27, 182, 1, 61, 16, 16, 112, 100, 4, 96, 172, 42, 27, 182, 1, 64, 16, 16, 108, 42]
abbrev dktX1_chamberPart_3 : List UInt8 := dkwX1_chamberPart_3 ++ dktX1_chamberPart_4
def dkwX1_chamberPart_2 : List UInt8 := [42, 27, 182, 1, 61, 16, 16, 112, 172, 42, 27, 182, 1, 61, 16, 16, 108, 172, 42, 27, 182, 1, 64]
abbrev dktX1_chamberPart_2 : List UInt8 := dkwX1_chamberPart_2 ++ dktX1_chamberPart_3
def dkwX1_chamberPart_1 : List UInt8 := [170, 0, 0, 0, 0, 0, 113, 0, 0, 0, 0, 0, 0, 0, 5, 0, 0, 0, 39, 0, 0, 0, 48, 0, 0, 0, 57, 0, 0, 0, 77, 0, 0, 0, 97, 0, 0, 0, 97]
abbrev dktX1_chamberPart_1 : List UInt8 := dkwX1_chamberPart_1 ++ dktX1_chamberPart_2
def dkwX1_chamberPart_0 : List UInt8 := [28]
abbrev dktX1_chamberPart_0 : List UInt8 := dkwX1_chamberPart_0 ++ dktX1_chamberPart_1
theorem dksX1_chamberPart_0 : cX1_chamberPart.data.toList.drop 0 = dktX1_chamberPart_0 := by decide +kernel
theorem dksX1_chamberPart_1 : cX1_chamberPart.data.toList.drop 1 = dktX1_chamberPart_1 := dk_seg dksX1_chamberPart_0 1 rfl rfl
theorem dksX1_chamberPart_2 : cX1_chamberPart.data.toList.drop 40 = dktX1_chamberPart_2 := dk_seg dksX1_chamberPart_1 39 rfl rfl
theorem dksX1_chamberPart_3 : cX1_chamberPart.data.toList.drop 63 = dktX1_chamberPart_3 := dk_seg dksX1_chamberPart_2 23 rfl rfl
theorem dksX1_chamberPart_4 : cX1_chamberPart.data.toList.drop 87 = dktX1_chamberPart_4 := dk_seg dksX1_chamberPart_3 24 rfl rfl
theorem dksX1_chamberPart_5 : cX1_chamberPart.data.toList.drop 110 = dktX1_chamberPart_5 := dk_seg dksX1_chamberPart_4 23 rfl rfl
theorem dX1_chamberPart_0 : decode cX1_chamberPart 0 = .ok (.iload_n 2, 1) := dk_28 (dk_at dksX1_chamberPart_0 0 rfl rfl)
theorem dX1_chamberPart_1 : decode cX1_chamberPart 1 = .ok (.tableswitch 113 0 5 #[39, 48, 57, 77, 97, 97], 39) := by decide +kernel
theorem dX1_chamberPart_40 : decode cX1_chamberPart 40 = .ok (.aload_n 0, 1) := dk_42 (dk_at dksX1_chamberPart_2 0 rfl rfl)
theorem dX1_chamberPart_41 : decode cX1_chamberPart 41 = .ok (.iload_n 1, 1) := dk_27 (dk_at dksX1_chamberPart_2 1 rfl rfl)
theorem dX1_chamberPart_42 : decode cX1_chamberPart 42 = .ok (.invokevirtual 317, 3) := dk_182 1 61 (dk_at dksX1_chamberPart_2 2 rfl rfl)
theorem dX1_chamberPart_45 : decode cX1_chamberPart 45 = .ok (.bipush 16, 2) := dk_16 16 (dk_at dksX1_chamberPart_2 5 rfl rfl)
theorem dX1_chamberPart_47 : decode cX1_chamberPart 47 = .ok (.irem, 1) := dk_112 (dk_at dksX1_chamberPart_2 7 rfl rfl)
theorem dX1_chamberPart_48 : decode cX1_chamberPart 48 = .ok (.ireturn, 1) := dk_172 (dk_at dksX1_chamberPart_2 8 rfl rfl)
theorem dX1_chamberPart_49 : decode cX1_chamberPart 49 = .ok (.aload_n 0, 1) := dk_42 (dk_at dksX1_chamberPart_2 9 rfl rfl)
theorem dX1_chamberPart_50 : decode cX1_chamberPart 50 = .ok (.iload_n 1, 1) := dk_27 (dk_at dksX1_chamberPart_2 10 rfl rfl)
theorem dX1_chamberPart_51 : decode cX1_chamberPart 51 = .ok (.invokevirtual 317, 3) := dk_182 1 61 (dk_at dksX1_chamberPart_2 11 rfl rfl)
theorem dX1_chamberPart_54 : decode cX1_chamberPart 54 = .ok (.bipush 16, 2) := dk_16 16 (dk_at dksX1_chamberPart_2 14 rfl rfl)
theorem dX1_chamberPart_56 : decode cX1_chamberPart 56 = .ok (.idiv, 1) := dk_108 (dk_at dksX1_chamberPart_2 16 rfl rfl)
theorem dX1_chamberPart_57 : decode cX1_chamberPart 57 = .ok (.ireturn, 1) := dk_172 (dk_at dksX1_chamberPart_2 17 rfl rfl)
theorem dX1_chamberPart_58 : decode cX1_chamberPart 58 = .ok (.aload_n 0, 1) := dk_42 (dk_at dksX1_chamberPart_2 18 rfl rfl)
theorem dX1_chamberPart_59 : decode cX1_chamberPart 59 = .ok (.iload_n 1, 1) := dk_27 (dk_at dksX1_chamberPart_2 19 rfl rfl)
theorem dX1_chamberPart_60 : decode cX1_chamberPart 60 = .ok (.invokevirtual 320, 3) := dk_182 1 64 (dk_at dksX1_chamberPart_2 20 rfl rfl)
theorem dX1_chamberPart_63 : decode cX1_chamberPart 63 = .ok (.bipush 16, 2) := dk_16 16 (dk_at dksX1_chamberPart_3 0 rfl rfl)
theorem dX1_chamberPart_65 : decode cX1_chamberPart 65 = .ok (.irem, 1) := dk_112 (dk_at dksX1_chamberPart_3 2 rfl rfl)
theorem dX1_chamberPart_66 : decode cX1_chamberPart 66 = .ok (.aload_n 0, 1) := dk_42 (dk_at dksX1_chamberPart_3 3 rfl rfl)
theorem dX1_chamberPart_67 : decode cX1_chamberPart 67 = .ok (.iload_n 1, 1) := dk_27 (dk_at dksX1_chamberPart_3 4 rfl rfl)
theorem dX1_chamberPart_68 : decode cX1_chamberPart 68 = .ok (.invokevirtual 317, 3) := dk_182 1 61 (dk_at dksX1_chamberPart_3 5 rfl rfl)
theorem dX1_chamberPart_71 : decode cX1_chamberPart 71 = .ok (.bipush 16, 2) := dk_16 16 (dk_at dksX1_chamberPart_3 8 rfl rfl)
theorem dX1_chamberPart_73 : decode cX1_chamberPart 73 = .ok (.irem, 1) := dk_112 (dk_at dksX1_chamberPart_3 10 rfl rfl)
theorem dX1_chamberPart_74 : decode cX1_chamberPart 74 = .ok (.isub, 1) := dk_100 (dk_at dksX1_chamberPart_3 11 rfl rfl)
theorem dX1_chamberPart_75 : decode cX1_chamberPart 75 = .ok (.iconst 1, 1) := dk_4 (dk_at dksX1_chamberPart_3 12 rfl rfl)
theorem dX1_chamberPart_76 : decode cX1_chamberPart 76 = .ok (.iadd, 1) := dk_96 (dk_at dksX1_chamberPart_3 13 rfl rfl)
theorem dX1_chamberPart_77 : decode cX1_chamberPart 77 = .ok (.ireturn, 1) := dk_172 (dk_at dksX1_chamberPart_3 14 rfl rfl)
theorem dX1_chamberPart_78 : decode cX1_chamberPart 78 = .ok (.aload_n 0, 1) := dk_42 (dk_at dksX1_chamberPart_3 15 rfl rfl)
theorem dX1_chamberPart_79 : decode cX1_chamberPart 79 = .ok (.iload_n 1, 1) := dk_27 (dk_at dksX1_chamberPart_3 16 rfl rfl)
theorem dX1_chamberPart_80 : decode cX1_chamberPart 80 = .ok (.invokevirtual 320, 3) := dk_182 1 64 (dk_at dksX1_chamberPart_3 17 rfl rfl)
theorem dX1_chamberPart_83 : decode cX1_chamberPart 83 = .ok (.bipush 16, 2) := dk_16 16 (dk_at dksX1_chamberPart_3 20 rfl rfl)
theorem dX1_chamberPart_85 : decode cX1_chamberPart 85 = .ok (.idiv, 1) := dk_108 (dk_at dksX1_chamberPart_3 22 rfl rfl)
theorem dX1_chamberPart_86 : decode cX1_chamberPart 86 = .ok (.aload_n 0, 1) := dk_42 (dk_at dksX1_chamberPart_3 23 rfl rfl)
theorem dX1_chamberPart_87 : decode cX1_chamberPart 87 = .ok (.iload_n 1, 1) := dk_27 (dk_at dksX1_chamberPart_4 0 rfl rfl)
theorem dX1_chamberPart_88 : decode cX1_chamberPart 88 = .ok (.invokevirtual 317, 3) := dk_182 1 61 (dk_at dksX1_chamberPart_4 1 rfl rfl)
theorem dX1_chamberPart_91 : decode cX1_chamberPart 91 = .ok (.bipush 16, 2) := dk_16 16 (dk_at dksX1_chamberPart_4 4 rfl rfl)
theorem dX1_chamberPart_93 : decode cX1_chamberPart 93 = .ok (.idiv, 1) := dk_108 (dk_at dksX1_chamberPart_4 6 rfl rfl)
theorem dX1_chamberPart_94 : decode cX1_chamberPart 94 = .ok (.isub, 1) := dk_100 (dk_at dksX1_chamberPart_4 7 rfl rfl)
theorem dX1_chamberPart_95 : decode cX1_chamberPart 95 = .ok (.iconst 1, 1) := dk_4 (dk_at dksX1_chamberPart_4 8 rfl rfl)
theorem dX1_chamberPart_96 : decode cX1_chamberPart 96 = .ok (.iadd, 1) := dk_96 (dk_at dksX1_chamberPart_4 9 rfl rfl)
theorem dX1_chamberPart_97 : decode cX1_chamberPart 97 = .ok (.ireturn, 1) := dk_172 (dk_at dksX1_chamberPart_4 10 rfl rfl)
theorem dX1_chamberPart_98 : decode cX1_chamberPart 98 = .ok (.aload_n 0, 1) := dk_42 (dk_at dksX1_chamberPart_4 11 rfl rfl)
theorem dX1_chamberPart_99 : decode cX1_chamberPart 99 = .ok (.iload_n 1, 1) := dk_27 (dk_at dksX1_chamberPart_4 12 rfl rfl)
theorem dX1_chamberPart_100 : decode cX1_chamberPart 100 = .ok (.iload_n 2, 1) := dk_28 (dk_at dksX1_chamberPart_4 13 rfl rfl)
theorem dX1_chamberPart_101 : decode cX1_chamberPart 101 = .ok (.iconst 5, 1) := dk_8 (dk_at dksX1_chamberPart_4 14 rfl rfl)
theorem dX1_chamberPart_102 : decode cX1_chamberPart 102 = .ok (.if_icmp .ne 7, 3) := dk_160 0 7 (dk_at dksX1_chamberPart_4 15 rfl rfl)
theorem dX1_chamberPart_105 : decode cX1_chamberPart 105 = .ok (.iconst 1, 1) := dk_4 (dk_at dksX1_chamberPart_4 18 rfl rfl)
theorem dX1_chamberPart_106 : decode cX1_chamberPart 106 = .ok (.goto 4, 3) := dk_167 0 4 (dk_at dksX1_chamberPart_4 19 rfl rfl)
theorem dX1_chamberPart_109 : decode cX1_chamberPart 109 = .ok (.iconst 0, 1) := dk_3 (dk_at dksX1_chamberPart_4 22 rfl rfl)
theorem dX1_chamberPart_110 : decode cX1_chamberPart 110 = .ok (.invokevirtual 323, 3) := dk_182 1 67 (dk_at dksX1_chamberPart_5 0 rfl rfl)
theorem dX1_chamberPart_113 : decode cX1_chamberPart 113 = .ok (.ireturn, 1) := dk_172 (dk_at dksX1_chamberPart_5 3 rfl rfl)
theorem dX1_chamberPart_114 : decode cX1_chamberPart 114 = .ok (.aload_n 0, 1) := dk_42 (dk_at dksX1_chamberPart_5 4 rfl rfl)
theorem dX1_chamberPart_115 : decode cX1_chamberPart 115 = .ok (.iload_n 1, 1) := dk_27 (dk_at dksX1_chamberPart_5 5 rfl rfl)
theorem dX1_chamberPart_116 : decode cX1_chamberPart 116 = .ok (.iload_n 2, 1) := dk_28 (dk_at dksX1_chamberPart_5 6 rfl rfl)
theorem dX1_chamberPart_117 : decode cX1_chamberPart 117 = .ok (.bipush 7, 2) := dk_16 7 (dk_at dksX1_chamberPart_5 7 rfl rfl)
theorem dX1_chamberPart_119 : decode cX1_chamberPart 119 = .ok (.if_icmp .ne 7, 3) := dk_160 0 7 (dk_at dksX1_chamberPart_5 9 rfl rfl)
theorem dX1_chamberPart_122 : decode cX1_chamberPart 122 = .ok (.iconst 1, 1) := dk_4 (dk_at dksX1_chamberPart_5 12 rfl rfl)
theorem dX1_chamberPart_123 : decode cX1_chamberPart 123 = .ok (.goto 4, 3) := dk_167 0 4 (dk_at dksX1_chamberPart_5 13 rfl rfl)
theorem dX1_chamberPart_126 : decode cX1_chamberPart 126 = .ok (.iconst 0, 1) := dk_3 (dk_at dksX1_chamberPart_5 16 rfl rfl)
theorem dX1_chamberPart_127 : decode cX1_chamberPart 127 = .ok (.invokevirtual 327, 3) := dk_182 1 71 (dk_at dksX1_chamberPart_5 17 rfl rfl)
theorem dX1_chamberPart_130 : decode cX1_chamberPart 130 = .ok (.ireturn, 1) := dk_172 (dk_at dksX1_chamberPart_5 20 rfl rfl)
abbrev cX1_firstSquare : ByteArray := prog_1_method_52_code
def yX1_firstSquare : MethodName := ⟨RX1, "firstSquare", "(I)I"⟩
def dkwX1_firstSquare_0 : List UInt8 := [3, 61, 42, 180, 0, 29, 180, 0, 106, 28, 46, 27, 159, 0, 9, 132, 2, 1, 167, 255, 240, 28, 172]
abbrev dktX1_firstSquare_0 : List UInt8 := dkwX1_firstSquare_0 ++ []
theorem dksX1_firstSquare_0 : cX1_firstSquare.data.toList.drop 0 = dktX1_firstSquare_0 := by decide +kernel
theorem dX1_firstSquare_0 : decode cX1_firstSquare 0 = .ok (.iconst 0, 1) := dk_3 (dk_at dksX1_firstSquare_0 0 rfl rfl)
theorem dX1_firstSquare_1 : decode cX1_firstSquare 1 = .ok (.istore_n 2, 1) := dk_61 (dk_at dksX1_firstSquare_0 1 rfl rfl)
theorem dX1_firstSquare_2 : decode cX1_firstSquare 2 = .ok (.aload_n 0, 1) := dk_42 (dk_at dksX1_firstSquare_0 2 rfl rfl)
theorem dX1_firstSquare_3 : decode cX1_firstSquare 3 = .ok (.getfield 29, 3) := dk_180 0 29 (dk_at dksX1_firstSquare_0 3 rfl rfl)
theorem dX1_firstSquare_6 : decode cX1_firstSquare 6 = .ok (.getfield 106, 3) := dk_180 0 106 (dk_at dksX1_firstSquare_0 6 rfl rfl)
theorem dX1_firstSquare_9 : decode cX1_firstSquare 9 = .ok (.iload_n 2, 1) := dk_28 (dk_at dksX1_firstSquare_0 9 rfl rfl)
theorem dX1_firstSquare_10 : decode cX1_firstSquare 10 = .ok (.iaload, 1) := dk_46 (dk_at dksX1_firstSquare_0 10 rfl rfl)
theorem dX1_firstSquare_11 : decode cX1_firstSquare 11 = .ok (.iload_n 1, 1) := dk_27 (dk_at dksX1_firstSquare_0 11 rfl rfl)
theorem dX1_firstSquare_12 : decode cX1_firstSquare 12 = .ok (.if_icmp .eq 9, 3) := dk_159 0 9 (dk_at dksX1_firstSquare_0 12 rfl rfl)
theorem dX1_firstSquare_15 : decode cX1_firstSquare 15 = .ok (.iinc 2 1, 3) := dk_132 2 1 (dk_at dksX1_firstSquare_0 15 rfl rfl)
theorem dX1_firstSquare_18 : decode cX1_firstSquare 18 = .ok (.goto (-16), 3) := dk_167 255 240 (dk_at dksX1_firstSquare_0 18 rfl rfl)
theorem dX1_firstSquare_21 : decode cX1_firstSquare 21 = .ok (.iload_n 2, 1) := dk_28 (dk_at dksX1_firstSquare_0 21 rfl rfl)
theorem dX1_firstSquare_22 : decode cX1_firstSquare 22 = .ok (.ireturn, 1) := dk_172 (dk_at dksX1_firstSquare_0 22 rfl rfl)
abbrev cX1_lastSquare : ByteArray := prog_1_method_53_code
def yX1_lastSquare : MethodName := ⟨RX1, "lastSquare", "(I)I"⟩
def dkwX1_lastSquare_1 : List UInt8 := [172]
abbrev dktX1_lastSquare_1 : List UInt8 := dkwX1_lastSquare_1 ++ []
def dkwX1_lastSquare_0 : List UInt8 := [17, 0, 191, 61, 42, 180, 0, 29, 180, 0, 106, 28, 46, 27, 159, 0, 9, 132, 2, 255, 167, 255, 240, 28]
abbrev dktX1_lastSquare_0 : List UInt8 := dkwX1_lastSquare_0 ++ dktX1_lastSquare_1
theorem dksX1_lastSquare_0 : cX1_lastSquare.data.toList.drop 0 = dktX1_lastSquare_0 := by decide +kernel
theorem dksX1_lastSquare_1 : cX1_lastSquare.data.toList.drop 24 = dktX1_lastSquare_1 := dk_seg dksX1_lastSquare_0 24 rfl rfl
theorem dX1_lastSquare_0 : decode cX1_lastSquare 0 = .ok (.sipush 191, 3) := dk_17 0 191 (dk_at dksX1_lastSquare_0 0 rfl rfl)
theorem dX1_lastSquare_3 : decode cX1_lastSquare 3 = .ok (.istore_n 2, 1) := dk_61 (dk_at dksX1_lastSquare_0 3 rfl rfl)
theorem dX1_lastSquare_4 : decode cX1_lastSquare 4 = .ok (.aload_n 0, 1) := dk_42 (dk_at dksX1_lastSquare_0 4 rfl rfl)
theorem dX1_lastSquare_5 : decode cX1_lastSquare 5 = .ok (.getfield 29, 3) := dk_180 0 29 (dk_at dksX1_lastSquare_0 5 rfl rfl)
theorem dX1_lastSquare_8 : decode cX1_lastSquare 8 = .ok (.getfield 106, 3) := dk_180 0 106 (dk_at dksX1_lastSquare_0 8 rfl rfl)
theorem dX1_lastSquare_11 : decode cX1_lastSquare 11 = .ok (.iload_n 2, 1) := dk_28 (dk_at dksX1_lastSquare_0 11 rfl rfl)
theorem dX1_lastSquare_12 : decode cX1_lastSquare 12 = .ok (.iaload, 1) := dk_46 (dk_at dksX1_lastSquare_0 12 rfl rfl)
theorem dX1_lastSquare_13 : decode cX1_lastSquare 13 = .ok (.iload_n 1, 1) := dk_27 (dk_at dksX1_lastSquare_0 13 rfl rfl)
theorem dX1_lastSquare_14 : decode cX1_lastSquare 14 = .ok (.if_icmp .eq 9, 3) := dk_159 0 9 (dk_at dksX1_lastSquare_0 14 rfl rfl)
theorem dX1_lastSquare_17 : decode cX1_lastSquare 17 = .ok (.iinc 2 (-1), 3) := dk_132 2 255 (dk_at dksX1_lastSquare_0 17 rfl rfl)
theorem dX1_lastSquare_20 : decode cX1_lastSquare 20 = .ok (.goto (-16), 3) := dk_167 255 240 (dk_at dksX1_lastSquare_0 20 rfl rfl)
theorem dX1_lastSquare_23 : decode cX1_lastSquare 23 = .ok (.iload_n 2, 1) := dk_28 (dk_at dksX1_lastSquare_0 23 rfl rfl)
theorem dX1_lastSquare_24 : decode cX1_lastSquare 24 = .ok (.ireturn, 1) := dk_172 (dk_at dksX1_lastSquare_1 0 rfl rfl)
abbrev cX1_doorsOf : ByteArray := prog_1_method_54_code
def yX1_doorsOf : MethodName := ⟨RX1, "doorsOf", "(IZ)I"⟩
def dkwX1_doorsOf_3 : List UInt8 := [62, 132, 4, 1, 167, 255, 187, 29, 172]
abbrev dktX1_doorsOf_3 : List UInt8 := dkwX1_doorsOf_3 ++ []
def dkwX1_doorsOf_2 : List UInt8 := [42, 21, 4, 7, 108, 21, 4, 7, 112, 182, 1, 52, 158, 0, 7, 4, 167, 0, 4, 3, 184, 0, 183, 96]
abbrev dktX1_doorsOf_2 : List UInt8 := dkwX1_doorsOf_2 ++ dktX1_doorsOf_3
def dkwX1_doorsOf_1 : List UInt8 := [182, 1, 49, 27, 160, 0, 7, 4, 167, 0, 4, 3, 54, 5, 29, 21, 5, 153, 0, 26, 28, 153, 0, 18]
abbrev dktX1_doorsOf_1 : List UInt8 := dkwX1_doorsOf_1 ++ dktX1_doorsOf_2
def dkwX1_doorsOf_0 : List UInt8 := [3, 62, 3, 54, 4, 21, 4, 17, 3, 0, 162, 0, 67, 42, 21, 4, 7, 108, 21, 4, 7, 112]
abbrev dktX1_doorsOf_0 : List UInt8 := dkwX1_doorsOf_0 ++ dktX1_doorsOf_1
theorem dksX1_doorsOf_0 : cX1_doorsOf.data.toList.drop 0 = dktX1_doorsOf_0 := by decide +kernel
theorem dksX1_doorsOf_1 : cX1_doorsOf.data.toList.drop 22 = dktX1_doorsOf_1 := dk_seg dksX1_doorsOf_0 22 rfl rfl
theorem dksX1_doorsOf_2 : cX1_doorsOf.data.toList.drop 46 = dktX1_doorsOf_2 := dk_seg dksX1_doorsOf_1 24 rfl rfl
theorem dksX1_doorsOf_3 : cX1_doorsOf.data.toList.drop 70 = dktX1_doorsOf_3 := dk_seg dksX1_doorsOf_2 24 rfl rfl
theorem dX1_doorsOf_0 : decode cX1_doorsOf 0 = .ok (.iconst 0, 1) := dk_3 (dk_at dksX1_doorsOf_0 0 rfl rfl)
theorem dX1_doorsOf_1 : decode cX1_doorsOf 1 = .ok (.istore_n 3, 1) := dk_62 (dk_at dksX1_doorsOf_0 1 rfl rfl)
theorem dX1_doorsOf_2 : decode cX1_doorsOf 2 = .ok (.iconst 0, 1) := dk_3 (dk_at dksX1_doorsOf_0 2 rfl rfl)
theorem dX1_doorsOf_3 : decode cX1_doorsOf 3 = .ok (.istore 4, 2) := dk_54 4 (dk_at dksX1_doorsOf_0 3 rfl rfl)
theorem dX1_doorsOf_5 : decode cX1_doorsOf 5 = .ok (.iload 4, 2) := dk_21 4 (dk_at dksX1_doorsOf_0 5 rfl rfl)
theorem dX1_doorsOf_7 : decode cX1_doorsOf 7 = .ok (.sipush 768, 3) := dk_17 3 0 (dk_at dksX1_doorsOf_0 7 rfl rfl)
theorem dX1_doorsOf_10 : decode cX1_doorsOf 10 = .ok (.if_icmp .ge 67, 3) := dk_162 0 67 (dk_at dksX1_doorsOf_0 10 rfl rfl)
theorem dX1_doorsOf_13 : decode cX1_doorsOf 13 = .ok (.aload_n 0, 1) := dk_42 (dk_at dksX1_doorsOf_0 13 rfl rfl)
theorem dX1_doorsOf_14 : decode cX1_doorsOf 14 = .ok (.iload 4, 2) := dk_21 4 (dk_at dksX1_doorsOf_0 14 rfl rfl)
theorem dX1_doorsOf_16 : decode cX1_doorsOf 16 = .ok (.iconst 4, 1) := dk_7 (dk_at dksX1_doorsOf_0 16 rfl rfl)
theorem dX1_doorsOf_17 : decode cX1_doorsOf 17 = .ok (.idiv, 1) := dk_108 (dk_at dksX1_doorsOf_0 17 rfl rfl)
theorem dX1_doorsOf_18 : decode cX1_doorsOf 18 = .ok (.iload 4, 2) := dk_21 4 (dk_at dksX1_doorsOf_0 18 rfl rfl)
theorem dX1_doorsOf_20 : decode cX1_doorsOf 20 = .ok (.iconst 4, 1) := dk_7 (dk_at dksX1_doorsOf_0 20 rfl rfl)
theorem dX1_doorsOf_21 : decode cX1_doorsOf 21 = .ok (.irem, 1) := dk_112 (dk_at dksX1_doorsOf_0 21 rfl rfl)
theorem dX1_doorsOf_22 : decode cX1_doorsOf 22 = .ok (.invokevirtual 305, 3) := dk_182 1 49 (dk_at dksX1_doorsOf_1 0 rfl rfl)
theorem dX1_doorsOf_25 : decode cX1_doorsOf 25 = .ok (.iload_n 1, 1) := dk_27 (dk_at dksX1_doorsOf_1 3 rfl rfl)
theorem dX1_doorsOf_26 : decode cX1_doorsOf 26 = .ok (.if_icmp .ne 7, 3) := dk_160 0 7 (dk_at dksX1_doorsOf_1 4 rfl rfl)
theorem dX1_doorsOf_29 : decode cX1_doorsOf 29 = .ok (.iconst 1, 1) := dk_4 (dk_at dksX1_doorsOf_1 7 rfl rfl)
theorem dX1_doorsOf_30 : decode cX1_doorsOf 30 = .ok (.goto 4, 3) := dk_167 0 4 (dk_at dksX1_doorsOf_1 8 rfl rfl)
theorem dX1_doorsOf_33 : decode cX1_doorsOf 33 = .ok (.iconst 0, 1) := dk_3 (dk_at dksX1_doorsOf_1 11 rfl rfl)
theorem dX1_doorsOf_34 : decode cX1_doorsOf 34 = .ok (.istore 5, 2) := dk_54 5 (dk_at dksX1_doorsOf_1 12 rfl rfl)
theorem dX1_doorsOf_36 : decode cX1_doorsOf 36 = .ok (.iload_n 3, 1) := dk_29 (dk_at dksX1_doorsOf_1 14 rfl rfl)
theorem dX1_doorsOf_37 : decode cX1_doorsOf 37 = .ok (.iload 5, 2) := dk_21 5 (dk_at dksX1_doorsOf_1 15 rfl rfl)
theorem dX1_doorsOf_39 : decode cX1_doorsOf 39 = .ok (.ifCond .eq 26, 3) := dk_153 0 26 (dk_at dksX1_doorsOf_1 17 rfl rfl)
theorem dX1_doorsOf_42 : decode cX1_doorsOf 42 = .ok (.iload_n 2, 1) := dk_28 (dk_at dksX1_doorsOf_1 20 rfl rfl)
theorem dX1_doorsOf_43 : decode cX1_doorsOf 43 = .ok (.ifCond .eq 18, 3) := dk_153 0 18 (dk_at dksX1_doorsOf_1 21 rfl rfl)
theorem dX1_doorsOf_46 : decode cX1_doorsOf 46 = .ok (.aload_n 0, 1) := dk_42 (dk_at dksX1_doorsOf_2 0 rfl rfl)
theorem dX1_doorsOf_47 : decode cX1_doorsOf 47 = .ok (.iload 4, 2) := dk_21 4 (dk_at dksX1_doorsOf_2 1 rfl rfl)
theorem dX1_doorsOf_49 : decode cX1_doorsOf 49 = .ok (.iconst 4, 1) := dk_7 (dk_at dksX1_doorsOf_2 3 rfl rfl)
theorem dX1_doorsOf_50 : decode cX1_doorsOf 50 = .ok (.idiv, 1) := dk_108 (dk_at dksX1_doorsOf_2 4 rfl rfl)
theorem dX1_doorsOf_51 : decode cX1_doorsOf 51 = .ok (.iload 4, 2) := dk_21 4 (dk_at dksX1_doorsOf_2 5 rfl rfl)
theorem dX1_doorsOf_53 : decode cX1_doorsOf 53 = .ok (.iconst 4, 1) := dk_7 (dk_at dksX1_doorsOf_2 7 rfl rfl)
theorem dX1_doorsOf_54 : decode cX1_doorsOf 54 = .ok (.irem, 1) := dk_112 (dk_at dksX1_doorsOf_2 8 rfl rfl)
theorem dX1_doorsOf_55 : decode cX1_doorsOf 55 = .ok (.invokevirtual 308, 3) := dk_182 1 52 (dk_at dksX1_doorsOf_2 9 rfl rfl)
theorem dX1_doorsOf_58 : decode cX1_doorsOf 58 = .ok (.ifCond .le 7, 3) := dk_158 0 7 (dk_at dksX1_doorsOf_2 12 rfl rfl)
theorem dX1_doorsOf_61 : decode cX1_doorsOf 61 = .ok (.iconst 1, 1) := dk_4 (dk_at dksX1_doorsOf_2 15 rfl rfl)
theorem dX1_doorsOf_62 : decode cX1_doorsOf 62 = .ok (.goto 4, 3) := dk_167 0 4 (dk_at dksX1_doorsOf_2 16 rfl rfl)
theorem dX1_doorsOf_65 : decode cX1_doorsOf 65 = .ok (.iconst 0, 1) := dk_3 (dk_at dksX1_doorsOf_2 19 rfl rfl)
theorem dX1_doorsOf_66 : decode cX1_doorsOf 66 = .ok (.invokestatic 183, 3) := dk_184 0 183 (dk_at dksX1_doorsOf_2 20 rfl rfl)
theorem dX1_doorsOf_69 : decode cX1_doorsOf 69 = .ok (.iadd, 1) := dk_96 (dk_at dksX1_doorsOf_2 23 rfl rfl)
theorem dX1_doorsOf_70 : decode cX1_doorsOf 70 = .ok (.istore_n 3, 1) := dk_62 (dk_at dksX1_doorsOf_3 0 rfl rfl)
theorem dX1_doorsOf_71 : decode cX1_doorsOf 71 = .ok (.iinc 4 1, 3) := dk_132 4 1 (dk_at dksX1_doorsOf_3 1 rfl rfl)
theorem dX1_doorsOf_74 : decode cX1_doorsOf 74 = .ok (.goto (-69), 3) := dk_167 255 187 (dk_at dksX1_doorsOf_3 4 rfl rfl)
theorem dX1_doorsOf_77 : decode cX1_doorsOf 77 = .ok (.iload_n 3, 1) := dk_29 (dk_at dksX1_doorsOf_3 7 rfl rfl)
theorem dX1_doorsOf_78 : decode cX1_doorsOf 78 = .ok (.ireturn, 1) := dk_172 (dk_at dksX1_doorsOf_3 8 rfl rfl)
abbrev cX1_walked : ByteArray := prog_1_method_55_code
def yX1_walked : MethodName := ⟨RX1, "walked", "(IZ)I"⟩
def dkwX1_walked_3 : List UInt8 := [21, 6, 184, 0, 183, 96, 62, 132, 4, 1, 167, 255, 183, 29, 172]
abbrev dktX1_walked_3 : List UInt8 := dkwX1_walked_3 ++ []
def dkwX1_walked_2 : List UInt8 := [184, 0, 223, 27, 21, 4, 184, 1, 58, 182, 0, 220, 153, 0, 7, 4, 167, 0, 4, 3, 54, 6, 29]
abbrev dktX1_walked_2 : List UInt8 := dkwX1_walked_2 ++ dktX1_walked_3
def dkwX1_walked_1 : List UInt8 := [158, 0, 7, 4, 167, 0, 4, 3, 54, 5, 21, 5, 153, 0, 30, 28, 153, 0, 22, 42, 27, 21, 4]
abbrev dktX1_walked_1 : List UInt8 := dkwX1_walked_1 ++ dktX1_walked_2
def dkwX1_walked_0 : List UInt8 := [3, 62, 3, 54, 4, 21, 4, 16, 6, 162, 0, 72, 42, 180, 0, 29, 27, 21, 4, 182, 0, 146]
abbrev dktX1_walked_0 : List UInt8 := dkwX1_walked_0 ++ dktX1_walked_1
theorem dksX1_walked_0 : cX1_walked.data.toList.drop 0 = dktX1_walked_0 := by decide +kernel
theorem dksX1_walked_1 : cX1_walked.data.toList.drop 22 = dktX1_walked_1 := dk_seg dksX1_walked_0 22 rfl rfl
theorem dksX1_walked_2 : cX1_walked.data.toList.drop 45 = dktX1_walked_2 := dk_seg dksX1_walked_1 23 rfl rfl
theorem dksX1_walked_3 : cX1_walked.data.toList.drop 68 = dktX1_walked_3 := dk_seg dksX1_walked_2 23 rfl rfl
theorem dX1_walked_0 : decode cX1_walked 0 = .ok (.iconst 0, 1) := dk_3 (dk_at dksX1_walked_0 0 rfl rfl)
theorem dX1_walked_1 : decode cX1_walked 1 = .ok (.istore_n 3, 1) := dk_62 (dk_at dksX1_walked_0 1 rfl rfl)
theorem dX1_walked_2 : decode cX1_walked 2 = .ok (.iconst 0, 1) := dk_3 (dk_at dksX1_walked_0 2 rfl rfl)
theorem dX1_walked_3 : decode cX1_walked 3 = .ok (.istore 4, 2) := dk_54 4 (dk_at dksX1_walked_0 3 rfl rfl)
theorem dX1_walked_5 : decode cX1_walked 5 = .ok (.iload 4, 2) := dk_21 4 (dk_at dksX1_walked_0 5 rfl rfl)
theorem dX1_walked_7 : decode cX1_walked 7 = .ok (.bipush 6, 2) := dk_16 6 (dk_at dksX1_walked_0 7 rfl rfl)
theorem dX1_walked_9 : decode cX1_walked 9 = .ok (.if_icmp .ge 72, 3) := dk_162 0 72 (dk_at dksX1_walked_0 9 rfl rfl)
theorem dX1_walked_12 : decode cX1_walked 12 = .ok (.aload_n 0, 1) := dk_42 (dk_at dksX1_walked_0 12 rfl rfl)
theorem dX1_walked_13 : decode cX1_walked 13 = .ok (.getfield 29, 3) := dk_180 0 29 (dk_at dksX1_walked_0 13 rfl rfl)
theorem dX1_walked_16 : decode cX1_walked 16 = .ok (.iload_n 1, 1) := dk_27 (dk_at dksX1_walked_0 16 rfl rfl)
theorem dX1_walked_17 : decode cX1_walked 17 = .ok (.iload 4, 2) := dk_21 4 (dk_at dksX1_walked_0 17 rfl rfl)
theorem dX1_walked_19 : decode cX1_walked 19 = .ok (.invokevirtual 146, 3) := dk_182 0 146 (dk_at dksX1_walked_0 19 rfl rfl)
theorem dX1_walked_22 : decode cX1_walked 22 = .ok (.ifCond .le 7, 3) := dk_158 0 7 (dk_at dksX1_walked_1 0 rfl rfl)
theorem dX1_walked_25 : decode cX1_walked 25 = .ok (.iconst 1, 1) := dk_4 (dk_at dksX1_walked_1 3 rfl rfl)
theorem dX1_walked_26 : decode cX1_walked 26 = .ok (.goto 4, 3) := dk_167 0 4 (dk_at dksX1_walked_1 4 rfl rfl)
theorem dX1_walked_29 : decode cX1_walked 29 = .ok (.iconst 0, 1) := dk_3 (dk_at dksX1_walked_1 7 rfl rfl)
theorem dX1_walked_30 : decode cX1_walked 30 = .ok (.istore 5, 2) := dk_54 5 (dk_at dksX1_walked_1 8 rfl rfl)
theorem dX1_walked_32 : decode cX1_walked 32 = .ok (.iload 5, 2) := dk_21 5 (dk_at dksX1_walked_1 10 rfl rfl)
theorem dX1_walked_34 : decode cX1_walked 34 = .ok (.ifCond .eq 30, 3) := dk_153 0 30 (dk_at dksX1_walked_1 12 rfl rfl)
theorem dX1_walked_37 : decode cX1_walked 37 = .ok (.iload_n 2, 1) := dk_28 (dk_at dksX1_walked_1 15 rfl rfl)
theorem dX1_walked_38 : decode cX1_walked 38 = .ok (.ifCond .eq 22, 3) := dk_153 0 22 (dk_at dksX1_walked_1 16 rfl rfl)
theorem dX1_walked_41 : decode cX1_walked 41 = .ok (.aload_n 0, 1) := dk_42 (dk_at dksX1_walked_1 19 rfl rfl)
theorem dX1_walked_42 : decode cX1_walked 42 = .ok (.iload_n 1, 1) := dk_27 (dk_at dksX1_walked_1 20 rfl rfl)
theorem dX1_walked_43 : decode cX1_walked 43 = .ok (.iload 4, 2) := dk_21 4 (dk_at dksX1_walked_1 21 rfl rfl)
theorem dX1_walked_45 : decode cX1_walked 45 = .ok (.invokestatic 223, 3) := dk_184 0 223 (dk_at dksX1_walked_2 0 rfl rfl)
theorem dX1_walked_48 : decode cX1_walked 48 = .ok (.iload_n 1, 1) := dk_27 (dk_at dksX1_walked_2 3 rfl rfl)
theorem dX1_walked_49 : decode cX1_walked 49 = .ok (.iload 4, 2) := dk_21 4 (dk_at dksX1_walked_2 4 rfl rfl)
theorem dX1_walked_51 : decode cX1_walked 51 = .ok (.invokestatic 314, 3) := dk_184 1 58 (dk_at dksX1_walked_2 6 rfl rfl)
theorem dX1_walked_54 : decode cX1_walked 54 = .ok (.invokevirtual 220, 3) := dk_182 0 220 (dk_at dksX1_walked_2 9 rfl rfl)
theorem dX1_walked_57 : decode cX1_walked 57 = .ok (.ifCond .eq 7, 3) := dk_153 0 7 (dk_at dksX1_walked_2 12 rfl rfl)
theorem dX1_walked_60 : decode cX1_walked 60 = .ok (.iconst 1, 1) := dk_4 (dk_at dksX1_walked_2 15 rfl rfl)
theorem dX1_walked_61 : decode cX1_walked 61 = .ok (.goto 4, 3) := dk_167 0 4 (dk_at dksX1_walked_2 16 rfl rfl)
theorem dX1_walked_64 : decode cX1_walked 64 = .ok (.iconst 0, 1) := dk_3 (dk_at dksX1_walked_2 19 rfl rfl)
theorem dX1_walked_65 : decode cX1_walked 65 = .ok (.istore 6, 2) := dk_54 6 (dk_at dksX1_walked_2 20 rfl rfl)
theorem dX1_walked_67 : decode cX1_walked 67 = .ok (.iload_n 3, 1) := dk_29 (dk_at dksX1_walked_2 22 rfl rfl)
theorem dX1_walked_68 : decode cX1_walked 68 = .ok (.iload 6, 2) := dk_21 6 (dk_at dksX1_walked_3 0 rfl rfl)
theorem dX1_walked_70 : decode cX1_walked 70 = .ok (.invokestatic 183, 3) := dk_184 0 183 (dk_at dksX1_walked_3 2 rfl rfl)
theorem dX1_walked_73 : decode cX1_walked 73 = .ok (.iadd, 1) := dk_96 (dk_at dksX1_walked_3 5 rfl rfl)
theorem dX1_walked_74 : decode cX1_walked 74 = .ok (.istore_n 3, 1) := dk_62 (dk_at dksX1_walked_3 6 rfl rfl)
theorem dX1_walked_75 : decode cX1_walked 75 = .ok (.iinc 4 1, 3) := dk_132 4 1 (dk_at dksX1_walked_3 7 rfl rfl)
theorem dX1_walked_78 : decode cX1_walked 78 = .ok (.goto (-73), 3) := dk_167 255 183 (dk_at dksX1_walked_3 10 rfl rfl)
theorem dX1_walked_81 : decode cX1_walked 81 = .ok (.iload_n 3, 1) := dk_29 (dk_at dksX1_walked_3 13 rfl rfl)
theorem dX1_walked_82 : decode cX1_walked 82 = .ok (.ireturn, 1) := dk_172 (dk_at dksX1_walked_3 14 rfl rfl)
abbrev cX1_wayPart : ByteArray := prog_1_method_58_code
def yX1_wayPart : MethodName := ⟨RX1, "wayPart", "(ZIII)I"⟩
def dkwX1_wayPart_3 : List UInt8 := [167, 0, 14, 42, 180, 0, 69, 42, 180, 0, 202, 4, 100, 46, 172]
abbrev dktX1_wayPart_3 : List UInt8 := dkwX1_wayPart_3 ++ []
def dkwX1_wayPart_2 : List UInt8 := [160, 0, 10, 42, 180, 0, 202, 167, 0, 29, 21, 4, 5, 160, 0, 12, 42, 180, 0, 69, 3, 46]
abbrev dktX1_wayPart_2 : List UInt8 := dkwX1_wayPart_2 ++ dktX1_wayPart_3
def dkwX1_wayPart_1 : List UInt8 := [182, 0, 146, 167, 0, 4, 2, 172, 21, 4, 154, 0, 10, 42, 182, 0, 211, 167, 0, 42, 21, 4, 4]
abbrev dktX1_wayPart_1 : List UInt8 := dkwX1_wayPart_1 ++ dktX1_wayPart_2
def dkwX1_wayPart_0 : List UInt8 := [21, 4, 7, 159, 0, 7, 27, 154, 0, 23, 21, 4, 7, 160, 0, 15, 42, 180, 0, 29, 28, 29]
abbrev dktX1_wayPart_0 : List UInt8 := dkwX1_wayPart_0 ++ dktX1_wayPart_1
theorem dksX1_wayPart_0 : cX1_wayPart.data.toList.drop 0 = dktX1_wayPart_0 := by decide +kernel
theorem dksX1_wayPart_1 : cX1_wayPart.data.toList.drop 22 = dktX1_wayPart_1 := dk_seg dksX1_wayPart_0 22 rfl rfl
theorem dksX1_wayPart_2 : cX1_wayPart.data.toList.drop 45 = dktX1_wayPart_2 := dk_seg dksX1_wayPart_1 23 rfl rfl
theorem dksX1_wayPart_3 : cX1_wayPart.data.toList.drop 67 = dktX1_wayPart_3 := dk_seg dksX1_wayPart_2 22 rfl rfl
theorem dX1_wayPart_0 : decode cX1_wayPart 0 = .ok (.iload 4, 2) := dk_21 4 (dk_at dksX1_wayPart_0 0 rfl rfl)
theorem dX1_wayPart_2 : decode cX1_wayPart 2 = .ok (.iconst 4, 1) := dk_7 (dk_at dksX1_wayPart_0 2 rfl rfl)
theorem dX1_wayPart_3 : decode cX1_wayPart 3 = .ok (.if_icmp .eq 7, 3) := dk_159 0 7 (dk_at dksX1_wayPart_0 3 rfl rfl)
theorem dX1_wayPart_6 : decode cX1_wayPart 6 = .ok (.iload_n 1, 1) := dk_27 (dk_at dksX1_wayPart_0 6 rfl rfl)
theorem dX1_wayPart_7 : decode cX1_wayPart 7 = .ok (.ifCond .ne 23, 3) := dk_154 0 23 (dk_at dksX1_wayPart_0 7 rfl rfl)
theorem dX1_wayPart_10 : decode cX1_wayPart 10 = .ok (.iload 4, 2) := dk_21 4 (dk_at dksX1_wayPart_0 10 rfl rfl)
theorem dX1_wayPart_12 : decode cX1_wayPart 12 = .ok (.iconst 4, 1) := dk_7 (dk_at dksX1_wayPart_0 12 rfl rfl)
theorem dX1_wayPart_13 : decode cX1_wayPart 13 = .ok (.if_icmp .ne 15, 3) := dk_160 0 15 (dk_at dksX1_wayPart_0 13 rfl rfl)
theorem dX1_wayPart_16 : decode cX1_wayPart 16 = .ok (.aload_n 0, 1) := dk_42 (dk_at dksX1_wayPart_0 16 rfl rfl)
theorem dX1_wayPart_17 : decode cX1_wayPart 17 = .ok (.getfield 29, 3) := dk_180 0 29 (dk_at dksX1_wayPart_0 17 rfl rfl)
theorem dX1_wayPart_20 : decode cX1_wayPart 20 = .ok (.iload_n 2, 1) := dk_28 (dk_at dksX1_wayPart_0 20 rfl rfl)
theorem dX1_wayPart_21 : decode cX1_wayPart 21 = .ok (.iload_n 3, 1) := dk_29 (dk_at dksX1_wayPart_0 21 rfl rfl)
theorem dX1_wayPart_22 : decode cX1_wayPart 22 = .ok (.invokevirtual 146, 3) := dk_182 0 146 (dk_at dksX1_wayPart_1 0 rfl rfl)
theorem dX1_wayPart_25 : decode cX1_wayPart 25 = .ok (.goto 4, 3) := dk_167 0 4 (dk_at dksX1_wayPart_1 3 rfl rfl)
theorem dX1_wayPart_28 : decode cX1_wayPart 28 = .ok (.iconst (-1), 1) := dk_2 (dk_at dksX1_wayPart_1 6 rfl rfl)
theorem dX1_wayPart_29 : decode cX1_wayPart 29 = .ok (.ireturn, 1) := dk_172 (dk_at dksX1_wayPart_1 7 rfl rfl)
theorem dX1_wayPart_30 : decode cX1_wayPart 30 = .ok (.iload 4, 2) := dk_21 4 (dk_at dksX1_wayPart_1 8 rfl rfl)
theorem dX1_wayPart_32 : decode cX1_wayPart 32 = .ok (.ifCond .ne 10, 3) := dk_154 0 10 (dk_at dksX1_wayPart_1 10 rfl rfl)
theorem dX1_wayPart_35 : decode cX1_wayPart 35 = .ok (.aload_n 0, 1) := dk_42 (dk_at dksX1_wayPart_1 13 rfl rfl)
theorem dX1_wayPart_36 : decode cX1_wayPart 36 = .ok (.invokevirtual 211, 3) := dk_182 0 211 (dk_at dksX1_wayPart_1 14 rfl rfl)
theorem dX1_wayPart_39 : decode cX1_wayPart 39 = .ok (.goto 42, 3) := dk_167 0 42 (dk_at dksX1_wayPart_1 17 rfl rfl)
theorem dX1_wayPart_42 : decode cX1_wayPart 42 = .ok (.iload 4, 2) := dk_21 4 (dk_at dksX1_wayPart_1 20 rfl rfl)
theorem dX1_wayPart_44 : decode cX1_wayPart 44 = .ok (.iconst 1, 1) := dk_4 (dk_at dksX1_wayPart_1 22 rfl rfl)
theorem dX1_wayPart_45 : decode cX1_wayPart 45 = .ok (.if_icmp .ne 10, 3) := dk_160 0 10 (dk_at dksX1_wayPart_2 0 rfl rfl)
theorem dX1_wayPart_48 : decode cX1_wayPart 48 = .ok (.aload_n 0, 1) := dk_42 (dk_at dksX1_wayPart_2 3 rfl rfl)
theorem dX1_wayPart_49 : decode cX1_wayPart 49 = .ok (.getfield 202, 3) := dk_180 0 202 (dk_at dksX1_wayPart_2 4 rfl rfl)
theorem dX1_wayPart_52 : decode cX1_wayPart 52 = .ok (.goto 29, 3) := dk_167 0 29 (dk_at dksX1_wayPart_2 7 rfl rfl)
theorem dX1_wayPart_55 : decode cX1_wayPart 55 = .ok (.iload 4, 2) := dk_21 4 (dk_at dksX1_wayPart_2 10 rfl rfl)
theorem dX1_wayPart_57 : decode cX1_wayPart 57 = .ok (.iconst 2, 1) := dk_5 (dk_at dksX1_wayPart_2 12 rfl rfl)
theorem dX1_wayPart_58 : decode cX1_wayPart 58 = .ok (.if_icmp .ne 12, 3) := dk_160 0 12 (dk_at dksX1_wayPart_2 13 rfl rfl)
theorem dX1_wayPart_61 : decode cX1_wayPart 61 = .ok (.aload_n 0, 1) := dk_42 (dk_at dksX1_wayPart_2 16 rfl rfl)
theorem dX1_wayPart_62 : decode cX1_wayPart 62 = .ok (.getfield 69, 3) := dk_180 0 69 (dk_at dksX1_wayPart_2 17 rfl rfl)
theorem dX1_wayPart_65 : decode cX1_wayPart 65 = .ok (.iconst 0, 1) := dk_3 (dk_at dksX1_wayPart_2 20 rfl rfl)
theorem dX1_wayPart_66 : decode cX1_wayPart 66 = .ok (.iaload, 1) := dk_46 (dk_at dksX1_wayPart_2 21 rfl rfl)
theorem dX1_wayPart_67 : decode cX1_wayPart 67 = .ok (.goto 14, 3) := dk_167 0 14 (dk_at dksX1_wayPart_3 0 rfl rfl)
theorem dX1_wayPart_70 : decode cX1_wayPart 70 = .ok (.aload_n 0, 1) := dk_42 (dk_at dksX1_wayPart_3 3 rfl rfl)
theorem dX1_wayPart_71 : decode cX1_wayPart 71 = .ok (.getfield 69, 3) := dk_180 0 69 (dk_at dksX1_wayPart_3 4 rfl rfl)
theorem dX1_wayPart_74 : decode cX1_wayPart 74 = .ok (.aload_n 0, 1) := dk_42 (dk_at dksX1_wayPart_3 7 rfl rfl)
theorem dX1_wayPart_75 : decode cX1_wayPart 75 = .ok (.getfield 202, 3) := dk_180 0 202 (dk_at dksX1_wayPart_3 8 rfl rfl)
theorem dX1_wayPart_78 : decode cX1_wayPart 78 = .ok (.iconst 1, 1) := dk_4 (dk_at dksX1_wayPart_3 11 rfl rfl)
theorem dX1_wayPart_79 : decode cX1_wayPart 79 = .ok (.isub, 1) := dk_100 (dk_at dksX1_wayPart_3 12 rfl rfl)
theorem dX1_wayPart_80 : decode cX1_wayPart 80 = .ok (.iaload, 1) := dk_46 (dk_at dksX1_wayPart_3 13 rfl rfl)
theorem dX1_wayPart_81 : decode cX1_wayPart 81 = .ok (.ireturn, 1) := dk_172 (dk_at dksX1_wayPart_3 14 rfl rfl)
abbrev cX1_dugThen : ByteArray := prog_1_method_64_code
def yX1_dugThen : MethodName := ⟨RX1, "dugThen", "(II)I"⟩
def dkwX1_dugThen_3 : List UInt8 := [180, 0, 106, 27, 16, 253, 42, 180, 0, 29, 180, 0, 106, 27, 46, 100, 79, 29, 172]
abbrev dktX1_dugThen_3 : List UInt8 := dkwX1_dugThen_3 ++ []
def dkwX1_dugThen_2 : List UInt8 := [4, 160, 0, 10, 42, 182, 1, 91, 167, 0, 9, 42, 16, 7, 182, 1, 88, 62, 42, 180, 0, 29]
abbrev dktX1_dugThen_2 : List UInt8 := dkwX1_dugThen_2 ++ dktX1_dugThen_3
def dkwX1_dugThen_1 : List UInt8 := [42, 180, 0, 29, 180, 0, 106, 27, 46, 100, 79, 28, 154, 0, 11, 42, 7, 182, 1, 88, 167, 0, 21, 28]
abbrev dktX1_dugThen_1 : List UInt8 := dkwX1_dugThen_1 ++ dktX1_dugThen_2
def dkwX1_dugThen_0 : List UInt8 := [42, 180, 0, 29, 180, 0, 106, 27, 46, 155, 0, 5, 2, 172, 42, 180, 0, 29, 180, 0, 106, 27, 16, 253]
abbrev dktX1_dugThen_0 : List UInt8 := dkwX1_dugThen_0 ++ dktX1_dugThen_1
theorem dksX1_dugThen_0 : cX1_dugThen.data.toList.drop 0 = dktX1_dugThen_0 := by decide +kernel
theorem dksX1_dugThen_1 : cX1_dugThen.data.toList.drop 24 = dktX1_dugThen_1 := dk_seg dksX1_dugThen_0 24 rfl rfl
theorem dksX1_dugThen_2 : cX1_dugThen.data.toList.drop 48 = dktX1_dugThen_2 := dk_seg dksX1_dugThen_1 24 rfl rfl
theorem dksX1_dugThen_3 : cX1_dugThen.data.toList.drop 70 = dktX1_dugThen_3 := dk_seg dksX1_dugThen_2 22 rfl rfl
theorem dX1_dugThen_0 : decode cX1_dugThen 0 = .ok (.aload_n 0, 1) := dk_42 (dk_at dksX1_dugThen_0 0 rfl rfl)
theorem dX1_dugThen_1 : decode cX1_dugThen 1 = .ok (.getfield 29, 3) := dk_180 0 29 (dk_at dksX1_dugThen_0 1 rfl rfl)
theorem dX1_dugThen_4 : decode cX1_dugThen 4 = .ok (.getfield 106, 3) := dk_180 0 106 (dk_at dksX1_dugThen_0 4 rfl rfl)
theorem dX1_dugThen_7 : decode cX1_dugThen 7 = .ok (.iload_n 1, 1) := dk_27 (dk_at dksX1_dugThen_0 7 rfl rfl)
theorem dX1_dugThen_8 : decode cX1_dugThen 8 = .ok (.iaload, 1) := dk_46 (dk_at dksX1_dugThen_0 8 rfl rfl)
theorem dX1_dugThen_9 : decode cX1_dugThen 9 = .ok (.ifCond .lt 5, 3) := dk_155 0 5 (dk_at dksX1_dugThen_0 9 rfl rfl)
theorem dX1_dugThen_12 : decode cX1_dugThen 12 = .ok (.iconst (-1), 1) := dk_2 (dk_at dksX1_dugThen_0 12 rfl rfl)
theorem dX1_dugThen_13 : decode cX1_dugThen 13 = .ok (.ireturn, 1) := dk_172 (dk_at dksX1_dugThen_0 13 rfl rfl)
theorem dX1_dugThen_14 : decode cX1_dugThen 14 = .ok (.aload_n 0, 1) := dk_42 (dk_at dksX1_dugThen_0 14 rfl rfl)
theorem dX1_dugThen_15 : decode cX1_dugThen 15 = .ok (.getfield 29, 3) := dk_180 0 29 (dk_at dksX1_dugThen_0 15 rfl rfl)
theorem dX1_dugThen_18 : decode cX1_dugThen 18 = .ok (.getfield 106, 3) := dk_180 0 106 (dk_at dksX1_dugThen_0 18 rfl rfl)
theorem dX1_dugThen_21 : decode cX1_dugThen 21 = .ok (.iload_n 1, 1) := dk_27 (dk_at dksX1_dugThen_0 21 rfl rfl)
theorem dX1_dugThen_22 : decode cX1_dugThen 22 = .ok (.bipush (-3), 2) := dk_16 253 (dk_at dksX1_dugThen_0 22 rfl rfl)
theorem dX1_dugThen_24 : decode cX1_dugThen 24 = .ok (.aload_n 0, 1) := dk_42 (dk_at dksX1_dugThen_1 0 rfl rfl)
theorem dX1_dugThen_25 : decode cX1_dugThen 25 = .ok (.getfield 29, 3) := dk_180 0 29 (dk_at dksX1_dugThen_1 1 rfl rfl)
theorem dX1_dugThen_28 : decode cX1_dugThen 28 = .ok (.getfield 106, 3) := dk_180 0 106 (dk_at dksX1_dugThen_1 4 rfl rfl)
theorem dX1_dugThen_31 : decode cX1_dugThen 31 = .ok (.iload_n 1, 1) := dk_27 (dk_at dksX1_dugThen_1 7 rfl rfl)
theorem dX1_dugThen_32 : decode cX1_dugThen 32 = .ok (.iaload, 1) := dk_46 (dk_at dksX1_dugThen_1 8 rfl rfl)
theorem dX1_dugThen_33 : decode cX1_dugThen 33 = .ok (.isub, 1) := dk_100 (dk_at dksX1_dugThen_1 9 rfl rfl)
theorem dX1_dugThen_34 : decode cX1_dugThen 34 = .ok (.iastore, 1) := dk_79 (dk_at dksX1_dugThen_1 10 rfl rfl)
theorem dX1_dugThen_35 : decode cX1_dugThen 35 = .ok (.iload_n 2, 1) := dk_28 (dk_at dksX1_dugThen_1 11 rfl rfl)
theorem dX1_dugThen_36 : decode cX1_dugThen 36 = .ok (.ifCond .ne 11, 3) := dk_154 0 11 (dk_at dksX1_dugThen_1 12 rfl rfl)
theorem dX1_dugThen_39 : decode cX1_dugThen 39 = .ok (.aload_n 0, 1) := dk_42 (dk_at dksX1_dugThen_1 15 rfl rfl)
theorem dX1_dugThen_40 : decode cX1_dugThen 40 = .ok (.iconst 4, 1) := dk_7 (dk_at dksX1_dugThen_1 16 rfl rfl)
theorem dX1_dugThen_41 : decode cX1_dugThen 41 = .ok (.invokevirtual 344, 3) := dk_182 1 88 (dk_at dksX1_dugThen_1 17 rfl rfl)
theorem dX1_dugThen_44 : decode cX1_dugThen 44 = .ok (.goto 21, 3) := dk_167 0 21 (dk_at dksX1_dugThen_1 20 rfl rfl)
theorem dX1_dugThen_47 : decode cX1_dugThen 47 = .ok (.iload_n 2, 1) := dk_28 (dk_at dksX1_dugThen_1 23 rfl rfl)
theorem dX1_dugThen_48 : decode cX1_dugThen 48 = .ok (.iconst 1, 1) := dk_4 (dk_at dksX1_dugThen_2 0 rfl rfl)
theorem dX1_dugThen_49 : decode cX1_dugThen 49 = .ok (.if_icmp .ne 10, 3) := dk_160 0 10 (dk_at dksX1_dugThen_2 1 rfl rfl)
theorem dX1_dugThen_52 : decode cX1_dugThen 52 = .ok (.aload_n 0, 1) := dk_42 (dk_at dksX1_dugThen_2 4 rfl rfl)
theorem dX1_dugThen_53 : decode cX1_dugThen 53 = .ok (.invokevirtual 347, 3) := dk_182 1 91 (dk_at dksX1_dugThen_2 5 rfl rfl)
theorem dX1_dugThen_56 : decode cX1_dugThen 56 = .ok (.goto 9, 3) := dk_167 0 9 (dk_at dksX1_dugThen_2 8 rfl rfl)
theorem dX1_dugThen_59 : decode cX1_dugThen 59 = .ok (.aload_n 0, 1) := dk_42 (dk_at dksX1_dugThen_2 11 rfl rfl)
theorem dX1_dugThen_60 : decode cX1_dugThen 60 = .ok (.bipush 7, 2) := dk_16 7 (dk_at dksX1_dugThen_2 12 rfl rfl)
theorem dX1_dugThen_62 : decode cX1_dugThen 62 = .ok (.invokevirtual 344, 3) := dk_182 1 88 (dk_at dksX1_dugThen_2 14 rfl rfl)
theorem dX1_dugThen_65 : decode cX1_dugThen 65 = .ok (.istore_n 3, 1) := dk_62 (dk_at dksX1_dugThen_2 17 rfl rfl)
theorem dX1_dugThen_66 : decode cX1_dugThen 66 = .ok (.aload_n 0, 1) := dk_42 (dk_at dksX1_dugThen_2 18 rfl rfl)
theorem dX1_dugThen_67 : decode cX1_dugThen 67 = .ok (.getfield 29, 3) := dk_180 0 29 (dk_at dksX1_dugThen_2 19 rfl rfl)
theorem dX1_dugThen_70 : decode cX1_dugThen 70 = .ok (.getfield 106, 3) := dk_180 0 106 (dk_at dksX1_dugThen_3 0 rfl rfl)
theorem dX1_dugThen_73 : decode cX1_dugThen 73 = .ok (.iload_n 1, 1) := dk_27 (dk_at dksX1_dugThen_3 3 rfl rfl)
theorem dX1_dugThen_74 : decode cX1_dugThen 74 = .ok (.bipush (-3), 2) := dk_16 253 (dk_at dksX1_dugThen_3 4 rfl rfl)
theorem dX1_dugThen_76 : decode cX1_dugThen 76 = .ok (.aload_n 0, 1) := dk_42 (dk_at dksX1_dugThen_3 6 rfl rfl)
theorem dX1_dugThen_77 : decode cX1_dugThen 77 = .ok (.getfield 29, 3) := dk_180 0 29 (dk_at dksX1_dugThen_3 7 rfl rfl)
theorem dX1_dugThen_80 : decode cX1_dugThen 80 = .ok (.getfield 106, 3) := dk_180 0 106 (dk_at dksX1_dugThen_3 10 rfl rfl)
theorem dX1_dugThen_83 : decode cX1_dugThen 83 = .ok (.iload_n 1, 1) := dk_27 (dk_at dksX1_dugThen_3 13 rfl rfl)
theorem dX1_dugThen_84 : decode cX1_dugThen 84 = .ok (.iaload, 1) := dk_46 (dk_at dksX1_dugThen_3 14 rfl rfl)
theorem dX1_dugThen_85 : decode cX1_dugThen 85 = .ok (.isub, 1) := dk_100 (dk_at dksX1_dugThen_3 15 rfl rfl)
theorem dX1_dugThen_86 : decode cX1_dugThen 86 = .ok (.iastore, 1) := dk_79 (dk_at dksX1_dugThen_3 16 rfl rfl)
theorem dX1_dugThen_87 : decode cX1_dugThen 87 = .ok (.iload_n 3, 1) := dk_29 (dk_at dksX1_dugThen_3 17 rfl rfl)
theorem dX1_dugThen_88 : decode cX1_dugThen 88 = .ok (.ireturn, 1) := dk_172 (dk_at dksX1_dugThen_3 18 rfl rfl)
abbrev cX1_lowestRoom : ByteArray := prog_1_method_74_code
def yX1_lowestRoom : MethodName := ⟨RX1, "lowestRoom", "()I"⟩
def dkwX1_lowestRoom_1 : List UInt8 := [27, 60, 132, 2, 255, 167, 255, 231, 27, 172]
abbrev dktX1_lowestRoom_1 : List UInt8 := dkwX1_lowestRoom_1 ++ []
def dkwX1_lowestRoom_0 : List UInt8 := [2, 60, 8, 61, 28, 155, 0, 27, 42, 180, 0, 29, 180, 0, 98, 28, 51, 153, 0, 7, 28, 167, 0, 4]
abbrev dktX1_lowestRoom_0 : List UInt8 := dkwX1_lowestRoom_0 ++ dktX1_lowestRoom_1
theorem dksX1_lowestRoom_0 : cX1_lowestRoom.data.toList.drop 0 = dktX1_lowestRoom_0 := by decide +kernel
theorem dksX1_lowestRoom_1 : cX1_lowestRoom.data.toList.drop 24 = dktX1_lowestRoom_1 := dk_seg dksX1_lowestRoom_0 24 rfl rfl
theorem dX1_lowestRoom_0 : decode cX1_lowestRoom 0 = .ok (.iconst (-1), 1) := dk_2 (dk_at dksX1_lowestRoom_0 0 rfl rfl)
theorem dX1_lowestRoom_1 : decode cX1_lowestRoom 1 = .ok (.istore_n 1, 1) := dk_60 (dk_at dksX1_lowestRoom_0 1 rfl rfl)
theorem dX1_lowestRoom_2 : decode cX1_lowestRoom 2 = .ok (.iconst 5, 1) := dk_8 (dk_at dksX1_lowestRoom_0 2 rfl rfl)
theorem dX1_lowestRoom_3 : decode cX1_lowestRoom 3 = .ok (.istore_n 2, 1) := dk_61 (dk_at dksX1_lowestRoom_0 3 rfl rfl)
theorem dX1_lowestRoom_4 : decode cX1_lowestRoom 4 = .ok (.iload_n 2, 1) := dk_28 (dk_at dksX1_lowestRoom_0 4 rfl rfl)
theorem dX1_lowestRoom_5 : decode cX1_lowestRoom 5 = .ok (.ifCond .lt 27, 3) := dk_155 0 27 (dk_at dksX1_lowestRoom_0 5 rfl rfl)
theorem dX1_lowestRoom_8 : decode cX1_lowestRoom 8 = .ok (.aload_n 0, 1) := dk_42 (dk_at dksX1_lowestRoom_0 8 rfl rfl)
theorem dX1_lowestRoom_9 : decode cX1_lowestRoom 9 = .ok (.getfield 29, 3) := dk_180 0 29 (dk_at dksX1_lowestRoom_0 9 rfl rfl)
theorem dX1_lowestRoom_12 : decode cX1_lowestRoom 12 = .ok (.getfield 98, 3) := dk_180 0 98 (dk_at dksX1_lowestRoom_0 12 rfl rfl)
theorem dX1_lowestRoom_15 : decode cX1_lowestRoom 15 = .ok (.iload_n 2, 1) := dk_28 (dk_at dksX1_lowestRoom_0 15 rfl rfl)
theorem dX1_lowestRoom_16 : decode cX1_lowestRoom 16 = .ok (.baload, 1) := dk_51 (dk_at dksX1_lowestRoom_0 16 rfl rfl)
theorem dX1_lowestRoom_17 : decode cX1_lowestRoom 17 = .ok (.ifCond .eq 7, 3) := dk_153 0 7 (dk_at dksX1_lowestRoom_0 17 rfl rfl)
theorem dX1_lowestRoom_20 : decode cX1_lowestRoom 20 = .ok (.iload_n 2, 1) := dk_28 (dk_at dksX1_lowestRoom_0 20 rfl rfl)
theorem dX1_lowestRoom_21 : decode cX1_lowestRoom 21 = .ok (.goto 4, 3) := dk_167 0 4 (dk_at dksX1_lowestRoom_0 21 rfl rfl)
theorem dX1_lowestRoom_24 : decode cX1_lowestRoom 24 = .ok (.iload_n 1, 1) := dk_27 (dk_at dksX1_lowestRoom_1 0 rfl rfl)
theorem dX1_lowestRoom_25 : decode cX1_lowestRoom 25 = .ok (.istore_n 1, 1) := dk_60 (dk_at dksX1_lowestRoom_1 1 rfl rfl)
theorem dX1_lowestRoom_26 : decode cX1_lowestRoom 26 = .ok (.iinc 2 (-1), 3) := dk_132 2 255 (dk_at dksX1_lowestRoom_1 2 rfl rfl)
theorem dX1_lowestRoom_29 : decode cX1_lowestRoom 29 = .ok (.goto (-25), 3) := dk_167 255 231 (dk_at dksX1_lowestRoom_1 5 rfl rfl)
theorem dX1_lowestRoom_32 : decode cX1_lowestRoom 32 = .ok (.iload_n 1, 1) := dk_27 (dk_at dksX1_lowestRoom_1 8 rfl rfl)
theorem dX1_lowestRoom_33 : decode cX1_lowestRoom 33 = .ok (.ireturn, 1) := dk_172 (dk_at dksX1_lowestRoom_1 9 rfl rfl)
abbrev cX1_givenThen : ByteArray := prog_1_method_66_code
def yX1_givenThen : MethodName := ⟨RX1, "givenThen", "(I)I"⟩
def dkwX1_givenThen_1 : List UInt8 := [16, 7, 182, 1, 88, 54, 4, 42, 44, 181, 0, 29, 21, 4, 172]
abbrev dktX1_givenThen_1 : List UInt8 := dkwX1_givenThen_1 ++ []
def dkwX1_givenThen_0 : List UInt8 := [42, 180, 0, 29, 77, 42, 44, 182, 0, 87, 181, 0, 29, 42, 180, 0, 29, 27, 182, 0, 143, 62, 42]
abbrev dktX1_givenThen_0 : List UInt8 := dkwX1_givenThen_0 ++ dktX1_givenThen_1
theorem dksX1_givenThen_0 : cX1_givenThen.data.toList.drop 0 = dktX1_givenThen_0 := by decide +kernel
theorem dksX1_givenThen_1 : cX1_givenThen.data.toList.drop 23 = dktX1_givenThen_1 := dk_seg dksX1_givenThen_0 23 rfl rfl
theorem dX1_givenThen_0 : decode cX1_givenThen 0 = .ok (.aload_n 0, 1) := dk_42 (dk_at dksX1_givenThen_0 0 rfl rfl)
theorem dX1_givenThen_1 : decode cX1_givenThen 1 = .ok (.getfield 29, 3) := dk_180 0 29 (dk_at dksX1_givenThen_0 1 rfl rfl)
theorem dX1_givenThen_4 : decode cX1_givenThen 4 = .ok (.astore_n 2, 1) := dk_77 (dk_at dksX1_givenThen_0 4 rfl rfl)
theorem dX1_givenThen_5 : decode cX1_givenThen 5 = .ok (.aload_n 0, 1) := dk_42 (dk_at dksX1_givenThen_0 5 rfl rfl)
theorem dX1_givenThen_6 : decode cX1_givenThen 6 = .ok (.aload_n 2, 1) := dk_44 (dk_at dksX1_givenThen_0 6 rfl rfl)
theorem dX1_givenThen_7 : decode cX1_givenThen 7 = .ok (.invokevirtual 87, 3) := dk_182 0 87 (dk_at dksX1_givenThen_0 7 rfl rfl)
theorem dX1_givenThen_10 : decode cX1_givenThen 10 = .ok (.putfield 29, 3) := dk_181 0 29 (dk_at dksX1_givenThen_0 10 rfl rfl)
theorem dX1_givenThen_13 : decode cX1_givenThen 13 = .ok (.aload_n 0, 1) := dk_42 (dk_at dksX1_givenThen_0 13 rfl rfl)
theorem dX1_givenThen_14 : decode cX1_givenThen 14 = .ok (.getfield 29, 3) := dk_180 0 29 (dk_at dksX1_givenThen_0 14 rfl rfl)
theorem dX1_givenThen_17 : decode cX1_givenThen 17 = .ok (.iload_n 1, 1) := dk_27 (dk_at dksX1_givenThen_0 17 rfl rfl)
theorem dX1_givenThen_18 : decode cX1_givenThen 18 = .ok (.invokevirtual 143, 3) := dk_182 0 143 (dk_at dksX1_givenThen_0 18 rfl rfl)
theorem dX1_givenThen_21 : decode cX1_givenThen 21 = .ok (.istore_n 3, 1) := dk_62 (dk_at dksX1_givenThen_0 21 rfl rfl)
theorem dX1_givenThen_22 : decode cX1_givenThen 22 = .ok (.aload_n 0, 1) := dk_42 (dk_at dksX1_givenThen_0 22 rfl rfl)
theorem dX1_givenThen_23 : decode cX1_givenThen 23 = .ok (.bipush 7, 2) := dk_16 7 (dk_at dksX1_givenThen_1 0 rfl rfl)
theorem dX1_givenThen_25 : decode cX1_givenThen 25 = .ok (.invokevirtual 344, 3) := dk_182 1 88 (dk_at dksX1_givenThen_1 2 rfl rfl)
theorem dX1_givenThen_28 : decode cX1_givenThen 28 = .ok (.istore 4, 2) := dk_54 4 (dk_at dksX1_givenThen_1 5 rfl rfl)
theorem dX1_givenThen_30 : decode cX1_givenThen 30 = .ok (.aload_n 0, 1) := dk_42 (dk_at dksX1_givenThen_1 7 rfl rfl)
theorem dX1_givenThen_31 : decode cX1_givenThen 31 = .ok (.aload_n 2, 1) := dk_44 (dk_at dksX1_givenThen_1 8 rfl rfl)
theorem dX1_givenThen_32 : decode cX1_givenThen 32 = .ok (.putfield 29, 3) := dk_181 0 29 (dk_at dksX1_givenThen_1 9 rfl rfl)
theorem dX1_givenThen_35 : decode cX1_givenThen 35 = .ok (.iload 4, 2) := dk_21 4 (dk_at dksX1_givenThen_1 12 rfl rfl)
theorem dX1_givenThen_37 : decode cX1_givenThen 37 = .ok (.ireturn, 1) := dk_172 (dk_at dksX1_givenThen_1 14 rfl rfl)
abbrev cX1_room : ByteArray := prog_1_method_16_code
def yX1_room : MethodName := ⟨RX1, "room", "(IIII)I"⟩
def dkwX1_room_3 : List UInt8 := [104, 27, 96, 21, 6, 29, 112, 96, 21, 5, 79, 132, 6, 1, 167, 255, 218, 21, 5, 172]
abbrev dktX1_room_3 : List UInt8 := dkwX1_room_3 ++ []
def dkwX1_room_2 : List UInt8 := [21, 6, 29, 21, 4, 104, 162, 0, 35, 42, 180, 0, 29, 180, 0, 106, 16, 16, 28, 21, 6, 29, 108, 96]
abbrev dktX1_room_2 : List UInt8 := dkwX1_room_2 ++ dktX1_room_3
def dkwX1_room_1 : List UInt8 := [182, 0, 134, 42, 182, 0, 113, 54, 5, 42, 180, 0, 29, 180, 0, 98, 21, 5, 4, 84, 3, 54, 6]
abbrev dktX1_room_1 : List UInt8 := dkwX1_room_1 ++ dktX1_room_2
def dkwX1_room_0 : List UInt8 := [27, 28, 29, 21, 4, 184, 0, 120, 184, 0, 124, 42, 27, 28, 29, 21, 4, 182, 0, 128, 184, 0, 131, 42]
abbrev dktX1_room_0 : List UInt8 := dkwX1_room_0 ++ dktX1_room_1
theorem dksX1_room_0 : cX1_room.data.toList.drop 0 = dktX1_room_0 := by decide +kernel
theorem dksX1_room_1 : cX1_room.data.toList.drop 24 = dktX1_room_1 := dk_seg dksX1_room_0 24 rfl rfl
theorem dksX1_room_2 : cX1_room.data.toList.drop 47 = dktX1_room_2 := dk_seg dksX1_room_1 23 rfl rfl
theorem dksX1_room_3 : cX1_room.data.toList.drop 71 = dktX1_room_3 := dk_seg dksX1_room_2 24 rfl rfl
theorem dX1_room_0 : decode cX1_room 0 = .ok (.iload_n 1, 1) := dk_27 (dk_at dksX1_room_0 0 rfl rfl)
theorem dX1_room_1 : decode cX1_room 1 = .ok (.iload_n 2, 1) := dk_28 (dk_at dksX1_room_0 1 rfl rfl)
theorem dX1_room_2 : decode cX1_room 2 = .ok (.iload_n 3, 1) := dk_29 (dk_at dksX1_room_0 2 rfl rfl)
theorem dX1_room_3 : decode cX1_room 3 = .ok (.iload 4, 2) := dk_21 4 (dk_at dksX1_room_0 3 rfl rfl)
theorem dX1_room_5 : decode cX1_room 5 = .ok (.invokestatic 120, 3) := dk_184 0 120 (dk_at dksX1_room_0 5 rfl rfl)
theorem dX1_room_8 : decode cX1_room 8 = .ok (.invokestatic 124, 3) := dk_184 0 124 (dk_at dksX1_room_0 8 rfl rfl)
theorem dX1_room_11 : decode cX1_room 11 = .ok (.aload_n 0, 1) := dk_42 (dk_at dksX1_room_0 11 rfl rfl)
theorem dX1_room_12 : decode cX1_room 12 = .ok (.iload_n 1, 1) := dk_27 (dk_at dksX1_room_0 12 rfl rfl)
theorem dX1_room_13 : decode cX1_room 13 = .ok (.iload_n 2, 1) := dk_28 (dk_at dksX1_room_0 13 rfl rfl)
theorem dX1_room_14 : decode cX1_room 14 = .ok (.iload_n 3, 1) := dk_29 (dk_at dksX1_room_0 14 rfl rfl)
theorem dX1_room_15 : decode cX1_room 15 = .ok (.iload 4, 2) := dk_21 4 (dk_at dksX1_room_0 15 rfl rfl)
theorem dX1_room_17 : decode cX1_room 17 = .ok (.invokevirtual 128, 3) := dk_182 0 128 (dk_at dksX1_room_0 17 rfl rfl)
theorem dX1_room_20 : decode cX1_room 20 = .ok (.invokestatic 131, 3) := dk_184 0 131 (dk_at dksX1_room_0 20 rfl rfl)
theorem dX1_room_23 : decode cX1_room 23 = .ok (.aload_n 0, 1) := dk_42 (dk_at dksX1_room_0 23 rfl rfl)
theorem dX1_room_24 : decode cX1_room 24 = .ok (.invokevirtual 134, 3) := dk_182 0 134 (dk_at dksX1_room_1 0 rfl rfl)
theorem dX1_room_27 : decode cX1_room 27 = .ok (.aload_n 0, 1) := dk_42 (dk_at dksX1_room_1 3 rfl rfl)
theorem dX1_room_28 : decode cX1_room 28 = .ok (.invokevirtual 113, 3) := dk_182 0 113 (dk_at dksX1_room_1 4 rfl rfl)
theorem dX1_room_31 : decode cX1_room 31 = .ok (.istore 5, 2) := dk_54 5 (dk_at dksX1_room_1 7 rfl rfl)
theorem dX1_room_33 : decode cX1_room 33 = .ok (.aload_n 0, 1) := dk_42 (dk_at dksX1_room_1 9 rfl rfl)
theorem dX1_room_34 : decode cX1_room 34 = .ok (.getfield 29, 3) := dk_180 0 29 (dk_at dksX1_room_1 10 rfl rfl)
theorem dX1_room_37 : decode cX1_room 37 = .ok (.getfield 98, 3) := dk_180 0 98 (dk_at dksX1_room_1 13 rfl rfl)
theorem dX1_room_40 : decode cX1_room 40 = .ok (.iload 5, 2) := dk_21 5 (dk_at dksX1_room_1 16 rfl rfl)
theorem dX1_room_42 : decode cX1_room 42 = .ok (.iconst 1, 1) := dk_4 (dk_at dksX1_room_1 18 rfl rfl)
theorem dX1_room_43 : decode cX1_room 43 = .ok (.bastore, 1) := dk_84 (dk_at dksX1_room_1 19 rfl rfl)
theorem dX1_room_44 : decode cX1_room 44 = .ok (.iconst 0, 1) := dk_3 (dk_at dksX1_room_1 20 rfl rfl)
theorem dX1_room_45 : decode cX1_room 45 = .ok (.istore 6, 2) := dk_54 6 (dk_at dksX1_room_1 21 rfl rfl)
theorem dX1_room_47 : decode cX1_room 47 = .ok (.iload 6, 2) := dk_21 6 (dk_at dksX1_room_2 0 rfl rfl)
theorem dX1_room_49 : decode cX1_room 49 = .ok (.iload_n 3, 1) := dk_29 (dk_at dksX1_room_2 2 rfl rfl)
theorem dX1_room_50 : decode cX1_room 50 = .ok (.iload 4, 2) := dk_21 4 (dk_at dksX1_room_2 3 rfl rfl)
theorem dX1_room_52 : decode cX1_room 52 = .ok (.imul, 1) := dk_104 (dk_at dksX1_room_2 5 rfl rfl)
theorem dX1_room_53 : decode cX1_room 53 = .ok (.if_icmp .ge 35, 3) := dk_162 0 35 (dk_at dksX1_room_2 6 rfl rfl)
theorem dX1_room_56 : decode cX1_room 56 = .ok (.aload_n 0, 1) := dk_42 (dk_at dksX1_room_2 9 rfl rfl)
theorem dX1_room_57 : decode cX1_room 57 = .ok (.getfield 29, 3) := dk_180 0 29 (dk_at dksX1_room_2 10 rfl rfl)
theorem dX1_room_60 : decode cX1_room 60 = .ok (.getfield 106, 3) := dk_180 0 106 (dk_at dksX1_room_2 13 rfl rfl)
theorem dX1_room_63 : decode cX1_room 63 = .ok (.bipush 16, 2) := dk_16 16 (dk_at dksX1_room_2 16 rfl rfl)
theorem dX1_room_65 : decode cX1_room 65 = .ok (.iload_n 2, 1) := dk_28 (dk_at dksX1_room_2 18 rfl rfl)
theorem dX1_room_66 : decode cX1_room 66 = .ok (.iload 6, 2) := dk_21 6 (dk_at dksX1_room_2 19 rfl rfl)
theorem dX1_room_68 : decode cX1_room 68 = .ok (.iload_n 3, 1) := dk_29 (dk_at dksX1_room_2 21 rfl rfl)
theorem dX1_room_69 : decode cX1_room 69 = .ok (.idiv, 1) := dk_108 (dk_at dksX1_room_2 22 rfl rfl)
theorem dX1_room_70 : decode cX1_room 70 = .ok (.iadd, 1) := dk_96 (dk_at dksX1_room_2 23 rfl rfl)
theorem dX1_room_71 : decode cX1_room 71 = .ok (.imul, 1) := dk_104 (dk_at dksX1_room_3 0 rfl rfl)
theorem dX1_room_72 : decode cX1_room 72 = .ok (.iload_n 1, 1) := dk_27 (dk_at dksX1_room_3 1 rfl rfl)
theorem dX1_room_73 : decode cX1_room 73 = .ok (.iadd, 1) := dk_96 (dk_at dksX1_room_3 2 rfl rfl)
theorem dX1_room_74 : decode cX1_room 74 = .ok (.iload 6, 2) := dk_21 6 (dk_at dksX1_room_3 3 rfl rfl)
theorem dX1_room_76 : decode cX1_room 76 = .ok (.iload_n 3, 1) := dk_29 (dk_at dksX1_room_3 5 rfl rfl)
theorem dX1_room_77 : decode cX1_room 77 = .ok (.irem, 1) := dk_112 (dk_at dksX1_room_3 6 rfl rfl)
theorem dX1_room_78 : decode cX1_room 78 = .ok (.iadd, 1) := dk_96 (dk_at dksX1_room_3 7 rfl rfl)
theorem dX1_room_79 : decode cX1_room 79 = .ok (.iload 5, 2) := dk_21 5 (dk_at dksX1_room_3 8 rfl rfl)
theorem dX1_room_81 : decode cX1_room 81 = .ok (.iastore, 1) := dk_79 (dk_at dksX1_room_3 10 rfl rfl)
theorem dX1_room_82 : decode cX1_room 82 = .ok (.iinc 6 1, 3) := dk_132 6 1 (dk_at dksX1_room_3 11 rfl rfl)
theorem dX1_room_85 : decode cX1_room 85 = .ok (.goto (-38), 3) := dk_167 255 218 (dk_at dksX1_room_3 14 rfl rfl)
theorem dX1_room_88 : decode cX1_room 88 = .ok (.iload 5, 2) := dk_21 5 (dk_at dksX1_room_3 17 rfl rfl)
theorem dX1_room_90 : decode cX1_room 90 = .ok (.ireturn, 1) := dk_172 (dk_at dksX1_room_3 19 rfl rfl)
abbrev cX1_isWithin : ByteArray := prog_1_method_15_code
def yX1_isWithin : MethodName := ⟨RX1, "isWithin", "(IIII)Z"⟩
def dkwX1_isWithin_2 : List UInt8 := [29, 100, 184, 0, 94, 153, 0, 7, 4, 167, 0, 4, 3, 172]
abbrev dktX1_isWithin_2 : List UInt8 := dkwX1_isWithin_2 ++ []
def dkwX1_isWithin_1 : List UInt8 := [3, 54, 4, 21, 4, 153, 0, 31, 26, 3, 16, 16, 28, 100, 184, 0, 94, 153, 0, 19, 27, 3, 16, 12]
abbrev dktX1_isWithin_1 : List UInt8 := dkwX1_isWithin_1 ++ dktX1_isWithin_2
def dkwX1_isWithin_0 : List UInt8 := [28, 4, 16, 6, 184, 0, 94, 153, 0, 17, 29, 4, 16, 6, 184, 0, 94, 153, 0, 7, 4, 167, 0, 4]
abbrev dktX1_isWithin_0 : List UInt8 := dkwX1_isWithin_0 ++ dktX1_isWithin_1
theorem dksX1_isWithin_0 : cX1_isWithin.data.toList.drop 0 = dktX1_isWithin_0 := by decide +kernel
theorem dksX1_isWithin_1 : cX1_isWithin.data.toList.drop 24 = dktX1_isWithin_1 := dk_seg dksX1_isWithin_0 24 rfl rfl
theorem dksX1_isWithin_2 : cX1_isWithin.data.toList.drop 48 = dktX1_isWithin_2 := dk_seg dksX1_isWithin_1 24 rfl rfl
theorem dX1_isWithin_0 : decode cX1_isWithin 0 = .ok (.iload_n 2, 1) := dk_28 (dk_at dksX1_isWithin_0 0 rfl rfl)
theorem dX1_isWithin_1 : decode cX1_isWithin 1 = .ok (.iconst 1, 1) := dk_4 (dk_at dksX1_isWithin_0 1 rfl rfl)
theorem dX1_isWithin_2 : decode cX1_isWithin 2 = .ok (.bipush 6, 2) := dk_16 6 (dk_at dksX1_isWithin_0 2 rfl rfl)
theorem dX1_isWithin_4 : decode cX1_isWithin 4 = .ok (.invokestatic 94, 3) := dk_184 0 94 (dk_at dksX1_isWithin_0 4 rfl rfl)
theorem dX1_isWithin_7 : decode cX1_isWithin 7 = .ok (.ifCond .eq 17, 3) := dk_153 0 17 (dk_at dksX1_isWithin_0 7 rfl rfl)
theorem dX1_isWithin_10 : decode cX1_isWithin 10 = .ok (.iload_n 3, 1) := dk_29 (dk_at dksX1_isWithin_0 10 rfl rfl)
theorem dX1_isWithin_11 : decode cX1_isWithin 11 = .ok (.iconst 1, 1) := dk_4 (dk_at dksX1_isWithin_0 11 rfl rfl)
theorem dX1_isWithin_12 : decode cX1_isWithin 12 = .ok (.bipush 6, 2) := dk_16 6 (dk_at dksX1_isWithin_0 12 rfl rfl)
theorem dX1_isWithin_14 : decode cX1_isWithin 14 = .ok (.invokestatic 94, 3) := dk_184 0 94 (dk_at dksX1_isWithin_0 14 rfl rfl)
theorem dX1_isWithin_17 : decode cX1_isWithin 17 = .ok (.ifCond .eq 7, 3) := dk_153 0 7 (dk_at dksX1_isWithin_0 17 rfl rfl)
theorem dX1_isWithin_20 : decode cX1_isWithin 20 = .ok (.iconst 1, 1) := dk_4 (dk_at dksX1_isWithin_0 20 rfl rfl)
theorem dX1_isWithin_21 : decode cX1_isWithin 21 = .ok (.goto 4, 3) := dk_167 0 4 (dk_at dksX1_isWithin_0 21 rfl rfl)
theorem dX1_isWithin_24 : decode cX1_isWithin 24 = .ok (.iconst 0, 1) := dk_3 (dk_at dksX1_isWithin_1 0 rfl rfl)
theorem dX1_isWithin_25 : decode cX1_isWithin 25 = .ok (.istore 4, 2) := dk_54 4 (dk_at dksX1_isWithin_1 1 rfl rfl)
theorem dX1_isWithin_27 : decode cX1_isWithin 27 = .ok (.iload 4, 2) := dk_21 4 (dk_at dksX1_isWithin_1 3 rfl rfl)
theorem dX1_isWithin_29 : decode cX1_isWithin 29 = .ok (.ifCond .eq 31, 3) := dk_153 0 31 (dk_at dksX1_isWithin_1 5 rfl rfl)
theorem dX1_isWithin_32 : decode cX1_isWithin 32 = .ok (.iload_n 0, 1) := dk_26 (dk_at dksX1_isWithin_1 8 rfl rfl)
theorem dX1_isWithin_33 : decode cX1_isWithin 33 = .ok (.iconst 0, 1) := dk_3 (dk_at dksX1_isWithin_1 9 rfl rfl)
theorem dX1_isWithin_34 : decode cX1_isWithin 34 = .ok (.bipush 16, 2) := dk_16 16 (dk_at dksX1_isWithin_1 10 rfl rfl)
theorem dX1_isWithin_36 : decode cX1_isWithin 36 = .ok (.iload_n 2, 1) := dk_28 (dk_at dksX1_isWithin_1 12 rfl rfl)
theorem dX1_isWithin_37 : decode cX1_isWithin 37 = .ok (.isub, 1) := dk_100 (dk_at dksX1_isWithin_1 13 rfl rfl)
theorem dX1_isWithin_38 : decode cX1_isWithin 38 = .ok (.invokestatic 94, 3) := dk_184 0 94 (dk_at dksX1_isWithin_1 14 rfl rfl)
theorem dX1_isWithin_41 : decode cX1_isWithin 41 = .ok (.ifCond .eq 19, 3) := dk_153 0 19 (dk_at dksX1_isWithin_1 17 rfl rfl)
theorem dX1_isWithin_44 : decode cX1_isWithin 44 = .ok (.iload_n 1, 1) := dk_27 (dk_at dksX1_isWithin_1 20 rfl rfl)
theorem dX1_isWithin_45 : decode cX1_isWithin 45 = .ok (.iconst 0, 1) := dk_3 (dk_at dksX1_isWithin_1 21 rfl rfl)
theorem dX1_isWithin_46 : decode cX1_isWithin 46 = .ok (.bipush 12, 2) := dk_16 12 (dk_at dksX1_isWithin_1 22 rfl rfl)
theorem dX1_isWithin_48 : decode cX1_isWithin 48 = .ok (.iload_n 3, 1) := dk_29 (dk_at dksX1_isWithin_2 0 rfl rfl)
theorem dX1_isWithin_49 : decode cX1_isWithin 49 = .ok (.isub, 1) := dk_100 (dk_at dksX1_isWithin_2 1 rfl rfl)
theorem dX1_isWithin_50 : decode cX1_isWithin 50 = .ok (.invokestatic 94, 3) := dk_184 0 94 (dk_at dksX1_isWithin_2 2 rfl rfl)
theorem dX1_isWithin_53 : decode cX1_isWithin 53 = .ok (.ifCond .eq 7, 3) := dk_153 0 7 (dk_at dksX1_isWithin_2 5 rfl rfl)
theorem dX1_isWithin_56 : decode cX1_isWithin 56 = .ok (.iconst 1, 1) := dk_4 (dk_at dksX1_isWithin_2 8 rfl rfl)
theorem dX1_isWithin_57 : decode cX1_isWithin 57 = .ok (.goto 4, 3) := dk_167 0 4 (dk_at dksX1_isWithin_2 9 rfl rfl)
theorem dX1_isWithin_60 : decode cX1_isWithin 60 = .ok (.iconst 0, 1) := dk_3 (dk_at dksX1_isWithin_2 12 rfl rfl)
theorem dX1_isWithin_61 : decode cX1_isWithin 61 = .ok (.ireturn, 1) := dk_172 (dk_at dksX1_isWithin_2 13 rfl rfl)
abbrev cX1_require : ByteArray := prog_1_method_2_code
def yX1_require : MethodName := ⟨RX1, "require", "(Z)V"⟩
def dkwX1_require_0 : List UInt8 := [26, 154, 0, 11, 187, 0, 3, 89, 183, 0, 5, 191, 177]
abbrev dktX1_require_0 : List UInt8 := dkwX1_require_0 ++ []
theorem dksX1_require_0 : cX1_require.data.toList.drop 0 = dktX1_require_0 := by decide +kernel
theorem dX1_require_0 : decode cX1_require 0 = .ok (.iload_n 0, 1) := dk_26 (dk_at dksX1_require_0 0 rfl rfl)
theorem dX1_require_1 : decode cX1_require 1 = .ok (.ifCond .ne 11, 3) := dk_154 0 11 (dk_at dksX1_require_0 1 rfl rfl)
theorem dX1_require_4 : decode cX1_require 4 = .ok (.new 3, 3) := dk_187 0 3 (dk_at dksX1_require_0 4 rfl rfl)
theorem dX1_require_7 : decode cX1_require 7 = .ok (.dup, 1) := dk_89 (dk_at dksX1_require_0 7 rfl rfl)
theorem dX1_require_8 : decode cX1_require 8 = .ok (.invokespecial 5, 3) := dk_183 0 5 (dk_at dksX1_require_0 8 rfl rfl)
theorem dX1_require_11 : decode cX1_require 11 = .ok (.athrow, 1) := dk_191 (dk_at dksX1_require_0 11 rfl rfl)
theorem dX1_require_12 : decode cX1_require 12 = .ok (.return_, 1) := dk_177 (dk_at dksX1_require_0 12 rfl rfl)
abbrev cX1_canBe : ByteArray := prog_1_method_14_code
def yX1_canBe : MethodName := ⟨RX1, "canBe", "(IIII)Z"⟩
def dkwX1_canBe_2 : List UInt8 := [182, 0, 116, 126, 54, 5, 132, 6, 1, 167, 255, 219, 21, 5, 172]
abbrev dktX1_canBe_2 : List UInt8 := dkwX1_canBe_2 ++ []
def dkwX1_canBe_1 : List UInt8 := [162, 0, 34, 21, 5, 42, 16, 16, 28, 21, 6, 29, 108, 96, 104, 27, 96, 21, 6, 29, 112, 96]
abbrev dktX1_canBe_1 : List UInt8 := dkwX1_canBe_1 ++ dktX1_canBe_2
def dkwX1_canBe_0 : List UInt8 := [42, 182, 0, 113, 2, 159, 0, 7, 4, 167, 0, 4, 3, 54, 5, 3, 54, 6, 21, 6, 29, 21, 4, 104]
abbrev dktX1_canBe_0 : List UInt8 := dkwX1_canBe_0 ++ dktX1_canBe_1
theorem dksX1_canBe_0 : cX1_canBe.data.toList.drop 0 = dktX1_canBe_0 := by decide +kernel
theorem dksX1_canBe_1 : cX1_canBe.data.toList.drop 24 = dktX1_canBe_1 := dk_seg dksX1_canBe_0 24 rfl rfl
theorem dksX1_canBe_2 : cX1_canBe.data.toList.drop 46 = dktX1_canBe_2 := dk_seg dksX1_canBe_1 22 rfl rfl
theorem dX1_canBe_0 : decode cX1_canBe 0 = .ok (.aload_n 0, 1) := dk_42 (dk_at dksX1_canBe_0 0 rfl rfl)
theorem dX1_canBe_1 : decode cX1_canBe 1 = .ok (.invokevirtual 113, 3) := dk_182 0 113 (dk_at dksX1_canBe_0 1 rfl rfl)
theorem dX1_canBe_4 : decode cX1_canBe 4 = .ok (.iconst (-1), 1) := dk_2 (dk_at dksX1_canBe_0 4 rfl rfl)
theorem dX1_canBe_5 : decode cX1_canBe 5 = .ok (.if_icmp .eq 7, 3) := dk_159 0 7 (dk_at dksX1_canBe_0 5 rfl rfl)
theorem dX1_canBe_8 : decode cX1_canBe 8 = .ok (.iconst 1, 1) := dk_4 (dk_at dksX1_canBe_0 8 rfl rfl)
theorem dX1_canBe_9 : decode cX1_canBe 9 = .ok (.goto 4, 3) := dk_167 0 4 (dk_at dksX1_canBe_0 9 rfl rfl)
theorem dX1_canBe_12 : decode cX1_canBe 12 = .ok (.iconst 0, 1) := dk_3 (dk_at dksX1_canBe_0 12 rfl rfl)
theorem dX1_canBe_13 : decode cX1_canBe 13 = .ok (.istore 5, 2) := dk_54 5 (dk_at dksX1_canBe_0 13 rfl rfl)
theorem dX1_canBe_15 : decode cX1_canBe 15 = .ok (.iconst 0, 1) := dk_3 (dk_at dksX1_canBe_0 15 rfl rfl)
theorem dX1_canBe_16 : decode cX1_canBe 16 = .ok (.istore 6, 2) := dk_54 6 (dk_at dksX1_canBe_0 16 rfl rfl)
theorem dX1_canBe_18 : decode cX1_canBe 18 = .ok (.iload 6, 2) := dk_21 6 (dk_at dksX1_canBe_0 18 rfl rfl)
theorem dX1_canBe_20 : decode cX1_canBe 20 = .ok (.iload_n 3, 1) := dk_29 (dk_at dksX1_canBe_0 20 rfl rfl)
theorem dX1_canBe_21 : decode cX1_canBe 21 = .ok (.iload 4, 2) := dk_21 4 (dk_at dksX1_canBe_0 21 rfl rfl)
theorem dX1_canBe_23 : decode cX1_canBe 23 = .ok (.imul, 1) := dk_104 (dk_at dksX1_canBe_0 23 rfl rfl)
theorem dX1_canBe_24 : decode cX1_canBe 24 = .ok (.if_icmp .ge 34, 3) := dk_162 0 34 (dk_at dksX1_canBe_1 0 rfl rfl)
theorem dX1_canBe_27 : decode cX1_canBe 27 = .ok (.iload 5, 2) := dk_21 5 (dk_at dksX1_canBe_1 3 rfl rfl)
theorem dX1_canBe_29 : decode cX1_canBe 29 = .ok (.aload_n 0, 1) := dk_42 (dk_at dksX1_canBe_1 5 rfl rfl)
theorem dX1_canBe_30 : decode cX1_canBe 30 = .ok (.bipush 16, 2) := dk_16 16 (dk_at dksX1_canBe_1 6 rfl rfl)
theorem dX1_canBe_32 : decode cX1_canBe 32 = .ok (.iload_n 2, 1) := dk_28 (dk_at dksX1_canBe_1 8 rfl rfl)
theorem dX1_canBe_33 : decode cX1_canBe 33 = .ok (.iload 6, 2) := dk_21 6 (dk_at dksX1_canBe_1 9 rfl rfl)
theorem dX1_canBe_35 : decode cX1_canBe 35 = .ok (.iload_n 3, 1) := dk_29 (dk_at dksX1_canBe_1 11 rfl rfl)
theorem dX1_canBe_36 : decode cX1_canBe 36 = .ok (.idiv, 1) := dk_108 (dk_at dksX1_canBe_1 12 rfl rfl)
theorem dX1_canBe_37 : decode cX1_canBe 37 = .ok (.iadd, 1) := dk_96 (dk_at dksX1_canBe_1 13 rfl rfl)
theorem dX1_canBe_38 : decode cX1_canBe 38 = .ok (.imul, 1) := dk_104 (dk_at dksX1_canBe_1 14 rfl rfl)
theorem dX1_canBe_39 : decode cX1_canBe 39 = .ok (.iload_n 1, 1) := dk_27 (dk_at dksX1_canBe_1 15 rfl rfl)
theorem dX1_canBe_40 : decode cX1_canBe 40 = .ok (.iadd, 1) := dk_96 (dk_at dksX1_canBe_1 16 rfl rfl)
theorem dX1_canBe_41 : decode cX1_canBe 41 = .ok (.iload 6, 2) := dk_21 6 (dk_at dksX1_canBe_1 17 rfl rfl)
theorem dX1_canBe_43 : decode cX1_canBe 43 = .ok (.iload_n 3, 1) := dk_29 (dk_at dksX1_canBe_1 19 rfl rfl)
theorem dX1_canBe_44 : decode cX1_canBe 44 = .ok (.irem, 1) := dk_112 (dk_at dksX1_canBe_1 20 rfl rfl)
theorem dX1_canBe_45 : decode cX1_canBe 45 = .ok (.iadd, 1) := dk_96 (dk_at dksX1_canBe_1 21 rfl rfl)
theorem dX1_canBe_46 : decode cX1_canBe 46 = .ok (.invokevirtual 116, 3) := dk_182 0 116 (dk_at dksX1_canBe_2 0 rfl rfl)
theorem dX1_canBe_49 : decode cX1_canBe 49 = .ok (.iand, 1) := dk_126 (dk_at dksX1_canBe_2 3 rfl rfl)
theorem dX1_canBe_50 : decode cX1_canBe 50 = .ok (.istore 5, 2) := dk_54 5 (dk_at dksX1_canBe_2 4 rfl rfl)
theorem dX1_canBe_52 : decode cX1_canBe 52 = .ok (.iinc 6 1, 3) := dk_132 6 1 (dk_at dksX1_canBe_2 6 rfl rfl)
theorem dX1_canBe_55 : decode cX1_canBe 55 = .ok (.goto (-37), 3) := dk_167 255 219 (dk_at dksX1_canBe_2 9 rfl rfl)
theorem dX1_canBe_58 : decode cX1_canBe 58 = .ok (.iload 5, 2) := dk_21 5 (dk_at dksX1_canBe_2 12 rfl rfl)
theorem dX1_canBe_60 : decode cX1_canBe 60 = .ok (.ireturn, 1) := dk_172 (dk_at dksX1_canBe_2 14 rfl rfl)
abbrev cX1_freeRoom : ByteArray := prog_1_method_12_code
def yX1_freeRoom : MethodName := ⟨RX1, "freeRoom", "()I"⟩
def dkwX1_freeRoom_1 : List UInt8 := [28, 60, 132, 2, 255, 167, 255, 231, 27, 172]
abbrev dktX1_freeRoom_1 : List UInt8 := dkwX1_freeRoom_1 ++ []
def dkwX1_freeRoom_0 : List UInt8 := [2, 60, 8, 61, 28, 155, 0, 27, 42, 180, 0, 29, 180, 0, 98, 28, 51, 153, 0, 7, 27, 167, 0, 4]
abbrev dktX1_freeRoom_0 : List UInt8 := dkwX1_freeRoom_0 ++ dktX1_freeRoom_1
theorem dksX1_freeRoom_0 : cX1_freeRoom.data.toList.drop 0 = dktX1_freeRoom_0 := by decide +kernel
theorem dksX1_freeRoom_1 : cX1_freeRoom.data.toList.drop 24 = dktX1_freeRoom_1 := dk_seg dksX1_freeRoom_0 24 rfl rfl
theorem dX1_freeRoom_0 : decode cX1_freeRoom 0 = .ok (.iconst (-1), 1) := dk_2 (dk_at dksX1_freeRoom_0 0 rfl rfl)
theorem dX1_freeRoom_1 : decode cX1_freeRoom 1 = .ok (.istore_n 1, 1) := dk_60 (dk_at dksX1_freeRoom_0 1 rfl rfl)
theorem dX1_freeRoom_2 : decode cX1_freeRoom 2 = .ok (.iconst 5, 1) := dk_8 (dk_at dksX1_freeRoom_0 2 rfl rfl)
theorem dX1_freeRoom_3 : decode cX1_freeRoom 3 = .ok (.istore_n 2, 1) := dk_61 (dk_at dksX1_freeRoom_0 3 rfl rfl)
theorem dX1_freeRoom_4 : decode cX1_freeRoom 4 = .ok (.iload_n 2, 1) := dk_28 (dk_at dksX1_freeRoom_0 4 rfl rfl)
theorem dX1_freeRoom_5 : decode cX1_freeRoom 5 = .ok (.ifCond .lt 27, 3) := dk_155 0 27 (dk_at dksX1_freeRoom_0 5 rfl rfl)
theorem dX1_freeRoom_8 : decode cX1_freeRoom 8 = .ok (.aload_n 0, 1) := dk_42 (dk_at dksX1_freeRoom_0 8 rfl rfl)
theorem dX1_freeRoom_9 : decode cX1_freeRoom 9 = .ok (.getfield 29, 3) := dk_180 0 29 (dk_at dksX1_freeRoom_0 9 rfl rfl)
theorem dX1_freeRoom_12 : decode cX1_freeRoom 12 = .ok (.getfield 98, 3) := dk_180 0 98 (dk_at dksX1_freeRoom_0 12 rfl rfl)
theorem dX1_freeRoom_15 : decode cX1_freeRoom 15 = .ok (.iload_n 2, 1) := dk_28 (dk_at dksX1_freeRoom_0 15 rfl rfl)
theorem dX1_freeRoom_16 : decode cX1_freeRoom 16 = .ok (.baload, 1) := dk_51 (dk_at dksX1_freeRoom_0 16 rfl rfl)
theorem dX1_freeRoom_17 : decode cX1_freeRoom 17 = .ok (.ifCond .eq 7, 3) := dk_153 0 7 (dk_at dksX1_freeRoom_0 17 rfl rfl)
theorem dX1_freeRoom_20 : decode cX1_freeRoom 20 = .ok (.iload_n 1, 1) := dk_27 (dk_at dksX1_freeRoom_0 20 rfl rfl)
theorem dX1_freeRoom_21 : decode cX1_freeRoom 21 = .ok (.goto 4, 3) := dk_167 0 4 (dk_at dksX1_freeRoom_0 21 rfl rfl)
theorem dX1_freeRoom_24 : decode cX1_freeRoom 24 = .ok (.iload_n 2, 1) := dk_28 (dk_at dksX1_freeRoom_1 0 rfl rfl)
theorem dX1_freeRoom_25 : decode cX1_freeRoom 25 = .ok (.istore_n 1, 1) := dk_60 (dk_at dksX1_freeRoom_1 1 rfl rfl)
theorem dX1_freeRoom_26 : decode cX1_freeRoom 26 = .ok (.iinc 2 (-1), 3) := dk_132 2 255 (dk_at dksX1_freeRoom_1 2 rfl rfl)
theorem dX1_freeRoom_29 : decode cX1_freeRoom 29 = .ok (.goto (-25), 3) := dk_167 255 231 (dk_at dksX1_freeRoom_1 5 rfl rfl)
theorem dX1_freeRoom_32 : decode cX1_freeRoom 32 = .ok (.iload_n 1, 1) := dk_27 (dk_at dksX1_freeRoom_1 8 rfl rfl)
theorem dX1_freeRoom_33 : decode cX1_freeRoom 33 = .ok (.ireturn, 1) := dk_172 (dk_at dksX1_freeRoom_1 9 rfl rfl)
abbrev cX1_isFreeFor : ByteArray := prog_1_method_13_code
def yX1_isFreeFor : MethodName := ⟨RX1, "isFreeFor", "(I)Z"⟩
def dkwX1_isFreeFor_2 : List UInt8 := [132, 3, 1, 167, 255, 228, 28, 172]
abbrev dktX1_isFreeFor_2 : List UInt8 := dkwX1_isFreeFor_2 ++ []
def dkwX1_isFreeFor_1 : List UInt8 := [162, 0, 29, 28, 42, 180, 0, 29, 27, 29, 182, 0, 109, 156, 0, 7, 4, 167, 0, 4, 3, 126, 61]
abbrev dktX1_isFreeFor_1 : List UInt8 := dkwX1_isFreeFor_1 ++ dktX1_isFreeFor_2
def dkwX1_isFreeFor_0 : List UInt8 := [42, 180, 0, 29, 180, 0, 106, 27, 46, 16, 254, 160, 0, 7, 4, 167, 0, 4, 3, 61, 3, 62, 29, 7]
abbrev dktX1_isFreeFor_0 : List UInt8 := dkwX1_isFreeFor_0 ++ dktX1_isFreeFor_1
theorem dksX1_isFreeFor_0 : cX1_isFreeFor.data.toList.drop 0 = dktX1_isFreeFor_0 := by decide +kernel
theorem dksX1_isFreeFor_1 : cX1_isFreeFor.data.toList.drop 24 = dktX1_isFreeFor_1 := dk_seg dksX1_isFreeFor_0 24 rfl rfl
theorem dksX1_isFreeFor_2 : cX1_isFreeFor.data.toList.drop 47 = dktX1_isFreeFor_2 := dk_seg dksX1_isFreeFor_1 23 rfl rfl
theorem dX1_isFreeFor_0 : decode cX1_isFreeFor 0 = .ok (.aload_n 0, 1) := dk_42 (dk_at dksX1_isFreeFor_0 0 rfl rfl)
theorem dX1_isFreeFor_1 : decode cX1_isFreeFor 1 = .ok (.getfield 29, 3) := dk_180 0 29 (dk_at dksX1_isFreeFor_0 1 rfl rfl)
theorem dX1_isFreeFor_4 : decode cX1_isFreeFor 4 = .ok (.getfield 106, 3) := dk_180 0 106 (dk_at dksX1_isFreeFor_0 4 rfl rfl)
theorem dX1_isFreeFor_7 : decode cX1_isFreeFor 7 = .ok (.iload_n 1, 1) := dk_27 (dk_at dksX1_isFreeFor_0 7 rfl rfl)
theorem dX1_isFreeFor_8 : decode cX1_isFreeFor 8 = .ok (.iaload, 1) := dk_46 (dk_at dksX1_isFreeFor_0 8 rfl rfl)
theorem dX1_isFreeFor_9 : decode cX1_isFreeFor 9 = .ok (.bipush (-2), 2) := dk_16 254 (dk_at dksX1_isFreeFor_0 9 rfl rfl)
theorem dX1_isFreeFor_11 : decode cX1_isFreeFor 11 = .ok (.if_icmp .ne 7, 3) := dk_160 0 7 (dk_at dksX1_isFreeFor_0 11 rfl rfl)
theorem dX1_isFreeFor_14 : decode cX1_isFreeFor 14 = .ok (.iconst 1, 1) := dk_4 (dk_at dksX1_isFreeFor_0 14 rfl rfl)
theorem dX1_isFreeFor_15 : decode cX1_isFreeFor 15 = .ok (.goto 4, 3) := dk_167 0 4 (dk_at dksX1_isFreeFor_0 15 rfl rfl)
theorem dX1_isFreeFor_18 : decode cX1_isFreeFor 18 = .ok (.iconst 0, 1) := dk_3 (dk_at dksX1_isFreeFor_0 18 rfl rfl)
theorem dX1_isFreeFor_19 : decode cX1_isFreeFor 19 = .ok (.istore_n 2, 1) := dk_61 (dk_at dksX1_isFreeFor_0 19 rfl rfl)
theorem dX1_isFreeFor_20 : decode cX1_isFreeFor 20 = .ok (.iconst 0, 1) := dk_3 (dk_at dksX1_isFreeFor_0 20 rfl rfl)
theorem dX1_isFreeFor_21 : decode cX1_isFreeFor 21 = .ok (.istore_n 3, 1) := dk_62 (dk_at dksX1_isFreeFor_0 21 rfl rfl)
theorem dX1_isFreeFor_22 : decode cX1_isFreeFor 22 = .ok (.iload_n 3, 1) := dk_29 (dk_at dksX1_isFreeFor_0 22 rfl rfl)
theorem dX1_isFreeFor_23 : decode cX1_isFreeFor 23 = .ok (.iconst 4, 1) := dk_7 (dk_at dksX1_isFreeFor_0 23 rfl rfl)
theorem dX1_isFreeFor_24 : decode cX1_isFreeFor 24 = .ok (.if_icmp .ge 29, 3) := dk_162 0 29 (dk_at dksX1_isFreeFor_1 0 rfl rfl)
theorem dX1_isFreeFor_27 : decode cX1_isFreeFor 27 = .ok (.iload_n 2, 1) := dk_28 (dk_at dksX1_isFreeFor_1 3 rfl rfl)
theorem dX1_isFreeFor_28 : decode cX1_isFreeFor 28 = .ok (.aload_n 0, 1) := dk_42 (dk_at dksX1_isFreeFor_1 4 rfl rfl)
theorem dX1_isFreeFor_29 : decode cX1_isFreeFor 29 = .ok (.getfield 29, 3) := dk_180 0 29 (dk_at dksX1_isFreeFor_1 5 rfl rfl)
theorem dX1_isFreeFor_32 : decode cX1_isFreeFor 32 = .ok (.iload_n 1, 1) := dk_27 (dk_at dksX1_isFreeFor_1 8 rfl rfl)
theorem dX1_isFreeFor_33 : decode cX1_isFreeFor 33 = .ok (.iload_n 3, 1) := dk_29 (dk_at dksX1_isFreeFor_1 9 rfl rfl)
theorem dX1_isFreeFor_34 : decode cX1_isFreeFor 34 = .ok (.invokevirtual 109, 3) := dk_182 0 109 (dk_at dksX1_isFreeFor_1 10 rfl rfl)
theorem dX1_isFreeFor_37 : decode cX1_isFreeFor 37 = .ok (.ifCond .ge 7, 3) := dk_156 0 7 (dk_at dksX1_isFreeFor_1 13 rfl rfl)
theorem dX1_isFreeFor_40 : decode cX1_isFreeFor 40 = .ok (.iconst 1, 1) := dk_4 (dk_at dksX1_isFreeFor_1 16 rfl rfl)
theorem dX1_isFreeFor_41 : decode cX1_isFreeFor 41 = .ok (.goto 4, 3) := dk_167 0 4 (dk_at dksX1_isFreeFor_1 17 rfl rfl)
theorem dX1_isFreeFor_44 : decode cX1_isFreeFor 44 = .ok (.iconst 0, 1) := dk_3 (dk_at dksX1_isFreeFor_1 20 rfl rfl)
theorem dX1_isFreeFor_45 : decode cX1_isFreeFor 45 = .ok (.iand, 1) := dk_126 (dk_at dksX1_isFreeFor_1 21 rfl rfl)
theorem dX1_isFreeFor_46 : decode cX1_isFreeFor 46 = .ok (.istore_n 2, 1) := dk_61 (dk_at dksX1_isFreeFor_1 22 rfl rfl)
theorem dX1_isFreeFor_47 : decode cX1_isFreeFor 47 = .ok (.iinc 3 1, 3) := dk_132 3 1 (dk_at dksX1_isFreeFor_2 0 rfl rfl)
theorem dX1_isFreeFor_50 : decode cX1_isFreeFor 50 = .ok (.goto (-28), 3) := dk_167 255 228 (dk_at dksX1_isFreeFor_2 3 rfl rfl)
theorem dX1_isFreeFor_53 : decode cX1_isFreeFor 53 = .ok (.iload_n 2, 1) := dk_28 (dk_at dksX1_isFreeFor_2 6 rfl rfl)
theorem dX1_isFreeFor_54 : decode cX1_isFreeFor 54 = .ok (.ireturn, 1) := dk_172 (dk_at dksX1_isFreeFor_2 7 rfl rfl)
abbrev cX1_requireState : ByteArray := prog_1_method_3_code
def yX1_requireState : MethodName := ⟨RX1, "requireState", "(Z)V"⟩
def dkwX1_requireState_0 : List UInt8 := [26, 154, 0, 11, 187, 0, 9, 89, 183, 0, 11, 191, 177]
abbrev dktX1_requireState_0 : List UInt8 := dkwX1_requireState_0 ++ []
theorem dksX1_requireState_0 : cX1_requireState.data.toList.drop 0 = dktX1_requireState_0 := by decide +kernel
theorem dX1_requireState_0 : decode cX1_requireState 0 = .ok (.iload_n 0, 1) := dk_26 (dk_at dksX1_requireState_0 0 rfl rfl)
theorem dX1_requireState_1 : decode cX1_requireState 1 = .ok (.ifCond .ne 11, 3) := dk_154 0 11 (dk_at dksX1_requireState_0 1 rfl rfl)
theorem dX1_requireState_4 : decode cX1_requireState 4 = .ok (.new 9, 3) := dk_187 0 9 (dk_at dksX1_requireState_0 4 rfl rfl)
theorem dX1_requireState_7 : decode cX1_requireState 7 = .ok (.dup, 1) := dk_89 (dk_at dksX1_requireState_0 7 rfl rfl)
theorem dX1_requireState_8 : decode cX1_requireState 8 = .ok (.invokespecial 11, 3) := dk_183 0 11 (dk_at dksX1_requireState_0 8 rfl rfl)
theorem dX1_requireState_11 : decode cX1_requireState 11 = .ok (.athrow, 1) := dk_191 (dk_at dksX1_requireState_0 11 rfl rfl)
theorem dX1_requireState_12 : decode cX1_requireState 12 = .ok (.return_, 1) := dk_177 (dk_at dksX1_requireState_0 12 rfl rfl)
abbrev cX1_give : ByteArray := prog_1_method_17_code
def yX1_give : MethodName := ⟨RX1, "give", "(I)I"⟩
def dkwX1_give_0 : List UInt8 := [42, 27, 182, 0, 137, 184, 0, 140, 42, 182, 0, 134, 42, 180, 0, 29, 27, 182, 0, 143, 172]
abbrev dktX1_give_0 : List UInt8 := dkwX1_give_0 ++ []
theorem dksX1_give_0 : cX1_give.data.toList.drop 0 = dktX1_give_0 := by decide +kernel
theorem dX1_give_0 : decode cX1_give 0 = .ok (.aload_n 0, 1) := dk_42 (dk_at dksX1_give_0 0 rfl rfl)
theorem dX1_give_1 : decode cX1_give 1 = .ok (.iload_n 1, 1) := dk_27 (dk_at dksX1_give_0 1 rfl rfl)
theorem dX1_give_2 : decode cX1_give 2 = .ok (.invokevirtual 137, 3) := dk_182 0 137 (dk_at dksX1_give_0 2 rfl rfl)
theorem dX1_give_5 : decode cX1_give 5 = .ok (.invokestatic 140, 3) := dk_184 0 140 (dk_at dksX1_give_0 5 rfl rfl)
theorem dX1_give_8 : decode cX1_give 8 = .ok (.aload_n 0, 1) := dk_42 (dk_at dksX1_give_0 8 rfl rfl)
theorem dX1_give_9 : decode cX1_give 9 = .ok (.invokevirtual 134, 3) := dk_182 0 134 (dk_at dksX1_give_0 9 rfl rfl)
theorem dX1_give_12 : decode cX1_give 12 = .ok (.aload_n 0, 1) := dk_42 (dk_at dksX1_give_0 12 rfl rfl)
theorem dX1_give_13 : decode cX1_give 13 = .ok (.getfield 29, 3) := dk_180 0 29 (dk_at dksX1_give_0 13 rfl rfl)
theorem dX1_give_16 : decode cX1_give 16 = .ok (.iload_n 1, 1) := dk_27 (dk_at dksX1_give_0 16 rfl rfl)
theorem dX1_give_17 : decode cX1_give 17 = .ok (.invokevirtual 143, 3) := dk_182 0 143 (dk_at dksX1_give_0 17 rfl rfl)
theorem dX1_give_20 : decode cX1_give 20 = .ok (.ireturn, 1) := dk_172 (dk_at dksX1_give_0 20 rfl rfl)
abbrev cX1_isRoom : ByteArray := prog_1_method_9_code
def yX1_isRoom : MethodName := ⟨RX1, "isRoom", "(I)Z"⟩
def dkwX1_isRoom_1 : List UInt8 := [167, 0, 4, 3, 172]
abbrev dktX1_isRoom_1 : List UInt8 := dkwX1_isRoom_1 ++ []
def dkwX1_isRoom_0 : List UInt8 := [27, 3, 8, 184, 0, 94, 153, 0, 19, 42, 180, 0, 29, 180, 0, 98, 27, 51, 153, 0, 7, 4]
abbrev dktX1_isRoom_0 : List UInt8 := dkwX1_isRoom_0 ++ dktX1_isRoom_1
theorem dksX1_isRoom_0 : cX1_isRoom.data.toList.drop 0 = dktX1_isRoom_0 := by decide +kernel
theorem dksX1_isRoom_1 : cX1_isRoom.data.toList.drop 22 = dktX1_isRoom_1 := dk_seg dksX1_isRoom_0 22 rfl rfl
theorem dX1_isRoom_0 : decode cX1_isRoom 0 = .ok (.iload_n 1, 1) := dk_27 (dk_at dksX1_isRoom_0 0 rfl rfl)
theorem dX1_isRoom_1 : decode cX1_isRoom 1 = .ok (.iconst 0, 1) := dk_3 (dk_at dksX1_isRoom_0 1 rfl rfl)
theorem dX1_isRoom_2 : decode cX1_isRoom 2 = .ok (.iconst 5, 1) := dk_8 (dk_at dksX1_isRoom_0 2 rfl rfl)
theorem dX1_isRoom_3 : decode cX1_isRoom 3 = .ok (.invokestatic 94, 3) := dk_184 0 94 (dk_at dksX1_isRoom_0 3 rfl rfl)
theorem dX1_isRoom_6 : decode cX1_isRoom 6 = .ok (.ifCond .eq 19, 3) := dk_153 0 19 (dk_at dksX1_isRoom_0 6 rfl rfl)
theorem dX1_isRoom_9 : decode cX1_isRoom 9 = .ok (.aload_n 0, 1) := dk_42 (dk_at dksX1_isRoom_0 9 rfl rfl)
theorem dX1_isRoom_10 : decode cX1_isRoom 10 = .ok (.getfield 29, 3) := dk_180 0 29 (dk_at dksX1_isRoom_0 10 rfl rfl)
theorem dX1_isRoom_13 : decode cX1_isRoom 13 = .ok (.getfield 98, 3) := dk_180 0 98 (dk_at dksX1_isRoom_0 13 rfl rfl)
theorem dX1_isRoom_16 : decode cX1_isRoom 16 = .ok (.iload_n 1, 1) := dk_27 (dk_at dksX1_isRoom_0 16 rfl rfl)
theorem dX1_isRoom_17 : decode cX1_isRoom 17 = .ok (.baload, 1) := dk_51 (dk_at dksX1_isRoom_0 17 rfl rfl)
theorem dX1_isRoom_18 : decode cX1_isRoom 18 = .ok (.ifCond .eq 7, 3) := dk_153 0 7 (dk_at dksX1_isRoom_0 18 rfl rfl)
theorem dX1_isRoom_21 : decode cX1_isRoom 21 = .ok (.iconst 1, 1) := dk_4 (dk_at dksX1_isRoom_0 21 rfl rfl)
theorem dX1_isRoom_22 : decode cX1_isRoom 22 = .ok (.goto 4, 3) := dk_167 0 4 (dk_at dksX1_isRoom_1 0 rfl rfl)
theorem dX1_isRoom_25 : decode cX1_isRoom 25 = .ok (.iconst 0, 1) := dk_3 (dk_at dksX1_isRoom_1 3 rfl rfl)
theorem dX1_isRoom_26 : decode cX1_isRoom 26 = .ok (.ireturn, 1) := dk_172 (dk_at dksX1_isRoom_1 4 rfl rfl)
abbrev cX1_requireIndex : ByteArray := prog_1_method_4_code
def yX1_requireIndex : MethodName := ⟨RX1, "requireIndex", "(Z)V"⟩
def dkwX1_requireIndex_0 : List UInt8 := [26, 154, 0, 11, 187, 0, 12, 89, 183, 0, 14, 191, 177]
abbrev dktX1_requireIndex_0 : List UInt8 := dkwX1_requireIndex_0 ++ []
theorem dksX1_requireIndex_0 : cX1_requireIndex.data.toList.drop 0 = dktX1_requireIndex_0 := by decide +kernel
theorem dX1_requireIndex_0 : decode cX1_requireIndex 0 = .ok (.iload_n 0, 1) := dk_26 (dk_at dksX1_requireIndex_0 0 rfl rfl)
theorem dX1_requireIndex_1 : decode cX1_requireIndex 1 = .ok (.ifCond .ne 11, 3) := dk_154 0 11 (dk_at dksX1_requireIndex_0 1 rfl rfl)
theorem dX1_requireIndex_4 : decode cX1_requireIndex 4 = .ok (.new 12, 3) := dk_187 0 12 (dk_at dksX1_requireIndex_0 4 rfl rfl)
theorem dX1_requireIndex_7 : decode cX1_requireIndex 7 = .ok (.dup, 1) := dk_89 (dk_at dksX1_requireIndex_0 7 rfl rfl)
theorem dX1_requireIndex_8 : decode cX1_requireIndex 8 = .ok (.invokespecial 14, 3) := dk_183 0 14 (dk_at dksX1_requireIndex_0 8 rfl rfl)
theorem dX1_requireIndex_11 : decode cX1_requireIndex 11 = .ok (.athrow, 1) := dk_191 (dk_at dksX1_requireIndex_0 11 rfl rfl)
theorem dX1_requireIndex_12 : decode cX1_requireIndex 12 = .ok (.return_, 1) := dk_177 (dk_at dksX1_requireIndex_0 12 rfl rfl)
abbrev cX1_walk : ByteArray := prog_1_method_18_code
def yX1_walk : MethodName := ⟨RX1, "walk", "(III)I"⟩
def dkwX1_walk_3 : List UInt8 := [21, 4, 172]
abbrev dktX1_walk_3 : List UInt8 := dkwX1_walk_3 ++ []
def dkwX1_walk_2 : List UInt8 := [182, 0, 134, 42, 180, 0, 29, 27, 28, 182, 0, 146, 54, 4, 42, 180, 0, 29, 27, 28, 29, 182, 0, 149]
abbrev dktX1_walk_2 : List UInt8 := dkwX1_walk_2 ++ dktX1_walk_3
def dkwX1_walk_1 : List UInt8 := [27, 28, 159, 0, 16, 29, 3, 6, 184, 0, 94, 153, 0, 7, 4, 167, 0, 4, 3, 184, 0, 124, 42]
abbrev dktX1_walk_1 : List UInt8 := dkwX1_walk_1 ++ dktX1_walk_2
def dkwX1_walk_0 : List UInt8 := [42, 27, 182, 0, 137, 153, 0, 15, 42, 28, 182, 0, 137, 153, 0, 7, 4, 167, 0, 4, 3, 184, 0, 140]
abbrev dktX1_walk_0 : List UInt8 := dkwX1_walk_0 ++ dktX1_walk_1
theorem dksX1_walk_0 : cX1_walk.data.toList.drop 0 = dktX1_walk_0 := by decide +kernel
theorem dksX1_walk_1 : cX1_walk.data.toList.drop 24 = dktX1_walk_1 := dk_seg dksX1_walk_0 24 rfl rfl
theorem dksX1_walk_2 : cX1_walk.data.toList.drop 47 = dktX1_walk_2 := dk_seg dksX1_walk_1 23 rfl rfl
theorem dksX1_walk_3 : cX1_walk.data.toList.drop 71 = dktX1_walk_3 := dk_seg dksX1_walk_2 24 rfl rfl
theorem dX1_walk_0 : decode cX1_walk 0 = .ok (.aload_n 0, 1) := dk_42 (dk_at dksX1_walk_0 0 rfl rfl)
theorem dX1_walk_1 : decode cX1_walk 1 = .ok (.iload_n 1, 1) := dk_27 (dk_at dksX1_walk_0 1 rfl rfl)
theorem dX1_walk_2 : decode cX1_walk 2 = .ok (.invokevirtual 137, 3) := dk_182 0 137 (dk_at dksX1_walk_0 2 rfl rfl)
theorem dX1_walk_5 : decode cX1_walk 5 = .ok (.ifCond .eq 15, 3) := dk_153 0 15 (dk_at dksX1_walk_0 5 rfl rfl)
theorem dX1_walk_8 : decode cX1_walk 8 = .ok (.aload_n 0, 1) := dk_42 (dk_at dksX1_walk_0 8 rfl rfl)
theorem dX1_walk_9 : decode cX1_walk 9 = .ok (.iload_n 2, 1) := dk_28 (dk_at dksX1_walk_0 9 rfl rfl)
theorem dX1_walk_10 : decode cX1_walk 10 = .ok (.invokevirtual 137, 3) := dk_182 0 137 (dk_at dksX1_walk_0 10 rfl rfl)
theorem dX1_walk_13 : decode cX1_walk 13 = .ok (.ifCond .eq 7, 3) := dk_153 0 7 (dk_at dksX1_walk_0 13 rfl rfl)
theorem dX1_walk_16 : decode cX1_walk 16 = .ok (.iconst 1, 1) := dk_4 (dk_at dksX1_walk_0 16 rfl rfl)
theorem dX1_walk_17 : decode cX1_walk 17 = .ok (.goto 4, 3) := dk_167 0 4 (dk_at dksX1_walk_0 17 rfl rfl)
theorem dX1_walk_20 : decode cX1_walk 20 = .ok (.iconst 0, 1) := dk_3 (dk_at dksX1_walk_0 20 rfl rfl)
theorem dX1_walk_21 : decode cX1_walk 21 = .ok (.invokestatic 140, 3) := dk_184 0 140 (dk_at dksX1_walk_0 21 rfl rfl)
theorem dX1_walk_24 : decode cX1_walk 24 = .ok (.iload_n 1, 1) := dk_27 (dk_at dksX1_walk_1 0 rfl rfl)
theorem dX1_walk_25 : decode cX1_walk 25 = .ok (.iload_n 2, 1) := dk_28 (dk_at dksX1_walk_1 1 rfl rfl)
theorem dX1_walk_26 : decode cX1_walk 26 = .ok (.if_icmp .eq 16, 3) := dk_159 0 16 (dk_at dksX1_walk_1 2 rfl rfl)
theorem dX1_walk_29 : decode cX1_walk 29 = .ok (.iload_n 3, 1) := dk_29 (dk_at dksX1_walk_1 5 rfl rfl)
theorem dX1_walk_30 : decode cX1_walk 30 = .ok (.iconst 0, 1) := dk_3 (dk_at dksX1_walk_1 6 rfl rfl)
theorem dX1_walk_31 : decode cX1_walk 31 = .ok (.iconst 3, 1) := dk_6 (dk_at dksX1_walk_1 7 rfl rfl)
theorem dX1_walk_32 : decode cX1_walk 32 = .ok (.invokestatic 94, 3) := dk_184 0 94 (dk_at dksX1_walk_1 8 rfl rfl)
theorem dX1_walk_35 : decode cX1_walk 35 = .ok (.ifCond .eq 7, 3) := dk_153 0 7 (dk_at dksX1_walk_1 11 rfl rfl)
theorem dX1_walk_38 : decode cX1_walk 38 = .ok (.iconst 1, 1) := dk_4 (dk_at dksX1_walk_1 14 rfl rfl)
theorem dX1_walk_39 : decode cX1_walk 39 = .ok (.goto 4, 3) := dk_167 0 4 (dk_at dksX1_walk_1 15 rfl rfl)
theorem dX1_walk_42 : decode cX1_walk 42 = .ok (.iconst 0, 1) := dk_3 (dk_at dksX1_walk_1 18 rfl rfl)
theorem dX1_walk_43 : decode cX1_walk 43 = .ok (.invokestatic 124, 3) := dk_184 0 124 (dk_at dksX1_walk_1 19 rfl rfl)
theorem dX1_walk_46 : decode cX1_walk 46 = .ok (.aload_n 0, 1) := dk_42 (dk_at dksX1_walk_1 22 rfl rfl)
theorem dX1_walk_47 : decode cX1_walk 47 = .ok (.invokevirtual 134, 3) := dk_182 0 134 (dk_at dksX1_walk_2 0 rfl rfl)
theorem dX1_walk_50 : decode cX1_walk 50 = .ok (.aload_n 0, 1) := dk_42 (dk_at dksX1_walk_2 3 rfl rfl)
theorem dX1_walk_51 : decode cX1_walk 51 = .ok (.getfield 29, 3) := dk_180 0 29 (dk_at dksX1_walk_2 4 rfl rfl)
theorem dX1_walk_54 : decode cX1_walk 54 = .ok (.iload_n 1, 1) := dk_27 (dk_at dksX1_walk_2 7 rfl rfl)
theorem dX1_walk_55 : decode cX1_walk 55 = .ok (.iload_n 2, 1) := dk_28 (dk_at dksX1_walk_2 8 rfl rfl)
theorem dX1_walk_56 : decode cX1_walk 56 = .ok (.invokevirtual 146, 3) := dk_182 0 146 (dk_at dksX1_walk_2 9 rfl rfl)
theorem dX1_walk_59 : decode cX1_walk 59 = .ok (.istore 4, 2) := dk_54 4 (dk_at dksX1_walk_2 12 rfl rfl)
theorem dX1_walk_61 : decode cX1_walk 61 = .ok (.aload_n 0, 1) := dk_42 (dk_at dksX1_walk_2 14 rfl rfl)
theorem dX1_walk_62 : decode cX1_walk 62 = .ok (.getfield 29, 3) := dk_180 0 29 (dk_at dksX1_walk_2 15 rfl rfl)
theorem dX1_walk_65 : decode cX1_walk 65 = .ok (.iload_n 1, 1) := dk_27 (dk_at dksX1_walk_2 18 rfl rfl)
theorem dX1_walk_66 : decode cX1_walk 66 = .ok (.iload_n 2, 1) := dk_28 (dk_at dksX1_walk_2 19 rfl rfl)
theorem dX1_walk_67 : decode cX1_walk 67 = .ok (.iload_n 3, 1) := dk_29 (dk_at dksX1_walk_2 20 rfl rfl)
theorem dX1_walk_68 : decode cX1_walk 68 = .ok (.invokevirtual 149, 3) := dk_182 0 149 (dk_at dksX1_walk_2 21 rfl rfl)
theorem dX1_walk_71 : decode cX1_walk 71 = .ok (.iload 4, 2) := dk_21 4 (dk_at dksX1_walk_3 0 rfl rfl)
theorem dX1_walk_73 : decode cX1_walk 73 = .ok (.ireturn, 1) := dk_172 (dk_at dksX1_walk_3 2 rfl rfl)
abbrev cX1_dig : ByteArray := prog_1_method_33_code
def yX1_dig : MethodName := ⟨RX1, "dig", "(II)I"⟩
def dkwX1_dig_2 : List UInt8 := [16, 253, 42, 180, 0, 29, 180, 0, 106, 29, 46, 100, 79, 42, 180, 0, 51, 29, 185, 0, 101, 2, 0, 172]
abbrev dktX1_dig_2 : List UInt8 := dkwX1_dig_2 ++ []
def dkwX1_dig_1 : List UInt8 := [156, 0, 7, 4, 167, 0, 4, 3, 184, 0, 131, 42, 182, 0, 134, 42, 180, 0, 29, 180, 0, 106, 29]
abbrev dktX1_dig_1 : List UInt8 := dkwX1_dig_1 ++ dktX1_dig_2
def dkwX1_dig_0 : List UInt8 := [27, 28, 184, 0, 163, 184, 0, 124, 16, 16, 28, 104, 27, 96, 62, 42, 180, 0, 29, 180, 0, 106, 29, 46]
abbrev dktX1_dig_0 : List UInt8 := dkwX1_dig_0 ++ dktX1_dig_1
theorem dksX1_dig_0 : cX1_dig.data.toList.drop 0 = dktX1_dig_0 := by decide +kernel
theorem dksX1_dig_1 : cX1_dig.data.toList.drop 24 = dktX1_dig_1 := dk_seg dksX1_dig_0 24 rfl rfl
theorem dksX1_dig_2 : cX1_dig.data.toList.drop 47 = dktX1_dig_2 := dk_seg dksX1_dig_1 23 rfl rfl
theorem dX1_dig_0 : decode cX1_dig 0 = .ok (.iload_n 1, 1) := dk_27 (dk_at dksX1_dig_0 0 rfl rfl)
theorem dX1_dig_1 : decode cX1_dig 1 = .ok (.iload_n 2, 1) := dk_28 (dk_at dksX1_dig_0 1 rfl rfl)
theorem dX1_dig_2 : decode cX1_dig 2 = .ok (.invokestatic 163, 3) := dk_184 0 163 (dk_at dksX1_dig_0 2 rfl rfl)
theorem dX1_dig_5 : decode cX1_dig 5 = .ok (.invokestatic 124, 3) := dk_184 0 124 (dk_at dksX1_dig_0 5 rfl rfl)
theorem dX1_dig_8 : decode cX1_dig 8 = .ok (.bipush 16, 2) := dk_16 16 (dk_at dksX1_dig_0 8 rfl rfl)
theorem dX1_dig_10 : decode cX1_dig 10 = .ok (.iload_n 2, 1) := dk_28 (dk_at dksX1_dig_0 10 rfl rfl)
theorem dX1_dig_11 : decode cX1_dig 11 = .ok (.imul, 1) := dk_104 (dk_at dksX1_dig_0 11 rfl rfl)
theorem dX1_dig_12 : decode cX1_dig 12 = .ok (.iload_n 1, 1) := dk_27 (dk_at dksX1_dig_0 12 rfl rfl)
theorem dX1_dig_13 : decode cX1_dig 13 = .ok (.iadd, 1) := dk_96 (dk_at dksX1_dig_0 13 rfl rfl)
theorem dX1_dig_14 : decode cX1_dig 14 = .ok (.istore_n 3, 1) := dk_62 (dk_at dksX1_dig_0 14 rfl rfl)
theorem dX1_dig_15 : decode cX1_dig 15 = .ok (.aload_n 0, 1) := dk_42 (dk_at dksX1_dig_0 15 rfl rfl)
theorem dX1_dig_16 : decode cX1_dig 16 = .ok (.getfield 29, 3) := dk_180 0 29 (dk_at dksX1_dig_0 16 rfl rfl)
theorem dX1_dig_19 : decode cX1_dig 19 = .ok (.getfield 106, 3) := dk_180 0 106 (dk_at dksX1_dig_0 19 rfl rfl)
theorem dX1_dig_22 : decode cX1_dig 22 = .ok (.iload_n 3, 1) := dk_29 (dk_at dksX1_dig_0 22 rfl rfl)
theorem dX1_dig_23 : decode cX1_dig 23 = .ok (.iaload, 1) := dk_46 (dk_at dksX1_dig_0 23 rfl rfl)
theorem dX1_dig_24 : decode cX1_dig 24 = .ok (.ifCond .ge 7, 3) := dk_156 0 7 (dk_at dksX1_dig_1 0 rfl rfl)
theorem dX1_dig_27 : decode cX1_dig 27 = .ok (.iconst 1, 1) := dk_4 (dk_at dksX1_dig_1 3 rfl rfl)
theorem dX1_dig_28 : decode cX1_dig 28 = .ok (.goto 4, 3) := dk_167 0 4 (dk_at dksX1_dig_1 4 rfl rfl)
theorem dX1_dig_31 : decode cX1_dig 31 = .ok (.iconst 0, 1) := dk_3 (dk_at dksX1_dig_1 7 rfl rfl)
theorem dX1_dig_32 : decode cX1_dig 32 = .ok (.invokestatic 131, 3) := dk_184 0 131 (dk_at dksX1_dig_1 8 rfl rfl)
theorem dX1_dig_35 : decode cX1_dig 35 = .ok (.aload_n 0, 1) := dk_42 (dk_at dksX1_dig_1 11 rfl rfl)
theorem dX1_dig_36 : decode cX1_dig 36 = .ok (.invokevirtual 134, 3) := dk_182 0 134 (dk_at dksX1_dig_1 12 rfl rfl)
theorem dX1_dig_39 : decode cX1_dig 39 = .ok (.aload_n 0, 1) := dk_42 (dk_at dksX1_dig_1 15 rfl rfl)
theorem dX1_dig_40 : decode cX1_dig 40 = .ok (.getfield 29, 3) := dk_180 0 29 (dk_at dksX1_dig_1 16 rfl rfl)
theorem dX1_dig_43 : decode cX1_dig 43 = .ok (.getfield 106, 3) := dk_180 0 106 (dk_at dksX1_dig_1 19 rfl rfl)
theorem dX1_dig_46 : decode cX1_dig 46 = .ok (.iload_n 3, 1) := dk_29 (dk_at dksX1_dig_1 22 rfl rfl)
theorem dX1_dig_47 : decode cX1_dig 47 = .ok (.bipush (-3), 2) := dk_16 253 (dk_at dksX1_dig_2 0 rfl rfl)
theorem dX1_dig_49 : decode cX1_dig 49 = .ok (.aload_n 0, 1) := dk_42 (dk_at dksX1_dig_2 2 rfl rfl)
theorem dX1_dig_50 : decode cX1_dig 50 = .ok (.getfield 29, 3) := dk_180 0 29 (dk_at dksX1_dig_2 3 rfl rfl)
theorem dX1_dig_53 : decode cX1_dig 53 = .ok (.getfield 106, 3) := dk_180 0 106 (dk_at dksX1_dig_2 6 rfl rfl)
theorem dX1_dig_56 : decode cX1_dig 56 = .ok (.iload_n 3, 1) := dk_29 (dk_at dksX1_dig_2 9 rfl rfl)
theorem dX1_dig_57 : decode cX1_dig 57 = .ok (.iaload, 1) := dk_46 (dk_at dksX1_dig_2 10 rfl rfl)
theorem dX1_dig_58 : decode cX1_dig 58 = .ok (.isub, 1) := dk_100 (dk_at dksX1_dig_2 11 rfl rfl)
theorem dX1_dig_59 : decode cX1_dig 59 = .ok (.iastore, 1) := dk_79 (dk_at dksX1_dig_2 12 rfl rfl)
theorem dX1_dig_60 : decode cX1_dig 60 = .ok (.aload_n 0, 1) := dk_42 (dk_at dksX1_dig_2 13 rfl rfl)
theorem dX1_dig_61 : decode cX1_dig 61 = .ok (.getfield 51, 3) := dk_180 0 51 (dk_at dksX1_dig_2 14 rfl rfl)
theorem dX1_dig_64 : decode cX1_dig 64 = .ok (.iload_n 3, 1) := dk_29 (dk_at dksX1_dig_2 17 rfl rfl)
theorem dX1_dig_65 : decode cX1_dig 65 = .ok (.invokeinterface 101 2, 5) := by decide +kernel
theorem dX1_dig_70 : decode cX1_dig 70 = .ok (.ireturn, 1) := dk_172 (dk_at dksX1_dig_2 23 rfl rfl)
abbrev cX1_carve : ByteArray := prog_1_method_34_code
def yX1_carve : MethodName := ⟨RX1, "carve", "(II)I"⟩
def dkwX1_carve_2 : List UInt8 := [182, 0, 134, 42, 182, 0, 214, 172]
abbrev dktX1_carve_2 : List UInt8 := dkwX1_carve_2 ++ []
def dkwX1_carve_1 : List UInt8 := [27, 28, 159, 0, 7, 4, 167, 0, 4, 3, 184, 0, 124, 42, 27, 28, 182, 0, 208, 184, 0, 131, 42]
abbrev dktX1_carve_1 : List UInt8 := dkwX1_carve_1 ++ dktX1_carve_2
def dkwX1_carve_0 : List UInt8 := [42, 27, 182, 0, 137, 153, 0, 15, 42, 28, 182, 0, 137, 153, 0, 7, 4, 167, 0, 4, 3, 184, 0, 140]
abbrev dktX1_carve_0 : List UInt8 := dkwX1_carve_0 ++ dktX1_carve_1
theorem dksX1_carve_0 : cX1_carve.data.toList.drop 0 = dktX1_carve_0 := by decide +kernel
theorem dksX1_carve_1 : cX1_carve.data.toList.drop 24 = dktX1_carve_1 := dk_seg dksX1_carve_0 24 rfl rfl
theorem dksX1_carve_2 : cX1_carve.data.toList.drop 47 = dktX1_carve_2 := dk_seg dksX1_carve_1 23 rfl rfl
theorem dX1_carve_0 : decode cX1_carve 0 = .ok (.aload_n 0, 1) := dk_42 (dk_at dksX1_carve_0 0 rfl rfl)
theorem dX1_carve_1 : decode cX1_carve 1 = .ok (.iload_n 1, 1) := dk_27 (dk_at dksX1_carve_0 1 rfl rfl)
theorem dX1_carve_2 : decode cX1_carve 2 = .ok (.invokevirtual 137, 3) := dk_182 0 137 (dk_at dksX1_carve_0 2 rfl rfl)
theorem dX1_carve_5 : decode cX1_carve 5 = .ok (.ifCond .eq 15, 3) := dk_153 0 15 (dk_at dksX1_carve_0 5 rfl rfl)
theorem dX1_carve_8 : decode cX1_carve 8 = .ok (.aload_n 0, 1) := dk_42 (dk_at dksX1_carve_0 8 rfl rfl)
theorem dX1_carve_9 : decode cX1_carve 9 = .ok (.iload_n 2, 1) := dk_28 (dk_at dksX1_carve_0 9 rfl rfl)
theorem dX1_carve_10 : decode cX1_carve 10 = .ok (.invokevirtual 137, 3) := dk_182 0 137 (dk_at dksX1_carve_0 10 rfl rfl)
theorem dX1_carve_13 : decode cX1_carve 13 = .ok (.ifCond .eq 7, 3) := dk_153 0 7 (dk_at dksX1_carve_0 13 rfl rfl)
theorem dX1_carve_16 : decode cX1_carve 16 = .ok (.iconst 1, 1) := dk_4 (dk_at dksX1_carve_0 16 rfl rfl)
theorem dX1_carve_17 : decode cX1_carve 17 = .ok (.goto 4, 3) := dk_167 0 4 (dk_at dksX1_carve_0 17 rfl rfl)
theorem dX1_carve_20 : decode cX1_carve 20 = .ok (.iconst 0, 1) := dk_3 (dk_at dksX1_carve_0 20 rfl rfl)
theorem dX1_carve_21 : decode cX1_carve 21 = .ok (.invokestatic 140, 3) := dk_184 0 140 (dk_at dksX1_carve_0 21 rfl rfl)
theorem dX1_carve_24 : decode cX1_carve 24 = .ok (.iload_n 1, 1) := dk_27 (dk_at dksX1_carve_1 0 rfl rfl)
theorem dX1_carve_25 : decode cX1_carve 25 = .ok (.iload_n 2, 1) := dk_28 (dk_at dksX1_carve_1 1 rfl rfl)
theorem dX1_carve_26 : decode cX1_carve 26 = .ok (.if_icmp .eq 7, 3) := dk_159 0 7 (dk_at dksX1_carve_1 2 rfl rfl)
theorem dX1_carve_29 : decode cX1_carve 29 = .ok (.iconst 1, 1) := dk_4 (dk_at dksX1_carve_1 5 rfl rfl)
theorem dX1_carve_30 : decode cX1_carve 30 = .ok (.goto 4, 3) := dk_167 0 4 (dk_at dksX1_carve_1 6 rfl rfl)
theorem dX1_carve_33 : decode cX1_carve 33 = .ok (.iconst 0, 1) := dk_3 (dk_at dksX1_carve_1 9 rfl rfl)
theorem dX1_carve_34 : decode cX1_carve 34 = .ok (.invokestatic 124, 3) := dk_184 0 124 (dk_at dksX1_carve_1 10 rfl rfl)
theorem dX1_carve_37 : decode cX1_carve 37 = .ok (.aload_n 0, 1) := dk_42 (dk_at dksX1_carve_1 13 rfl rfl)
theorem dX1_carve_38 : decode cX1_carve 38 = .ok (.iload_n 1, 1) := dk_27 (dk_at dksX1_carve_1 14 rfl rfl)
theorem dX1_carve_39 : decode cX1_carve 39 = .ok (.iload_n 2, 1) := dk_28 (dk_at dksX1_carve_1 15 rfl rfl)
theorem dX1_carve_40 : decode cX1_carve 40 = .ok (.invokevirtual 208, 3) := dk_182 0 208 (dk_at dksX1_carve_1 16 rfl rfl)
theorem dX1_carve_43 : decode cX1_carve 43 = .ok (.invokestatic 131, 3) := dk_184 0 131 (dk_at dksX1_carve_1 19 rfl rfl)
theorem dX1_carve_46 : decode cX1_carve 46 = .ok (.aload_n 0, 1) := dk_42 (dk_at dksX1_carve_1 22 rfl rfl)
theorem dX1_carve_47 : decode cX1_carve 47 = .ok (.invokevirtual 134, 3) := dk_182 0 134 (dk_at dksX1_carve_2 0 rfl rfl)
theorem dX1_carve_50 : decode cX1_carve 50 = .ok (.aload_n 0, 1) := dk_42 (dk_at dksX1_carve_2 3 rfl rfl)
theorem dX1_carve_51 : decode cX1_carve 51 = .ok (.invokevirtual 214, 3) := dk_182 0 214 (dk_at dksX1_carve_2 4 rfl rfl)
theorem dX1_carve_54 : decode cX1_carve 54 = .ok (.ireturn, 1) := dk_172 (dk_at dksX1_carve_2 7 rfl rfl)
abbrev cX1_set : ByteArray := prog_1_method_39_code
def yX1_set : MethodName := ⟨RX1, "set", "(I)I"⟩
def dkwX1_set_1 : List UInt8 := [180, 0, 29, 27, 181, 0, 235, 28, 172]
abbrev dktX1_set_1 : List UInt8 := dkwX1_set_1 ++ []
def dkwX1_set_0 : List UInt8 := [27, 3, 16, 9, 184, 0, 94, 184, 0, 124, 42, 182, 0, 134, 42, 180, 0, 29, 180, 0, 235, 61, 42]
abbrev dktX1_set_0 : List UInt8 := dkwX1_set_0 ++ dktX1_set_1
theorem dksX1_set_0 : cX1_set.data.toList.drop 0 = dktX1_set_0 := by decide +kernel
theorem dksX1_set_1 : cX1_set.data.toList.drop 23 = dktX1_set_1 := dk_seg dksX1_set_0 23 rfl rfl
theorem dX1_set_0 : decode cX1_set 0 = .ok (.iload_n 1, 1) := dk_27 (dk_at dksX1_set_0 0 rfl rfl)
theorem dX1_set_1 : decode cX1_set 1 = .ok (.iconst 0, 1) := dk_3 (dk_at dksX1_set_0 1 rfl rfl)
theorem dX1_set_2 : decode cX1_set 2 = .ok (.bipush 9, 2) := dk_16 9 (dk_at dksX1_set_0 2 rfl rfl)
theorem dX1_set_4 : decode cX1_set 4 = .ok (.invokestatic 94, 3) := dk_184 0 94 (dk_at dksX1_set_0 4 rfl rfl)
theorem dX1_set_7 : decode cX1_set 7 = .ok (.invokestatic 124, 3) := dk_184 0 124 (dk_at dksX1_set_0 7 rfl rfl)
theorem dX1_set_10 : decode cX1_set 10 = .ok (.aload_n 0, 1) := dk_42 (dk_at dksX1_set_0 10 rfl rfl)
theorem dX1_set_11 : decode cX1_set 11 = .ok (.invokevirtual 134, 3) := dk_182 0 134 (dk_at dksX1_set_0 11 rfl rfl)
theorem dX1_set_14 : decode cX1_set 14 = .ok (.aload_n 0, 1) := dk_42 (dk_at dksX1_set_0 14 rfl rfl)
theorem dX1_set_15 : decode cX1_set 15 = .ok (.getfield 29, 3) := dk_180 0 29 (dk_at dksX1_set_0 15 rfl rfl)
theorem dX1_set_18 : decode cX1_set 18 = .ok (.getfield 235, 3) := dk_180 0 235 (dk_at dksX1_set_0 18 rfl rfl)
theorem dX1_set_21 : decode cX1_set 21 = .ok (.istore_n 2, 1) := dk_61 (dk_at dksX1_set_0 21 rfl rfl)
theorem dX1_set_22 : decode cX1_set 22 = .ok (.aload_n 0, 1) := dk_42 (dk_at dksX1_set_0 22 rfl rfl)
theorem dX1_set_23 : decode cX1_set 23 = .ok (.getfield 29, 3) := dk_180 0 29 (dk_at dksX1_set_1 0 rfl rfl)
theorem dX1_set_26 : decode cX1_set 26 = .ok (.iload_n 1, 1) := dk_27 (dk_at dksX1_set_1 3 rfl rfl)
theorem dX1_set_27 : decode cX1_set 27 = .ok (.putfield 235, 3) := dk_181 0 235 (dk_at dksX1_set_1 4 rfl rfl)
theorem dX1_set_30 : decode cX1_set 30 = .ok (.iload_n 2, 1) := dk_28 (dk_at dksX1_set_1 7 rfl rfl)
theorem dX1_set_31 : decode cX1_set 31 = .ok (.ireturn, 1) := dk_172 (dk_at dksX1_set_1 8 rfl rfl)
abbrev cX1_append : ByteArray := prog_1_method_40_code
def yX1_append : MethodName := ⟨RX1, "append", "(I)I"⟩
def dkwX1_append_2 : List UInt8 := [172]
abbrev dktX1_append_2 : List UInt8 := dkwX1_append_2 ++ []
def dkwX1_append_1 : List UInt8 := [167, 0, 4, 3, 184, 0, 131, 42, 180, 0, 75, 27, 146, 182, 0, 240, 87, 42, 180, 0, 75, 182, 0, 237]
abbrev dktX1_append_1 : List UInt8 := dkwX1_append_1 ++ dktX1_append_2
def dkwX1_append_0 : List UInt8 := [27, 16, 33, 16, 126, 184, 0, 94, 184, 0, 124, 42, 180, 0, 75, 182, 0, 237, 16, 60, 162, 0, 7, 4]
abbrev dktX1_append_0 : List UInt8 := dkwX1_append_0 ++ dktX1_append_1
theorem dksX1_append_0 : cX1_append.data.toList.drop 0 = dktX1_append_0 := by decide +kernel
theorem dksX1_append_1 : cX1_append.data.toList.drop 24 = dktX1_append_1 := dk_seg dksX1_append_0 24 rfl rfl
theorem dksX1_append_2 : cX1_append.data.toList.drop 48 = dktX1_append_2 := dk_seg dksX1_append_1 24 rfl rfl
theorem dX1_append_0 : decode cX1_append 0 = .ok (.iload_n 1, 1) := dk_27 (dk_at dksX1_append_0 0 rfl rfl)
theorem dX1_append_1 : decode cX1_append 1 = .ok (.bipush 33, 2) := dk_16 33 (dk_at dksX1_append_0 1 rfl rfl)
theorem dX1_append_3 : decode cX1_append 3 = .ok (.bipush 126, 2) := dk_16 126 (dk_at dksX1_append_0 3 rfl rfl)
theorem dX1_append_5 : decode cX1_append 5 = .ok (.invokestatic 94, 3) := dk_184 0 94 (dk_at dksX1_append_0 5 rfl rfl)
theorem dX1_append_8 : decode cX1_append 8 = .ok (.invokestatic 124, 3) := dk_184 0 124 (dk_at dksX1_append_0 8 rfl rfl)
theorem dX1_append_11 : decode cX1_append 11 = .ok (.aload_n 0, 1) := dk_42 (dk_at dksX1_append_0 11 rfl rfl)
theorem dX1_append_12 : decode cX1_append 12 = .ok (.getfield 75, 3) := dk_180 0 75 (dk_at dksX1_append_0 12 rfl rfl)
theorem dX1_append_15 : decode cX1_append 15 = .ok (.invokevirtual 237, 3) := dk_182 0 237 (dk_at dksX1_append_0 15 rfl rfl)
theorem dX1_append_18 : decode cX1_append 18 = .ok (.bipush 60, 2) := dk_16 60 (dk_at dksX1_append_0 18 rfl rfl)
theorem dX1_append_20 : decode cX1_append 20 = .ok (.if_icmp .ge 7, 3) := dk_162 0 7 (dk_at dksX1_append_0 20 rfl rfl)
theorem dX1_append_23 : decode cX1_append 23 = .ok (.iconst 1, 1) := dk_4 (dk_at dksX1_append_0 23 rfl rfl)
theorem dX1_append_24 : decode cX1_append 24 = .ok (.goto 4, 3) := dk_167 0 4 (dk_at dksX1_append_1 0 rfl rfl)
theorem dX1_append_27 : decode cX1_append 27 = .ok (.iconst 0, 1) := dk_3 (dk_at dksX1_append_1 3 rfl rfl)
theorem dX1_append_28 : decode cX1_append 28 = .ok (.invokestatic 131, 3) := dk_184 0 131 (dk_at dksX1_append_1 4 rfl rfl)
theorem dX1_append_31 : decode cX1_append 31 = .ok (.aload_n 0, 1) := dk_42 (dk_at dksX1_append_1 7 rfl rfl)
theorem dX1_append_32 : decode cX1_append 32 = .ok (.getfield 75, 3) := dk_180 0 75 (dk_at dksX1_append_1 8 rfl rfl)
theorem dX1_append_35 : decode cX1_append 35 = .ok (.iload_n 1, 1) := dk_27 (dk_at dksX1_append_1 11 rfl rfl)
theorem dX1_append_36 : decode cX1_append 36 = .ok (.i2c, 1) := dk_146 (dk_at dksX1_append_1 12 rfl rfl)
theorem dX1_append_37 : decode cX1_append 37 = .ok (.invokevirtual 240, 3) := dk_182 0 240 (dk_at dksX1_append_1 13 rfl rfl)
theorem dX1_append_40 : decode cX1_append 40 = .ok (.pop, 1) := dk_87 (dk_at dksX1_append_1 16 rfl rfl)
theorem dX1_append_41 : decode cX1_append 41 = .ok (.aload_n 0, 1) := dk_42 (dk_at dksX1_append_1 17 rfl rfl)
theorem dX1_append_42 : decode cX1_append 42 = .ok (.getfield 75, 3) := dk_180 0 75 (dk_at dksX1_append_1 18 rfl rfl)
theorem dX1_append_45 : decode cX1_append 45 = .ok (.invokevirtual 237, 3) := dk_182 0 237 (dk_at dksX1_append_1 21 rfl rfl)
theorem dX1_append_48 : decode cX1_append 48 = .ok (.ireturn, 1) := dk_172 (dk_at dksX1_append_2 0 rfl rfl)
abbrev cX1_run : ByteArray := prog_1_method_44_code
def yX1_run : MethodName := ⟨RX1, "run", "()I"⟩
def dkwX1_run_2 : List UInt8 := [180, 1, 28, 29, 182, 1, 35, 192, 1, 3, 182, 1, 39, 153, 0, 9, 132, 3, 1, 167, 255, 224, 29, 172]
abbrev dktX1_run_2 : List UInt8 := dkwX1_run_2 ++ []
def dkwX1_run_1 : List UInt8 := [180, 0, 75, 3, 182, 0, 244, 3, 62, 29, 43, 180, 1, 28, 182, 1, 32, 162, 0, 27, 42, 43]
abbrev dktX1_run_1 : List UInt8 := dkwX1_run_1 ++ dktX1_run_2
def dkwX1_run_0 : List UInt8 := [187, 0, 247, 89, 42, 183, 0, 249, 76, 43, 182, 0, 252, 61, 28, 184, 0, 124, 42, 182, 0, 134, 42]
abbrev dktX1_run_0 : List UInt8 := dkwX1_run_0 ++ dktX1_run_1
theorem dksX1_run_0 : cX1_run.data.toList.drop 0 = dktX1_run_0 := by decide +kernel
theorem dksX1_run_1 : cX1_run.data.toList.drop 23 = dktX1_run_1 := dk_seg dksX1_run_0 23 rfl rfl
theorem dksX1_run_2 : cX1_run.data.toList.drop 45 = dktX1_run_2 := dk_seg dksX1_run_1 22 rfl rfl
theorem dX1_run_0 : decode cX1_run 0 = .ok (.new 247, 3) := dk_187 0 247 (dk_at dksX1_run_0 0 rfl rfl)
theorem dX1_run_3 : decode cX1_run 3 = .ok (.dup, 1) := dk_89 (dk_at dksX1_run_0 3 rfl rfl)
theorem dX1_run_4 : decode cX1_run 4 = .ok (.aload_n 0, 1) := dk_42 (dk_at dksX1_run_0 4 rfl rfl)
theorem dX1_run_5 : decode cX1_run 5 = .ok (.invokespecial 249, 3) := dk_183 0 249 (dk_at dksX1_run_0 5 rfl rfl)
theorem dX1_run_8 : decode cX1_run 8 = .ok (.astore_n 1, 1) := dk_76 (dk_at dksX1_run_0 8 rfl rfl)
theorem dX1_run_9 : decode cX1_run 9 = .ok (.aload_n 1, 1) := dk_43 (dk_at dksX1_run_0 9 rfl rfl)
theorem dX1_run_10 : decode cX1_run 10 = .ok (.invokevirtual 252, 3) := dk_182 0 252 (dk_at dksX1_run_0 10 rfl rfl)
theorem dX1_run_13 : decode cX1_run 13 = .ok (.istore_n 2, 1) := dk_61 (dk_at dksX1_run_0 13 rfl rfl)
theorem dX1_run_14 : decode cX1_run 14 = .ok (.iload_n 2, 1) := dk_28 (dk_at dksX1_run_0 14 rfl rfl)
theorem dX1_run_15 : decode cX1_run 15 = .ok (.invokestatic 124, 3) := dk_184 0 124 (dk_at dksX1_run_0 15 rfl rfl)
theorem dX1_run_18 : decode cX1_run 18 = .ok (.aload_n 0, 1) := dk_42 (dk_at dksX1_run_0 18 rfl rfl)
theorem dX1_run_19 : decode cX1_run 19 = .ok (.invokevirtual 134, 3) := dk_182 0 134 (dk_at dksX1_run_0 19 rfl rfl)
theorem dX1_run_22 : decode cX1_run 22 = .ok (.aload_n 0, 1) := dk_42 (dk_at dksX1_run_0 22 rfl rfl)
theorem dX1_run_23 : decode cX1_run 23 = .ok (.getfield 75, 3) := dk_180 0 75 (dk_at dksX1_run_1 0 rfl rfl)
theorem dX1_run_26 : decode cX1_run 26 = .ok (.iconst 0, 1) := dk_3 (dk_at dksX1_run_1 3 rfl rfl)
theorem dX1_run_27 : decode cX1_run 27 = .ok (.invokevirtual 244, 3) := dk_182 0 244 (dk_at dksX1_run_1 4 rfl rfl)
theorem dX1_run_30 : decode cX1_run 30 = .ok (.iconst 0, 1) := dk_3 (dk_at dksX1_run_1 7 rfl rfl)
theorem dX1_run_31 : decode cX1_run 31 = .ok (.istore_n 3, 1) := dk_62 (dk_at dksX1_run_1 8 rfl rfl)
theorem dX1_run_32 : decode cX1_run 32 = .ok (.iload_n 3, 1) := dk_29 (dk_at dksX1_run_1 9 rfl rfl)
theorem dX1_run_33 : decode cX1_run 33 = .ok (.aload_n 1, 1) := dk_43 (dk_at dksX1_run_1 10 rfl rfl)
theorem dX1_run_34 : decode cX1_run 34 = .ok (.getfield 284, 3) := dk_180 1 28 (dk_at dksX1_run_1 11 rfl rfl)
theorem dX1_run_37 : decode cX1_run 37 = .ok (.invokevirtual 288, 3) := dk_182 1 32 (dk_at dksX1_run_1 14 rfl rfl)
theorem dX1_run_40 : decode cX1_run 40 = .ok (.if_icmp .ge 27, 3) := dk_162 0 27 (dk_at dksX1_run_1 17 rfl rfl)
theorem dX1_run_43 : decode cX1_run 43 = .ok (.aload_n 0, 1) := dk_42 (dk_at dksX1_run_1 20 rfl rfl)
theorem dX1_run_44 : decode cX1_run 44 = .ok (.aload_n 1, 1) := dk_43 (dk_at dksX1_run_1 21 rfl rfl)
theorem dX1_run_45 : decode cX1_run 45 = .ok (.getfield 284, 3) := dk_180 1 28 (dk_at dksX1_run_2 0 rfl rfl)
theorem dX1_run_48 : decode cX1_run 48 = .ok (.iload_n 3, 1) := dk_29 (dk_at dksX1_run_2 3 rfl rfl)
theorem dX1_run_49 : decode cX1_run 49 = .ok (.invokevirtual 291, 3) := dk_182 1 35 (dk_at dksX1_run_2 4 rfl rfl)
theorem dX1_run_52 : decode cX1_run 52 = .ok (.checkcast 259, 3) := dk_192 1 3 (dk_at dksX1_run_2 7 rfl rfl)
theorem dX1_run_55 : decode cX1_run 55 = .ok (.invokevirtual 295, 3) := dk_182 1 39 (dk_at dksX1_run_2 10 rfl rfl)
theorem dX1_run_58 : decode cX1_run 58 = .ok (.ifCond .eq 9, 3) := dk_153 0 9 (dk_at dksX1_run_2 13 rfl rfl)
theorem dX1_run_61 : decode cX1_run 61 = .ok (.iinc 3 1, 3) := dk_132 3 1 (dk_at dksX1_run_2 16 rfl rfl)
theorem dX1_run_64 : decode cX1_run 64 = .ok (.goto (-32), 3) := dk_167 255 224 (dk_at dksX1_run_2 19 rfl rfl)
theorem dX1_run_67 : decode cX1_run 67 = .ok (.iload_n 3, 1) := dk_29 (dk_at dksX1_run_2 22 rfl rfl)
theorem dX1_run_68 : decode cX1_run 68 = .ok (.ireturn, 1) := dk_172 (dk_at dksX1_run_2 23 rfl rfl)
abbrev cX1_does : ByteArray := prog_1_method_43_code
def yX1_does : MethodName := ⟨RX1, "does", "(LCorridorPlan$Order;)Z"⟩
def dkwX1_does_3 : List UInt8 := [182, 0, 208, 153, 0, 14, 42, 182, 0, 214, 155, 0, 7, 4, 167, 0, 4, 3, 172]
abbrev dktX1_does_3 : List UInt8 := dkwX1_does_3 ++ []
def dkwX1_does_2 : List UInt8 := [180, 1, 7, 43, 180, 1, 10, 184, 1, 22, 182, 0, 149, 4, 172, 42, 43, 180, 1, 2, 43, 180, 1, 7]
abbrev dktX1_does_2 : List UInt8 := dkwX1_does_2 ++ dktX1_does_3
def dkwX1_does_1 : List UInt8 := [43, 180, 1, 10, 19, 1, 14, 182, 1, 16, 154, 0, 27, 42, 180, 0, 29, 43, 180, 1, 2, 43]
abbrev dktX1_does_1 : List UInt8 := dkwX1_does_1 ++ dktX1_does_2
def dkwX1_does_0 : List UInt8 := [42, 43, 180, 1, 2, 182, 0, 137, 153, 0, 14, 42, 43, 180, 1, 7, 182, 0, 137, 154, 0, 5, 3, 172]
abbrev dktX1_does_0 : List UInt8 := dkwX1_does_0 ++ dktX1_does_1
theorem dksX1_does_0 : cX1_does.data.toList.drop 0 = dktX1_does_0 := by decide +kernel
theorem dksX1_does_1 : cX1_does.data.toList.drop 24 = dktX1_does_1 := dk_seg dksX1_does_0 24 rfl rfl
theorem dksX1_does_2 : cX1_does.data.toList.drop 46 = dktX1_does_2 := dk_seg dksX1_does_1 22 rfl rfl
theorem dksX1_does_3 : cX1_does.data.toList.drop 70 = dktX1_does_3 := dk_seg dksX1_does_2 24 rfl rfl
theorem dX1_does_0 : decode cX1_does 0 = .ok (.aload_n 0, 1) := dk_42 (dk_at dksX1_does_0 0 rfl rfl)
theorem dX1_does_1 : decode cX1_does 1 = .ok (.aload_n 1, 1) := dk_43 (dk_at dksX1_does_0 1 rfl rfl)
theorem dX1_does_2 : decode cX1_does 2 = .ok (.getfield 258, 3) := dk_180 1 2 (dk_at dksX1_does_0 2 rfl rfl)
theorem dX1_does_5 : decode cX1_does 5 = .ok (.invokevirtual 137, 3) := dk_182 0 137 (dk_at dksX1_does_0 5 rfl rfl)
theorem dX1_does_8 : decode cX1_does 8 = .ok (.ifCond .eq 14, 3) := dk_153 0 14 (dk_at dksX1_does_0 8 rfl rfl)
theorem dX1_does_11 : decode cX1_does 11 = .ok (.aload_n 0, 1) := dk_42 (dk_at dksX1_does_0 11 rfl rfl)
theorem dX1_does_12 : decode cX1_does 12 = .ok (.aload_n 1, 1) := dk_43 (dk_at dksX1_does_0 12 rfl rfl)
theorem dX1_does_13 : decode cX1_does 13 = .ok (.getfield 263, 3) := dk_180 1 7 (dk_at dksX1_does_0 13 rfl rfl)
theorem dX1_does_16 : decode cX1_does 16 = .ok (.invokevirtual 137, 3) := dk_182 0 137 (dk_at dksX1_does_0 16 rfl rfl)
theorem dX1_does_19 : decode cX1_does 19 = .ok (.ifCond .ne 5, 3) := dk_154 0 5 (dk_at dksX1_does_0 19 rfl rfl)
theorem dX1_does_22 : decode cX1_does 22 = .ok (.iconst 0, 1) := dk_3 (dk_at dksX1_does_0 22 rfl rfl)
theorem dX1_does_23 : decode cX1_does 23 = .ok (.ireturn, 1) := dk_172 (dk_at dksX1_does_0 23 rfl rfl)
theorem dX1_does_24 : decode cX1_does 24 = .ok (.aload_n 1, 1) := dk_43 (dk_at dksX1_does_1 0 rfl rfl)
theorem dX1_does_25 : decode cX1_does 25 = .ok (.getfield 266, 3) := dk_180 1 10 (dk_at dksX1_does_1 1 rfl rfl)
theorem dX1_does_28 : decode cX1_does 28 = .ok (.ldc_w 270, 3) := dk_19 1 14 (dk_at dksX1_does_1 4 rfl rfl)
theorem dX1_does_31 : decode cX1_does 31 = .ok (.invokevirtual 272, 3) := dk_182 1 16 (dk_at dksX1_does_1 7 rfl rfl)
theorem dX1_does_34 : decode cX1_does 34 = .ok (.ifCond .ne 27, 3) := dk_154 0 27 (dk_at dksX1_does_1 10 rfl rfl)
theorem dX1_does_37 : decode cX1_does 37 = .ok (.aload_n 0, 1) := dk_42 (dk_at dksX1_does_1 13 rfl rfl)
theorem dX1_does_38 : decode cX1_does 38 = .ok (.getfield 29, 3) := dk_180 0 29 (dk_at dksX1_does_1 14 rfl rfl)
theorem dX1_does_41 : decode cX1_does 41 = .ok (.aload_n 1, 1) := dk_43 (dk_at dksX1_does_1 17 rfl rfl)
theorem dX1_does_42 : decode cX1_does 42 = .ok (.getfield 258, 3) := dk_180 1 2 (dk_at dksX1_does_1 18 rfl rfl)
theorem dX1_does_45 : decode cX1_does 45 = .ok (.aload_n 1, 1) := dk_43 (dk_at dksX1_does_1 21 rfl rfl)
theorem dX1_does_46 : decode cX1_does 46 = .ok (.getfield 263, 3) := dk_180 1 7 (dk_at dksX1_does_2 0 rfl rfl)
theorem dX1_does_49 : decode cX1_does 49 = .ok (.aload_n 1, 1) := dk_43 (dk_at dksX1_does_2 3 rfl rfl)
theorem dX1_does_50 : decode cX1_does 50 = .ok (.getfield 266, 3) := dk_180 1 10 (dk_at dksX1_does_2 4 rfl rfl)
theorem dX1_does_53 : decode cX1_does 53 = .ok (.invokestatic 278, 3) := dk_184 1 22 (dk_at dksX1_does_2 7 rfl rfl)
theorem dX1_does_56 : decode cX1_does 56 = .ok (.invokevirtual 149, 3) := dk_182 0 149 (dk_at dksX1_does_2 10 rfl rfl)
theorem dX1_does_59 : decode cX1_does 59 = .ok (.iconst 1, 1) := dk_4 (dk_at dksX1_does_2 13 rfl rfl)
theorem dX1_does_60 : decode cX1_does 60 = .ok (.ireturn, 1) := dk_172 (dk_at dksX1_does_2 14 rfl rfl)
theorem dX1_does_61 : decode cX1_does 61 = .ok (.aload_n 0, 1) := dk_42 (dk_at dksX1_does_2 15 rfl rfl)
theorem dX1_does_62 : decode cX1_does 62 = .ok (.aload_n 1, 1) := dk_43 (dk_at dksX1_does_2 16 rfl rfl)
theorem dX1_does_63 : decode cX1_does 63 = .ok (.getfield 258, 3) := dk_180 1 2 (dk_at dksX1_does_2 17 rfl rfl)
theorem dX1_does_66 : decode cX1_does 66 = .ok (.aload_n 1, 1) := dk_43 (dk_at dksX1_does_2 20 rfl rfl)
theorem dX1_does_67 : decode cX1_does 67 = .ok (.getfield 263, 3) := dk_180 1 7 (dk_at dksX1_does_2 21 rfl rfl)
theorem dX1_does_70 : decode cX1_does 70 = .ok (.invokevirtual 208, 3) := dk_182 0 208 (dk_at dksX1_does_3 0 rfl rfl)
theorem dX1_does_73 : decode cX1_does 73 = .ok (.ifCond .eq 14, 3) := dk_153 0 14 (dk_at dksX1_does_3 3 rfl rfl)
theorem dX1_does_76 : decode cX1_does 76 = .ok (.aload_n 0, 1) := dk_42 (dk_at dksX1_does_3 6 rfl rfl)
theorem dX1_does_77 : decode cX1_does 77 = .ok (.invokevirtual 214, 3) := dk_182 0 214 (dk_at dksX1_does_3 7 rfl rfl)
theorem dX1_does_80 : decode cX1_does 80 = .ok (.ifCond .lt 7, 3) := dk_155 0 7 (dk_at dksX1_does_3 10 rfl rfl)
theorem dX1_does_83 : decode cX1_does 83 = .ok (.iconst 1, 1) := dk_4 (dk_at dksX1_does_3 13 rfl rfl)
theorem dX1_does_84 : decode cX1_does 84 = .ok (.goto 4, 3) := dk_167 0 4 (dk_at dksX1_does_3 14 rfl rfl)
theorem dX1_does_87 : decode cX1_does 87 = .ok (.iconst 0, 1) := dk_3 (dk_at dksX1_does_3 17 rfl rfl)
theorem dX1_does_88 : decode cX1_does 88 = .ok (.ireturn, 1) := dk_172 (dk_at dksX1_does_3 18 rfl rfl)
abbrev cX1_undo : ByteArray := prog_1_method_45_code
def yX1_undo : MethodName := ⟨RX1, "undo", "()I"⟩
def dkwX1_undo_1 : List UInt8 := [182, 1, 46, 192, 0, 17, 181, 0, 29, 42, 180, 0, 38, 182, 0, 79, 172]
abbrev dktX1_undo_1 : List UInt8 := dkwX1_undo_1 ++ []
def dkwX1_undo_0 : List UInt8 := [42, 180, 0, 38, 182, 1, 43, 154, 0, 7, 4, 167, 0, 4, 3, 184, 0, 131, 42, 42, 180, 0, 38]
abbrev dktX1_undo_0 : List UInt8 := dkwX1_undo_0 ++ dktX1_undo_1
theorem dksX1_undo_0 : cX1_undo.data.toList.drop 0 = dktX1_undo_0 := by decide +kernel
theorem dksX1_undo_1 : cX1_undo.data.toList.drop 23 = dktX1_undo_1 := dk_seg dksX1_undo_0 23 rfl rfl
theorem dX1_undo_0 : decode cX1_undo 0 = .ok (.aload_n 0, 1) := dk_42 (dk_at dksX1_undo_0 0 rfl rfl)
theorem dX1_undo_1 : decode cX1_undo 1 = .ok (.getfield 38, 3) := dk_180 0 38 (dk_at dksX1_undo_0 1 rfl rfl)
theorem dX1_undo_4 : decode cX1_undo 4 = .ok (.invokevirtual 299, 3) := dk_182 1 43 (dk_at dksX1_undo_0 4 rfl rfl)
theorem dX1_undo_7 : decode cX1_undo 7 = .ok (.ifCond .ne 7, 3) := dk_154 0 7 (dk_at dksX1_undo_0 7 rfl rfl)
theorem dX1_undo_10 : decode cX1_undo 10 = .ok (.iconst 1, 1) := dk_4 (dk_at dksX1_undo_0 10 rfl rfl)
theorem dX1_undo_11 : decode cX1_undo 11 = .ok (.goto 4, 3) := dk_167 0 4 (dk_at dksX1_undo_0 11 rfl rfl)
theorem dX1_undo_14 : decode cX1_undo 14 = .ok (.iconst 0, 1) := dk_3 (dk_at dksX1_undo_0 14 rfl rfl)
theorem dX1_undo_15 : decode cX1_undo 15 = .ok (.invokestatic 131, 3) := dk_184 0 131 (dk_at dksX1_undo_0 15 rfl rfl)
theorem dX1_undo_18 : decode cX1_undo 18 = .ok (.aload_n 0, 1) := dk_42 (dk_at dksX1_undo_0 18 rfl rfl)
theorem dX1_undo_19 : decode cX1_undo 19 = .ok (.aload_n 0, 1) := dk_42 (dk_at dksX1_undo_0 19 rfl rfl)
theorem dX1_undo_20 : decode cX1_undo 20 = .ok (.getfield 38, 3) := dk_180 0 38 (dk_at dksX1_undo_0 20 rfl rfl)
theorem dX1_undo_23 : decode cX1_undo 23 = .ok (.invokevirtual 302, 3) := dk_182 1 46 (dk_at dksX1_undo_1 0 rfl rfl)
theorem dX1_undo_26 : decode cX1_undo 26 = .ok (.checkcast 17, 3) := dk_192 0 17 (dk_at dksX1_undo_1 3 rfl rfl)
theorem dX1_undo_29 : decode cX1_undo 29 = .ok (.putfield 29, 3) := dk_181 0 29 (dk_at dksX1_undo_1 6 rfl rfl)
theorem dX1_undo_32 : decode cX1_undo 32 = .ok (.aload_n 0, 1) := dk_42 (dk_at dksX1_undo_1 9 rfl rfl)
theorem dX1_undo_33 : decode cX1_undo 33 = .ok (.getfield 38, 3) := dk_180 0 38 (dk_at dksX1_undo_1 10 rfl rfl)
theorem dX1_undo_36 : decode cX1_undo 36 = .ok (.invokevirtual 79, 3) := dk_182 0 79 (dk_at dksX1_undo_1 13 rfl rfl)
theorem dX1_undo_39 : decode cX1_undo 39 = .ok (.ireturn, 1) := dk_172 (dk_at dksX1_undo_1 16 rfl rfl)
abbrev cX1_square : ByteArray := prog_1_method_51_code
def yX1_square : MethodName := ⟨RX1, "square", "(III)I"⟩
def dkwX1_square_1 : List UInt8 := [184, 0, 124, 42, 16, 16, 28, 104, 27, 96, 29, 182, 1, 55, 172]
abbrev dktX1_square_1 : List UInt8 := dkwX1_square_1 ++ []
def dkwX1_square_0 : List UInt8 := [27, 28, 184, 0, 163, 153, 0, 16, 29, 3, 4, 184, 0, 94, 153, 0, 7, 4, 167, 0, 4, 3]
abbrev dktX1_square_0 : List UInt8 := dkwX1_square_0 ++ dktX1_square_1
theorem dksX1_square_0 : cX1_square.data.toList.drop 0 = dktX1_square_0 := by decide +kernel
theorem dksX1_square_1 : cX1_square.data.toList.drop 22 = dktX1_square_1 := dk_seg dksX1_square_0 22 rfl rfl
theorem dX1_square_0 : decode cX1_square 0 = .ok (.iload_n 1, 1) := dk_27 (dk_at dksX1_square_0 0 rfl rfl)
theorem dX1_square_1 : decode cX1_square 1 = .ok (.iload_n 2, 1) := dk_28 (dk_at dksX1_square_0 1 rfl rfl)
theorem dX1_square_2 : decode cX1_square 2 = .ok (.invokestatic 163, 3) := dk_184 0 163 (dk_at dksX1_square_0 2 rfl rfl)
theorem dX1_square_5 : decode cX1_square 5 = .ok (.ifCond .eq 16, 3) := dk_153 0 16 (dk_at dksX1_square_0 5 rfl rfl)
theorem dX1_square_8 : decode cX1_square 8 = .ok (.iload_n 3, 1) := dk_29 (dk_at dksX1_square_0 8 rfl rfl)
theorem dX1_square_9 : decode cX1_square 9 = .ok (.iconst 0, 1) := dk_3 (dk_at dksX1_square_0 9 rfl rfl)
theorem dX1_square_10 : decode cX1_square 10 = .ok (.iconst 1, 1) := dk_4 (dk_at dksX1_square_0 10 rfl rfl)
theorem dX1_square_11 : decode cX1_square 11 = .ok (.invokestatic 94, 3) := dk_184 0 94 (dk_at dksX1_square_0 11 rfl rfl)
theorem dX1_square_14 : decode cX1_square 14 = .ok (.ifCond .eq 7, 3) := dk_153 0 7 (dk_at dksX1_square_0 14 rfl rfl)
theorem dX1_square_17 : decode cX1_square 17 = .ok (.iconst 1, 1) := dk_4 (dk_at dksX1_square_0 17 rfl rfl)
theorem dX1_square_18 : decode cX1_square 18 = .ok (.goto 4, 3) := dk_167 0 4 (dk_at dksX1_square_0 18 rfl rfl)
theorem dX1_square_21 : decode cX1_square 21 = .ok (.iconst 0, 1) := dk_3 (dk_at dksX1_square_0 21 rfl rfl)
theorem dX1_square_22 : decode cX1_square 22 = .ok (.invokestatic 124, 3) := dk_184 0 124 (dk_at dksX1_square_1 0 rfl rfl)
theorem dX1_square_25 : decode cX1_square 25 = .ok (.aload_n 0, 1) := dk_42 (dk_at dksX1_square_1 3 rfl rfl)
theorem dX1_square_26 : decode cX1_square 26 = .ok (.bipush 16, 2) := dk_16 16 (dk_at dksX1_square_1 4 rfl rfl)
theorem dX1_square_28 : decode cX1_square 28 = .ok (.iload_n 2, 1) := dk_28 (dk_at dksX1_square_1 6 rfl rfl)
theorem dX1_square_29 : decode cX1_square 29 = .ok (.imul, 1) := dk_104 (dk_at dksX1_square_1 7 rfl rfl)
theorem dX1_square_30 : decode cX1_square 30 = .ok (.iload_n 1, 1) := dk_27 (dk_at dksX1_square_1 8 rfl rfl)
theorem dX1_square_31 : decode cX1_square 31 = .ok (.iadd, 1) := dk_96 (dk_at dksX1_square_1 9 rfl rfl)
theorem dX1_square_32 : decode cX1_square 32 = .ok (.iload_n 3, 1) := dk_29 (dk_at dksX1_square_1 10 rfl rfl)
theorem dX1_square_33 : decode cX1_square 33 = .ok (.invokevirtual 311, 3) := dk_182 1 55 (dk_at dksX1_square_1 11 rfl rfl)
theorem dX1_square_36 : decode cX1_square 36 = .ok (.ireturn, 1) := dk_172 (dk_at dksX1_square_1 14 rfl rfl)
abbrev cX1_chamber : ByteArray := prog_1_method_57_code
def yX1_chamber : MethodName := ⟨RX1, "chamber", "(II)I"⟩
def dkwX1_chamber_1 : List UInt8 := [172]
abbrev dktX1_chamber_1 : List UInt8 := dkwX1_chamber_1 ++ []
def dkwX1_chamber_0 : List UInt8 := [42, 27, 182, 0, 137, 184, 0, 140, 28, 3, 16, 7, 184, 0, 94, 184, 0, 124, 42, 27, 28, 182, 1, 74]
abbrev dktX1_chamber_0 : List UInt8 := dkwX1_chamber_0 ++ dktX1_chamber_1
theorem dksX1_chamber_0 : cX1_chamber.data.toList.drop 0 = dktX1_chamber_0 := by decide +kernel
theorem dksX1_chamber_1 : cX1_chamber.data.toList.drop 24 = dktX1_chamber_1 := dk_seg dksX1_chamber_0 24 rfl rfl
theorem dX1_chamber_0 : decode cX1_chamber 0 = .ok (.aload_n 0, 1) := dk_42 (dk_at dksX1_chamber_0 0 rfl rfl)
theorem dX1_chamber_1 : decode cX1_chamber 1 = .ok (.iload_n 1, 1) := dk_27 (dk_at dksX1_chamber_0 1 rfl rfl)
theorem dX1_chamber_2 : decode cX1_chamber 2 = .ok (.invokevirtual 137, 3) := dk_182 0 137 (dk_at dksX1_chamber_0 2 rfl rfl)
theorem dX1_chamber_5 : decode cX1_chamber 5 = .ok (.invokestatic 140, 3) := dk_184 0 140 (dk_at dksX1_chamber_0 5 rfl rfl)
theorem dX1_chamber_8 : decode cX1_chamber 8 = .ok (.iload_n 2, 1) := dk_28 (dk_at dksX1_chamber_0 8 rfl rfl)
theorem dX1_chamber_9 : decode cX1_chamber 9 = .ok (.iconst 0, 1) := dk_3 (dk_at dksX1_chamber_0 9 rfl rfl)
theorem dX1_chamber_10 : decode cX1_chamber 10 = .ok (.bipush 7, 2) := dk_16 7 (dk_at dksX1_chamber_0 10 rfl rfl)
theorem dX1_chamber_12 : decode cX1_chamber 12 = .ok (.invokestatic 94, 3) := dk_184 0 94 (dk_at dksX1_chamber_0 12 rfl rfl)
theorem dX1_chamber_15 : decode cX1_chamber 15 = .ok (.invokestatic 124, 3) := dk_184 0 124 (dk_at dksX1_chamber_0 15 rfl rfl)
theorem dX1_chamber_18 : decode cX1_chamber 18 = .ok (.aload_n 0, 1) := dk_42 (dk_at dksX1_chamber_0 18 rfl rfl)
theorem dX1_chamber_19 : decode cX1_chamber 19 = .ok (.iload_n 1, 1) := dk_27 (dk_at dksX1_chamber_0 19 rfl rfl)
theorem dX1_chamber_20 : decode cX1_chamber 20 = .ok (.iload_n 2, 1) := dk_28 (dk_at dksX1_chamber_0 20 rfl rfl)
theorem dX1_chamber_21 : decode cX1_chamber 21 = .ok (.invokevirtual 330, 3) := dk_182 1 74 (dk_at dksX1_chamber_0 21 rfl rfl)
theorem dX1_chamber_24 : decode cX1_chamber 24 = .ok (.ireturn, 1) := dk_172 (dk_at dksX1_chamber_1 0 rfl rfl)
abbrev cX1_way : ByteArray := prog_1_method_59_code
def yX1_way : MethodName := ⟨RX1, "way", "(III)I"⟩
def dkwX1_way_2 : List UInt8 := [27, 28, 182, 0, 208, 27, 28, 29, 182, 1, 77, 172]
abbrev dktX1_way_2 : List UInt8 := dkwX1_way_2 ++ []
def dkwX1_way_1 : List UInt8 := [27, 28, 159, 0, 16, 29, 3, 7, 184, 0, 94, 153, 0, 7, 4, 167, 0, 4, 3, 184, 0, 124, 42, 42]
abbrev dktX1_way_1 : List UInt8 := dkwX1_way_1 ++ dktX1_way_2
def dkwX1_way_0 : List UInt8 := [42, 27, 182, 0, 137, 153, 0, 15, 42, 28, 182, 0, 137, 153, 0, 7, 4, 167, 0, 4, 3, 184, 0, 140]
abbrev dktX1_way_0 : List UInt8 := dkwX1_way_0 ++ dktX1_way_1
theorem dksX1_way_0 : cX1_way.data.toList.drop 0 = dktX1_way_0 := by decide +kernel
theorem dksX1_way_1 : cX1_way.data.toList.drop 24 = dktX1_way_1 := dk_seg dksX1_way_0 24 rfl rfl
theorem dksX1_way_2 : cX1_way.data.toList.drop 48 = dktX1_way_2 := dk_seg dksX1_way_1 24 rfl rfl
theorem dX1_way_0 : decode cX1_way 0 = .ok (.aload_n 0, 1) := dk_42 (dk_at dksX1_way_0 0 rfl rfl)
theorem dX1_way_1 : decode cX1_way 1 = .ok (.iload_n 1, 1) := dk_27 (dk_at dksX1_way_0 1 rfl rfl)
theorem dX1_way_2 : decode cX1_way 2 = .ok (.invokevirtual 137, 3) := dk_182 0 137 (dk_at dksX1_way_0 2 rfl rfl)
theorem dX1_way_5 : decode cX1_way 5 = .ok (.ifCond .eq 15, 3) := dk_153 0 15 (dk_at dksX1_way_0 5 rfl rfl)
theorem dX1_way_8 : decode cX1_way 8 = .ok (.aload_n 0, 1) := dk_42 (dk_at dksX1_way_0 8 rfl rfl)
theorem dX1_way_9 : decode cX1_way 9 = .ok (.iload_n 2, 1) := dk_28 (dk_at dksX1_way_0 9 rfl rfl)
theorem dX1_way_10 : decode cX1_way 10 = .ok (.invokevirtual 137, 3) := dk_182 0 137 (dk_at dksX1_way_0 10 rfl rfl)
theorem dX1_way_13 : decode cX1_way 13 = .ok (.ifCond .eq 7, 3) := dk_153 0 7 (dk_at dksX1_way_0 13 rfl rfl)
theorem dX1_way_16 : decode cX1_way 16 = .ok (.iconst 1, 1) := dk_4 (dk_at dksX1_way_0 16 rfl rfl)
theorem dX1_way_17 : decode cX1_way 17 = .ok (.goto 4, 3) := dk_167 0 4 (dk_at dksX1_way_0 17 rfl rfl)
theorem dX1_way_20 : decode cX1_way 20 = .ok (.iconst 0, 1) := dk_3 (dk_at dksX1_way_0 20 rfl rfl)
theorem dX1_way_21 : decode cX1_way 21 = .ok (.invokestatic 140, 3) := dk_184 0 140 (dk_at dksX1_way_0 21 rfl rfl)
theorem dX1_way_24 : decode cX1_way 24 = .ok (.iload_n 1, 1) := dk_27 (dk_at dksX1_way_1 0 rfl rfl)
theorem dX1_way_25 : decode cX1_way 25 = .ok (.iload_n 2, 1) := dk_28 (dk_at dksX1_way_1 1 rfl rfl)
theorem dX1_way_26 : decode cX1_way 26 = .ok (.if_icmp .eq 16, 3) := dk_159 0 16 (dk_at dksX1_way_1 2 rfl rfl)
theorem dX1_way_29 : decode cX1_way 29 = .ok (.iload_n 3, 1) := dk_29 (dk_at dksX1_way_1 5 rfl rfl)
theorem dX1_way_30 : decode cX1_way 30 = .ok (.iconst 0, 1) := dk_3 (dk_at dksX1_way_1 6 rfl rfl)
theorem dX1_way_31 : decode cX1_way 31 = .ok (.iconst 4, 1) := dk_7 (dk_at dksX1_way_1 7 rfl rfl)
theorem dX1_way_32 : decode cX1_way 32 = .ok (.invokestatic 94, 3) := dk_184 0 94 (dk_at dksX1_way_1 8 rfl rfl)
theorem dX1_way_35 : decode cX1_way 35 = .ok (.ifCond .eq 7, 3) := dk_153 0 7 (dk_at dksX1_way_1 11 rfl rfl)
theorem dX1_way_38 : decode cX1_way 38 = .ok (.iconst 1, 1) := dk_4 (dk_at dksX1_way_1 14 rfl rfl)
theorem dX1_way_39 : decode cX1_way 39 = .ok (.goto 4, 3) := dk_167 0 4 (dk_at dksX1_way_1 15 rfl rfl)
theorem dX1_way_42 : decode cX1_way 42 = .ok (.iconst 0, 1) := dk_3 (dk_at dksX1_way_1 18 rfl rfl)
theorem dX1_way_43 : decode cX1_way 43 = .ok (.invokestatic 124, 3) := dk_184 0 124 (dk_at dksX1_way_1 19 rfl rfl)
theorem dX1_way_46 : decode cX1_way 46 = .ok (.aload_n 0, 1) := dk_42 (dk_at dksX1_way_1 22 rfl rfl)
theorem dX1_way_47 : decode cX1_way 47 = .ok (.aload_n 0, 1) := dk_42 (dk_at dksX1_way_1 23 rfl rfl)
theorem dX1_way_48 : decode cX1_way 48 = .ok (.iload_n 1, 1) := dk_27 (dk_at dksX1_way_2 0 rfl rfl)
theorem dX1_way_49 : decode cX1_way 49 = .ok (.iload_n 2, 1) := dk_28 (dk_at dksX1_way_2 1 rfl rfl)
theorem dX1_way_50 : decode cX1_way 50 = .ok (.invokevirtual 208, 3) := dk_182 0 208 (dk_at dksX1_way_2 2 rfl rfl)
theorem dX1_way_53 : decode cX1_way 53 = .ok (.iload_n 1, 1) := dk_27 (dk_at dksX1_way_2 5 rfl rfl)
theorem dX1_way_54 : decode cX1_way 54 = .ok (.iload_n 2, 1) := dk_28 (dk_at dksX1_way_2 6 rfl rfl)
theorem dX1_way_55 : decode cX1_way 55 = .ok (.iload_n 3, 1) := dk_29 (dk_at dksX1_way_2 7 rfl rfl)
theorem dX1_way_56 : decode cX1_way 56 = .ok (.invokevirtual 333, 3) := dk_182 1 77 (dk_at dksX1_way_2 8 rfl rfl)
theorem dX1_way_59 : decode cX1_way 59 = .ok (.ireturn, 1) := dk_172 (dk_at dksX1_way_2 11 rfl rfl)
abbrev cX1_count : ByteArray := prog_1_method_63_code
def yX1_count : MethodName := ⟨RX1, "count", "(I)I"⟩
def dkwX1_count_0 : List UInt8 := [27, 3, 16, 8, 184, 0, 94, 184, 0, 124, 42, 27, 182, 1, 94, 172]
abbrev dktX1_count_0 : List UInt8 := dkwX1_count_0 ++ []
theorem dksX1_count_0 : cX1_count.data.toList.drop 0 = dktX1_count_0 := by decide +kernel
theorem dX1_count_0 : decode cX1_count 0 = .ok (.iload_n 1, 1) := dk_27 (dk_at dksX1_count_0 0 rfl rfl)
theorem dX1_count_1 : decode cX1_count 1 = .ok (.iconst 0, 1) := dk_3 (dk_at dksX1_count_0 1 rfl rfl)
theorem dX1_count_2 : decode cX1_count 2 = .ok (.bipush 8, 2) := dk_16 8 (dk_at dksX1_count_0 2 rfl rfl)
theorem dX1_count_4 : decode cX1_count 4 = .ok (.invokestatic 94, 3) := dk_184 0 94 (dk_at dksX1_count_0 4 rfl rfl)
theorem dX1_count_7 : decode cX1_count 7 = .ok (.invokestatic 124, 3) := dk_184 0 124 (dk_at dksX1_count_0 7 rfl rfl)
theorem dX1_count_10 : decode cX1_count 10 = .ok (.aload_n 0, 1) := dk_42 (dk_at dksX1_count_0 10 rfl rfl)
theorem dX1_count_11 : decode cX1_count 11 = .ok (.iload_n 1, 1) := dk_27 (dk_at dksX1_count_0 11 rfl rfl)
theorem dX1_count_12 : decode cX1_count 12 = .ok (.invokevirtual 350, 3) := dk_182 1 94 (dk_at dksX1_count_0 12 rfl rfl)
theorem dX1_count_15 : decode cX1_count 15 = .ok (.ireturn, 1) := dk_172 (dk_at dksX1_count_0 15 rfl rfl)
abbrev cX1_ifDug : ByteArray := prog_1_method_65_code
def yX1_ifDug : MethodName := ⟨RX1, "ifDug", "(III)I"⟩
def dkwX1_ifDug_1 : List UInt8 := [184, 0, 124, 42, 16, 16, 28, 104, 27, 96, 29, 182, 1, 97, 172]
abbrev dktX1_ifDug_1 : List UInt8 := dkwX1_ifDug_1 ++ []
def dkwX1_ifDug_0 : List UInt8 := [27, 28, 184, 0, 163, 153, 0, 16, 29, 3, 5, 184, 0, 94, 153, 0, 7, 4, 167, 0, 4, 3]
abbrev dktX1_ifDug_0 : List UInt8 := dkwX1_ifDug_0 ++ dktX1_ifDug_1
theorem dksX1_ifDug_0 : cX1_ifDug.data.toList.drop 0 = dktX1_ifDug_0 := by decide +kernel
theorem dksX1_ifDug_1 : cX1_ifDug.data.toList.drop 22 = dktX1_ifDug_1 := dk_seg dksX1_ifDug_0 22 rfl rfl
theorem dX1_ifDug_0 : decode cX1_ifDug 0 = .ok (.iload_n 1, 1) := dk_27 (dk_at dksX1_ifDug_0 0 rfl rfl)
theorem dX1_ifDug_1 : decode cX1_ifDug 1 = .ok (.iload_n 2, 1) := dk_28 (dk_at dksX1_ifDug_0 1 rfl rfl)
theorem dX1_ifDug_2 : decode cX1_ifDug 2 = .ok (.invokestatic 163, 3) := dk_184 0 163 (dk_at dksX1_ifDug_0 2 rfl rfl)
theorem dX1_ifDug_5 : decode cX1_ifDug 5 = .ok (.ifCond .eq 16, 3) := dk_153 0 16 (dk_at dksX1_ifDug_0 5 rfl rfl)
theorem dX1_ifDug_8 : decode cX1_ifDug 8 = .ok (.iload_n 3, 1) := dk_29 (dk_at dksX1_ifDug_0 8 rfl rfl)
theorem dX1_ifDug_9 : decode cX1_ifDug 9 = .ok (.iconst 0, 1) := dk_3 (dk_at dksX1_ifDug_0 9 rfl rfl)
theorem dX1_ifDug_10 : decode cX1_ifDug 10 = .ok (.iconst 2, 1) := dk_5 (dk_at dksX1_ifDug_0 10 rfl rfl)
theorem dX1_ifDug_11 : decode cX1_ifDug 11 = .ok (.invokestatic 94, 3) := dk_184 0 94 (dk_at dksX1_ifDug_0 11 rfl rfl)
theorem dX1_ifDug_14 : decode cX1_ifDug 14 = .ok (.ifCond .eq 7, 3) := dk_153 0 7 (dk_at dksX1_ifDug_0 14 rfl rfl)
theorem dX1_ifDug_17 : decode cX1_ifDug 17 = .ok (.iconst 1, 1) := dk_4 (dk_at dksX1_ifDug_0 17 rfl rfl)
theorem dX1_ifDug_18 : decode cX1_ifDug 18 = .ok (.goto 4, 3) := dk_167 0 4 (dk_at dksX1_ifDug_0 18 rfl rfl)
theorem dX1_ifDug_21 : decode cX1_ifDug 21 = .ok (.iconst 0, 1) := dk_3 (dk_at dksX1_ifDug_0 21 rfl rfl)
theorem dX1_ifDug_22 : decode cX1_ifDug 22 = .ok (.invokestatic 124, 3) := dk_184 0 124 (dk_at dksX1_ifDug_1 0 rfl rfl)
theorem dX1_ifDug_25 : decode cX1_ifDug 25 = .ok (.aload_n 0, 1) := dk_42 (dk_at dksX1_ifDug_1 3 rfl rfl)
theorem dX1_ifDug_26 : decode cX1_ifDug 26 = .ok (.bipush 16, 2) := dk_16 16 (dk_at dksX1_ifDug_1 4 rfl rfl)
theorem dX1_ifDug_28 : decode cX1_ifDug 28 = .ok (.iload_n 2, 1) := dk_28 (dk_at dksX1_ifDug_1 6 rfl rfl)
theorem dX1_ifDug_29 : decode cX1_ifDug 29 = .ok (.imul, 1) := dk_104 (dk_at dksX1_ifDug_1 7 rfl rfl)
theorem dX1_ifDug_30 : decode cX1_ifDug 30 = .ok (.iload_n 1, 1) := dk_27 (dk_at dksX1_ifDug_1 8 rfl rfl)
theorem dX1_ifDug_31 : decode cX1_ifDug 31 = .ok (.iadd, 1) := dk_96 (dk_at dksX1_ifDug_1 9 rfl rfl)
theorem dX1_ifDug_32 : decode cX1_ifDug 32 = .ok (.iload_n 3, 1) := dk_29 (dk_at dksX1_ifDug_1 10 rfl rfl)
theorem dX1_ifDug_33 : decode cX1_ifDug 33 = .ok (.invokevirtual 353, 3) := dk_182 1 97 (dk_at dksX1_ifDug_1 11 rfl rfl)
theorem dX1_ifDug_36 : decode cX1_ifDug 36 = .ok (.ireturn, 1) := dk_172 (dk_at dksX1_ifDug_1 14 rfl rfl)
abbrev cX1_ifGiven : ByteArray := prog_1_method_67_code
def yX1_ifGiven : MethodName := ⟨RX1, "ifGiven", "(I)I"⟩
def dkwX1_ifGiven_0 : List UInt8 := [42, 27, 182, 0, 137, 184, 0, 140, 42, 27, 182, 1, 100, 172]
abbrev dktX1_ifGiven_0 : List UInt8 := dkwX1_ifGiven_0 ++ []
theorem dksX1_ifGiven_0 : cX1_ifGiven.data.toList.drop 0 = dktX1_ifGiven_0 := by decide +kernel
theorem dX1_ifGiven_0 : decode cX1_ifGiven 0 = .ok (.aload_n 0, 1) := dk_42 (dk_at dksX1_ifGiven_0 0 rfl rfl)
theorem dX1_ifGiven_1 : decode cX1_ifGiven 1 = .ok (.iload_n 1, 1) := dk_27 (dk_at dksX1_ifGiven_0 1 rfl rfl)
theorem dX1_ifGiven_2 : decode cX1_ifGiven 2 = .ok (.invokevirtual 137, 3) := dk_182 0 137 (dk_at dksX1_ifGiven_0 2 rfl rfl)
theorem dX1_ifGiven_5 : decode cX1_ifGiven 5 = .ok (.invokestatic 140, 3) := dk_184 0 140 (dk_at dksX1_ifGiven_0 5 rfl rfl)
theorem dX1_ifGiven_8 : decode cX1_ifGiven 8 = .ok (.aload_n 0, 1) := dk_42 (dk_at dksX1_ifGiven_0 8 rfl rfl)
theorem dX1_ifGiven_9 : decode cX1_ifGiven 9 = .ok (.iload_n 1, 1) := dk_27 (dk_at dksX1_ifGiven_0 9 rfl rfl)
theorem dX1_ifGiven_10 : decode cX1_ifGiven 10 = .ok (.invokevirtual 356, 3) := dk_182 1 100 (dk_at dksX1_ifGiven_0 10 rfl rfl)
theorem dX1_ifGiven_13 : decode cX1_ifGiven 13 = .ok (.ireturn, 1) := dk_172 (dk_at dksX1_ifGiven_0 13 rfl rfl)
theorem q94 : (Jvm.Cond.initialized "CorridorPlan") ∈ lw_all := lw_g (lw_at lw_m1 1 rfl) rfl
theorem q127 : (Jvm.Cond.instantiable "CorridorPlan" (13 : Nat)) ∈ lw_all := lw_g (lw_at lw_m1 34 rfl) rfl
theorem q129 : (Jvm.Cond.instanceMethod ({ cls := "CorridorPlan", name := "<init>", desc := "()V" } : Jvm.MethodName)) ∈ lw_all := lw_g (lw_at lw_m1 36 rfl) rfl
theorem q130 : (Jvm.Cond.code ({ cls := "CorridorPlan", name := "<init>", desc := "()V" } : Jvm.MethodName) prog_1_method_7_code (1 : Nat) (Option.none : Option Jvm.ClassFile.FieldType)) ∈ lw_all := lw_g (lw_at lw_m1 37 rfl) rfl
theorem q131 : (Jvm.Cond.methodLink "CorridorPlan" (22 : Nat) ({ cls := "java/lang/Object", name := "<init>", desc := "()V" } : Jvm.MethodName)) ∈ lw_all := lw_g (lw_at lw_m1 38 rfl) rfl
theorem q134 : (Jvm.Cond.methodLink "CorridorPlan" (25 : Nat) ({ cls := "CorridorPlan", name := "firstState", desc := "()LCorridorPlan$State;" } : Jvm.MethodName)) ∈ lw_all := lw_g (lw_at lw_m1 41 rfl) rfl
theorem q135 : (Jvm.Cond.static ({ cls := "CorridorPlan", name := "firstState", desc := "()LCorridorPlan$State;" } : Jvm.MethodName)) ∈ lw_all := lw_g (lw_at lw_m1 42 rfl) rfl
theorem q136 : (Jvm.Cond.code ({ cls := "CorridorPlan", name := "firstState", desc := "()LCorridorPlan$State;" } : Jvm.MethodName) prog_1_method_6_code (2 : Nat) (Option.some (Jvm.ClassFile.FieldType.object "CorridorPlan$State"))) ∈ lw_all := lw_g (lw_at lw_m1 43 rfl) rfl
theorem q137 : (Jvm.Cond.classLink "CorridorPlan" (17 : Nat) "CorridorPlan$State") ∈ lw_all := lw_g (lw_at lw_m1 44 rfl) rfl
theorem q139 : (Jvm.Cond.methodLink "CorridorPlan" (19 : Nat) ({ cls := "CorridorPlan$State", name := "<init>", desc := "([I[I[Z)V" } : Jvm.MethodName)) ∈ lw_all := lw_g (lw_at lw_m1 46 rfl) rfl
theorem q144 : (Jvm.Cond.fieldLinkNest "CorridorPlan" (106 : Nat) "CorridorPlan$State" "squares" "[I" "CorridorPlan") ∈ lw_tbl := lw_at lw_m1 51 rfl
theorem q146 : (Jvm.Cond.fieldLinkNest "CorridorPlan" (217 : Nat) "CorridorPlan$State" "needs" "[I" "CorridorPlan") ∈ lw_tbl := lw_at lw_m1 53 rfl
theorem q148 : (Jvm.Cond.fieldLinkNest "CorridorPlan" (98 : Nat) "CorridorPlan$State" "rooms" "[Z" "CorridorPlan") ∈ lw_tbl := lw_at lw_m1 55 rfl
theorem q150 : (Jvm.Cond.fieldLinkNest "CorridorPlan" (235 : Nat) "CorridorPlan$State" "far" "I" "CorridorPlan") ∈ lw_tbl := lw_at lw_m1 57 rfl
theorem q162 : (Jvm.Cond.classLink "CorridorPlan" (33 : Nat) "java/util/ArrayDeque") ∈ lw_all := lw_g (lw_at lw_m1 69 rfl) rfl
theorem q164 : (Jvm.Cond.methodLink "CorridorPlan" (35 : Nat) ({ cls := "java/util/ArrayDeque", name := "<init>", desc := "(I)V" } : Jvm.MethodName)) ∈ lw_all := lw_g (lw_at lw_m1 71 rfl) rfl
theorem q184 : (Jvm.Cond.privateMethod ({ cls := "CorridorPlan", name := "lambda$new$0", desc := "(I)I" } : Jvm.MethodName)) ∈ lw_tbl := lw_at lw_m1 91 rfl
theorem q185 : (Jvm.Cond.instanceMethod ({ cls := "CorridorPlan", name := "lambda$new$0", desc := "(I)I" } : Jvm.MethodName)) ∈ lw_all := lw_g (lw_at lw_m1 92 rfl) rfl
theorem q186 : (Jvm.Cond.code ({ cls := "CorridorPlan", name := "lambda$new$0", desc := "(I)I" } : Jvm.MethodName) prog_1_method_78_code (2 : Nat) (Option.some Jvm.ClassFile.FieldType.int)) ∈ lw_all := lw_g (lw_at lw_m1 93 rfl) rfl
theorem q187 : (Jvm.Cond.methodLink "CorridorPlan" (183 : Nat) ({ cls := "CorridorPlan", name := "flag", desc := "(Z)I" } : Jvm.MethodName)) ∈ lw_all := lw_g (lw_at lw_m1 94 rfl) rfl
theorem q188 : (Jvm.Cond.static ({ cls := "CorridorPlan", name := "flag", desc := "(Z)I" } : Jvm.MethodName)) ∈ lw_all := lw_g (lw_at lw_m1 95 rfl) rfl
theorem q189 : (Jvm.Cond.code ({ cls := "CorridorPlan", name := "flag", desc := "(Z)I" } : Jvm.MethodName) prog_1_method_5_code (1 : Nat) (Option.some Jvm.ClassFile.FieldType.int)) ∈ lw_all := lw_g (lw_at lw_m1 96 rfl) rfl
theorem q190 : (Jvm.Cond.privateMethod ({ cls := "CorridorPlan", name := "lambda$new$1", desc := "(I)I" } : Jvm.MethodName)) ∈ lw_tbl := lw_at lw_m1 97 rfl
theorem q191 : (Jvm.Cond.instanceMethod ({ cls := "CorridorPlan", name := "lambda$new$1", desc := "(I)I" } : Jvm.MethodName)) ∈ lw_all := lw_g (lw_at lw_m1 98 rfl) rfl
theorem q192 : (Jvm.Cond.code ({ cls := "CorridorPlan", name := "lambda$new$1", desc := "(I)I" } : Jvm.MethodName) prog_1_method_77_code (2 : Nat) (Option.some Jvm.ClassFile.FieldType.int)) ∈ lw_all := lw_g (lw_at lw_m1 99 rfl) rfl
theorem q193 : (Jvm.Cond.privateMethod ({ cls := "CorridorPlan", name := "lambda$new$2", desc := "(I)I" } : Jvm.MethodName)) ∈ lw_tbl := lw_at lw_m1 100 rfl
theorem q194 : (Jvm.Cond.instanceMethod ({ cls := "CorridorPlan", name := "lambda$new$2", desc := "(I)I" } : Jvm.MethodName)) ∈ lw_all := lw_g (lw_at lw_m1 101 rfl) rfl
theorem q195 : (Jvm.Cond.code ({ cls := "CorridorPlan", name := "lambda$new$2", desc := "(I)I" } : Jvm.MethodName) prog_1_method_76_code (2 : Nat) (Option.some Jvm.ClassFile.FieldType.int)) ∈ lw_all := lw_g (lw_at lw_m1 102 rfl) rfl
theorem q196 : (Jvm.Cond.methodLink "CorridorPlan" (394 : Nat) ({ cls := "CorridorPlan", name := "doorSides", desc := "(I)I" } : Jvm.MethodName)) ∈ lw_all := lw_g (lw_at lw_m1 103 rfl) rfl
theorem q197 : (Jvm.Cond.privateMethod ({ cls := "CorridorPlan", name := "doorSides", desc := "(I)I" } : Jvm.MethodName)) ∈ lw_tbl := lw_at lw_m1 104 rfl
theorem q198 : (Jvm.Cond.instanceMethod ({ cls := "CorridorPlan", name := "doorSides", desc := "(I)I" } : Jvm.MethodName)) ∈ lw_all := lw_g (lw_at lw_m1 105 rfl) rfl
theorem q199 : (Jvm.Cond.code ({ cls := "CorridorPlan", name := "doorSides", desc := "(I)I" } : Jvm.MethodName) prog_1_method_47_code (4 : Nat) (Option.some Jvm.ClassFile.FieldType.int)) ∈ lw_all := lw_g (lw_at lw_m1 106 rfl) rfl
theorem q200 : (Jvm.Cond.methodLink "CorridorPlan" (305 : Nat) ({ cls := "CorridorPlan", name := "doorTo", desc := "(II)I" } : Jvm.MethodName)) ∈ lw_all := lw_g (lw_at lw_m1 107 rfl) rfl
theorem q201 : (Jvm.Cond.privateMethod ({ cls := "CorridorPlan", name := "doorTo", desc := "(II)I" } : Jvm.MethodName)) ∈ lw_tbl := lw_at lw_m1 108 rfl
theorem q202 : (Jvm.Cond.instanceMethod ({ cls := "CorridorPlan", name := "doorTo", desc := "(II)I" } : Jvm.MethodName)) ∈ lw_all := lw_g (lw_at lw_m1 109 rfl) rfl
theorem q203 : (Jvm.Cond.code ({ cls := "CorridorPlan", name := "doorTo", desc := "(II)I" } : Jvm.MethodName) prog_1_method_46_code (3 : Nat) (Option.some Jvm.ClassFile.FieldType.int)) ∈ lw_all := lw_g (lw_at lw_m1 110 rfl) rfl
theorem q204 : (Jvm.Cond.methodLink "CorridorPlan" (109 : Nat) ({ cls := "CorridorPlan$State", name := "beside", desc := "(II)I" } : Jvm.MethodName)) ∈ lw_all := lw_g (lw_at lw_m1 111 rfl) rfl
theorem q209 : (Jvm.Cond.laysStatic "CorridorPlan" "ACROSS" "[I") ∈ lw_tbl := lw_at lw_m1 116 rfl
theorem q211 : (Jvm.Cond.laysStatic "CorridorPlan" "DOWN" "[I") ∈ lw_tbl := lw_at lw_m1 118 rfl
theorem q213 : (Jvm.Cond.static ({ cls := "CorridorPlan", name := "inRange", desc := "(III)Z" } : Jvm.MethodName)) ∈ lw_all := lw_g (lw_at lw_m1 120 rfl) rfl
theorem q214 : (Jvm.Cond.code ({ cls := "CorridorPlan", name := "inRange", desc := "(III)Z" } : Jvm.MethodName) prog_1_method_1_code (3 : Nat) (Option.some Jvm.ClassFile.FieldType.boolean)) ∈ lw_all := lw_g (lw_at lw_m1 121 rfl) rfl
theorem q215 : (Jvm.Cond.classLink "CorridorPlan" (72 : Nat) "java/lang/StringBuilder") ∈ lw_all := lw_g (lw_at lw_m1 122 rfl) rfl
theorem q217 : (Jvm.Cond.methodLink "CorridorPlan" (74 : Nat) ({ cls := "java/lang/StringBuilder", name := "<init>", desc := "(I)V" } : Jvm.MethodName)) ∈ lw_all := lw_g (lw_at lw_m1 124 rfl) rfl
theorem q248 : (Jvm.Cond.fieldLink "CorridorPlan" (29 : Nat) "CorridorPlan" "state" "LCorridorPlan$State;") ∈ lw_all := lw_g (lw_at lw_m1 155 rfl) rfl
theorem q249 : (Jvm.Cond.fieldLink "CorridorPlan" (38 : Nat) "CorridorPlan" "saved" "Ljava/util/ArrayDeque;") ∈ lw_all := lw_g (lw_at lw_m1 156 rfl) rfl
theorem q250 : (Jvm.Cond.fieldLink "CorridorPlan" (46 : Nat) "CorridorPlan" "rock" "LCorridorPlan$Measure;") ∈ lw_all := lw_g (lw_at lw_m1 157 rfl) rfl
theorem q251 : (Jvm.Cond.fieldLink "CorridorPlan" (51 : Nat) "CorridorPlan" "dug" "LCorridorPlan$Measure;") ∈ lw_all := lw_g (lw_at lw_m1 158 rfl) rfl
theorem q252 : (Jvm.Cond.fieldLink "CorridorPlan" (55 : Nat) "CorridorPlan" "doors" "LCorridorPlan$Measure;") ∈ lw_all := lw_g (lw_at lw_m1 159 rfl) rfl
theorem q253 : (Jvm.Cond.fieldLink "CorridorPlan" (58 : Nat) "CorridorPlan" "far" "[I") ∈ lw_all := lw_g (lw_at lw_m1 160 rfl) rfl
theorem q254 : (Jvm.Cond.fieldLink "CorridorPlan" (62 : Nat) "CorridorPlan" "waiting" "[I") ∈ lw_all := lw_g (lw_at lw_m1 161 rfl) rfl
theorem q255 : (Jvm.Cond.fieldLink "CorridorPlan" (65 : Nat) "CorridorPlan" "waits" "[Z") ∈ lw_all := lw_g (lw_at lw_m1 162 rfl) rfl
theorem q256 : (Jvm.Cond.fieldLink "CorridorPlan" (69 : Nat) "CorridorPlan" "places" "[I") ∈ lw_all := lw_g (lw_at lw_m1 163 rfl) rfl
theorem q257 : (Jvm.Cond.fieldLink "CorridorPlan" (202 : Nat) "CorridorPlan" "placeCount" "I") ∈ lw_all := lw_g (lw_at lw_m1 164 rfl) rfl
theorem q258 : (Jvm.Cond.fieldLink "CorridorPlan" (153 : Nat) "CorridorPlan" "broad" "I") ∈ lw_all := lw_g (lw_at lw_m1 165 rfl) rfl
theorem q260 : (Jvm.Cond.fieldLink "CorridorPlan" (75 : Nat) "CorridorPlan" "buffer" "Ljava/lang/StringBuilder;") ∈ lw_all := lw_g (lw_at lw_m1 167 rfl) rfl
theorem q261 : (Jvm.Cond.fieldLink "CorridorPlan" (368 : Nat) "CorridorPlan" "hash" "J") ∈ lw_all := lw_g (lw_at lw_m1 168 rfl) rfl
theorem q262 : (Jvm.Cond.lays "CorridorPlan" "CorridorPlan" "state" "LCorridorPlan$State;") ∈ lw_all := lw_g (lw_at lw_m1 169 rfl) rfl
theorem q263 : (Jvm.Cond.soleField "CorridorPlan" "state") ∈ lw_all := lw_g (lw_at lw_m1 170 rfl) rfl
theorem q264 : (Jvm.Cond.laysFinal "CorridorPlan" "CorridorPlan" "saved" "Ljava/util/ArrayDeque;") ∈ lw_all := lw_g (lw_at lw_m1 171 rfl) rfl
theorem q265 : (Jvm.Cond.soleField "CorridorPlan" "saved") ∈ lw_all := lw_g (lw_at lw_m1 172 rfl) rfl
theorem q266 : (Jvm.Cond.laysFinal "CorridorPlan" "CorridorPlan" "rock" "LCorridorPlan$Measure;") ∈ lw_all := lw_g (lw_at lw_m1 173 rfl) rfl
theorem q267 : (Jvm.Cond.soleField "CorridorPlan" "rock") ∈ lw_all := lw_g (lw_at lw_m1 174 rfl) rfl
theorem q268 : (Jvm.Cond.laysFinal "CorridorPlan" "CorridorPlan" "dug" "LCorridorPlan$Measure;") ∈ lw_all := lw_g (lw_at lw_m1 175 rfl) rfl
theorem q269 : (Jvm.Cond.soleField "CorridorPlan" "dug") ∈ lw_all := lw_g (lw_at lw_m1 176 rfl) rfl
theorem q270 : (Jvm.Cond.laysFinal "CorridorPlan" "CorridorPlan" "doors" "LCorridorPlan$Measure;") ∈ lw_all := lw_g (lw_at lw_m1 177 rfl) rfl
theorem q271 : (Jvm.Cond.soleField "CorridorPlan" "doors") ∈ lw_all := lw_g (lw_at lw_m1 178 rfl) rfl
theorem q272 : (Jvm.Cond.laysFinal "CorridorPlan" "CorridorPlan" "far" "[I") ∈ lw_all := lw_g (lw_at lw_m1 179 rfl) rfl
theorem q273 : (Jvm.Cond.soleField "CorridorPlan" "far") ∈ lw_all := lw_g (lw_at lw_m1 180 rfl) rfl
theorem q274 : (Jvm.Cond.laysFinal "CorridorPlan" "CorridorPlan" "waiting" "[I") ∈ lw_all := lw_g (lw_at lw_m1 181 rfl) rfl
theorem q275 : (Jvm.Cond.soleField "CorridorPlan" "waiting") ∈ lw_all := lw_g (lw_at lw_m1 182 rfl) rfl
theorem q276 : (Jvm.Cond.laysFinal "CorridorPlan" "CorridorPlan" "waits" "[Z") ∈ lw_all := lw_g (lw_at lw_m1 183 rfl) rfl
theorem q277 : (Jvm.Cond.soleField "CorridorPlan" "waits") ∈ lw_all := lw_g (lw_at lw_m1 184 rfl) rfl
theorem q278 : (Jvm.Cond.laysFinal "CorridorPlan" "CorridorPlan" "places" "[I") ∈ lw_all := lw_g (lw_at lw_m1 185 rfl) rfl
theorem q279 : (Jvm.Cond.soleField "CorridorPlan" "places") ∈ lw_all := lw_g (lw_at lw_m1 186 rfl) rfl
theorem q280 : (Jvm.Cond.lays "CorridorPlan" "CorridorPlan" "placeCount" "I") ∈ lw_all := lw_g (lw_at lw_m1 187 rfl) rfl
theorem q281 : (Jvm.Cond.soleField "CorridorPlan" "placeCount") ∈ lw_all := lw_g (lw_at lw_m1 188 rfl) rfl
theorem q282 : (Jvm.Cond.lays "CorridorPlan" "CorridorPlan" "broad" "I") ∈ lw_all := lw_g (lw_at lw_m1 189 rfl) rfl
theorem q283 : (Jvm.Cond.soleField "CorridorPlan" "broad") ∈ lw_all := lw_g (lw_at lw_m1 190 rfl) rfl
theorem q284 : (Jvm.Cond.laysFinal "CorridorPlan" "CorridorPlan" "buffer" "Ljava/lang/StringBuilder;") ∈ lw_all := lw_g (lw_at lw_m1 191 rfl) rfl
theorem q285 : (Jvm.Cond.soleField "CorridorPlan" "buffer") ∈ lw_all := lw_g (lw_at lw_m1 192 rfl) rfl
theorem q286 : (Jvm.Cond.lays "CorridorPlan" "CorridorPlan" "hash" "J") ∈ lw_all := lw_g (lw_at lw_m1 193 rfl) rfl
theorem q287 : (Jvm.Cond.soleField "CorridorPlan" "hash") ∈ lw_all := lw_g (lw_at lw_m1 194 rfl) rfl
theorem q288 : (Jvm.Cond.superclass "CorridorPlan" "java/lang/Object") ∈ lw_all := lw_g (lw_at lw_m1 195 rfl) rfl
theorem q290 : (Jvm.Cond.instanceMethod ({ cls := "CorridorPlan", name := "carveAll", desc := "()I" } : Jvm.MethodName)) ∈ lw_all := lw_g (lw_at lw_m1 197 rfl) rfl
theorem q291 : (Jvm.Cond.selects "CorridorPlan" ({ cls := "CorridorPlan", name := "carveAll", desc := "()I" } : Jvm.MethodName) ({ cls := "CorridorPlan", name := "carveAll", desc := "()I" } : Jvm.MethodName)) ∈ lw_all := lw_g (lw_at lw_m1 198 rfl) rfl
theorem q292 : (Jvm.Cond.code ({ cls := "CorridorPlan", name := "carveAll", desc := "()I" } : Jvm.MethodName) prog_1_method_37_code (1 : Nat) (Option.some Jvm.ClassFile.FieldType.int)) ∈ lw_all := lw_g (lw_at lw_m1 199 rfl) rfl
theorem q293 : (Jvm.Cond.methodLink "CorridorPlan" (134 : Nat) ({ cls := "CorridorPlan", name := "save", desc := "()V" } : Jvm.MethodName)) ∈ lw_all := lw_g (lw_at lw_m1 200 rfl) rfl
theorem q294 : (Jvm.Cond.privateMethod ({ cls := "CorridorPlan", name := "save", desc := "()V" } : Jvm.MethodName)) ∈ lw_tbl := lw_at lw_m1 201 rfl
theorem q295 : (Jvm.Cond.instanceMethod ({ cls := "CorridorPlan", name := "save", desc := "()V" } : Jvm.MethodName)) ∈ lw_all := lw_g (lw_at lw_m1 202 rfl) rfl
theorem q296 : (Jvm.Cond.code ({ cls := "CorridorPlan", name := "save", desc := "()V" } : Jvm.MethodName) prog_1_method_8_code (1 : Nat) (Option.none : Option Jvm.ClassFile.FieldType)) ∈ lw_all := lw_g (lw_at lw_m1 203 rfl) rfl
theorem q297 : (Jvm.Cond.methodLink "CorridorPlan" (79 : Nat) ({ cls := "java/util/ArrayDeque", name := "size", desc := "()I" } : Jvm.MethodName)) ∈ lw_all := lw_g (lw_at lw_m1 204 rfl) rfl
theorem q304 : (Jvm.Cond.methodLink "CorridorPlan" (83 : Nat) ({ cls := "java/util/ArrayDeque", name := "removeLast", desc := "()Ljava/lang/Object;" } : Jvm.MethodName)) ∈ lw_all := lw_g (lw_at lw_m1 211 rfl) rfl
theorem q318 : (Jvm.Cond.methodLink "CorridorPlan" (87 : Nat) ({ cls := "CorridorPlan$State", name := "twin", desc := "()LCorridorPlan$State;" } : Jvm.MethodName)) ∈ lw_all := lw_g (lw_at lw_m1 225 rfl) rfl
theorem q336 : (Jvm.Cond.methodLink "CorridorPlan" (90 : Nat) ({ cls := "java/util/ArrayDeque", name := "push", desc := "(Ljava/lang/Object;)V" } : Jvm.MethodName)) ∈ lw_all := lw_g (lw_at lw_m2 3 rfl) rfl
theorem q428 : (Jvm.Cond.selects "CorridorPlan" ({ cls := "java/lang/Object", name := "getClass", desc := "()Ljava/lang/Class;" } : Jvm.MethodName) ({ cls := "java/lang/Object", name := "getClass", desc := "()Ljava/lang/Class;" } : Jvm.MethodName)) ∈ lw_all := lw_g (lw_at lw_m2 95 rfl) rfl
theorem q456 : (Jvm.Cond.methodLink "CorridorPlan" (232 : Nat) ({ cls := "CorridorPlan", name := "carvesAll", desc := "()I" } : Jvm.MethodName)) ∈ lw_all := lw_g (lw_at lw_m2 123 rfl) rfl
theorem q457 : (Jvm.Cond.privateMethod ({ cls := "CorridorPlan", name := "carvesAll", desc := "()I" } : Jvm.MethodName)) ∈ lw_tbl := lw_at lw_m2 124 rfl
theorem q458 : (Jvm.Cond.instanceMethod ({ cls := "CorridorPlan", name := "carvesAll", desc := "()I" } : Jvm.MethodName)) ∈ lw_all := lw_g (lw_at lw_m2 125 rfl) rfl
theorem q459 : (Jvm.Cond.code ({ cls := "CorridorPlan", name := "carvesAll", desc := "()I" } : Jvm.MethodName) prog_1_method_36_code (2 : Nat) (Option.some Jvm.ClassFile.FieldType.int)) ∈ lw_all := lw_g (lw_at lw_m2 126 rfl) rfl
theorem q460 : (Jvm.Cond.methodLink "CorridorPlan" (228 : Nat) ({ cls := "CorridorPlan", name := "carvesNext", desc := "()Z" } : Jvm.MethodName)) ∈ lw_all := lw_g (lw_at lw_m2 127 rfl) rfl
theorem q461 : (Jvm.Cond.privateMethod ({ cls := "CorridorPlan", name := "carvesNext", desc := "()Z" } : Jvm.MethodName)) ∈ lw_tbl := lw_at lw_m2 128 rfl
theorem q462 : (Jvm.Cond.instanceMethod ({ cls := "CorridorPlan", name := "carvesNext", desc := "()Z" } : Jvm.MethodName)) ∈ lw_all := lw_g (lw_at lw_m2 129 rfl) rfl
theorem q463 : (Jvm.Cond.code ({ cls := "CorridorPlan", name := "carvesNext", desc := "()Z" } : Jvm.MethodName) prog_1_method_35_code (6 : Nat) (Option.some Jvm.ClassFile.FieldType.boolean)) ∈ lw_all := lw_g (lw_at lw_m2 130 rfl) rfl
theorem q464 : (Jvm.Cond.constant "CorridorPlan" (170 : Nat) (2147483647 : Int32)) ∈ lw_all := lw_g (lw_at lw_m2 131 rfl) rfl
theorem q465 : (Jvm.Cond.methodLink "CorridorPlan" (220 : Nat) ({ cls := "CorridorPlan", name := "costOf", desc := "(II)I" } : Jvm.MethodName)) ∈ lw_all := lw_g (lw_at lw_m2 132 rfl) rfl
theorem q466 : (Jvm.Cond.privateMethod ({ cls := "CorridorPlan", name := "costOf", desc := "(II)I" } : Jvm.MethodName)) ∈ lw_tbl := lw_at lw_m2 133 rfl
theorem q467 : (Jvm.Cond.instanceMethod ({ cls := "CorridorPlan", name := "costOf", desc := "(II)I" } : Jvm.MethodName)) ∈ lw_all := lw_g (lw_at lw_m2 134 rfl) rfl
theorem q468 : (Jvm.Cond.code ({ cls := "CorridorPlan", name := "costOf", desc := "(II)I" } : Jvm.MethodName) prog_1_method_31_code (3 : Nat) (Option.some Jvm.ClassFile.FieldType.int)) ∈ lw_all := lw_g (lw_at lw_m2 135 rfl) rfl
theorem q469 : (Jvm.Cond.methodLink "CorridorPlan" (208 : Nat) ({ cls := "CorridorPlan", name := "layWay", desc := "(II)Z" } : Jvm.MethodName)) ∈ lw_all := lw_g (lw_at lw_m2 136 rfl) rfl
theorem q470 : (Jvm.Cond.privateMethod ({ cls := "CorridorPlan", name := "layWay", desc := "(II)Z" } : Jvm.MethodName)) ∈ lw_tbl := lw_at lw_m2 137 rfl
theorem q471 : (Jvm.Cond.instanceMethod ({ cls := "CorridorPlan", name := "layWay", desc := "(II)Z" } : Jvm.MethodName)) ∈ lw_all := lw_g (lw_at lw_m2 138 rfl) rfl
theorem q472 : (Jvm.Cond.code ({ cls := "CorridorPlan", name := "layWay", desc := "(II)Z" } : Jvm.MethodName) prog_1_method_29_code (4 : Nat) (Option.some Jvm.ClassFile.FieldType.boolean)) ∈ lw_all := lw_g (lw_at lw_m2 139 rfl) rfl
theorem q491 : (Jvm.Cond.methodLink "CorridorPlan" (196 : Nat) ({ cls := "CorridorPlan", name := "layFar", desc := "(I)V" } : Jvm.MethodName)) ∈ lw_all := lw_g (lw_at lw_m2 158 rfl) rfl
theorem q492 : (Jvm.Cond.privateMethod ({ cls := "CorridorPlan", name := "layFar", desc := "(I)V" } : Jvm.MethodName)) ∈ lw_tbl := lw_at lw_m2 159 rfl
theorem q493 : (Jvm.Cond.instanceMethod ({ cls := "CorridorPlan", name := "layFar", desc := "(I)V" } : Jvm.MethodName)) ∈ lw_all := lw_g (lw_at lw_m2 160 rfl) rfl
theorem q494 : (Jvm.Cond.code ({ cls := "CorridorPlan", name := "layFar", desc := "(I)V" } : Jvm.MethodName) prog_1_method_25_code (8 : Nat) (Option.none : Option Jvm.ClassFile.FieldType)) ∈ lw_all := lw_g (lw_at lw_m2 161 rfl) rfl
theorem q495 : (Jvm.Cond.methodLink "CorridorPlan" (174 : Nat) ({ cls := "CorridorPlan", name := "canStand", desc := "(I)Z" } : Jvm.MethodName)) ∈ lw_all := lw_g (lw_at lw_m2 162 rfl) rfl
theorem q496 : (Jvm.Cond.privateMethod ({ cls := "CorridorPlan", name := "canStand", desc := "(I)Z" } : Jvm.MethodName)) ∈ lw_tbl := lw_at lw_m2 163 rfl
theorem q497 : (Jvm.Cond.instanceMethod ({ cls := "CorridorPlan", name := "canStand", desc := "(I)Z" } : Jvm.MethodName)) ∈ lw_all := lw_g (lw_at lw_m2 164 rfl) rfl
theorem q498 : (Jvm.Cond.code ({ cls := "CorridorPlan", name := "canStand", desc := "(I)Z" } : Jvm.MethodName) prog_1_method_19_code (6 : Nat) (Option.some Jvm.ClassFile.FieldType.boolean)) ∈ lw_all := lw_g (lw_at lw_m2 165 rfl) rfl
theorem q499 : (Jvm.Cond.methodLink "CorridorPlan" (177 : Nat) ({ cls := "CorridorPlan", name := "isAt", desc := "(II)Z" } : Jvm.MethodName)) ∈ lw_all := lw_g (lw_at lw_m2 166 rfl) rfl
theorem q500 : (Jvm.Cond.privateMethod ({ cls := "CorridorPlan", name := "isAt", desc := "(II)Z" } : Jvm.MethodName)) ∈ lw_tbl := lw_at lw_m2 167 rfl
theorem q501 : (Jvm.Cond.instanceMethod ({ cls := "CorridorPlan", name := "isAt", desc := "(II)Z" } : Jvm.MethodName)) ∈ lw_all := lw_g (lw_at lw_m2 168 rfl) rfl
theorem q502 : (Jvm.Cond.code ({ cls := "CorridorPlan", name := "isAt", desc := "(II)Z" } : Jvm.MethodName) prog_1_method_22_code (6 : Nat) (Option.some Jvm.ClassFile.FieldType.boolean)) ∈ lw_all := lw_g (lw_at lw_m2 169 rfl) rfl
theorem q503 : (Jvm.Cond.methodLink "CorridorPlan" (167 : Nat) ({ cls := "CorridorPlan", name := "next", desc := "(II)I" } : Jvm.MethodName)) ∈ lw_all := lw_g (lw_at lw_m2 170 rfl) rfl
theorem q504 : (Jvm.Cond.static ({ cls := "CorridorPlan", name := "next", desc := "(II)I" } : Jvm.MethodName)) ∈ lw_all := lw_g (lw_at lw_m2 171 rfl) rfl
theorem q505 : (Jvm.Cond.code ({ cls := "CorridorPlan", name := "next", desc := "(II)I" } : Jvm.MethodName) prog_1_method_23_code (4 : Nat) (Option.some Jvm.ClassFile.FieldType.int)) ∈ lw_all := lw_g (lw_at lw_m2 172 rfl) rfl
theorem q506 : (Jvm.Cond.fieldLink "CorridorPlan" (157 : Nat) "CorridorPlan" "ACROSS" "[I") ∈ lw_all := lw_g (lw_at lw_m2 173 rfl) rfl
theorem q507 : (Jvm.Cond.fieldLink "CorridorPlan" (160 : Nat) "CorridorPlan" "DOWN" "[I") ∈ lw_all := lw_g (lw_at lw_m2 174 rfl) rfl
theorem q508 : (Jvm.Cond.methodLink "CorridorPlan" (163 : Nat) ({ cls := "CorridorPlan", name := "isSquare", desc := "(II)Z" } : Jvm.MethodName)) ∈ lw_all := lw_g (lw_at lw_m2 175 rfl) rfl
theorem q509 : (Jvm.Cond.static ({ cls := "CorridorPlan", name := "isSquare", desc := "(II)Z" } : Jvm.MethodName)) ∈ lw_all := lw_g (lw_at lw_m2 176 rfl) rfl
theorem q510 : (Jvm.Cond.code ({ cls := "CorridorPlan", name := "isSquare", desc := "(II)Z" } : Jvm.MethodName) prog_1_method_10_code (2 : Nat) (Option.some Jvm.ClassFile.FieldType.boolean)) ∈ lw_all := lw_g (lw_at lw_m2 177 rfl) rfl
theorem q511 : (Jvm.Cond.methodLink "CorridorPlan" (94 : Nat) ({ cls := "CorridorPlan", name := "inRange", desc := "(III)Z" } : Jvm.MethodName)) ∈ lw_all := lw_g (lw_at lw_m2 178 rfl) rfl
theorem q512 : (Jvm.Cond.methodLink "CorridorPlan" (180 : Nat) ({ cls := "CorridorPlan", name := "takes", desc := "(II)I" } : Jvm.MethodName)) ∈ lw_all := lw_g (lw_at lw_m2 179 rfl) rfl
theorem q513 : (Jvm.Cond.privateMethod ({ cls := "CorridorPlan", name := "takes", desc := "(II)I" } : Jvm.MethodName)) ∈ lw_tbl := lw_at lw_m2 180 rfl
theorem q514 : (Jvm.Cond.instanceMethod ({ cls := "CorridorPlan", name := "takes", desc := "(II)I" } : Jvm.MethodName)) ∈ lw_all := lw_g (lw_at lw_m2 181 rfl) rfl
theorem q515 : (Jvm.Cond.code ({ cls := "CorridorPlan", name := "takes", desc := "(II)I" } : Jvm.MethodName) prog_1_method_24_code (5 : Nat) (Option.some Jvm.ClassFile.FieldType.int)) ∈ lw_all := lw_g (lw_at lw_m2 182 rfl) rfl
theorem q516 : (Jvm.Cond.methodLink "CorridorPlan" (171 : Nat) ({ cls := "CorridorPlan", name := "newRock", desc := "(II)I" } : Jvm.MethodName)) ∈ lw_all := lw_g (lw_at lw_m2 183 rfl) rfl
theorem q517 : (Jvm.Cond.privateMethod ({ cls := "CorridorPlan", name := "newRock", desc := "(II)I" } : Jvm.MethodName)) ∈ lw_tbl := lw_at lw_m2 184 rfl
theorem q518 : (Jvm.Cond.instanceMethod ({ cls := "CorridorPlan", name := "newRock", desc := "(II)I" } : Jvm.MethodName)) ∈ lw_all := lw_g (lw_at lw_m2 185 rfl) rfl
theorem q519 : (Jvm.Cond.code ({ cls := "CorridorPlan", name := "newRock", desc := "(II)I" } : Jvm.MethodName) prog_1_method_21_code (7 : Nat) (Option.some Jvm.ClassFile.FieldType.int)) ∈ lw_all := lw_g (lw_at lw_m2 186 rfl) rfl
theorem q520 : (Jvm.Cond.interfaceEntry "CorridorPlan" (101 : Nat)) ∈ lw_tbl := lw_at lw_m2 187 rfl
theorem q521 : (Jvm.Cond.methodLink "CorridorPlan" (101 : Nat) ({ cls := "CorridorPlan$Measure", name := "of", desc := "(I)I" } : Jvm.MethodName)) ∈ lw_all := lw_g (lw_at lw_m2 188 rfl) rfl
theorem q524 : (Jvm.Cond.methodLink "CorridorPlan" (199 : Nat) ({ cls := "CorridorPlan", name := "begin", desc := "(I)I" } : Jvm.MethodName)) ∈ lw_all := lw_g (lw_at lw_m2 191 rfl) rfl
theorem q525 : (Jvm.Cond.privateMethod ({ cls := "CorridorPlan", name := "begin", desc := "(I)I" } : Jvm.MethodName)) ∈ lw_tbl := lw_at lw_m2 192 rfl
theorem q526 : (Jvm.Cond.instanceMethod ({ cls := "CorridorPlan", name := "begin", desc := "(I)I" } : Jvm.MethodName)) ∈ lw_all := lw_g (lw_at lw_m2 193 rfl) rfl
theorem q527 : (Jvm.Cond.code ({ cls := "CorridorPlan", name := "begin", desc := "(I)I" } : Jvm.MethodName) prog_1_method_27_code (6 : Nat) (Option.some Jvm.ClassFile.FieldType.int)) ∈ lw_all := lw_g (lw_at lw_m2 194 rfl) rfl
theorem q528 : (Jvm.Cond.methodLink "CorridorPlan" (190 : Nat) ({ cls := "CorridorPlan", name := "whole", desc := "(I)I" } : Jvm.MethodName)) ∈ lw_all := lw_g (lw_at lw_m2 195 rfl) rfl
theorem q529 : (Jvm.Cond.privateMethod ({ cls := "CorridorPlan", name := "whole", desc := "(I)I" } : Jvm.MethodName)) ∈ lw_tbl := lw_at lw_m2 196 rfl
theorem q530 : (Jvm.Cond.instanceMethod ({ cls := "CorridorPlan", name := "whole", desc := "(I)I" } : Jvm.MethodName)) ∈ lw_all := lw_g (lw_at lw_m2 197 rfl) rfl
theorem q531 : (Jvm.Cond.code ({ cls := "CorridorPlan", name := "whole", desc := "(I)I" } : Jvm.MethodName) prog_1_method_26_code (2 : Nat) (Option.some Jvm.ClassFile.FieldType.int)) ∈ lw_all := lw_g (lw_at lw_m2 198 rfl) rfl
theorem q532 : (Jvm.Cond.methodLink "CorridorPlan" (187 : Nat) ({ cls := "CorridorPlan", name := "rockOn", desc := "(I)I" } : Jvm.MethodName)) ∈ lw_all := lw_g (lw_at lw_m2 199 rfl) rfl
theorem q533 : (Jvm.Cond.privateMethod ({ cls := "CorridorPlan", name := "rockOn", desc := "(I)I" } : Jvm.MethodName)) ∈ lw_tbl := lw_at lw_m2 200 rfl
theorem q534 : (Jvm.Cond.instanceMethod ({ cls := "CorridorPlan", name := "rockOn", desc := "(I)I" } : Jvm.MethodName)) ∈ lw_all := lw_g (lw_at lw_m2 201 rfl) rfl
theorem q535 : (Jvm.Cond.code ({ cls := "CorridorPlan", name := "rockOn", desc := "(I)I" } : Jvm.MethodName) prog_1_method_20_code (4 : Nat) (Option.some Jvm.ClassFile.FieldType.int)) ∈ lw_all := lw_g (lw_at lw_m2 202 rfl) rfl
theorem q536 : (Jvm.Cond.methodLink "CorridorPlan" (205 : Nat) ({ cls := "CorridorPlan", name := "goOn", desc := "(I)I" } : Jvm.MethodName)) ∈ lw_all := lw_g (lw_at lw_m2 203 rfl) rfl
theorem q537 : (Jvm.Cond.privateMethod ({ cls := "CorridorPlan", name := "goOn", desc := "(I)I" } : Jvm.MethodName)) ∈ lw_tbl := lw_at lw_m2 204 rfl
theorem q538 : (Jvm.Cond.instanceMethod ({ cls := "CorridorPlan", name := "goOn", desc := "(I)I" } : Jvm.MethodName)) ∈ lw_all := lw_g (lw_at lw_m2 205 rfl) rfl
theorem q539 : (Jvm.Cond.code ({ cls := "CorridorPlan", name := "goOn", desc := "(I)I" } : Jvm.MethodName) prog_1_method_28_code (6 : Nat) (Option.some Jvm.ClassFile.FieldType.int)) ∈ lw_all := lw_g (lw_at lw_m2 206 rfl) rfl
theorem q540 : (Jvm.Cond.methodLink "CorridorPlan" (211 : Nat) ({ cls := "CorridorPlan", name := "costLaid", desc := "()I" } : Jvm.MethodName)) ∈ lw_all := lw_g (lw_at lw_m2 207 rfl) rfl
theorem q541 : (Jvm.Cond.privateMethod ({ cls := "CorridorPlan", name := "costLaid", desc := "()I" } : Jvm.MethodName)) ∈ lw_tbl := lw_at lw_m2 208 rfl
theorem q542 : (Jvm.Cond.instanceMethod ({ cls := "CorridorPlan", name := "costLaid", desc := "()I" } : Jvm.MethodName)) ∈ lw_all := lw_g (lw_at lw_m2 209 rfl) rfl
theorem q543 : (Jvm.Cond.code ({ cls := "CorridorPlan", name := "costLaid", desc := "()I" } : Jvm.MethodName) prog_1_method_30_code (1 : Nat) (Option.some Jvm.ClassFile.FieldType.int)) ∈ lw_all := lw_g (lw_at lw_m2 210 rfl) rfl
theorem q544 : (Jvm.Cond.methodLink "CorridorPlan" (223 : Nat) ({ cls := "java/lang/Math", name := "min", desc := "(II)I" } : Jvm.MethodName)) ∈ lw_all := lw_g (lw_at lw_m2 211 rfl) rfl
theorem q545 : (Jvm.Cond.methodLink "CorridorPlan" (214 : Nat) ({ cls := "CorridorPlan", name := "digWay", desc := "()I" } : Jvm.MethodName)) ∈ lw_all := lw_g (lw_at lw_m2 212 rfl) rfl
theorem q546 : (Jvm.Cond.privateMethod ({ cls := "CorridorPlan", name := "digWay", desc := "()I" } : Jvm.MethodName)) ∈ lw_tbl := lw_at lw_m2 213 rfl
theorem q547 : (Jvm.Cond.instanceMethod ({ cls := "CorridorPlan", name := "digWay", desc := "()I" } : Jvm.MethodName)) ∈ lw_all := lw_g (lw_at lw_m2 214 rfl) rfl
theorem q548 : (Jvm.Cond.code ({ cls := "CorridorPlan", name := "digWay", desc := "()I" } : Jvm.MethodName) prog_1_method_32_code (5 : Nat) (Option.some Jvm.ClassFile.FieldType.int)) ∈ lw_all := lw_g (lw_at lw_m2 215 rfl) rfl
theorem q550 : (Jvm.Cond.instanceMethod ({ cls := "CorridorPlan", name := "fillUp", desc := "()I" } : Jvm.MethodName)) ∈ lw_all := lw_g (lw_at lw_m2 217 rfl) rfl
theorem q551 : (Jvm.Cond.selects "CorridorPlan" ({ cls := "CorridorPlan", name := "fillUp", desc := "()I" } : Jvm.MethodName) ({ cls := "CorridorPlan", name := "fillUp", desc := "()I" } : Jvm.MethodName)) ∈ lw_all := lw_g (lw_at lw_m2 218 rfl) rfl
theorem q552 : (Jvm.Cond.code ({ cls := "CorridorPlan", name := "fillUp", desc := "()I" } : Jvm.MethodName) prog_1_method_38_code (7 : Nat) (Option.some Jvm.ClassFile.FieldType.int)) ∈ lw_all := lw_g (lw_at lw_m2 219 rfl) rfl
theorem q554 : (Jvm.Cond.instanceMethod ({ cls := "CorridorPlan", name := "clearBuffer", desc := "()I" } : Jvm.MethodName)) ∈ lw_all := lw_g (lw_at lw_m2 221 rfl) rfl
theorem q555 : (Jvm.Cond.selects "CorridorPlan" ({ cls := "CorridorPlan", name := "clearBuffer", desc := "()I" } : Jvm.MethodName) ({ cls := "CorridorPlan", name := "clearBuffer", desc := "()I" } : Jvm.MethodName)) ∈ lw_all := lw_g (lw_at lw_m2 222 rfl) rfl
theorem q556 : (Jvm.Cond.code ({ cls := "CorridorPlan", name := "clearBuffer", desc := "()I" } : Jvm.MethodName) prog_1_method_41_code (2 : Nat) (Option.some Jvm.ClassFile.FieldType.int)) ∈ lw_all := lw_g (lw_at lw_m2 223 rfl) rfl
theorem q557 : (Jvm.Cond.methodLink "CorridorPlan" (237 : Nat) ({ cls := "java/lang/StringBuilder", name := "length", desc := "()I" } : Jvm.MethodName)) ∈ lw_all := lw_g (lw_at lw_m2 224 rfl) rfl
theorem q564 : (Jvm.Cond.methodLink "CorridorPlan" (244 : Nat) ({ cls := "java/lang/StringBuilder", name := "setLength", desc := "(I)V" } : Jvm.MethodName)) ∈ lw_all := lw_g (lw_at lw_m2 231 rfl) rfl
theorem q843 : (Jvm.Cond.instanceMethod ({ cls := "CorridorPlan", name := "firstError", desc := "()I" } : Jvm.MethodName)) ∈ lw_all := lw_g (lw_at lw_m4 30 rfl) rfl
theorem q844 : (Jvm.Cond.selects "CorridorPlan" ({ cls := "CorridorPlan", name := "firstError", desc := "()I" } : Jvm.MethodName) ({ cls := "CorridorPlan", name := "firstError", desc := "()I" } : Jvm.MethodName)) ∈ lw_all := lw_g (lw_at lw_m4 31 rfl) rfl
theorem q845 : (Jvm.Cond.code ({ cls := "CorridorPlan", name := "firstError", desc := "()I" } : Jvm.MethodName) prog_1_method_42_code (3 : Nat) (Option.some Jvm.ClassFile.FieldType.int)) ∈ lw_all := lw_g (lw_at lw_m4 32 rfl) rfl
theorem q846 : (Jvm.Cond.classLink "CorridorPlan" (247 : Nat) "CorridorPlan$Reader") ∈ lw_all := lw_g (lw_at lw_m4 33 rfl) rfl
theorem q848 : (Jvm.Cond.methodLinkNest "CorridorPlan" (249 : Nat) ({ cls := "CorridorPlan$Reader", name := "<init>", desc := "(LCorridorPlan;)V" } : Jvm.MethodName) "CorridorPlan") ∈ lw_tbl := lw_at lw_m4 35 rfl
theorem q876 : (Jvm.Cond.fieldLinkNest "CorridorPlan" (284 : Nat) "CorridorPlan$Reader" "orders" "Ljava/util/ArrayList;" "CorridorPlan") ∈ lw_tbl := lw_at lw_m4 63 rfl
theorem q878 : (Jvm.Cond.fieldLinkNest "CorridorPlan" (255 : Nat) "CorridorPlan$Reader" "at" "I" "CorridorPlan") ∈ lw_tbl := lw_at lw_m4 65 rfl
theorem q887 : (Jvm.Cond.methodLink "CorridorPlan" (252 : Nat) ({ cls := "CorridorPlan$Reader", name := "isWhole", desc := "()Z" } : Jvm.MethodName)) ∈ lw_all := lw_g (lw_at lw_m4 74 rfl) rfl
theorem q979 : (Jvm.Cond.fieldLinkNest "CorridorPlan" (258 : Nat) "CorridorPlan$Order" "one" "I" "CorridorPlan") ∈ lw_tbl := lw_at lw_m4 166 rfl
theorem q981 : (Jvm.Cond.fieldLinkNest "CorridorPlan" (263 : Nat) "CorridorPlan$Order" "other" "I" "CorridorPlan") ∈ lw_tbl := lw_at lw_m4 168 rfl
theorem q983 : (Jvm.Cond.fieldLinkNest "CorridorPlan" (266 : Nat) "CorridorPlan$Order" "word" "Ljava/lang/String;" "CorridorPlan") ∈ lw_tbl := lw_at lw_m4 170 rfl
theorem q1013 : (Jvm.Cond.instanceMethod ({ cls := "CorridorPlan", name := "allCost", desc := "()I" } : Jvm.MethodName)) ∈ lw_all := lw_g (lw_at lw_m4 200 rfl) rfl
theorem q1014 : (Jvm.Cond.selects "CorridorPlan" ({ cls := "CorridorPlan", name := "allCost", desc := "()I" } : Jvm.MethodName) ({ cls := "CorridorPlan", name := "allCost", desc := "()I" } : Jvm.MethodName)) ∈ lw_all := lw_g (lw_at lw_m4 201 rfl) rfl
theorem q1015 : (Jvm.Cond.code ({ cls := "CorridorPlan", name := "allCost", desc := "()I" } : Jvm.MethodName) prog_1_method_69_code (1 : Nat) (Option.some Jvm.ClassFile.FieldType.int)) ∈ lw_all := lw_g (lw_at lw_m4 202 rfl) rfl
theorem q1016 : (Jvm.Cond.methodLink "CorridorPlan" (359 : Nat) ({ cls := "CorridorPlan", name := "allThen", desc := "()I" } : Jvm.MethodName)) ∈ lw_all := lw_g (lw_at lw_m4 203 rfl) rfl
theorem q1017 : (Jvm.Cond.privateMethod ({ cls := "CorridorPlan", name := "allThen", desc := "()I" } : Jvm.MethodName)) ∈ lw_tbl := lw_at lw_m4 204 rfl
theorem q1018 : (Jvm.Cond.instanceMethod ({ cls := "CorridorPlan", name := "allThen", desc := "()I" } : Jvm.MethodName)) ∈ lw_all := lw_g (lw_at lw_m4 205 rfl) rfl
theorem q1019 : (Jvm.Cond.code ({ cls := "CorridorPlan", name := "allThen", desc := "()I" } : Jvm.MethodName) prog_1_method_68_code (5 : Nat) (Option.some Jvm.ClassFile.FieldType.int)) ∈ lw_all := lw_g (lw_at lw_m4 206 rfl) rfl
theorem q1020 : (Jvm.Cond.methodLink "CorridorPlan" (340 : Nat) ({ cls := "CorridorPlan", name := "sum", desc := "(LCorridorPlan$Measure;)I" } : Jvm.MethodName)) ∈ lw_all := lw_g (lw_at lw_m4 207 rfl) rfl
theorem q1021 : (Jvm.Cond.static ({ cls := "CorridorPlan", name := "sum", desc := "(LCorridorPlan$Measure;)I" } : Jvm.MethodName)) ∈ lw_all := lw_g (lw_at lw_m4 208 rfl) rfl
theorem q1022 : (Jvm.Cond.code ({ cls := "CorridorPlan", name := "sum", desc := "(LCorridorPlan$Measure;)I" } : Jvm.MethodName) prog_1_method_11_code (3 : Nat) (Option.some Jvm.ClassFile.FieldType.int)) ∈ lw_all := lw_g (lw_at lw_m4 209 rfl) rfl
theorem q1024 : (Jvm.Cond.instanceMethod ({ cls := "CorridorPlan", name := "openShare", desc := "()D" } : Jvm.MethodName)) ∈ lw_all := lw_g (lw_at lw_m4 211 rfl) rfl
theorem q1025 : (Jvm.Cond.selects "CorridorPlan" ({ cls := "CorridorPlan", name := "openShare", desc := "()D" } : Jvm.MethodName) ({ cls := "CorridorPlan", name := "openShare", desc := "()D" } : Jvm.MethodName)) ∈ lw_all := lw_g (lw_at lw_m4 212 rfl) rfl
theorem q1026 : (Jvm.Cond.code ({ cls := "CorridorPlan", name := "openShare", desc := "()D" } : Jvm.MethodName) prog_1_method_71_code (1 : Nat) (Option.some Jvm.ClassFile.FieldType.double)) ∈ lw_all := lw_g (lw_at lw_m4 213 rfl) rfl
theorem q1027 : (Jvm.Cond.methodLink "CorridorPlan" (362 : Nat) ({ cls := "CorridorPlan", name := "openNow", desc := "()D" } : Jvm.MethodName)) ∈ lw_all := lw_g (lw_at lw_m4 214 rfl) rfl
theorem q1028 : (Jvm.Cond.privateMethod ({ cls := "CorridorPlan", name := "openNow", desc := "()D" } : Jvm.MethodName)) ∈ lw_tbl := lw_at lw_m4 215 rfl
theorem q1029 : (Jvm.Cond.instanceMethod ({ cls := "CorridorPlan", name := "openNow", desc := "()D" } : Jvm.MethodName)) ∈ lw_all := lw_g (lw_at lw_m4 216 rfl) rfl
theorem q1030 : (Jvm.Cond.code ({ cls := "CorridorPlan", name := "openNow", desc := "()D" } : Jvm.MethodName) prog_1_method_70_code (2 : Nat) (Option.some Jvm.ClassFile.FieldType.double)) ∈ lw_all := lw_g (lw_at lw_m4 217 rfl) rfl
theorem q1031 : (Jvm.Cond.methodLink "CorridorPlan" (344 : Nat) ({ cls := "CorridorPlan", name := "ofWalks", desc := "(I)I" } : Jvm.MethodName)) ∈ lw_all := lw_g (lw_at lw_m4 218 rfl) rfl
theorem q1032 : (Jvm.Cond.privateMethod ({ cls := "CorridorPlan", name := "ofWalks", desc := "(I)I" } : Jvm.MethodName)) ∈ lw_tbl := lw_at lw_m4 219 rfl
theorem q1033 : (Jvm.Cond.instanceMethod ({ cls := "CorridorPlan", name := "ofWalks", desc := "(I)I" } : Jvm.MethodName)) ∈ lw_all := lw_g (lw_at lw_m4 220 rfl) rfl
theorem q1034 : (Jvm.Cond.code ({ cls := "CorridorPlan", name := "ofWalks", desc := "(I)I" } : Jvm.MethodName) prog_1_method_60_code (5 : Nat) (Option.some Jvm.ClassFile.FieldType.int)) ∈ lw_all := lw_g (lw_at lw_m4 221 rfl) rfl
theorem q1035 : (Jvm.Cond.methodLink "CorridorPlan" (314 : Nat) ({ cls := "java/lang/Math", name := "max", desc := "(II)I" } : Jvm.MethodName)) ∈ lw_all := lw_g (lw_at lw_m4 222 rfl) rfl
theorem q1037 : (Jvm.Cond.instanceMethod ({ cls := "CorridorPlan", name := "digest", desc := "()J" } : Jvm.MethodName)) ∈ lw_all := lw_g (lw_at lw_m4 224 rfl) rfl
theorem q1038 : (Jvm.Cond.selects "CorridorPlan" ({ cls := "CorridorPlan", name := "digest", desc := "()J" } : Jvm.MethodName) ({ cls := "CorridorPlan", name := "digest", desc := "()J" } : Jvm.MethodName)) ∈ lw_all := lw_g (lw_at lw_m4 225 rfl) rfl
theorem q1039 : (Jvm.Cond.code ({ cls := "CorridorPlan", name := "digest", desc := "()J" } : Jvm.MethodName) prog_1_method_75_code (2 : Nat) (Option.some Jvm.ClassFile.FieldType.long)) ∈ lw_all := lw_g (lw_at lw_m4 226 rfl) rfl
theorem q1040 : (Jvm.Cond.constantLong "CorridorPlan" (376 : Nat) (2857 : Int64)) ∈ lw_all := lw_g (lw_at lw_m4 227 rfl) rfl
theorem q1041 : (Jvm.Cond.methodLink "CorridorPlan" (350 : Nat) ({ cls := "CorridorPlan", name := "counted", desc := "(I)I" } : Jvm.MethodName)) ∈ lw_all := lw_g (lw_at lw_m4 228 rfl) rfl
theorem q1042 : (Jvm.Cond.privateMethod ({ cls := "CorridorPlan", name := "counted", desc := "(I)I" } : Jvm.MethodName)) ∈ lw_tbl := lw_at lw_m4 229 rfl
theorem q1043 : (Jvm.Cond.instanceMethod ({ cls := "CorridorPlan", name := "counted", desc := "(I)I" } : Jvm.MethodName)) ∈ lw_all := lw_g (lw_at lw_m4 230 rfl) rfl
theorem q1044 : (Jvm.Cond.code ({ cls := "CorridorPlan", name := "counted", desc := "(I)I" } : Jvm.MethodName) prog_1_method_62_code (2 : Nat) (Option.some Jvm.ClassFile.FieldType.int)) ∈ lw_all := lw_g (lw_at lw_m4 231 rfl) rfl
theorem q1045 : (Jvm.Cond.methodLink "CorridorPlan" (337 : Nat) ({ cls := "CorridorPlan", name := "roomCount", desc := "()I" } : Jvm.MethodName)) ∈ lw_all := lw_g (lw_at lw_m4 232 rfl) rfl
theorem q1046 : (Jvm.Cond.privateMethod ({ cls := "CorridorPlan", name := "roomCount", desc := "()I" } : Jvm.MethodName)) ∈ lw_tbl := lw_at lw_m4 233 rfl
theorem q1047 : (Jvm.Cond.instanceMethod ({ cls := "CorridorPlan", name := "roomCount", desc := "()I" } : Jvm.MethodName)) ∈ lw_all := lw_g (lw_at lw_m4 234 rfl) rfl
theorem q1048 : (Jvm.Cond.code ({ cls := "CorridorPlan", name := "roomCount", desc := "()I" } : Jvm.MethodName) prog_1_method_61_code (6 : Nat) (Option.some Jvm.ClassFile.FieldType.int)) ∈ lw_all := lw_g (lw_at lw_m4 235 rfl) rfl
theorem q1049 : (Jvm.Cond.methodLink "CorridorPlan" (347 : Nat) ({ cls := "CorridorPlan", name := "facingPairs", desc := "()I" } : Jvm.MethodName)) ∈ lw_all := lw_g (lw_at lw_m4 236 rfl) rfl
theorem q1050 : (Jvm.Cond.privateMethod ({ cls := "CorridorPlan", name := "facingPairs", desc := "()I" } : Jvm.MethodName)) ∈ lw_tbl := lw_at lw_m4 237 rfl
theorem q1051 : (Jvm.Cond.instanceMethod ({ cls := "CorridorPlan", name := "facingPairs", desc := "()I" } : Jvm.MethodName)) ∈ lw_all := lw_g (lw_at lw_m4 238 rfl) rfl
theorem q1052 : (Jvm.Cond.code ({ cls := "CorridorPlan", name := "facingPairs", desc := "()I" } : Jvm.MethodName) prog_1_method_49_code (3 : Nat) (Option.some Jvm.ClassFile.FieldType.int)) ∈ lw_all := lw_g (lw_at lw_m4 239 rfl) rfl
theorem q1053 : (Jvm.Cond.methodLink "CorridorPlan" (308 : Nat) ({ cls := "CorridorPlan", name := "facing", desc := "(II)I" } : Jvm.MethodName)) ∈ lw_all := lw_g (lw_at lw_m5 0 rfl) rfl
theorem q1054 : (Jvm.Cond.privateMethod ({ cls := "CorridorPlan", name := "facing", desc := "(II)I" } : Jvm.MethodName)) ∈ lw_tbl := lw_at lw_m5 1 rfl
theorem q1055 : (Jvm.Cond.instanceMethod ({ cls := "CorridorPlan", name := "facing", desc := "(II)I" } : Jvm.MethodName)) ∈ lw_all := lw_g (lw_at lw_m5 2 rfl) rfl
theorem q1056 : (Jvm.Cond.code ({ cls := "CorridorPlan", name := "facing", desc := "(II)I" } : Jvm.MethodName) prog_1_method_48_code (8 : Nat) (Option.some Jvm.ClassFile.FieldType.int)) ∈ lw_all := lw_g (lw_at lw_m5 3 rfl) rfl
theorem q1057 : (Jvm.Cond.methodLink "CorridorPlan" (372 : Nat) ({ cls := "CorridorPlan", name := "mix", desc := "(J)V" } : Jvm.MethodName)) ∈ lw_all := lw_g (lw_at lw_m5 4 rfl) rfl
theorem q1058 : (Jvm.Cond.privateMethod ({ cls := "CorridorPlan", name := "mix", desc := "(J)V" } : Jvm.MethodName)) ∈ lw_tbl := lw_at lw_m5 5 rfl
theorem q1059 : (Jvm.Cond.instanceMethod ({ cls := "CorridorPlan", name := "mix", desc := "(J)V" } : Jvm.MethodName)) ∈ lw_all := lw_g (lw_at lw_m5 6 rfl) rfl
theorem q1060 : (Jvm.Cond.code ({ cls := "CorridorPlan", name := "mix", desc := "(J)V" } : Jvm.MethodName) prog_1_method_72_code (3 : Nat) (Option.none : Option Jvm.ClassFile.FieldType)) ∈ lw_all := lw_g (lw_at lw_m5 7 rfl) rfl
theorem q1061 : (Jvm.Cond.constantLong "CorridorPlan" (366 : Nat) (31 : Int64)) ∈ lw_all := lw_g (lw_at lw_m5 8 rfl) rfl
theorem q1062 : (Jvm.Cond.methodLink "CorridorPlan" (311 : Nat) ({ cls := "CorridorPlan", name := "squarePart", desc := "(II)I" } : Jvm.MethodName)) ∈ lw_all := lw_g (lw_at lw_m5 9 rfl) rfl
theorem q1063 : (Jvm.Cond.privateMethod ({ cls := "CorridorPlan", name := "squarePart", desc := "(II)I" } : Jvm.MethodName)) ∈ lw_tbl := lw_at lw_m5 10 rfl
theorem q1064 : (Jvm.Cond.instanceMethod ({ cls := "CorridorPlan", name := "squarePart", desc := "(II)I" } : Jvm.MethodName)) ∈ lw_all := lw_g (lw_at lw_m5 11 rfl) rfl
theorem q1065 : (Jvm.Cond.code ({ cls := "CorridorPlan", name := "squarePart", desc := "(II)I" } : Jvm.MethodName) prog_1_method_50_code (3 : Nat) (Option.some Jvm.ClassFile.FieldType.int)) ∈ lw_all := lw_g (lw_at lw_m5 12 rfl) rfl
theorem q1066 : (Jvm.Cond.methodLink "CorridorPlan" (378 : Nat) ({ cls := "CorridorPlan", name := "mixRooms", desc := "()V" } : Jvm.MethodName)) ∈ lw_all := lw_g (lw_at lw_m5 13 rfl) rfl
theorem q1067 : (Jvm.Cond.privateMethod ({ cls := "CorridorPlan", name := "mixRooms", desc := "()V" } : Jvm.MethodName)) ∈ lw_tbl := lw_at lw_m5 14 rfl
theorem q1068 : (Jvm.Cond.instanceMethod ({ cls := "CorridorPlan", name := "mixRooms", desc := "()V" } : Jvm.MethodName)) ∈ lw_all := lw_g (lw_at lw_m5 15 rfl) rfl
theorem q1069 : (Jvm.Cond.code ({ cls := "CorridorPlan", name := "mixRooms", desc := "()V" } : Jvm.MethodName) prog_1_method_73_code (4 : Nat) (Option.none : Option Jvm.ClassFile.FieldType)) ∈ lw_all := lw_g (lw_at lw_m5 16 rfl) rfl
theorem q1070 : (Jvm.Cond.methodLink "CorridorPlan" (330 : Nat) ({ cls := "CorridorPlan", name := "chamberPart", desc := "(II)I" } : Jvm.MethodName)) ∈ lw_all := lw_g (lw_at lw_m5 17 rfl) rfl
theorem q1071 : (Jvm.Cond.privateMethod ({ cls := "CorridorPlan", name := "chamberPart", desc := "(II)I" } : Jvm.MethodName)) ∈ lw_tbl := lw_at lw_m5 18 rfl
theorem q1072 : (Jvm.Cond.instanceMethod ({ cls := "CorridorPlan", name := "chamberPart", desc := "(II)I" } : Jvm.MethodName)) ∈ lw_all := lw_g (lw_at lw_m5 19 rfl) rfl
theorem q1073 : (Jvm.Cond.code ({ cls := "CorridorPlan", name := "chamberPart", desc := "(II)I" } : Jvm.MethodName) prog_1_method_56_code (3 : Nat) (Option.some Jvm.ClassFile.FieldType.int)) ∈ lw_all := lw_g (lw_at lw_m5 20 rfl) rfl
theorem q1074 : (Jvm.Cond.methodLink "CorridorPlan" (317 : Nat) ({ cls := "CorridorPlan", name := "firstSquare", desc := "(I)I" } : Jvm.MethodName)) ∈ lw_all := lw_g (lw_at lw_m5 21 rfl) rfl
theorem q1075 : (Jvm.Cond.privateMethod ({ cls := "CorridorPlan", name := "firstSquare", desc := "(I)I" } : Jvm.MethodName)) ∈ lw_tbl := lw_at lw_m5 22 rfl
theorem q1076 : (Jvm.Cond.instanceMethod ({ cls := "CorridorPlan", name := "firstSquare", desc := "(I)I" } : Jvm.MethodName)) ∈ lw_all := lw_g (lw_at lw_m5 23 rfl) rfl
theorem q1077 : (Jvm.Cond.code ({ cls := "CorridorPlan", name := "firstSquare", desc := "(I)I" } : Jvm.MethodName) prog_1_method_52_code (3 : Nat) (Option.some Jvm.ClassFile.FieldType.int)) ∈ lw_all := lw_g (lw_at lw_m5 24 rfl) rfl
theorem q1078 : (Jvm.Cond.methodLink "CorridorPlan" (320 : Nat) ({ cls := "CorridorPlan", name := "lastSquare", desc := "(I)I" } : Jvm.MethodName)) ∈ lw_all := lw_g (lw_at lw_m5 25 rfl) rfl
theorem q1079 : (Jvm.Cond.privateMethod ({ cls := "CorridorPlan", name := "lastSquare", desc := "(I)I" } : Jvm.MethodName)) ∈ lw_tbl := lw_at lw_m5 26 rfl
theorem q1080 : (Jvm.Cond.instanceMethod ({ cls := "CorridorPlan", name := "lastSquare", desc := "(I)I" } : Jvm.MethodName)) ∈ lw_all := lw_g (lw_at lw_m5 27 rfl) rfl
theorem q1081 : (Jvm.Cond.code ({ cls := "CorridorPlan", name := "lastSquare", desc := "(I)I" } : Jvm.MethodName) prog_1_method_53_code (3 : Nat) (Option.some Jvm.ClassFile.FieldType.int)) ∈ lw_all := lw_g (lw_at lw_m5 28 rfl) rfl
theorem q1082 : (Jvm.Cond.methodLink "CorridorPlan" (323 : Nat) ({ cls := "CorridorPlan", name := "doorsOf", desc := "(IZ)I" } : Jvm.MethodName)) ∈ lw_all := lw_g (lw_at lw_m5 29 rfl) rfl
theorem q1083 : (Jvm.Cond.privateMethod ({ cls := "CorridorPlan", name := "doorsOf", desc := "(IZ)I" } : Jvm.MethodName)) ∈ lw_tbl := lw_at lw_m5 30 rfl
theorem q1084 : (Jvm.Cond.instanceMethod ({ cls := "CorridorPlan", name := "doorsOf", desc := "(IZ)I" } : Jvm.MethodName)) ∈ lw_all := lw_g (lw_at lw_m5 31 rfl) rfl
theorem q1085 : (Jvm.Cond.code ({ cls := "CorridorPlan", name := "doorsOf", desc := "(IZ)I" } : Jvm.MethodName) prog_1_method_54_code (6 : Nat) (Option.some Jvm.ClassFile.FieldType.int)) ∈ lw_all := lw_g (lw_at lw_m5 32 rfl) rfl
theorem q1086 : (Jvm.Cond.methodLink "CorridorPlan" (327 : Nat) ({ cls := "CorridorPlan", name := "walked", desc := "(IZ)I" } : Jvm.MethodName)) ∈ lw_all := lw_g (lw_at lw_m5 33 rfl) rfl
theorem q1087 : (Jvm.Cond.privateMethod ({ cls := "CorridorPlan", name := "walked", desc := "(IZ)I" } : Jvm.MethodName)) ∈ lw_tbl := lw_at lw_m5 34 rfl
theorem q1088 : (Jvm.Cond.instanceMethod ({ cls := "CorridorPlan", name := "walked", desc := "(IZ)I" } : Jvm.MethodName)) ∈ lw_all := lw_g (lw_at lw_m5 35 rfl) rfl
theorem q1089 : (Jvm.Cond.code ({ cls := "CorridorPlan", name := "walked", desc := "(IZ)I" } : Jvm.MethodName) prog_1_method_55_code (7 : Nat) (Option.some Jvm.ClassFile.FieldType.int)) ∈ lw_all := lw_g (lw_at lw_m5 36 rfl) rfl
theorem q1090 : (Jvm.Cond.methodLink "CorridorPlan" (146 : Nat) ({ cls := "CorridorPlan$State", name := "needed", desc := "(II)I" } : Jvm.MethodName)) ∈ lw_all := lw_g (lw_at lw_m5 37 rfl) rfl
theorem q1091 : (Jvm.Cond.methodLink "CorridorPlan" (333 : Nat) ({ cls := "CorridorPlan", name := "wayPart", desc := "(ZIII)I" } : Jvm.MethodName)) ∈ lw_all := lw_g (lw_at lw_m5 38 rfl) rfl
theorem q1092 : (Jvm.Cond.privateMethod ({ cls := "CorridorPlan", name := "wayPart", desc := "(ZIII)I" } : Jvm.MethodName)) ∈ lw_tbl := lw_at lw_m5 39 rfl
theorem q1093 : (Jvm.Cond.instanceMethod ({ cls := "CorridorPlan", name := "wayPart", desc := "(ZIII)I" } : Jvm.MethodName)) ∈ lw_all := lw_g (lw_at lw_m5 40 rfl) rfl
theorem q1094 : (Jvm.Cond.code ({ cls := "CorridorPlan", name := "wayPart", desc := "(ZIII)I" } : Jvm.MethodName) prog_1_method_58_code (5 : Nat) (Option.some Jvm.ClassFile.FieldType.int)) ∈ lw_all := lw_g (lw_at lw_m5 41 rfl) rfl
theorem q1095 : (Jvm.Cond.methodLink "CorridorPlan" (353 : Nat) ({ cls := "CorridorPlan", name := "dugThen", desc := "(II)I" } : Jvm.MethodName)) ∈ lw_all := lw_g (lw_at lw_m5 42 rfl) rfl
theorem q1096 : (Jvm.Cond.privateMethod ({ cls := "CorridorPlan", name := "dugThen", desc := "(II)I" } : Jvm.MethodName)) ∈ lw_tbl := lw_at lw_m5 43 rfl
theorem q1097 : (Jvm.Cond.instanceMethod ({ cls := "CorridorPlan", name := "dugThen", desc := "(II)I" } : Jvm.MethodName)) ∈ lw_all := lw_g (lw_at lw_m5 44 rfl) rfl
theorem q1098 : (Jvm.Cond.code ({ cls := "CorridorPlan", name := "dugThen", desc := "(II)I" } : Jvm.MethodName) prog_1_method_64_code (4 : Nat) (Option.some Jvm.ClassFile.FieldType.int)) ∈ lw_all := lw_g (lw_at lw_m5 45 rfl) rfl
theorem q1099 : (Jvm.Cond.methodLink "CorridorPlan" (381 : Nat) ({ cls := "CorridorPlan", name := "lowestRoom", desc := "()I" } : Jvm.MethodName)) ∈ lw_all := lw_g (lw_at lw_m5 46 rfl) rfl
theorem q1100 : (Jvm.Cond.privateMethod ({ cls := "CorridorPlan", name := "lowestRoom", desc := "()I" } : Jvm.MethodName)) ∈ lw_tbl := lw_at lw_m5 47 rfl
theorem q1101 : (Jvm.Cond.instanceMethod ({ cls := "CorridorPlan", name := "lowestRoom", desc := "()I" } : Jvm.MethodName)) ∈ lw_all := lw_g (lw_at lw_m5 48 rfl) rfl
theorem q1102 : (Jvm.Cond.code ({ cls := "CorridorPlan", name := "lowestRoom", desc := "()I" } : Jvm.MethodName) prog_1_method_74_code (3 : Nat) (Option.some Jvm.ClassFile.FieldType.int)) ∈ lw_all := lw_g (lw_at lw_m5 49 rfl) rfl
theorem q1103 : (Jvm.Cond.methodLink "CorridorPlan" (356 : Nat) ({ cls := "CorridorPlan", name := "givenThen", desc := "(I)I" } : Jvm.MethodName)) ∈ lw_all := lw_g (lw_at lw_m5 50 rfl) rfl
theorem q1104 : (Jvm.Cond.privateMethod ({ cls := "CorridorPlan", name := "givenThen", desc := "(I)I" } : Jvm.MethodName)) ∈ lw_tbl := lw_at lw_m5 51 rfl
theorem q1105 : (Jvm.Cond.instanceMethod ({ cls := "CorridorPlan", name := "givenThen", desc := "(I)I" } : Jvm.MethodName)) ∈ lw_all := lw_g (lw_at lw_m5 52 rfl) rfl
theorem q1106 : (Jvm.Cond.code ({ cls := "CorridorPlan", name := "givenThen", desc := "(I)I" } : Jvm.MethodName) prog_1_method_66_code (5 : Nat) (Option.some Jvm.ClassFile.FieldType.int)) ∈ lw_all := lw_g (lw_at lw_m5 53 rfl) rfl
theorem q1107 : (Jvm.Cond.methodLink "CorridorPlan" (143 : Nat) ({ cls := "CorridorPlan$State", name := "giveUp", desc := "(I)I" } : Jvm.MethodName)) ∈ lw_all := lw_g (lw_at lw_m5 54 rfl) rfl
theorem q1116 : (Jvm.Cond.methodLink "CorridorPlan" (384 : Nat) ({ cls := "java/lang/Double", name := "doubleToLongBits", desc := "(D)J" } : Jvm.MethodName)) ∈ lw_all := lw_g (lw_at lw_m5 63 rfl) rfl
theorem q1126 : (Jvm.Cond.methodLink "CorridorPlan" (390 : Nat) ({ cls := "java/lang/StringBuilder", name := "charAt", desc := "(I)C" } : Jvm.MethodName)) ∈ lw_all := lw_g (lw_at lw_m5 73 rfl) rfl
theorem q1133 : (Jvm.Cond.instanceMethod ({ cls := "CorridorPlan", name := "room", desc := "(IIII)I" } : Jvm.MethodName)) ∈ lw_all := lw_g (lw_at lw_m5 80 rfl) rfl
theorem q1134 : (Jvm.Cond.selects "CorridorPlan" ({ cls := "CorridorPlan", name := "room", desc := "(IIII)I" } : Jvm.MethodName) ({ cls := "CorridorPlan", name := "room", desc := "(IIII)I" } : Jvm.MethodName)) ∈ lw_all := lw_g (lw_at lw_m5 81 rfl) rfl
theorem q1135 : (Jvm.Cond.code ({ cls := "CorridorPlan", name := "room", desc := "(IIII)I" } : Jvm.MethodName) prog_1_method_16_code (7 : Nat) (Option.some Jvm.ClassFile.FieldType.int)) ∈ lw_all := lw_g (lw_at lw_m5 82 rfl) rfl
theorem q1136 : (Jvm.Cond.methodLink "CorridorPlan" (120 : Nat) ({ cls := "CorridorPlan", name := "isWithin", desc := "(IIII)Z" } : Jvm.MethodName)) ∈ lw_all := lw_g (lw_at lw_m5 83 rfl) rfl
theorem q1137 : (Jvm.Cond.static ({ cls := "CorridorPlan", name := "isWithin", desc := "(IIII)Z" } : Jvm.MethodName)) ∈ lw_all := lw_g (lw_at lw_m5 84 rfl) rfl
theorem q1138 : (Jvm.Cond.code ({ cls := "CorridorPlan", name := "isWithin", desc := "(IIII)Z" } : Jvm.MethodName) prog_1_method_15_code (5 : Nat) (Option.some Jvm.ClassFile.FieldType.boolean)) ∈ lw_all := lw_g (lw_at lw_m5 85 rfl) rfl
theorem q1139 : (Jvm.Cond.methodLink "CorridorPlan" (124 : Nat) ({ cls := "CorridorPlan", name := "require", desc := "(Z)V" } : Jvm.MethodName)) ∈ lw_all := lw_g (lw_at lw_m5 86 rfl) rfl
theorem q1140 : (Jvm.Cond.static ({ cls := "CorridorPlan", name := "require", desc := "(Z)V" } : Jvm.MethodName)) ∈ lw_all := lw_g (lw_at lw_m5 87 rfl) rfl
theorem q1141 : (Jvm.Cond.code ({ cls := "CorridorPlan", name := "require", desc := "(Z)V" } : Jvm.MethodName) prog_1_method_2_code (1 : Nat) (Option.none : Option Jvm.ClassFile.FieldType)) ∈ lw_all := lw_g (lw_at lw_m5 88 rfl) rfl
theorem q1142 : (Jvm.Cond.classLink "CorridorPlan" (3 : Nat) "java/lang/IllegalArgumentException") ∈ lw_all := lw_g (lw_at lw_m5 89 rfl) rfl
theorem q1143 : (Jvm.Cond.methodLink "CorridorPlan" (5 : Nat) ({ cls := "java/lang/IllegalArgumentException", name := "<init>", desc := "()V" } : Jvm.MethodName)) ∈ lw_all := lw_g (lw_at lw_m5 90 rfl) rfl
theorem q1153 : (Jvm.Cond.methodLink "CorridorPlan" (128 : Nat) ({ cls := "CorridorPlan", name := "canBe", desc := "(IIII)Z" } : Jvm.MethodName)) ∈ lw_all := lw_g (lw_at lw_m5 100 rfl) rfl
theorem q1154 : (Jvm.Cond.privateMethod ({ cls := "CorridorPlan", name := "canBe", desc := "(IIII)Z" } : Jvm.MethodName)) ∈ lw_tbl := lw_at lw_m5 101 rfl
theorem q1155 : (Jvm.Cond.instanceMethod ({ cls := "CorridorPlan", name := "canBe", desc := "(IIII)Z" } : Jvm.MethodName)) ∈ lw_all := lw_g (lw_at lw_m5 102 rfl) rfl
theorem q1156 : (Jvm.Cond.code ({ cls := "CorridorPlan", name := "canBe", desc := "(IIII)Z" } : Jvm.MethodName) prog_1_method_14_code (7 : Nat) (Option.some Jvm.ClassFile.FieldType.boolean)) ∈ lw_all := lw_g (lw_at lw_m5 103 rfl) rfl
theorem q1157 : (Jvm.Cond.methodLink "CorridorPlan" (113 : Nat) ({ cls := "CorridorPlan", name := "freeRoom", desc := "()I" } : Jvm.MethodName)) ∈ lw_all := lw_g (lw_at lw_m5 104 rfl) rfl
theorem q1158 : (Jvm.Cond.privateMethod ({ cls := "CorridorPlan", name := "freeRoom", desc := "()I" } : Jvm.MethodName)) ∈ lw_tbl := lw_at lw_m5 105 rfl
theorem q1159 : (Jvm.Cond.instanceMethod ({ cls := "CorridorPlan", name := "freeRoom", desc := "()I" } : Jvm.MethodName)) ∈ lw_all := lw_g (lw_at lw_m5 106 rfl) rfl
theorem q1160 : (Jvm.Cond.code ({ cls := "CorridorPlan", name := "freeRoom", desc := "()I" } : Jvm.MethodName) prog_1_method_12_code (3 : Nat) (Option.some Jvm.ClassFile.FieldType.int)) ∈ lw_all := lw_g (lw_at lw_m5 107 rfl) rfl
theorem q1161 : (Jvm.Cond.methodLink "CorridorPlan" (116 : Nat) ({ cls := "CorridorPlan", name := "isFreeFor", desc := "(I)Z" } : Jvm.MethodName)) ∈ lw_all := lw_g (lw_at lw_m5 108 rfl) rfl
theorem q1162 : (Jvm.Cond.privateMethod ({ cls := "CorridorPlan", name := "isFreeFor", desc := "(I)Z" } : Jvm.MethodName)) ∈ lw_tbl := lw_at lw_m5 109 rfl
theorem q1163 : (Jvm.Cond.instanceMethod ({ cls := "CorridorPlan", name := "isFreeFor", desc := "(I)Z" } : Jvm.MethodName)) ∈ lw_all := lw_g (lw_at lw_m5 110 rfl) rfl
theorem q1164 : (Jvm.Cond.code ({ cls := "CorridorPlan", name := "isFreeFor", desc := "(I)Z" } : Jvm.MethodName) prog_1_method_13_code (4 : Nat) (Option.some Jvm.ClassFile.FieldType.boolean)) ∈ lw_all := lw_g (lw_at lw_m5 111 rfl) rfl
theorem q1165 : (Jvm.Cond.methodLink "CorridorPlan" (131 : Nat) ({ cls := "CorridorPlan", name := "requireState", desc := "(Z)V" } : Jvm.MethodName)) ∈ lw_all := lw_g (lw_at lw_m5 112 rfl) rfl
theorem q1166 : (Jvm.Cond.static ({ cls := "CorridorPlan", name := "requireState", desc := "(Z)V" } : Jvm.MethodName)) ∈ lw_all := lw_g (lw_at lw_m5 113 rfl) rfl
theorem q1167 : (Jvm.Cond.code ({ cls := "CorridorPlan", name := "requireState", desc := "(Z)V" } : Jvm.MethodName) prog_1_method_3_code (1 : Nat) (Option.none : Option Jvm.ClassFile.FieldType)) ∈ lw_all := lw_g (lw_at lw_m5 114 rfl) rfl
theorem q1168 : (Jvm.Cond.classLink "CorridorPlan" (9 : Nat) "java/lang/IllegalStateException") ∈ lw_all := lw_g (lw_at lw_m5 115 rfl) rfl
theorem q1169 : (Jvm.Cond.methodLink "CorridorPlan" (11 : Nat) ({ cls := "java/lang/IllegalStateException", name := "<init>", desc := "()V" } : Jvm.MethodName)) ∈ lw_all := lw_g (lw_at lw_m5 116 rfl) rfl
theorem q1180 : (Jvm.Cond.instanceMethod ({ cls := "CorridorPlan", name := "give", desc := "(I)I" } : Jvm.MethodName)) ∈ lw_all := lw_g (lw_at lw_m5 127 rfl) rfl
theorem q1181 : (Jvm.Cond.selects "CorridorPlan" ({ cls := "CorridorPlan", name := "give", desc := "(I)I" } : Jvm.MethodName) ({ cls := "CorridorPlan", name := "give", desc := "(I)I" } : Jvm.MethodName)) ∈ lw_all := lw_g (lw_at lw_m5 128 rfl) rfl
theorem q1182 : (Jvm.Cond.code ({ cls := "CorridorPlan", name := "give", desc := "(I)I" } : Jvm.MethodName) prog_1_method_17_code (2 : Nat) (Option.some Jvm.ClassFile.FieldType.int)) ∈ lw_all := lw_g (lw_at lw_m5 129 rfl) rfl
theorem q1183 : (Jvm.Cond.methodLink "CorridorPlan" (137 : Nat) ({ cls := "CorridorPlan", name := "isRoom", desc := "(I)Z" } : Jvm.MethodName)) ∈ lw_all := lw_g (lw_at lw_m5 130 rfl) rfl
theorem q1184 : (Jvm.Cond.privateMethod ({ cls := "CorridorPlan", name := "isRoom", desc := "(I)Z" } : Jvm.MethodName)) ∈ lw_tbl := lw_at lw_m5 131 rfl
theorem q1185 : (Jvm.Cond.instanceMethod ({ cls := "CorridorPlan", name := "isRoom", desc := "(I)Z" } : Jvm.MethodName)) ∈ lw_all := lw_g (lw_at lw_m5 132 rfl) rfl
theorem q1186 : (Jvm.Cond.code ({ cls := "CorridorPlan", name := "isRoom", desc := "(I)Z" } : Jvm.MethodName) prog_1_method_9_code (2 : Nat) (Option.some Jvm.ClassFile.FieldType.boolean)) ∈ lw_all := lw_g (lw_at lw_m5 133 rfl) rfl
theorem q1187 : (Jvm.Cond.methodLink "CorridorPlan" (140 : Nat) ({ cls := "CorridorPlan", name := "requireIndex", desc := "(Z)V" } : Jvm.MethodName)) ∈ lw_all := lw_g (lw_at lw_m5 134 rfl) rfl
theorem q1188 : (Jvm.Cond.static ({ cls := "CorridorPlan", name := "requireIndex", desc := "(Z)V" } : Jvm.MethodName)) ∈ lw_all := lw_g (lw_at lw_m5 135 rfl) rfl
theorem q1189 : (Jvm.Cond.code ({ cls := "CorridorPlan", name := "requireIndex", desc := "(Z)V" } : Jvm.MethodName) prog_1_method_4_code (1 : Nat) (Option.none : Option Jvm.ClassFile.FieldType)) ∈ lw_all := lw_g (lw_at lw_m5 136 rfl) rfl
theorem q1190 : (Jvm.Cond.classLink "CorridorPlan" (12 : Nat) "java/lang/IndexOutOfBoundsException") ∈ lw_all := lw_g (lw_at lw_m5 137 rfl) rfl
theorem q1199 : (Jvm.Cond.methodLink "CorridorPlan" (14 : Nat) ({ cls := "java/lang/IndexOutOfBoundsException", name := "<init>", desc := "()V" } : Jvm.MethodName)) ∈ lw_all := lw_g (lw_at lw_m5 146 rfl) rfl
theorem q1209 : (Jvm.Cond.instanceMethod ({ cls := "CorridorPlan", name := "walk", desc := "(III)I" } : Jvm.MethodName)) ∈ lw_all := lw_g (lw_at lw_m5 156 rfl) rfl
theorem q1210 : (Jvm.Cond.selects "CorridorPlan" ({ cls := "CorridorPlan", name := "walk", desc := "(III)I" } : Jvm.MethodName) ({ cls := "CorridorPlan", name := "walk", desc := "(III)I" } : Jvm.MethodName)) ∈ lw_all := lw_g (lw_at lw_m5 157 rfl) rfl
theorem q1211 : (Jvm.Cond.code ({ cls := "CorridorPlan", name := "walk", desc := "(III)I" } : Jvm.MethodName) prog_1_method_18_code (5 : Nat) (Option.some Jvm.ClassFile.FieldType.int)) ∈ lw_all := lw_g (lw_at lw_m5 158 rfl) rfl
theorem q1212 : (Jvm.Cond.methodLink "CorridorPlan" (149 : Nat) ({ cls := "CorridorPlan$State", name := "need", desc := "(III)V" } : Jvm.MethodName)) ∈ lw_all := lw_g (lw_at lw_m5 159 rfl) rfl
theorem q1217 : (Jvm.Cond.instanceMethod ({ cls := "CorridorPlan", name := "dig", desc := "(II)I" } : Jvm.MethodName)) ∈ lw_all := lw_g (lw_at lw_m5 164 rfl) rfl
theorem q1218 : (Jvm.Cond.selects "CorridorPlan" ({ cls := "CorridorPlan", name := "dig", desc := "(II)I" } : Jvm.MethodName) ({ cls := "CorridorPlan", name := "dig", desc := "(II)I" } : Jvm.MethodName)) ∈ lw_all := lw_g (lw_at lw_m5 165 rfl) rfl
theorem q1219 : (Jvm.Cond.code ({ cls := "CorridorPlan", name := "dig", desc := "(II)I" } : Jvm.MethodName) prog_1_method_33_code (4 : Nat) (Option.some Jvm.ClassFile.FieldType.int)) ∈ lw_all := lw_g (lw_at lw_m5 166 rfl) rfl
theorem q1224 : (Jvm.Cond.instanceMethod ({ cls := "CorridorPlan", name := "carve", desc := "(II)I" } : Jvm.MethodName)) ∈ lw_all := lw_g (lw_at lw_m5 171 rfl) rfl
theorem q1225 : (Jvm.Cond.selects "CorridorPlan" ({ cls := "CorridorPlan", name := "carve", desc := "(II)I" } : Jvm.MethodName) ({ cls := "CorridorPlan", name := "carve", desc := "(II)I" } : Jvm.MethodName)) ∈ lw_all := lw_g (lw_at lw_m5 172 rfl) rfl
theorem q1226 : (Jvm.Cond.code ({ cls := "CorridorPlan", name := "carve", desc := "(II)I" } : Jvm.MethodName) prog_1_method_34_code (3 : Nat) (Option.some Jvm.ClassFile.FieldType.int)) ∈ lw_all := lw_g (lw_at lw_m5 173 rfl) rfl
theorem q1231 : (Jvm.Cond.instanceMethod ({ cls := "CorridorPlan", name := "set", desc := "(I)I" } : Jvm.MethodName)) ∈ lw_all := lw_g (lw_at lw_m5 178 rfl) rfl
theorem q1232 : (Jvm.Cond.selects "CorridorPlan" ({ cls := "CorridorPlan", name := "set", desc := "(I)I" } : Jvm.MethodName) ({ cls := "CorridorPlan", name := "set", desc := "(I)I" } : Jvm.MethodName)) ∈ lw_all := lw_g (lw_at lw_m5 179 rfl) rfl
theorem q1233 : (Jvm.Cond.code ({ cls := "CorridorPlan", name := "set", desc := "(I)I" } : Jvm.MethodName) prog_1_method_39_code (3 : Nat) (Option.some Jvm.ClassFile.FieldType.int)) ∈ lw_all := lw_g (lw_at lw_m5 180 rfl) rfl
theorem q1238 : (Jvm.Cond.instanceMethod ({ cls := "CorridorPlan", name := "append", desc := "(I)I" } : Jvm.MethodName)) ∈ lw_all := lw_g (lw_at lw_m5 185 rfl) rfl
theorem q1239 : (Jvm.Cond.selects "CorridorPlan" ({ cls := "CorridorPlan", name := "append", desc := "(I)I" } : Jvm.MethodName) ({ cls := "CorridorPlan", name := "append", desc := "(I)I" } : Jvm.MethodName)) ∈ lw_all := lw_g (lw_at lw_m5 186 rfl) rfl
theorem q1240 : (Jvm.Cond.code ({ cls := "CorridorPlan", name := "append", desc := "(I)I" } : Jvm.MethodName) prog_1_method_40_code (2 : Nat) (Option.some Jvm.ClassFile.FieldType.int)) ∈ lw_all := lw_g (lw_at lw_m5 187 rfl) rfl
theorem q1241 : (Jvm.Cond.methodLink "CorridorPlan" (240 : Nat) ({ cls := "java/lang/StringBuilder", name := "append", desc := "(C)Ljava/lang/StringBuilder;" } : Jvm.MethodName)) ∈ lw_all := lw_g (lw_at lw_m5 188 rfl) rfl
theorem q1258 : (Jvm.Cond.instanceMethod ({ cls := "CorridorPlan", name := "run", desc := "()I" } : Jvm.MethodName)) ∈ lw_all := lw_g (lw_at lw_m5 205 rfl) rfl
theorem q1259 : (Jvm.Cond.selects "CorridorPlan" ({ cls := "CorridorPlan", name := "run", desc := "()I" } : Jvm.MethodName) ({ cls := "CorridorPlan", name := "run", desc := "()I" } : Jvm.MethodName)) ∈ lw_all := lw_g (lw_at lw_m5 206 rfl) rfl
theorem q1260 : (Jvm.Cond.code ({ cls := "CorridorPlan", name := "run", desc := "()I" } : Jvm.MethodName) prog_1_method_44_code (4 : Nat) (Option.some Jvm.ClassFile.FieldType.int)) ∈ lw_all := lw_g (lw_at lw_m5 207 rfl) rfl
theorem q1261 : (Jvm.Cond.methodLink "CorridorPlan" (288 : Nat) ({ cls := "java/util/ArrayList", name := "size", desc := "()I" } : Jvm.MethodName)) ∈ lw_all := lw_g (lw_at lw_m5 208 rfl) rfl
theorem q1265 : (Jvm.Cond.methodLink "CorridorPlan" (291 : Nat) ({ cls := "java/util/ArrayList", name := "get", desc := "(I)Ljava/lang/Object;" } : Jvm.MethodName)) ∈ lw_all := lw_g (lw_at lw_m5 212 rfl) rfl
theorem q1277 : (Jvm.Cond.classLink "CorridorPlan" (259 : Nat) "CorridorPlan$Order") ∈ lw_all := lw_g (lw_at lw_m5 224 rfl) rfl
theorem q1278 : (Jvm.Cond.methodLink "CorridorPlan" (295 : Nat) ({ cls := "CorridorPlan", name := "does", desc := "(LCorridorPlan$Order;)Z" } : Jvm.MethodName)) ∈ lw_all := lw_g (lw_at lw_m5 225 rfl) rfl
theorem q1279 : (Jvm.Cond.privateMethod ({ cls := "CorridorPlan", name := "does", desc := "(LCorridorPlan$Order;)Z" } : Jvm.MethodName)) ∈ lw_tbl := lw_at lw_m5 226 rfl
theorem q1280 : (Jvm.Cond.instanceMethod ({ cls := "CorridorPlan", name := "does", desc := "(LCorridorPlan$Order;)Z" } : Jvm.MethodName)) ∈ lw_all := lw_g (lw_at lw_m5 227 rfl) rfl
theorem q1281 : (Jvm.Cond.code ({ cls := "CorridorPlan", name := "does", desc := "(LCorridorPlan$Order;)Z" } : Jvm.MethodName) prog_1_method_43_code (2 : Nat) (Option.some Jvm.ClassFile.FieldType.boolean)) ∈ lw_all := lw_g (lw_at lw_m5 228 rfl) rfl
theorem q1282 : (Jvm.Cond.stringRef "CorridorPlan" (270 : Nat) "!") ∈ lw_tbl := lw_at lw_m5 229 rfl
theorem q1283 : (Jvm.Cond.methodLink "CorridorPlan" (272 : Nat) ({ cls := "java/lang/String", name := "equals", desc := "(Ljava/lang/Object;)Z" } : Jvm.MethodName)) ∈ lw_all := lw_g (lw_at lw_m5 230 rfl) rfl
theorem q1291 : (Jvm.Cond.methodLink "CorridorPlan" (278 : Nat) ({ cls := "CorridorPlan$Walkers", name := "widthOf", desc := "(Ljava/lang/CharSequence;)I" } : Jvm.MethodName)) ∈ lw_all := lw_g (lw_at lw_m5 238 rfl) rfl
theorem q1368 : (Jvm.Cond.instanceMethod ({ cls := "CorridorPlan", name := "undo", desc := "()I" } : Jvm.MethodName)) ∈ lw_all := lw_g (lw_at lw_m6 75 rfl) rfl
theorem q1369 : (Jvm.Cond.selects "CorridorPlan" ({ cls := "CorridorPlan", name := "undo", desc := "()I" } : Jvm.MethodName) ({ cls := "CorridorPlan", name := "undo", desc := "()I" } : Jvm.MethodName)) ∈ lw_all := lw_g (lw_at lw_m6 76 rfl) rfl
theorem q1370 : (Jvm.Cond.code ({ cls := "CorridorPlan", name := "undo", desc := "()I" } : Jvm.MethodName) prog_1_method_45_code (1 : Nat) (Option.some Jvm.ClassFile.FieldType.int)) ∈ lw_all := lw_g (lw_at lw_m6 77 rfl) rfl
theorem q1371 : (Jvm.Cond.methodLink "CorridorPlan" (299 : Nat) ({ cls := "java/util/ArrayDeque", name := "isEmpty", desc := "()Z" } : Jvm.MethodName)) ∈ lw_all := lw_g (lw_at lw_m6 78 rfl) rfl
theorem q1375 : (Jvm.Cond.methodLink "CorridorPlan" (302 : Nat) ({ cls := "java/util/ArrayDeque", name := "pop", desc := "()Ljava/lang/Object;" } : Jvm.MethodName)) ∈ lw_all := lw_g (lw_at lw_m6 82 rfl) rfl
theorem q1394 : (Jvm.Cond.instanceMethod ({ cls := "CorridorPlan", name := "square", desc := "(III)I" } : Jvm.MethodName)) ∈ lw_all := lw_g (lw_at lw_m6 101 rfl) rfl
theorem q1395 : (Jvm.Cond.selects "CorridorPlan" ({ cls := "CorridorPlan", name := "square", desc := "(III)I" } : Jvm.MethodName) ({ cls := "CorridorPlan", name := "square", desc := "(III)I" } : Jvm.MethodName)) ∈ lw_all := lw_g (lw_at lw_m6 102 rfl) rfl
theorem q1396 : (Jvm.Cond.code ({ cls := "CorridorPlan", name := "square", desc := "(III)I" } : Jvm.MethodName) prog_1_method_51_code (4 : Nat) (Option.some Jvm.ClassFile.FieldType.int)) ∈ lw_all := lw_g (lw_at lw_m6 103 rfl) rfl
theorem q1401 : (Jvm.Cond.instanceMethod ({ cls := "CorridorPlan", name := "chamber", desc := "(II)I" } : Jvm.MethodName)) ∈ lw_all := lw_g (lw_at lw_m6 108 rfl) rfl
theorem q1402 : (Jvm.Cond.selects "CorridorPlan" ({ cls := "CorridorPlan", name := "chamber", desc := "(II)I" } : Jvm.MethodName) ({ cls := "CorridorPlan", name := "chamber", desc := "(II)I" } : Jvm.MethodName)) ∈ lw_all := lw_g (lw_at lw_m6 109 rfl) rfl
theorem q1403 : (Jvm.Cond.code ({ cls := "CorridorPlan", name := "chamber", desc := "(II)I" } : Jvm.MethodName) prog_1_method_57_code (3 : Nat) (Option.some Jvm.ClassFile.FieldType.int)) ∈ lw_all := lw_g (lw_at lw_m6 110 rfl) rfl
theorem q1408 : (Jvm.Cond.instanceMethod ({ cls := "CorridorPlan", name := "way", desc := "(III)I" } : Jvm.MethodName)) ∈ lw_all := lw_g (lw_at lw_m6 115 rfl) rfl
theorem q1409 : (Jvm.Cond.selects "CorridorPlan" ({ cls := "CorridorPlan", name := "way", desc := "(III)I" } : Jvm.MethodName) ({ cls := "CorridorPlan", name := "way", desc := "(III)I" } : Jvm.MethodName)) ∈ lw_all := lw_g (lw_at lw_m6 116 rfl) rfl
theorem q1410 : (Jvm.Cond.code ({ cls := "CorridorPlan", name := "way", desc := "(III)I" } : Jvm.MethodName) prog_1_method_59_code (4 : Nat) (Option.some Jvm.ClassFile.FieldType.int)) ∈ lw_all := lw_g (lw_at lw_m6 117 rfl) rfl
theorem q1415 : (Jvm.Cond.instanceMethod ({ cls := "CorridorPlan", name := "count", desc := "(I)I" } : Jvm.MethodName)) ∈ lw_all := lw_g (lw_at lw_m6 122 rfl) rfl
theorem q1416 : (Jvm.Cond.selects "CorridorPlan" ({ cls := "CorridorPlan", name := "count", desc := "(I)I" } : Jvm.MethodName) ({ cls := "CorridorPlan", name := "count", desc := "(I)I" } : Jvm.MethodName)) ∈ lw_all := lw_g (lw_at lw_m6 123 rfl) rfl
theorem q1417 : (Jvm.Cond.code ({ cls := "CorridorPlan", name := "count", desc := "(I)I" } : Jvm.MethodName) prog_1_method_63_code (2 : Nat) (Option.some Jvm.ClassFile.FieldType.int)) ∈ lw_all := lw_g (lw_at lw_m6 124 rfl) rfl
theorem q1422 : (Jvm.Cond.instanceMethod ({ cls := "CorridorPlan", name := "ifDug", desc := "(III)I" } : Jvm.MethodName)) ∈ lw_all := lw_g (lw_at lw_m6 129 rfl) rfl
theorem q1423 : (Jvm.Cond.selects "CorridorPlan" ({ cls := "CorridorPlan", name := "ifDug", desc := "(III)I" } : Jvm.MethodName) ({ cls := "CorridorPlan", name := "ifDug", desc := "(III)I" } : Jvm.MethodName)) ∈ lw_all := lw_g (lw_at lw_m6 130 rfl) rfl
theorem q1424 : (Jvm.Cond.code ({ cls := "CorridorPlan", name := "ifDug", desc := "(III)I" } : Jvm.MethodName) prog_1_method_65_code (4 : Nat) (Option.some Jvm.ClassFile.FieldType.int)) ∈ lw_all := lw_g (lw_at lw_m6 131 rfl) rfl
theorem q1429 : (Jvm.Cond.instanceMethod ({ cls := "CorridorPlan", name := "ifGiven", desc := "(I)I" } : Jvm.MethodName)) ∈ lw_all := lw_g (lw_at lw_m6 136 rfl) rfl
theorem q1430 : (Jvm.Cond.selects "CorridorPlan" ({ cls := "CorridorPlan", name := "ifGiven", desc := "(I)I" } : Jvm.MethodName) ({ cls := "CorridorPlan", name := "ifGiven", desc := "(I)I" } : Jvm.MethodName)) ∈ lw_all := lw_g (lw_at lw_m6 137 rfl) rfl
theorem q1431 : (Jvm.Cond.code ({ cls := "CorridorPlan", name := "ifGiven", desc := "(I)I" } : Jvm.MethodName) prog_1_method_67_code (2 : Nat) (Option.some Jvm.ClassFile.FieldType.int)) ∈ lw_all := lw_g (lw_at lw_m6 138 rfl) rfl
theorem q1806 : (Jvm.Cond.castable "CorridorPlan" "java/lang/Object") ∈ lw_tbl := lw_at lw_m8 33 rfl
theorem in_X1 : ∀ w ∈ wsX10, w ∈ lw_all := lw_in wsX10 [262, 264, 266, 268, 270, 272, 274, 276, 278, 280, 282, 284, 286] (by decide +kernel) (by decide +kernel)
