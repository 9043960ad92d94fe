/-! CorridorPlanModel -/
set_option maxRecDepth 100000
def RX3 : String := "CorridorPlanModel"
def TX3 : u_T := fun k => match k with
  | 0 => ("CorridorPlanModel", "now", "[I", true)
  | 1 => ("CorridorPlanModel", "then", "[I", true)
  | 2 => ("CorridorPlanModel", "past", "[I", true)
  | 3 => ("CorridorPlanModel", "kept", "I", false)
  | 4 => ("CorridorPlanModel", "text", "[I", true)
  | 5 => ("CorridorPlanModel", "typed", "I", false)
  | 6 => ("CorridorPlanModel", "thrown", "I", false)
  | 7 => ("CorridorPlanModel", "at", "I", false)
  | 8 => ("CorridorPlanModel", "isFault", "Z", false)
  | 9 => ("CorridorPlanModel", "told", "[I", true)
  | 10 => ("CorridorPlanModel", "tolds", "I", false)
  | 11 => ("CorridorPlanModel", "across", "[I", true)
  | 12 => ("CorridorPlanModel", "along", "[I", true)
  | 13 => ("CorridorPlanModel", "rest", "[I", true)
  | 14 => ("CorridorPlanModel", "isSettled", "[Z", true)
  | 15 => ("CorridorPlanModel", "places", "[I", true)
  | 16 => ("CorridorPlanModel", "many", "I", false)
  | 17 => ("CorridorPlanModel", "cost", "I", false)
  | 18 => ("CorridorPlanModel", "breadth", "I", false)
  | _ => ("CorridorPlanModel", "stays", "[Z", true)
def tyX3 : Nat → FieldType := fun k => match k with
  | 0 => .array .int
  | 1 => .array .int
  | 2 => .array .int
  | 3 => .int
  | 4 => .array .int
  | 5 => .int
  | 6 => .int
  | 7 => .int
  | 8 => .boolean
  | 9 => .array .int
  | 10 => .int
  | 11 => .array .int
  | 12 => .array .int
  | 13 => .array .int
  | 14 => .array .boolean
  | 15 => .array .int
  | 16 => .int
  | 17 => .int
  | 18 => .int
  | _ => .array .boolean
abbrev wsX30 : List Cond := u_ws RX3 TX3 20
set_option maxRecDepth 100000 in
theorem nmX3 : ∀ a, a < 20 → ∀ b, b < 20 → a ≠ b → (TX3 a).2.1 ≠ (TX3 b).2.1 := by decide +kernel
set_option maxRecDepth 100000 in
theorem tyX3_ok : ∀ k, k < 20 → parseFieldDescriptor (TX3 k).2.2.1 = some (tyX3 k) := by decide +kernel
abbrev cX3_init : ByteArray := prog_8_method_1_code
def yX3_init : MethodName := ⟨RX3, "<init>", "()V"⟩
def dkwX3_init_6 : List UInt8 := [180, 0, 7, 27, 16, 254, 79, 132, 1, 1, 167, 255, 238, 42, 180, 0, 7, 17, 0, 252, 5, 79, 177]
abbrev dktX3_init_6 : List UInt8 := dkwX3_init_6 ++ []
def dkwX3_init_5 : List UInt8 := [181, 0, 38, 42, 17, 0, 192, 188, 4, 181, 0, 41, 3, 60, 27, 17, 0, 192, 162, 0, 17, 42]
abbrev dktX3_init_5 : List UInt8 := dkwX3_init_5 ++ dktX3_init_6
def dkwX3_init_4 : List UInt8 := [17, 0, 192, 188, 10, 181, 0, 31, 42, 17, 0, 192, 188, 4, 181, 0, 34, 42, 17, 0, 192, 188, 10]
abbrev dktX3_init_4 : List UInt8 := dkwX3_init_4 ++ dktX3_init_5
def dkwX3_init_3 : List UInt8 := [7, 188, 10, 89, 3, 3, 79, 89, 4, 3, 79, 89, 5, 2, 79, 89, 6, 4, 79, 181, 0, 28, 42]
abbrev dktX3_init_3 : List UInt8 := dkwX3_init_3 ++ dktX3_init_4
def dkwX3_init_2 : List UInt8 := [42, 7, 188, 10, 89, 3, 2, 79, 89, 4, 4, 79, 89, 5, 3, 79, 89, 6, 3, 79, 181, 0, 25, 42]
abbrev dktX3_init_2 : List UInt8 := dkwX3_init_2 ++ dktX3_init_3
def dkwX3_init_1 : List UInt8 := [17, 5, 238, 188, 10, 181, 0, 16, 42, 16, 60, 188, 10, 181, 0, 19, 42, 16, 63, 188, 10, 181, 0, 22]
abbrev dktX3_init_1 : List UInt8 := dkwX3_init_1 ++ dktX3_init_2
def dkwX3_init_0 : List UInt8 := [42, 183, 0, 1, 42, 17, 0, 253, 188, 10, 181, 0, 7, 42, 17, 0, 253, 188, 10, 181, 0, 13, 42]
abbrev dktX3_init_0 : List UInt8 := dkwX3_init_0 ++ dktX3_init_1
theorem dksX3_init_0 : cX3_init.data.toList.drop 0 = dktX3_init_0 := by decide +kernel
theorem dksX3_init_1 : cX3_init.data.toList.drop 23 = dktX3_init_1 := dk_seg dksX3_init_0 23 rfl rfl
theorem dksX3_init_2 : cX3_init.data.toList.drop 47 = dktX3_init_2 := dk_seg dksX3_init_1 24 rfl rfl
theorem dksX3_init_3 : cX3_init.data.toList.drop 71 = dktX3_init_3 := dk_seg dksX3_init_2 24 rfl rfl
theorem dksX3_init_4 : cX3_init.data.toList.drop 94 = dktX3_init_4 := dk_seg dksX3_init_3 23 rfl rfl
theorem dksX3_init_5 : cX3_init.data.toList.drop 117 = dktX3_init_5 := dk_seg dksX3_init_4 23 rfl rfl
theorem dksX3_init_6 : cX3_init.data.toList.drop 139 = dktX3_init_6 := dk_seg dksX3_init_5 22 rfl rfl
theorem dX3_init_0 : decode cX3_init 0 = .ok (.aload_n 0, 1) := dk_42 (dk_at dksX3_init_0 0 rfl rfl)
theorem dX3_init_1 : decode cX3_init 1 = .ok (.invokespecial 1, 3) := dk_183 0 1 (dk_at dksX3_init_0 1 rfl rfl)
theorem dX3_init_4 : decode cX3_init 4 = .ok (.aload_n 0, 1) := dk_42 (dk_at dksX3_init_0 4 rfl rfl)
theorem dX3_init_5 : decode cX3_init 5 = .ok (.sipush 253, 3) := dk_17 0 253 (dk_at dksX3_init_0 5 rfl rfl)
theorem dX3_init_8 : decode cX3_init 8 = .ok (.newarray .int, 2) := dk_188_10 (dk_at dksX3_init_0 8 rfl rfl)
theorem dX3_init_10 : decode cX3_init 10 = .ok (.putfield 7, 3) := dk_181 0 7 (dk_at dksX3_init_0 10 rfl rfl)
theorem dX3_init_13 : decode cX3_init 13 = .ok (.aload_n 0, 1) := dk_42 (dk_at dksX3_init_0 13 rfl rfl)
theorem dX3_init_14 : decode cX3_init 14 = .ok (.sipush 253, 3) := dk_17 0 253 (dk_at dksX3_init_0 14 rfl rfl)
theorem dX3_init_17 : decode cX3_init 17 = .ok (.newarray .int, 2) := dk_188_10 (dk_at dksX3_init_0 17 rfl rfl)
theorem dX3_init_19 : decode cX3_init 19 = .ok (.putfield 13, 3) := dk_181 0 13 (dk_at dksX3_init_0 19 rfl rfl)
theorem dX3_init_22 : decode cX3_init 22 = .ok (.aload_n 0, 1) := dk_42 (dk_at dksX3_init_0 22 rfl rfl)
theorem dX3_init_23 : decode cX3_init 23 = .ok (.sipush 1518, 3) := dk_17 5 238 (dk_at dksX3_init_1 0 rfl rfl)
theorem dX3_init_26 : decode cX3_init 26 = .ok (.newarray .int, 2) := dk_188_10 (dk_at dksX3_init_1 3 rfl rfl)
theorem dX3_init_28 : decode cX3_init 28 = .ok (.putfield 16, 3) := dk_181 0 16 (dk_at dksX3_init_1 5 rfl rfl)
theorem dX3_init_31 : decode cX3_init 31 = .ok (.aload_n 0, 1) := dk_42 (dk_at dksX3_init_1 8 rfl rfl)
theorem dX3_init_32 : decode cX3_init 32 = .ok (.bipush 60, 2) := dk_16 60 (dk_at dksX3_init_1 9 rfl rfl)
theorem dX3_init_34 : decode cX3_init 34 = .ok (.newarray .int, 2) := dk_188_10 (dk_at dksX3_init_1 11 rfl rfl)
theorem dX3_init_36 : decode cX3_init 36 = .ok (.putfield 19, 3) := dk_181 0 19 (dk_at dksX3_init_1 13 rfl rfl)
theorem dX3_init_39 : decode cX3_init 39 = .ok (.aload_n 0, 1) := dk_42 (dk_at dksX3_init_1 16 rfl rfl)
theorem dX3_init_40 : decode cX3_init 40 = .ok (.bipush 63, 2) := dk_16 63 (dk_at dksX3_init_1 17 rfl rfl)
theorem dX3_init_42 : decode cX3_init 42 = .ok (.newarray .int, 2) := dk_188_10 (dk_at dksX3_init_1 19 rfl rfl)
theorem dX3_init_44 : decode cX3_init 44 = .ok (.putfield 22, 3) := dk_181 0 22 (dk_at dksX3_init_1 21 rfl rfl)
theorem dX3_init_47 : decode cX3_init 47 = .ok (.aload_n 0, 1) := dk_42 (dk_at dksX3_init_2 0 rfl rfl)
theorem dX3_init_48 : decode cX3_init 48 = .ok (.iconst 4, 1) := dk_7 (dk_at dksX3_init_2 1 rfl rfl)
theorem dX3_init_49 : decode cX3_init 49 = .ok (.newarray .int, 2) := dk_188_10 (dk_at dksX3_init_2 2 rfl rfl)
theorem dX3_init_51 : decode cX3_init 51 = .ok (.dup, 1) := dk_89 (dk_at dksX3_init_2 4 rfl rfl)
theorem dX3_init_52 : decode cX3_init 52 = .ok (.iconst 0, 1) := dk_3 (dk_at dksX3_init_2 5 rfl rfl)
theorem dX3_init_53 : decode cX3_init 53 = .ok (.iconst (-1), 1) := dk_2 (dk_at dksX3_init_2 6 rfl rfl)
theorem dX3_init_54 : decode cX3_init 54 = .ok (.iastore, 1) := dk_79 (dk_at dksX3_init_2 7 rfl rfl)
theorem dX3_init_55 : decode cX3_init 55 = .ok (.dup, 1) := dk_89 (dk_at dksX3_init_2 8 rfl rfl)
theorem dX3_init_56 : decode cX3_init 56 = .ok (.iconst 1, 1) := dk_4 (dk_at dksX3_init_2 9 rfl rfl)
theorem dX3_init_57 : decode cX3_init 57 = .ok (.iconst 1, 1) := dk_4 (dk_at dksX3_init_2 10 rfl rfl)
theorem dX3_init_58 : decode cX3_init 58 = .ok (.iastore, 1) := dk_79 (dk_at dksX3_init_2 11 rfl rfl)
theorem dX3_init_59 : decode cX3_init 59 = .ok (.dup, 1) := dk_89 (dk_at dksX3_init_2 12 rfl rfl)
theorem dX3_init_60 : decode cX3_init 60 = .ok (.iconst 2, 1) := dk_5 (dk_at dksX3_init_2 13 rfl rfl)
theorem dX3_init_61 : decode cX3_init 61 = .ok (.iconst 0, 1) := dk_3 (dk_at dksX3_init_2 14 rfl rfl)
theorem dX3_init_62 : decode cX3_init 62 = .ok (.iastore, 1) := dk_79 (dk_at dksX3_init_2 15 rfl rfl)
theorem dX3_init_63 : decode cX3_init 63 = .ok (.dup, 1) := dk_89 (dk_at dksX3_init_2 16 rfl rfl)
theorem dX3_init_64 : decode cX3_init 64 = .ok (.iconst 3, 1) := dk_6 (dk_at dksX3_init_2 17 rfl rfl)
theorem dX3_init_65 : decode cX3_init 65 = .ok (.iconst 0, 1) := dk_3 (dk_at dksX3_init_2 18 rfl rfl)
theorem dX3_init_66 : decode cX3_init 66 = .ok (.iastore, 1) := dk_79 (dk_at dksX3_init_2 19 rfl rfl)
theorem dX3_init_67 : decode cX3_init 67 = .ok (.putfield 25, 3) := dk_181 0 25 (dk_at dksX3_init_2 20 rfl rfl)
theorem dX3_init_70 : decode cX3_init 70 = .ok (.aload_n 0, 1) := dk_42 (dk_at dksX3_init_2 23 rfl rfl)
theorem dX3_init_71 : decode cX3_init 71 = .ok (.iconst 4, 1) := dk_7 (dk_at dksX3_init_3 0 rfl rfl)
theorem dX3_init_72 : decode cX3_init 72 = .ok (.newarray .int, 2) := dk_188_10 (dk_at dksX3_init_3 1 rfl rfl)
theorem dX3_init_74 : decode cX3_init 74 = .ok (.dup, 1) := dk_89 (dk_at dksX3_init_3 3 rfl rfl)
theorem dX3_init_75 : decode cX3_init 75 = .ok (.iconst 0, 1) := dk_3 (dk_at dksX3_init_3 4 rfl rfl)
theorem dX3_init_76 : decode cX3_init 76 = .ok (.iconst 0, 1) := dk_3 (dk_at dksX3_init_3 5 rfl rfl)
theorem dX3_init_77 : decode cX3_init 77 = .ok (.iastore, 1) := dk_79 (dk_at dksX3_init_3 6 rfl rfl)
theorem dX3_init_78 : decode cX3_init 78 = .ok (.dup, 1) := dk_89 (dk_at dksX3_init_3 7 rfl rfl)
theorem dX3_init_79 : decode cX3_init 79 = .ok (.iconst 1, 1) := dk_4 (dk_at dksX3_init_3 8 rfl rfl)
theorem dX3_init_80 : decode cX3_init 80 = .ok (.iconst 0, 1) := dk_3 (dk_at dksX3_init_3 9 rfl rfl)
theorem dX3_init_81 : decode cX3_init 81 = .ok (.iastore, 1) := dk_79 (dk_at dksX3_init_3 10 rfl rfl)
theorem dX3_init_82 : decode cX3_init 82 = .ok (.dup, 1) := dk_89 (dk_at dksX3_init_3 11 rfl rfl)
theorem dX3_init_83 : decode cX3_init 83 = .ok (.iconst 2, 1) := dk_5 (dk_at dksX3_init_3 12 rfl rfl)
theorem dX3_init_84 : decode cX3_init 84 = .ok (.iconst (-1), 1) := dk_2 (dk_at dksX3_init_3 13 rfl rfl)
theorem dX3_init_85 : decode cX3_init 85 = .ok (.iastore, 1) := dk_79 (dk_at dksX3_init_3 14 rfl rfl)
theorem dX3_init_86 : decode cX3_init 86 = .ok (.dup, 1) := dk_89 (dk_at dksX3_init_3 15 rfl rfl)
theorem dX3_init_87 : decode cX3_init 87 = .ok (.iconst 3, 1) := dk_6 (dk_at dksX3_init_3 16 rfl rfl)
theorem dX3_init_88 : decode cX3_init 88 = .ok (.iconst 1, 1) := dk_4 (dk_at dksX3_init_3 17 rfl rfl)
theorem dX3_init_89 : decode cX3_init 89 = .ok (.iastore, 1) := dk_79 (dk_at dksX3_init_3 18 rfl rfl)
theorem dX3_init_90 : decode cX3_init 90 = .ok (.putfield 28, 3) := dk_181 0 28 (dk_at dksX3_init_3 19 rfl rfl)
theorem dX3_init_93 : decode cX3_init 93 = .ok (.aload_n 0, 1) := dk_42 (dk_at dksX3_init_3 22 rfl rfl)
theorem dX3_init_94 : decode cX3_init 94 = .ok (.sipush 192, 3) := dk_17 0 192 (dk_at dksX3_init_4 0 rfl rfl)
theorem dX3_init_97 : decode cX3_init 97 = .ok (.newarray .int, 2) := dk_188_10 (dk_at dksX3_init_4 3 rfl rfl)
theorem dX3_init_99 : decode cX3_init 99 = .ok (.putfield 31, 3) := dk_181 0 31 (dk_at dksX3_init_4 5 rfl rfl)
theorem dX3_init_102 : decode cX3_init 102 = .ok (.aload_n 0, 1) := dk_42 (dk_at dksX3_init_4 8 rfl rfl)
theorem dX3_init_103 : decode cX3_init 103 = .ok (.sipush 192, 3) := dk_17 0 192 (dk_at dksX3_init_4 9 rfl rfl)
theorem dX3_init_106 : decode cX3_init 106 = .ok (.newarray .boolean, 2) := dk_188_4 (dk_at dksX3_init_4 12 rfl rfl)
theorem dX3_init_108 : decode cX3_init 108 = .ok (.putfield 34, 3) := dk_181 0 34 (dk_at dksX3_init_4 14 rfl rfl)
theorem dX3_init_111 : decode cX3_init 111 = .ok (.aload_n 0, 1) := dk_42 (dk_at dksX3_init_4 17 rfl rfl)
theorem dX3_init_112 : decode cX3_init 112 = .ok (.sipush 192, 3) := dk_17 0 192 (dk_at dksX3_init_4 18 rfl rfl)
theorem dX3_init_115 : decode cX3_init 115 = .ok (.newarray .int, 2) := dk_188_10 (dk_at dksX3_init_4 21 rfl rfl)
theorem dX3_init_117 : decode cX3_init 117 = .ok (.putfield 38, 3) := dk_181 0 38 (dk_at dksX3_init_5 0 rfl rfl)
theorem dX3_init_120 : decode cX3_init 120 = .ok (.aload_n 0, 1) := dk_42 (dk_at dksX3_init_5 3 rfl rfl)
theorem dX3_init_121 : decode cX3_init 121 = .ok (.sipush 192, 3) := dk_17 0 192 (dk_at dksX3_init_5 4 rfl rfl)
theorem dX3_init_124 : decode cX3_init 124 = .ok (.newarray .boolean, 2) := dk_188_4 (dk_at dksX3_init_5 7 rfl rfl)
theorem dX3_init_126 : decode cX3_init 126 = .ok (.putfield 41, 3) := dk_181 0 41 (dk_at dksX3_init_5 9 rfl rfl)
theorem dX3_init_129 : decode cX3_init 129 = .ok (.iconst 0, 1) := dk_3 (dk_at dksX3_init_5 12 rfl rfl)
theorem dX3_init_130 : decode cX3_init 130 = .ok (.istore_n 1, 1) := dk_60 (dk_at dksX3_init_5 13 rfl rfl)
theorem dX3_init_131 : decode cX3_init 131 = .ok (.iload_n 1, 1) := dk_27 (dk_at dksX3_init_5 14 rfl rfl)
theorem dX3_init_132 : decode cX3_init 132 = .ok (.sipush 192, 3) := dk_17 0 192 (dk_at dksX3_init_5 15 rfl rfl)
theorem dX3_init_135 : decode cX3_init 135 = .ok (.if_icmp .ge 17, 3) := dk_162 0 17 (dk_at dksX3_init_5 18 rfl rfl)
theorem dX3_init_138 : decode cX3_init 138 = .ok (.aload_n 0, 1) := dk_42 (dk_at dksX3_init_5 21 rfl rfl)
theorem dX3_init_139 : decode cX3_init 139 = .ok (.getfield 7, 3) := dk_180 0 7 (dk_at dksX3_init_6 0 rfl rfl)
theorem dX3_init_142 : decode cX3_init 142 = .ok (.iload_n 1, 1) := dk_27 (dk_at dksX3_init_6 3 rfl rfl)
theorem dX3_init_143 : decode cX3_init 143 = .ok (.bipush (-2), 2) := dk_16 254 (dk_at dksX3_init_6 4 rfl rfl)
theorem dX3_init_145 : decode cX3_init 145 = .ok (.iastore, 1) := dk_79 (dk_at dksX3_init_6 6 rfl rfl)
theorem dX3_init_146 : decode cX3_init 146 = .ok (.iinc 1 1, 3) := dk_132 1 1 (dk_at dksX3_init_6 7 rfl rfl)
theorem dX3_init_149 : decode cX3_init 149 = .ok (.goto (-18), 3) := dk_167 255 238 (dk_at dksX3_init_6 10 rfl rfl)
theorem dX3_init_152 : decode cX3_init 152 = .ok (.aload_n 0, 1) := dk_42 (dk_at dksX3_init_6 13 rfl rfl)
theorem dX3_init_153 : decode cX3_init 153 = .ok (.getfield 7, 3) := dk_180 0 7 (dk_at dksX3_init_6 14 rfl rfl)
theorem dX3_init_156 : decode cX3_init 156 = .ok (.sipush 252, 3) := dk_17 0 252 (dk_at dksX3_init_6 17 rfl rfl)
theorem dX3_init_159 : decode cX3_init 159 = .ok (.iconst 2, 1) := dk_5 (dk_at dksX3_init_6 20 rfl rfl)
theorem dX3_init_160 : decode cX3_init 160 = .ok (.iastore, 1) := dk_79 (dk_at dksX3_init_6 21 rfl rfl)
theorem dX3_init_161 : decode cX3_init 161 = .ok (.return_, 1) := dk_177 (dk_at dksX3_init_6 22 rfl rfl)
abbrev cX3_thrown : ByteArray := prog_8_method_2_code
def yX3_thrown : MethodName := ⟨RX3, "thrown", "()I"⟩
theorem dX3_thrown_0 : decode cX3_thrown 0 = .ok (.aload_n 0, 1) := by decide +kernel
theorem dX3_thrown_1 : decode cX3_thrown 1 = .ok (.getfield 44, 3) := by decide +kernel
theorem dX3_thrown_4 : decode cX3_thrown 4 = .ok (.ireturn, 1) := by decide +kernel
abbrev cX3_undo : ByteArray := prog_8_method_11_code
def yX3_undo : MethodName := ⟨RX3, "undo", "()I"⟩
def dkwX3_undo_2 : List UInt8 := [42, 180, 0, 56, 172]
abbrev dktX3_undo_2 : List UInt8 := dkwX3_undo_2 ++ []
def dkwX3_undo_1 : List UInt8 := [100, 181, 0, 56, 42, 180, 0, 16, 17, 0, 253, 42, 180, 0, 56, 104, 42, 180, 0, 7, 3, 184, 0, 59]
abbrev dktX3_undo_1 : List UInt8 := dkwX3_undo_1 ++ dktX3_undo_2
def dkwX3_undo_0 : List UInt8 := [42, 3, 181, 0, 44, 42, 180, 0, 56, 154, 0, 9, 42, 4, 182, 0, 63, 172, 42, 89, 180, 0, 56, 4]
abbrev dktX3_undo_0 : List UInt8 := dkwX3_undo_0 ++ dktX3_undo_1
theorem dksX3_undo_0 : cX3_undo.data.toList.drop 0 = dktX3_undo_0 := by decide +kernel
theorem dksX3_undo_1 : cX3_undo.data.toList.drop 24 = dktX3_undo_1 := dk_seg dksX3_undo_0 24 rfl rfl
theorem dksX3_undo_2 : cX3_undo.data.toList.drop 48 = dktX3_undo_2 := dk_seg dksX3_undo_1 24 rfl rfl
theorem dX3_undo_0 : decode cX3_undo 0 = .ok (.aload_n 0, 1) := dk_42 (dk_at dksX3_undo_0 0 rfl rfl)
theorem dX3_undo_1 : decode cX3_undo 1 = .ok (.iconst 0, 1) := dk_3 (dk_at dksX3_undo_0 1 rfl rfl)
theorem dX3_undo_2 : decode cX3_undo 2 = .ok (.putfield 44, 3) := dk_181 0 44 (dk_at dksX3_undo_0 2 rfl rfl)
theorem dX3_undo_5 : decode cX3_undo 5 = .ok (.aload_n 0, 1) := dk_42 (dk_at dksX3_undo_0 5 rfl rfl)
theorem dX3_undo_6 : decode cX3_undo 6 = .ok (.getfield 56, 3) := dk_180 0 56 (dk_at dksX3_undo_0 6 rfl rfl)
theorem dX3_undo_9 : decode cX3_undo 9 = .ok (.ifCond .ne 9, 3) := dk_154 0 9 (dk_at dksX3_undo_0 9 rfl rfl)
theorem dX3_undo_12 : decode cX3_undo 12 = .ok (.aload_n 0, 1) := dk_42 (dk_at dksX3_undo_0 12 rfl rfl)
theorem dX3_undo_13 : decode cX3_undo 13 = .ok (.iconst 1, 1) := dk_4 (dk_at dksX3_undo_0 13 rfl rfl)
theorem dX3_undo_14 : decode cX3_undo 14 = .ok (.invokevirtual 63, 3) := dk_182 0 63 (dk_at dksX3_undo_0 14 rfl rfl)
theorem dX3_undo_17 : decode cX3_undo 17 = .ok (.ireturn, 1) := dk_172 (dk_at dksX3_undo_0 17 rfl rfl)
theorem dX3_undo_18 : decode cX3_undo 18 = .ok (.aload_n 0, 1) := dk_42 (dk_at dksX3_undo_0 18 rfl rfl)
theorem dX3_undo_19 : decode cX3_undo 19 = .ok (.dup, 1) := dk_89 (dk_at dksX3_undo_0 19 rfl rfl)
theorem dX3_undo_20 : decode cX3_undo 20 = .ok (.getfield 56, 3) := dk_180 0 56 (dk_at dksX3_undo_0 20 rfl rfl)
theorem dX3_undo_23 : decode cX3_undo 23 = .ok (.iconst 1, 1) := dk_4 (dk_at dksX3_undo_0 23 rfl rfl)
theorem dX3_undo_24 : decode cX3_undo 24 = .ok (.isub, 1) := dk_100 (dk_at dksX3_undo_1 0 rfl rfl)
theorem dX3_undo_25 : decode cX3_undo 25 = .ok (.putfield 56, 3) := dk_181 0 56 (dk_at dksX3_undo_1 1 rfl rfl)
theorem dX3_undo_28 : decode cX3_undo 28 = .ok (.aload_n 0, 1) := dk_42 (dk_at dksX3_undo_1 4 rfl rfl)
theorem dX3_undo_29 : decode cX3_undo 29 = .ok (.getfield 16, 3) := dk_180 0 16 (dk_at dksX3_undo_1 5 rfl rfl)
theorem dX3_undo_32 : decode cX3_undo 32 = .ok (.sipush 253, 3) := dk_17 0 253 (dk_at dksX3_undo_1 8 rfl rfl)
theorem dX3_undo_35 : decode cX3_undo 35 = .ok (.aload_n 0, 1) := dk_42 (dk_at dksX3_undo_1 11 rfl rfl)
theorem dX3_undo_36 : decode cX3_undo 36 = .ok (.getfield 56, 3) := dk_180 0 56 (dk_at dksX3_undo_1 12 rfl rfl)
theorem dX3_undo_39 : decode cX3_undo 39 = .ok (.imul, 1) := dk_104 (dk_at dksX3_undo_1 15 rfl rfl)
theorem dX3_undo_40 : decode cX3_undo 40 = .ok (.aload_n 0, 1) := dk_42 (dk_at dksX3_undo_1 16 rfl rfl)
theorem dX3_undo_41 : decode cX3_undo 41 = .ok (.getfield 7, 3) := dk_180 0 7 (dk_at dksX3_undo_1 17 rfl rfl)
theorem dX3_undo_44 : decode cX3_undo 44 = .ok (.iconst 0, 1) := dk_3 (dk_at dksX3_undo_1 20 rfl rfl)
theorem dX3_undo_45 : decode cX3_undo 45 = .ok (.invokestatic 59, 3) := dk_184 0 59 (dk_at dksX3_undo_1 21 rfl rfl)
theorem dX3_undo_48 : decode cX3_undo 48 = .ok (.aload_n 0, 1) := dk_42 (dk_at dksX3_undo_2 0 rfl rfl)
theorem dX3_undo_49 : decode cX3_undo 49 = .ok (.getfield 56, 3) := dk_180 0 56 (dk_at dksX3_undo_2 1 rfl rfl)
theorem dX3_undo_52 : decode cX3_undo 52 = .ok (.ireturn, 1) := dk_172 (dk_at dksX3_undo_2 4 rfl rfl)
abbrev cX3_fails : ByteArray := prog_8_method_3_code
def yX3_fails : MethodName := ⟨RX3, "fails", "(I)I"⟩
def dkwX3_fails_0 : List UInt8 := [42, 27, 181, 0, 44, 3, 172]
abbrev dktX3_fails_0 : List UInt8 := dkwX3_fails_0 ++ []
theorem dksX3_fails_0 : cX3_fails.data.toList.drop 0 = dktX3_fails_0 := by decide +kernel
theorem dX3_fails_0 : decode cX3_fails 0 = .ok (.aload_n 0, 1) := dk_42 (dk_at dksX3_fails_0 0 rfl rfl)
theorem dX3_fails_1 : decode cX3_fails 1 = .ok (.iload_n 1, 1) := dk_27 (dk_at dksX3_fails_0 1 rfl rfl)
theorem dX3_fails_2 : decode cX3_fails 2 = .ok (.putfield 44, 3) := dk_181 0 44 (dk_at dksX3_fails_0 2 rfl rfl)
theorem dX3_fails_5 : decode cX3_fails 5 = .ok (.iconst 0, 1) := dk_3 (dk_at dksX3_fails_0 5 rfl rfl)
theorem dX3_fails_6 : decode cX3_fails 6 = .ok (.ireturn, 1) := dk_172 (dk_at dksX3_fails_0 6 rfl rfl)
abbrev cX3_copies : ByteArray := prog_8_method_9_code
def yX3_copies : MethodName := ⟨RX3, "copies", "([II[II)V"⟩
def dkwX3_copies_1 : List UInt8 := [132, 4, 1, 167, 255, 233, 177]
abbrev dktX3_copies_1 : List UInt8 := dkwX3_copies_1 ++ []
def dkwX3_copies_0 : List UInt8 := [3, 54, 4, 21, 4, 17, 0, 253, 162, 0, 21, 44, 29, 21, 4, 96, 42, 27, 21, 4, 96, 46, 79]
abbrev dktX3_copies_0 : List UInt8 := dkwX3_copies_0 ++ dktX3_copies_1
theorem dksX3_copies_0 : cX3_copies.data.toList.drop 0 = dktX3_copies_0 := by decide +kernel
theorem dksX3_copies_1 : cX3_copies.data.toList.drop 23 = dktX3_copies_1 := dk_seg dksX3_copies_0 23 rfl rfl
theorem dX3_copies_0 : decode cX3_copies 0 = .ok (.iconst 0, 1) := dk_3 (dk_at dksX3_copies_0 0 rfl rfl)
theorem dX3_copies_1 : decode cX3_copies 1 = .ok (.istore 4, 2) := dk_54 4 (dk_at dksX3_copies_0 1 rfl rfl)
theorem dX3_copies_3 : decode cX3_copies 3 = .ok (.iload 4, 2) := dk_21 4 (dk_at dksX3_copies_0 3 rfl rfl)
theorem dX3_copies_5 : decode cX3_copies 5 = .ok (.sipush 253, 3) := dk_17 0 253 (dk_at dksX3_copies_0 5 rfl rfl)
theorem dX3_copies_8 : decode cX3_copies 8 = .ok (.if_icmp .ge 21, 3) := dk_162 0 21 (dk_at dksX3_copies_0 8 rfl rfl)
theorem dX3_copies_11 : decode cX3_copies 11 = .ok (.aload_n 2, 1) := dk_44 (dk_at dksX3_copies_0 11 rfl rfl)
theorem dX3_copies_12 : decode cX3_copies 12 = .ok (.iload_n 3, 1) := dk_29 (dk_at dksX3_copies_0 12 rfl rfl)
theorem dX3_copies_13 : decode cX3_copies 13 = .ok (.iload 4, 2) := dk_21 4 (dk_at dksX3_copies_0 13 rfl rfl)
theorem dX3_copies_15 : decode cX3_copies 15 = .ok (.iadd, 1) := dk_96 (dk_at dksX3_copies_0 15 rfl rfl)
theorem dX3_copies_16 : decode cX3_copies 16 = .ok (.aload_n 0, 1) := dk_42 (dk_at dksX3_copies_0 16 rfl rfl)
theorem dX3_copies_17 : decode cX3_copies 17 = .ok (.iload_n 1, 1) := dk_27 (dk_at dksX3_copies_0 17 rfl rfl)
theorem dX3_copies_18 : decode cX3_copies 18 = .ok (.iload 4, 2) := dk_21 4 (dk_at dksX3_copies_0 18 rfl rfl)
theorem dX3_copies_20 : decode cX3_copies 20 = .ok (.iadd, 1) := dk_96 (dk_at dksX3_copies_0 20 rfl rfl)
theorem dX3_copies_21 : decode cX3_copies 21 = .ok (.iaload, 1) := dk_46 (dk_at dksX3_copies_0 21 rfl rfl)
theorem dX3_copies_22 : decode cX3_copies 22 = .ok (.iastore, 1) := dk_79 (dk_at dksX3_copies_0 22 rfl rfl)
theorem dX3_copies_23 : decode cX3_copies 23 = .ok (.iinc 4 1, 3) := dk_132 4 1 (dk_at dksX3_copies_1 0 rfl rfl)
theorem dX3_copies_26 : decode cX3_copies 26 = .ok (.goto (-23), 3) := dk_167 255 233 (dk_at dksX3_copies_1 3 rfl rfl)
theorem dX3_copies_29 : decode cX3_copies 29 = .ok (.return_, 1) := dk_177 (dk_at dksX3_copies_1 6 rfl rfl)
abbrev cX3_room : ByteArray := prog_8_method_32_code
def yX3_room : MethodName := ⟨RX3, "room", "(IIII)I"⟩
def dkwX3_room_8 : List UInt8 := [112, 96, 21, 5, 79, 132, 6, 1, 167, 255, 221, 21, 5, 172]
abbrev dktX3_room_8 : List UInt8 := dkwX3_room_8 ++ []
def dkwX3_room_7 : List UInt8 := [21, 4, 104, 162, 0, 32, 42, 180, 0, 7, 16, 16, 28, 21, 6, 29, 108, 96, 104, 27, 96, 21, 6, 29]
abbrev dktX3_room_7 : List UInt8 := dkwX3_room_7 ++ dktX3_room_8
def dkwX3_room_6 : List UInt8 := [79, 42, 180, 0, 7, 17, 0, 192, 7, 21, 5, 104, 96, 6, 96, 21, 4, 79, 3, 54, 6, 21, 6, 29]
abbrev dktX3_room_6 : List UInt8 := dkwX3_room_6 ++ dktX3_room_7
def dkwX3_room_5 : List UInt8 := [7, 21, 5, 104, 96, 4, 96, 28, 79, 42, 180, 0, 7, 17, 0, 192, 7, 21, 5, 104, 96, 5, 96, 29]
abbrev dktX3_room_5 : List UInt8 := dkwX3_room_5 ++ dktX3_room_6
def dkwX3_room_4 : List UInt8 := [182, 0, 141, 42, 180, 0, 7, 17, 0, 192, 7, 21, 5, 104, 96, 27, 79, 42, 180, 0, 7, 17, 0, 192]
abbrev dktX3_room_4 : List UInt8 := dkwX3_room_4 ++ dktX3_room_5
def dkwX3_room_3 : List UInt8 := [159, 0, 15, 42, 27, 28, 29, 21, 4, 182, 0, 137, 154, 0, 9, 42, 5, 182, 0, 63, 172, 42]
abbrev dktX3_room_3 : List UInt8 := dkwX3_room_3 ++ dktX3_room_4
def dkwX3_room_2 : List UInt8 := [184, 0, 48, 154, 0, 9, 42, 4, 182, 0, 63, 172, 42, 182, 0, 134, 54, 5, 21, 5, 16, 6]
abbrev dktX3_room_2 : List UInt8 := dkwX3_room_2 ++ dktX3_room_3
def dkwX3_room_1 : List UInt8 := [153, 0, 28, 27, 3, 16, 16, 29, 100, 184, 0, 48, 153, 0, 16, 28, 3, 16, 12, 21, 4, 100]
abbrev dktX3_room_1 : List UInt8 := dkwX3_room_1 ++ dktX3_room_2
def dkwX3_room_0 : List UInt8 := [42, 3, 181, 0, 44, 29, 4, 16, 6, 184, 0, 48, 153, 0, 39, 21, 4, 4, 16, 6, 184, 0, 48]
abbrev dktX3_room_0 : List UInt8 := dkwX3_room_0 ++ dktX3_room_1
theorem dksX3_room_0 : cX3_room.data.toList.drop 0 = dktX3_room_0 := by decide +kernel
theorem dksX3_room_1 : cX3_room.data.toList.drop 23 = dktX3_room_1 := dk_seg dksX3_room_0 23 rfl rfl
theorem dksX3_room_2 : cX3_room.data.toList.drop 45 = dktX3_room_2 := dk_seg dksX3_room_1 22 rfl rfl
theorem dksX3_room_3 : cX3_room.data.toList.drop 67 = dktX3_room_3 := dk_seg dksX3_room_2 22 rfl rfl
theorem dksX3_room_4 : cX3_room.data.toList.drop 89 = dktX3_room_4 := dk_seg dksX3_room_3 22 rfl rfl
theorem dksX3_room_5 : cX3_room.data.toList.drop 113 = dktX3_room_5 := dk_seg dksX3_room_4 24 rfl rfl
theorem dksX3_room_6 : cX3_room.data.toList.drop 137 = dktX3_room_6 := dk_seg dksX3_room_5 24 rfl rfl
theorem dksX3_room_7 : cX3_room.data.toList.drop 161 = dktX3_room_7 := dk_seg dksX3_room_6 24 rfl rfl
theorem dksX3_room_8 : cX3_room.data.toList.drop 185 = dktX3_room_8 := dk_seg dksX3_room_7 24 rfl rfl
theorem dX3_room_0 : decode cX3_room 0 = .ok (.aload_n 0, 1) := dk_42 (dk_at dksX3_room_0 0 rfl rfl)
theorem dX3_room_1 : decode cX3_room 1 = .ok (.iconst 0, 1) := dk_3 (dk_at dksX3_room_0 1 rfl rfl)
theorem dX3_room_2 : decode cX3_room 2 = .ok (.putfield 44, 3) := dk_181 0 44 (dk_at dksX3_room_0 2 rfl rfl)
theorem dX3_room_5 : decode cX3_room 5 = .ok (.iload_n 3, 1) := dk_29 (dk_at dksX3_room_0 5 rfl rfl)
theorem dX3_room_6 : decode cX3_room 6 = .ok (.iconst 1, 1) := dk_4 (dk_at dksX3_room_0 6 rfl rfl)
theorem dX3_room_7 : decode cX3_room 7 = .ok (.bipush 6, 2) := dk_16 6 (dk_at dksX3_room_0 7 rfl rfl)
theorem dX3_room_9 : decode cX3_room 9 = .ok (.invokestatic 48, 3) := dk_184 0 48 (dk_at dksX3_room_0 9 rfl rfl)
theorem dX3_room_12 : decode cX3_room 12 = .ok (.ifCond .eq 39, 3) := dk_153 0 39 (dk_at dksX3_room_0 12 rfl rfl)
theorem dX3_room_15 : decode cX3_room 15 = .ok (.iload 4, 2) := dk_21 4 (dk_at dksX3_room_0 15 rfl rfl)
theorem dX3_room_17 : decode cX3_room 17 = .ok (.iconst 1, 1) := dk_4 (dk_at dksX3_room_0 17 rfl rfl)
theorem dX3_room_18 : decode cX3_room 18 = .ok (.bipush 6, 2) := dk_16 6 (dk_at dksX3_room_0 18 rfl rfl)
theorem dX3_room_20 : decode cX3_room 20 = .ok (.invokestatic 48, 3) := dk_184 0 48 (dk_at dksX3_room_0 20 rfl rfl)
theorem dX3_room_23 : decode cX3_room 23 = .ok (.ifCond .eq 28, 3) := dk_153 0 28 (dk_at dksX3_room_1 0 rfl rfl)
theorem dX3_room_26 : decode cX3_room 26 = .ok (.iload_n 1, 1) := dk_27 (dk_at dksX3_room_1 3 rfl rfl)
theorem dX3_room_27 : decode cX3_room 27 = .ok (.iconst 0, 1) := dk_3 (dk_at dksX3_room_1 4 rfl rfl)
theorem dX3_room_28 : decode cX3_room 28 = .ok (.bipush 16, 2) := dk_16 16 (dk_at dksX3_room_1 5 rfl rfl)
theorem dX3_room_30 : decode cX3_room 30 = .ok (.iload_n 3, 1) := dk_29 (dk_at dksX3_room_1 7 rfl rfl)
theorem dX3_room_31 : decode cX3_room 31 = .ok (.isub, 1) := dk_100 (dk_at dksX3_room_1 8 rfl rfl)
theorem dX3_room_32 : decode cX3_room 32 = .ok (.invokestatic 48, 3) := dk_184 0 48 (dk_at dksX3_room_1 9 rfl rfl)
theorem dX3_room_35 : decode cX3_room 35 = .ok (.ifCond .eq 16, 3) := dk_153 0 16 (dk_at dksX3_room_1 12 rfl rfl)
theorem dX3_room_38 : decode cX3_room 38 = .ok (.iload_n 2, 1) := dk_28 (dk_at dksX3_room_1 15 rfl rfl)
theorem dX3_room_39 : decode cX3_room 39 = .ok (.iconst 0, 1) := dk_3 (dk_at dksX3_room_1 16 rfl rfl)
theorem dX3_room_40 : decode cX3_room 40 = .ok (.bipush 12, 2) := dk_16 12 (dk_at dksX3_room_1 17 rfl rfl)
theorem dX3_room_42 : decode cX3_room 42 = .ok (.iload 4, 2) := dk_21 4 (dk_at dksX3_room_1 19 rfl rfl)
theorem dX3_room_44 : decode cX3_room 44 = .ok (.isub, 1) := dk_100 (dk_at dksX3_room_1 21 rfl rfl)
theorem dX3_room_45 : decode cX3_room 45 = .ok (.invokestatic 48, 3) := dk_184 0 48 (dk_at dksX3_room_2 0 rfl rfl)
theorem dX3_room_48 : decode cX3_room 48 = .ok (.ifCond .ne 9, 3) := dk_154 0 9 (dk_at dksX3_room_2 3 rfl rfl)
theorem dX3_room_51 : decode cX3_room 51 = .ok (.aload_n 0, 1) := dk_42 (dk_at dksX3_room_2 6 rfl rfl)
theorem dX3_room_52 : decode cX3_room 52 = .ok (.iconst 1, 1) := dk_4 (dk_at dksX3_room_2 7 rfl rfl)
theorem dX3_room_53 : decode cX3_room 53 = .ok (.invokevirtual 63, 3) := dk_182 0 63 (dk_at dksX3_room_2 8 rfl rfl)
theorem dX3_room_56 : decode cX3_room 56 = .ok (.ireturn, 1) := dk_172 (dk_at dksX3_room_2 11 rfl rfl)
theorem dX3_room_57 : decode cX3_room 57 = .ok (.aload_n 0, 1) := dk_42 (dk_at dksX3_room_2 12 rfl rfl)
theorem dX3_room_58 : decode cX3_room 58 = .ok (.invokevirtual 134, 3) := dk_182 0 134 (dk_at dksX3_room_2 13 rfl rfl)
theorem dX3_room_61 : decode cX3_room 61 = .ok (.istore 5, 2) := dk_54 5 (dk_at dksX3_room_2 16 rfl rfl)
theorem dX3_room_63 : decode cX3_room 63 = .ok (.iload 5, 2) := dk_21 5 (dk_at dksX3_room_2 18 rfl rfl)
theorem dX3_room_65 : decode cX3_room 65 = .ok (.bipush 6, 2) := dk_16 6 (dk_at dksX3_room_2 20 rfl rfl)
theorem dX3_room_67 : decode cX3_room 67 = .ok (.if_icmp .eq 15, 3) := dk_159 0 15 (dk_at dksX3_room_3 0 rfl rfl)
theorem dX3_room_70 : decode cX3_room 70 = .ok (.aload_n 0, 1) := dk_42 (dk_at dksX3_room_3 3 rfl rfl)
theorem dX3_room_71 : decode cX3_room 71 = .ok (.iload_n 1, 1) := dk_27 (dk_at dksX3_room_3 4 rfl rfl)
theorem dX3_room_72 : decode cX3_room 72 = .ok (.iload_n 2, 1) := dk_28 (dk_at dksX3_room_3 5 rfl rfl)
theorem dX3_room_73 : decode cX3_room 73 = .ok (.iload_n 3, 1) := dk_29 (dk_at dksX3_room_3 6 rfl rfl)
theorem dX3_room_74 : decode cX3_room 74 = .ok (.iload 4, 2) := dk_21 4 (dk_at dksX3_room_3 7 rfl rfl)
theorem dX3_room_76 : decode cX3_room 76 = .ok (.invokevirtual 137, 3) := dk_182 0 137 (dk_at dksX3_room_3 9 rfl rfl)
theorem dX3_room_79 : decode cX3_room 79 = .ok (.ifCond .ne 9, 3) := dk_154 0 9 (dk_at dksX3_room_3 12 rfl rfl)
theorem dX3_room_82 : decode cX3_room 82 = .ok (.aload_n 0, 1) := dk_42 (dk_at dksX3_room_3 15 rfl rfl)
theorem dX3_room_83 : decode cX3_room 83 = .ok (.iconst 2, 1) := dk_5 (dk_at dksX3_room_3 16 rfl rfl)
theorem dX3_room_84 : decode cX3_room 84 = .ok (.invokevirtual 63, 3) := dk_182 0 63 (dk_at dksX3_room_3 17 rfl rfl)
theorem dX3_room_87 : decode cX3_room 87 = .ok (.ireturn, 1) := dk_172 (dk_at dksX3_room_3 20 rfl rfl)
theorem dX3_room_88 : decode cX3_room 88 = .ok (.aload_n 0, 1) := dk_42 (dk_at dksX3_room_3 21 rfl rfl)
theorem dX3_room_89 : decode cX3_room 89 = .ok (.invokevirtual 141, 3) := dk_182 0 141 (dk_at dksX3_room_4 0 rfl rfl)
theorem dX3_room_92 : decode cX3_room 92 = .ok (.aload_n 0, 1) := dk_42 (dk_at dksX3_room_4 3 rfl rfl)
theorem dX3_room_93 : decode cX3_room 93 = .ok (.getfield 7, 3) := dk_180 0 7 (dk_at dksX3_room_4 4 rfl rfl)
theorem dX3_room_96 : decode cX3_room 96 = .ok (.sipush 192, 3) := dk_17 0 192 (dk_at dksX3_room_4 7 rfl rfl)
theorem dX3_room_99 : decode cX3_room 99 = .ok (.iconst 4, 1) := dk_7 (dk_at dksX3_room_4 10 rfl rfl)
theorem dX3_room_100 : decode cX3_room 100 = .ok (.iload 5, 2) := dk_21 5 (dk_at dksX3_room_4 11 rfl rfl)
theorem dX3_room_102 : decode cX3_room 102 = .ok (.imul, 1) := dk_104 (dk_at dksX3_room_4 13 rfl rfl)
theorem dX3_room_103 : decode cX3_room 103 = .ok (.iadd, 1) := dk_96 (dk_at dksX3_room_4 14 rfl rfl)
theorem dX3_room_104 : decode cX3_room 104 = .ok (.iload_n 1, 1) := dk_27 (dk_at dksX3_room_4 15 rfl rfl)
theorem dX3_room_105 : decode cX3_room 105 = .ok (.iastore, 1) := dk_79 (dk_at dksX3_room_4 16 rfl rfl)
theorem dX3_room_106 : decode cX3_room 106 = .ok (.aload_n 0, 1) := dk_42 (dk_at dksX3_room_4 17 rfl rfl)
theorem dX3_room_107 : decode cX3_room 107 = .ok (.getfield 7, 3) := dk_180 0 7 (dk_at dksX3_room_4 18 rfl rfl)
theorem dX3_room_110 : decode cX3_room 110 = .ok (.sipush 192, 3) := dk_17 0 192 (dk_at dksX3_room_4 21 rfl rfl)
theorem dX3_room_113 : decode cX3_room 113 = .ok (.iconst 4, 1) := dk_7 (dk_at dksX3_room_5 0 rfl rfl)
theorem dX3_room_114 : decode cX3_room 114 = .ok (.iload 5, 2) := dk_21 5 (dk_at dksX3_room_5 1 rfl rfl)
theorem dX3_room_116 : decode cX3_room 116 = .ok (.imul, 1) := dk_104 (dk_at dksX3_room_5 3 rfl rfl)
theorem dX3_room_117 : decode cX3_room 117 = .ok (.iadd, 1) := dk_96 (dk_at dksX3_room_5 4 rfl rfl)
theorem dX3_room_118 : decode cX3_room 118 = .ok (.iconst 1, 1) := dk_4 (dk_at dksX3_room_5 5 rfl rfl)
theorem dX3_room_119 : decode cX3_room 119 = .ok (.iadd, 1) := dk_96 (dk_at dksX3_room_5 6 rfl rfl)
theorem dX3_room_120 : decode cX3_room 120 = .ok (.iload_n 2, 1) := dk_28 (dk_at dksX3_room_5 7 rfl rfl)
theorem dX3_room_121 : decode cX3_room 121 = .ok (.iastore, 1) := dk_79 (dk_at dksX3_room_5 8 rfl rfl)
theorem dX3_room_122 : decode cX3_room 122 = .ok (.aload_n 0, 1) := dk_42 (dk_at dksX3_room_5 9 rfl rfl)
theorem dX3_room_123 : decode cX3_room 123 = .ok (.getfield 7, 3) := dk_180 0 7 (dk_at dksX3_room_5 10 rfl rfl)
theorem dX3_room_126 : decode cX3_room 126 = .ok (.sipush 192, 3) := dk_17 0 192 (dk_at dksX3_room_5 13 rfl rfl)
theorem dX3_room_129 : decode cX3_room 129 = .ok (.iconst 4, 1) := dk_7 (dk_at dksX3_room_5 16 rfl rfl)
theorem dX3_room_130 : decode cX3_room 130 = .ok (.iload 5, 2) := dk_21 5 (dk_at dksX3_room_5 17 rfl rfl)
theorem dX3_room_132 : decode cX3_room 132 = .ok (.imul, 1) := dk_104 (dk_at dksX3_room_5 19 rfl rfl)
theorem dX3_room_133 : decode cX3_room 133 = .ok (.iadd, 1) := dk_96 (dk_at dksX3_room_5 20 rfl rfl)
theorem dX3_room_134 : decode cX3_room 134 = .ok (.iconst 2, 1) := dk_5 (dk_at dksX3_room_5 21 rfl rfl)
theorem dX3_room_135 : decode cX3_room 135 = .ok (.iadd, 1) := dk_96 (dk_at dksX3_room_5 22 rfl rfl)
theorem dX3_room_136 : decode cX3_room 136 = .ok (.iload_n 3, 1) := dk_29 (dk_at dksX3_room_5 23 rfl rfl)
theorem dX3_room_137 : decode cX3_room 137 = .ok (.iastore, 1) := dk_79 (dk_at dksX3_room_6 0 rfl rfl)
theorem dX3_room_138 : decode cX3_room 138 = .ok (.aload_n 0, 1) := dk_42 (dk_at dksX3_room_6 1 rfl rfl)
theorem dX3_room_139 : decode cX3_room 139 = .ok (.getfield 7, 3) := dk_180 0 7 (dk_at dksX3_room_6 2 rfl rfl)
theorem dX3_room_142 : decode cX3_room 142 = .ok (.sipush 192, 3) := dk_17 0 192 (dk_at dksX3_room_6 5 rfl rfl)
theorem dX3_room_145 : decode cX3_room 145 = .ok (.iconst 4, 1) := dk_7 (dk_at dksX3_room_6 8 rfl rfl)
theorem dX3_room_146 : decode cX3_room 146 = .ok (.iload 5, 2) := dk_21 5 (dk_at dksX3_room_6 9 rfl rfl)
theorem dX3_room_148 : decode cX3_room 148 = .ok (.imul, 1) := dk_104 (dk_at dksX3_room_6 11 rfl rfl)
theorem dX3_room_149 : decode cX3_room 149 = .ok (.iadd, 1) := dk_96 (dk_at dksX3_room_6 12 rfl rfl)
theorem dX3_room_150 : decode cX3_room 150 = .ok (.iconst 3, 1) := dk_6 (dk_at dksX3_room_6 13 rfl rfl)
theorem dX3_room_151 : decode cX3_room 151 = .ok (.iadd, 1) := dk_96 (dk_at dksX3_room_6 14 rfl rfl)
theorem dX3_room_152 : decode cX3_room 152 = .ok (.iload 4, 2) := dk_21 4 (dk_at dksX3_room_6 15 rfl rfl)
theorem dX3_room_154 : decode cX3_room 154 = .ok (.iastore, 1) := dk_79 (dk_at dksX3_room_6 17 rfl rfl)
theorem dX3_room_155 : decode cX3_room 155 = .ok (.iconst 0, 1) := dk_3 (dk_at dksX3_room_6 18 rfl rfl)
theorem dX3_room_156 : decode cX3_room 156 = .ok (.istore 6, 2) := dk_54 6 (dk_at dksX3_room_6 19 rfl rfl)
theorem dX3_room_158 : decode cX3_room 158 = .ok (.iload 6, 2) := dk_21 6 (dk_at dksX3_room_6 21 rfl rfl)
theorem dX3_room_160 : decode cX3_room 160 = .ok (.iload_n 3, 1) := dk_29 (dk_at dksX3_room_6 23 rfl rfl)
theorem dX3_room_161 : decode cX3_room 161 = .ok (.iload 4, 2) := dk_21 4 (dk_at dksX3_room_7 0 rfl rfl)
theorem dX3_room_163 : decode cX3_room 163 = .ok (.imul, 1) := dk_104 (dk_at dksX3_room_7 2 rfl rfl)
theorem dX3_room_164 : decode cX3_room 164 = .ok (.if_icmp .ge 32, 3) := dk_162 0 32 (dk_at dksX3_room_7 3 rfl rfl)
theorem dX3_room_167 : decode cX3_room 167 = .ok (.aload_n 0, 1) := dk_42 (dk_at dksX3_room_7 6 rfl rfl)
theorem dX3_room_168 : decode cX3_room 168 = .ok (.getfield 7, 3) := dk_180 0 7 (dk_at dksX3_room_7 7 rfl rfl)
theorem dX3_room_171 : decode cX3_room 171 = .ok (.bipush 16, 2) := dk_16 16 (dk_at dksX3_room_7 10 rfl rfl)
theorem dX3_room_173 : decode cX3_room 173 = .ok (.iload_n 2, 1) := dk_28 (dk_at dksX3_room_7 12 rfl rfl)
theorem dX3_room_174 : decode cX3_room 174 = .ok (.iload 6, 2) := dk_21 6 (dk_at dksX3_room_7 13 rfl rfl)
theorem dX3_room_176 : decode cX3_room 176 = .ok (.iload_n 3, 1) := dk_29 (dk_at dksX3_room_7 15 rfl rfl)
theorem dX3_room_177 : decode cX3_room 177 = .ok (.idiv, 1) := dk_108 (dk_at dksX3_room_7 16 rfl rfl)
theorem dX3_room_178 : decode cX3_room 178 = .ok (.iadd, 1) := dk_96 (dk_at dksX3_room_7 17 rfl rfl)
theorem dX3_room_179 : decode cX3_room 179 = .ok (.imul, 1) := dk_104 (dk_at dksX3_room_7 18 rfl rfl)
theorem dX3_room_180 : decode cX3_room 180 = .ok (.iload_n 1, 1) := dk_27 (dk_at dksX3_room_7 19 rfl rfl)
theorem dX3_room_181 : decode cX3_room 181 = .ok (.iadd, 1) := dk_96 (dk_at dksX3_room_7 20 rfl rfl)
theorem dX3_room_182 : decode cX3_room 182 = .ok (.iload 6, 2) := dk_21 6 (dk_at dksX3_room_7 21 rfl rfl)
theorem dX3_room_184 : decode cX3_room 184 = .ok (.iload_n 3, 1) := dk_29 (dk_at dksX3_room_7 23 rfl rfl)
theorem dX3_room_185 : decode cX3_room 185 = .ok (.irem, 1) := dk_112 (dk_at dksX3_room_8 0 rfl rfl)
theorem dX3_room_186 : decode cX3_room 186 = .ok (.iadd, 1) := dk_96 (dk_at dksX3_room_8 1 rfl rfl)
theorem dX3_room_187 : decode cX3_room 187 = .ok (.iload 5, 2) := dk_21 5 (dk_at dksX3_room_8 2 rfl rfl)
theorem dX3_room_189 : decode cX3_room 189 = .ok (.iastore, 1) := dk_79 (dk_at dksX3_room_8 4 rfl rfl)
theorem dX3_room_190 : decode cX3_room 190 = .ok (.iinc 6 1, 3) := dk_132 6 1 (dk_at dksX3_room_8 5 rfl rfl)
theorem dX3_room_193 : decode cX3_room 193 = .ok (.goto (-35), 3) := dk_167 255 221 (dk_at dksX3_room_8 8 rfl rfl)
theorem dX3_room_196 : decode cX3_room 196 = .ok (.iload 5, 2) := dk_21 5 (dk_at dksX3_room_8 11 rfl rfl)
theorem dX3_room_198 : decode cX3_room 198 = .ok (.ireturn, 1) := dk_172 (dk_at dksX3_room_8 13 rfl rfl)
abbrev cX3_in : ByteArray := prog_8_method_4_code
def yX3_in : MethodName := ⟨RX3, "in", "(III)Z"⟩
def dkwX3_in_0 : List UInt8 := [26, 27, 161, 0, 12, 26, 28, 163, 0, 7, 4, 167, 0, 4, 3, 172]
abbrev dktX3_in_0 : List UInt8 := dkwX3_in_0 ++ []
theorem dksX3_in_0 : cX3_in.data.toList.drop 0 = dktX3_in_0 := by decide +kernel
theorem dX3_in_0 : decode cX3_in 0 = .ok (.iload_n 0, 1) := dk_26 (dk_at dksX3_in_0 0 rfl rfl)
theorem dX3_in_1 : decode cX3_in 1 = .ok (.iload_n 1, 1) := dk_27 (dk_at dksX3_in_0 1 rfl rfl)
theorem dX3_in_2 : decode cX3_in 2 = .ok (.if_icmp .lt 12, 3) := dk_161 0 12 (dk_at dksX3_in_0 2 rfl rfl)
theorem dX3_in_5 : decode cX3_in 5 = .ok (.iload_n 0, 1) := dk_26 (dk_at dksX3_in_0 5 rfl rfl)
theorem dX3_in_6 : decode cX3_in 6 = .ok (.iload_n 2, 1) := dk_28 (dk_at dksX3_in_0 6 rfl rfl)
theorem dX3_in_7 : decode cX3_in 7 = .ok (.if_icmp .gt 7, 3) := dk_163 0 7 (dk_at dksX3_in_0 7 rfl rfl)
theorem dX3_in_10 : decode cX3_in 10 = .ok (.iconst 1, 1) := dk_4 (dk_at dksX3_in_0 10 rfl rfl)
theorem dX3_in_11 : decode cX3_in 11 = .ok (.goto 4, 3) := dk_167 0 4 (dk_at dksX3_in_0 11 rfl rfl)
theorem dX3_in_14 : decode cX3_in 14 = .ok (.iconst 0, 1) := dk_3 (dk_at dksX3_in_0 14 rfl rfl)
theorem dX3_in_15 : decode cX3_in 15 = .ok (.ireturn, 1) := dk_172 (dk_at dksX3_in_0 15 rfl rfl)
abbrev cX3_free : ByteArray := prog_8_method_31_code
def yX3_free : MethodName := ⟨RX3, "free", "()I"⟩
def dkwX3_free_1 : List UInt8 := [167, 255, 236, 27, 172]
abbrev dktX3_free_1 : List UInt8 := dkwX3_free_1 ++ []
def dkwX3_free_0 : List UInt8 := [3, 60, 27, 16, 6, 162, 0, 20, 42, 180, 0, 7, 27, 184, 0, 126, 153, 0, 9, 132, 1, 1]
abbrev dktX3_free_0 : List UInt8 := dkwX3_free_0 ++ dktX3_free_1
theorem dksX3_free_0 : cX3_free.data.toList.drop 0 = dktX3_free_0 := by decide +kernel
theorem dksX3_free_1 : cX3_free.data.toList.drop 22 = dktX3_free_1 := dk_seg dksX3_free_0 22 rfl rfl
theorem dX3_free_0 : decode cX3_free 0 = .ok (.iconst 0, 1) := dk_3 (dk_at dksX3_free_0 0 rfl rfl)
theorem dX3_free_1 : decode cX3_free 1 = .ok (.istore_n 1, 1) := dk_60 (dk_at dksX3_free_0 1 rfl rfl)
theorem dX3_free_2 : decode cX3_free 2 = .ok (.iload_n 1, 1) := dk_27 (dk_at dksX3_free_0 2 rfl rfl)
theorem dX3_free_3 : decode cX3_free 3 = .ok (.bipush 6, 2) := dk_16 6 (dk_at dksX3_free_0 3 rfl rfl)
theorem dX3_free_5 : decode cX3_free 5 = .ok (.if_icmp .ge 20, 3) := dk_162 0 20 (dk_at dksX3_free_0 5 rfl rfl)
theorem dX3_free_8 : decode cX3_free 8 = .ok (.aload_n 0, 1) := dk_42 (dk_at dksX3_free_0 8 rfl rfl)
theorem dX3_free_9 : decode cX3_free 9 = .ok (.getfield 7, 3) := dk_180 0 7 (dk_at dksX3_free_0 9 rfl rfl)
theorem dX3_free_12 : decode cX3_free 12 = .ok (.iload_n 1, 1) := dk_27 (dk_at dksX3_free_0 12 rfl rfl)
theorem dX3_free_13 : decode cX3_free 13 = .ok (.invokestatic 126, 3) := dk_184 0 126 (dk_at dksX3_free_0 13 rfl rfl)
theorem dX3_free_16 : decode cX3_free 16 = .ok (.ifCond .eq 9, 3) := dk_153 0 9 (dk_at dksX3_free_0 16 rfl rfl)
theorem dX3_free_19 : decode cX3_free 19 = .ok (.iinc 1 1, 3) := dk_132 1 1 (dk_at dksX3_free_0 19 rfl rfl)
theorem dX3_free_22 : decode cX3_free 22 = .ok (.goto (-20), 3) := dk_167 255 236 (dk_at dksX3_free_1 0 rfl rfl)
theorem dX3_free_25 : decode cX3_free 25 = .ok (.iload_n 1, 1) := dk_27 (dk_at dksX3_free_1 3 rfl rfl)
theorem dX3_free_26 : decode cX3_free 26 = .ok (.ireturn, 1) := dk_172 (dk_at dksX3_free_1 4 rfl rfl)
abbrev cX3_isThere : ByteArray := prog_8_method_7_code
def yX3_isThere : MethodName := ⟨RX3, "isThere", "([II)Z"⟩
def dkwX3_isThere_0 : List UInt8 := [27, 3, 8, 184, 0, 48, 153, 0, 16, 42, 27, 5, 184, 0, 52, 158, 0, 7, 4, 167, 0, 4, 3, 172]
abbrev dktX3_isThere_0 : List UInt8 := dkwX3_isThere_0 ++ []
theorem dksX3_isThere_0 : cX3_isThere.data.toList.drop 0 = dktX3_isThere_0 := by decide +kernel
theorem dX3_isThere_0 : decode cX3_isThere 0 = .ok (.iload_n 1, 1) := dk_27 (dk_at dksX3_isThere_0 0 rfl rfl)
theorem dX3_isThere_1 : decode cX3_isThere 1 = .ok (.iconst 0, 1) := dk_3 (dk_at dksX3_isThere_0 1 rfl rfl)
theorem dX3_isThere_2 : decode cX3_isThere 2 = .ok (.iconst 5, 1) := dk_8 (dk_at dksX3_isThere_0 2 rfl rfl)
theorem dX3_isThere_3 : decode cX3_isThere 3 = .ok (.invokestatic 48, 3) := dk_184 0 48 (dk_at dksX3_isThere_0 3 rfl rfl)
theorem dX3_isThere_6 : decode cX3_isThere 6 = .ok (.ifCond .eq 16, 3) := dk_153 0 16 (dk_at dksX3_isThere_0 6 rfl rfl)
theorem dX3_isThere_9 : decode cX3_isThere 9 = .ok (.aload_n 0, 1) := dk_42 (dk_at dksX3_isThere_0 9 rfl rfl)
theorem dX3_isThere_10 : decode cX3_isThere 10 = .ok (.iload_n 1, 1) := dk_27 (dk_at dksX3_isThere_0 10 rfl rfl)
theorem dX3_isThere_11 : decode cX3_isThere 11 = .ok (.iconst 2, 1) := dk_5 (dk_at dksX3_isThere_0 11 rfl rfl)
theorem dX3_isThere_12 : decode cX3_isThere 12 = .ok (.invokestatic 52, 3) := dk_184 0 52 (dk_at dksX3_isThere_0 12 rfl rfl)
theorem dX3_isThere_15 : decode cX3_isThere 15 = .ok (.ifCond .le 7, 3) := dk_158 0 7 (dk_at dksX3_isThere_0 15 rfl rfl)
theorem dX3_isThere_18 : decode cX3_isThere 18 = .ok (.iconst 1, 1) := dk_4 (dk_at dksX3_isThere_0 18 rfl rfl)
theorem dX3_isThere_19 : decode cX3_isThere 19 = .ok (.goto 4, 3) := dk_167 0 4 (dk_at dksX3_isThere_0 19 rfl rfl)
theorem dX3_isThere_22 : decode cX3_isThere 22 = .ok (.iconst 0, 1) := dk_3 (dk_at dksX3_isThere_0 22 rfl rfl)
theorem dX3_isThere_23 : decode cX3_isThere 23 = .ok (.ireturn, 1) := dk_172 (dk_at dksX3_isThere_0 23 rfl rfl)
abbrev cX3_of : ByteArray := prog_8_method_6_code
def yX3_of : MethodName := ⟨RX3, "of", "([III)I"⟩
def dkwX3_of_0 : List UInt8 := [42, 17, 0, 192, 7, 27, 104, 96, 28, 96, 46, 172]
abbrev dktX3_of_0 : List UInt8 := dkwX3_of_0 ++ []
theorem dksX3_of_0 : cX3_of.data.toList.drop 0 = dktX3_of_0 := by decide +kernel
theorem dX3_of_0 : decode cX3_of 0 = .ok (.aload_n 0, 1) := dk_42 (dk_at dksX3_of_0 0 rfl rfl)
theorem dX3_of_1 : decode cX3_of 1 = .ok (.sipush 192, 3) := dk_17 0 192 (dk_at dksX3_of_0 1 rfl rfl)
theorem dX3_of_4 : decode cX3_of 4 = .ok (.iconst 4, 1) := dk_7 (dk_at dksX3_of_0 4 rfl rfl)
theorem dX3_of_5 : decode cX3_of 5 = .ok (.iload_n 1, 1) := dk_27 (dk_at dksX3_of_0 5 rfl rfl)
theorem dX3_of_6 : decode cX3_of 6 = .ok (.imul, 1) := dk_104 (dk_at dksX3_of_0 6 rfl rfl)
theorem dX3_of_7 : decode cX3_of 7 = .ok (.iadd, 1) := dk_96 (dk_at dksX3_of_0 7 rfl rfl)
theorem dX3_of_8 : decode cX3_of 8 = .ok (.iload_n 2, 1) := dk_28 (dk_at dksX3_of_0 8 rfl rfl)
theorem dX3_of_9 : decode cX3_of 9 = .ok (.iadd, 1) := dk_96 (dk_at dksX3_of_0 9 rfl rfl)
theorem dX3_of_10 : decode cX3_of 10 = .ok (.iaload, 1) := dk_46 (dk_at dksX3_of_0 10 rfl rfl)
theorem dX3_of_11 : decode cX3_of 11 = .ok (.ireturn, 1) := dk_172 (dk_at dksX3_of_0 11 rfl rfl)
abbrev cX3_canBe : ByteArray := prog_8_method_30_code
def yX3_canBe : MethodName := ⟨RX3, "canBe", "(IIII)Z"⟩
def dkwX3_canBe_5 : List UInt8 := [96, 184, 0, 74, 3, 8, 184, 0, 48, 153, 0, 5, 3, 172, 132, 5, 1, 167, 255, 124, 4, 172]
abbrev dktX3_canBe_5 : List UInt8 := dkwX3_canBe_5 ++ []
def dkwX3_canBe_4 : List UInt8 := [21, 7, 4, 100, 184, 0, 74, 3, 8, 184, 0, 48, 154, 0, 24, 42, 180, 0, 7, 21, 6, 21, 7, 4]
abbrev dktX3_canBe_4 : List UInt8 := dkwX3_canBe_4 ++ dktX3_canBe_5
def dkwX3_canBe_3 : List UInt8 := [21, 6, 4, 96, 21, 7, 184, 0, 74, 3, 8, 184, 0, 48, 154, 0, 45, 42, 180, 0, 7, 21, 6]
abbrev dktX3_canBe_3 : List UInt8 := dkwX3_canBe_3 ++ dktX3_canBe_4
def dkwX3_canBe_2 : List UInt8 := [180, 0, 7, 21, 6, 4, 100, 21, 7, 184, 0, 74, 3, 8, 184, 0, 48, 154, 0, 66, 42, 180, 0, 7]
abbrev dktX3_canBe_2 : List UInt8 := dkwX3_canBe_2 ++ dktX3_canBe_3
def dkwX3_canBe_1 : List UInt8 := [108, 96, 54, 7, 42, 180, 0, 7, 21, 6, 21, 7, 184, 0, 74, 16, 254, 159, 0, 5, 3, 172, 42]
abbrev dktX3_canBe_1 : List UInt8 := dkwX3_canBe_1 ++ dktX3_canBe_2
def dkwX3_canBe_0 : List UInt8 := [3, 54, 5, 21, 5, 29, 21, 4, 104, 162, 0, 129, 27, 21, 5, 29, 112, 96, 54, 6, 28, 21, 5, 29]
abbrev dktX3_canBe_0 : List UInt8 := dkwX3_canBe_0 ++ dktX3_canBe_1
theorem dksX3_canBe_0 : cX3_canBe.data.toList.drop 0 = dktX3_canBe_0 := by decide +kernel
theorem dksX3_canBe_1 : cX3_canBe.data.toList.drop 24 = dktX3_canBe_1 := dk_seg dksX3_canBe_0 24 rfl rfl
theorem dksX3_canBe_2 : cX3_canBe.data.toList.drop 47 = dktX3_canBe_2 := dk_seg dksX3_canBe_1 23 rfl rfl
theorem dksX3_canBe_3 : cX3_canBe.data.toList.drop 71 = dktX3_canBe_3 := dk_seg dksX3_canBe_2 24 rfl rfl
theorem dksX3_canBe_4 : cX3_canBe.data.toList.drop 94 = dktX3_canBe_4 := dk_seg dksX3_canBe_3 23 rfl rfl
theorem dksX3_canBe_5 : cX3_canBe.data.toList.drop 118 = dktX3_canBe_5 := dk_seg dksX3_canBe_4 24 rfl rfl
theorem dX3_canBe_0 : decode cX3_canBe 0 = .ok (.iconst 0, 1) := dk_3 (dk_at dksX3_canBe_0 0 rfl rfl)
theorem dX3_canBe_1 : decode cX3_canBe 1 = .ok (.istore 5, 2) := dk_54 5 (dk_at dksX3_canBe_0 1 rfl rfl)
theorem dX3_canBe_3 : decode cX3_canBe 3 = .ok (.iload 5, 2) := dk_21 5 (dk_at dksX3_canBe_0 3 rfl rfl)
theorem dX3_canBe_5 : decode cX3_canBe 5 = .ok (.iload_n 3, 1) := dk_29 (dk_at dksX3_canBe_0 5 rfl rfl)
theorem dX3_canBe_6 : decode cX3_canBe 6 = .ok (.iload 4, 2) := dk_21 4 (dk_at dksX3_canBe_0 6 rfl rfl)
theorem dX3_canBe_8 : decode cX3_canBe 8 = .ok (.imul, 1) := dk_104 (dk_at dksX3_canBe_0 8 rfl rfl)
theorem dX3_canBe_9 : decode cX3_canBe 9 = .ok (.if_icmp .ge 129, 3) := dk_162 0 129 (dk_at dksX3_canBe_0 9 rfl rfl)
theorem dX3_canBe_12 : decode cX3_canBe 12 = .ok (.iload_n 1, 1) := dk_27 (dk_at dksX3_canBe_0 12 rfl rfl)
theorem dX3_canBe_13 : decode cX3_canBe 13 = .ok (.iload 5, 2) := dk_21 5 (dk_at dksX3_canBe_0 13 rfl rfl)
theorem dX3_canBe_15 : decode cX3_canBe 15 = .ok (.iload_n 3, 1) := dk_29 (dk_at dksX3_canBe_0 15 rfl rfl)
theorem dX3_canBe_16 : decode cX3_canBe 16 = .ok (.irem, 1) := dk_112 (dk_at dksX3_canBe_0 16 rfl rfl)
theorem dX3_canBe_17 : decode cX3_canBe 17 = .ok (.iadd, 1) := dk_96 (dk_at dksX3_canBe_0 17 rfl rfl)
theorem dX3_canBe_18 : decode cX3_canBe 18 = .ok (.istore 6, 2) := dk_54 6 (dk_at dksX3_canBe_0 18 rfl rfl)
theorem dX3_canBe_20 : decode cX3_canBe 20 = .ok (.iload_n 2, 1) := dk_28 (dk_at dksX3_canBe_0 20 rfl rfl)
theorem dX3_canBe_21 : decode cX3_canBe 21 = .ok (.iload 5, 2) := dk_21 5 (dk_at dksX3_canBe_0 21 rfl rfl)
theorem dX3_canBe_23 : decode cX3_canBe 23 = .ok (.iload_n 3, 1) := dk_29 (dk_at dksX3_canBe_0 23 rfl rfl)
theorem dX3_canBe_24 : decode cX3_canBe 24 = .ok (.idiv, 1) := dk_108 (dk_at dksX3_canBe_1 0 rfl rfl)
theorem dX3_canBe_25 : decode cX3_canBe 25 = .ok (.iadd, 1) := dk_96 (dk_at dksX3_canBe_1 1 rfl rfl)
theorem dX3_canBe_26 : decode cX3_canBe 26 = .ok (.istore 7, 2) := dk_54 7 (dk_at dksX3_canBe_1 2 rfl rfl)
theorem dX3_canBe_28 : decode cX3_canBe 28 = .ok (.aload_n 0, 1) := dk_42 (dk_at dksX3_canBe_1 4 rfl rfl)
theorem dX3_canBe_29 : decode cX3_canBe 29 = .ok (.getfield 7, 3) := dk_180 0 7 (dk_at dksX3_canBe_1 5 rfl rfl)
theorem dX3_canBe_32 : decode cX3_canBe 32 = .ok (.iload 6, 2) := dk_21 6 (dk_at dksX3_canBe_1 8 rfl rfl)
theorem dX3_canBe_34 : decode cX3_canBe 34 = .ok (.iload 7, 2) := dk_21 7 (dk_at dksX3_canBe_1 10 rfl rfl)
theorem dX3_canBe_36 : decode cX3_canBe 36 = .ok (.invokestatic 74, 3) := dk_184 0 74 (dk_at dksX3_canBe_1 12 rfl rfl)
theorem dX3_canBe_39 : decode cX3_canBe 39 = .ok (.bipush (-2), 2) := dk_16 254 (dk_at dksX3_canBe_1 15 rfl rfl)
theorem dX3_canBe_41 : decode cX3_canBe 41 = .ok (.if_icmp .eq 5, 3) := dk_159 0 5 (dk_at dksX3_canBe_1 17 rfl rfl)
theorem dX3_canBe_44 : decode cX3_canBe 44 = .ok (.iconst 0, 1) := dk_3 (dk_at dksX3_canBe_1 20 rfl rfl)
theorem dX3_canBe_45 : decode cX3_canBe 45 = .ok (.ireturn, 1) := dk_172 (dk_at dksX3_canBe_1 21 rfl rfl)
theorem dX3_canBe_46 : decode cX3_canBe 46 = .ok (.aload_n 0, 1) := dk_42 (dk_at dksX3_canBe_1 22 rfl rfl)
theorem dX3_canBe_47 : decode cX3_canBe 47 = .ok (.getfield 7, 3) := dk_180 0 7 (dk_at dksX3_canBe_2 0 rfl rfl)
theorem dX3_canBe_50 : decode cX3_canBe 50 = .ok (.iload 6, 2) := dk_21 6 (dk_at dksX3_canBe_2 3 rfl rfl)
theorem dX3_canBe_52 : decode cX3_canBe 52 = .ok (.iconst 1, 1) := dk_4 (dk_at dksX3_canBe_2 5 rfl rfl)
theorem dX3_canBe_53 : decode cX3_canBe 53 = .ok (.isub, 1) := dk_100 (dk_at dksX3_canBe_2 6 rfl rfl)
theorem dX3_canBe_54 : decode cX3_canBe 54 = .ok (.iload 7, 2) := dk_21 7 (dk_at dksX3_canBe_2 7 rfl rfl)
theorem dX3_canBe_56 : decode cX3_canBe 56 = .ok (.invokestatic 74, 3) := dk_184 0 74 (dk_at dksX3_canBe_2 9 rfl rfl)
theorem dX3_canBe_59 : decode cX3_canBe 59 = .ok (.iconst 0, 1) := dk_3 (dk_at dksX3_canBe_2 12 rfl rfl)
theorem dX3_canBe_60 : decode cX3_canBe 60 = .ok (.iconst 5, 1) := dk_8 (dk_at dksX3_canBe_2 13 rfl rfl)
theorem dX3_canBe_61 : decode cX3_canBe 61 = .ok (.invokestatic 48, 3) := dk_184 0 48 (dk_at dksX3_canBe_2 14 rfl rfl)
theorem dX3_canBe_64 : decode cX3_canBe 64 = .ok (.ifCond .ne 66, 3) := dk_154 0 66 (dk_at dksX3_canBe_2 17 rfl rfl)
theorem dX3_canBe_67 : decode cX3_canBe 67 = .ok (.aload_n 0, 1) := dk_42 (dk_at dksX3_canBe_2 20 rfl rfl)
theorem dX3_canBe_68 : decode cX3_canBe 68 = .ok (.getfield 7, 3) := dk_180 0 7 (dk_at dksX3_canBe_2 21 rfl rfl)
theorem dX3_canBe_71 : decode cX3_canBe 71 = .ok (.iload 6, 2) := dk_21 6 (dk_at dksX3_canBe_3 0 rfl rfl)
theorem dX3_canBe_73 : decode cX3_canBe 73 = .ok (.iconst 1, 1) := dk_4 (dk_at dksX3_canBe_3 2 rfl rfl)
theorem dX3_canBe_74 : decode cX3_canBe 74 = .ok (.iadd, 1) := dk_96 (dk_at dksX3_canBe_3 3 rfl rfl)
theorem dX3_canBe_75 : decode cX3_canBe 75 = .ok (.iload 7, 2) := dk_21 7 (dk_at dksX3_canBe_3 4 rfl rfl)
theorem dX3_canBe_77 : decode cX3_canBe 77 = .ok (.invokestatic 74, 3) := dk_184 0 74 (dk_at dksX3_canBe_3 6 rfl rfl)
theorem dX3_canBe_80 : decode cX3_canBe 80 = .ok (.iconst 0, 1) := dk_3 (dk_at dksX3_canBe_3 9 rfl rfl)
theorem dX3_canBe_81 : decode cX3_canBe 81 = .ok (.iconst 5, 1) := dk_8 (dk_at dksX3_canBe_3 10 rfl rfl)
theorem dX3_canBe_82 : decode cX3_canBe 82 = .ok (.invokestatic 48, 3) := dk_184 0 48 (dk_at dksX3_canBe_3 11 rfl rfl)
theorem dX3_canBe_85 : decode cX3_canBe 85 = .ok (.ifCond .ne 45, 3) := dk_154 0 45 (dk_at dksX3_canBe_3 14 rfl rfl)
theorem dX3_canBe_88 : decode cX3_canBe 88 = .ok (.aload_n 0, 1) := dk_42 (dk_at dksX3_canBe_3 17 rfl rfl)
theorem dX3_canBe_89 : decode cX3_canBe 89 = .ok (.getfield 7, 3) := dk_180 0 7 (dk_at dksX3_canBe_3 18 rfl rfl)
theorem dX3_canBe_92 : decode cX3_canBe 92 = .ok (.iload 6, 2) := dk_21 6 (dk_at dksX3_canBe_3 21 rfl rfl)
theorem dX3_canBe_94 : decode cX3_canBe 94 = .ok (.iload 7, 2) := dk_21 7 (dk_at dksX3_canBe_4 0 rfl rfl)
theorem dX3_canBe_96 : decode cX3_canBe 96 = .ok (.iconst 1, 1) := dk_4 (dk_at dksX3_canBe_4 2 rfl rfl)
theorem dX3_canBe_97 : decode cX3_canBe 97 = .ok (.isub, 1) := dk_100 (dk_at dksX3_canBe_4 3 rfl rfl)
theorem dX3_canBe_98 : decode cX3_canBe 98 = .ok (.invokestatic 74, 3) := dk_184 0 74 (dk_at dksX3_canBe_4 4 rfl rfl)
theorem dX3_canBe_101 : decode cX3_canBe 101 = .ok (.iconst 0, 1) := dk_3 (dk_at dksX3_canBe_4 7 rfl rfl)
theorem dX3_canBe_102 : decode cX3_canBe 102 = .ok (.iconst 5, 1) := dk_8 (dk_at dksX3_canBe_4 8 rfl rfl)
theorem dX3_canBe_103 : decode cX3_canBe 103 = .ok (.invokestatic 48, 3) := dk_184 0 48 (dk_at dksX3_canBe_4 9 rfl rfl)
theorem dX3_canBe_106 : decode cX3_canBe 106 = .ok (.ifCond .ne 24, 3) := dk_154 0 24 (dk_at dksX3_canBe_4 12 rfl rfl)
theorem dX3_canBe_109 : decode cX3_canBe 109 = .ok (.aload_n 0, 1) := dk_42 (dk_at dksX3_canBe_4 15 rfl rfl)
theorem dX3_canBe_110 : decode cX3_canBe 110 = .ok (.getfield 7, 3) := dk_180 0 7 (dk_at dksX3_canBe_4 16 rfl rfl)
theorem dX3_canBe_113 : decode cX3_canBe 113 = .ok (.iload 6, 2) := dk_21 6 (dk_at dksX3_canBe_4 19 rfl rfl)
theorem dX3_canBe_115 : decode cX3_canBe 115 = .ok (.iload 7, 2) := dk_21 7 (dk_at dksX3_canBe_4 21 rfl rfl)
theorem dX3_canBe_117 : decode cX3_canBe 117 = .ok (.iconst 1, 1) := dk_4 (dk_at dksX3_canBe_4 23 rfl rfl)
theorem dX3_canBe_118 : decode cX3_canBe 118 = .ok (.iadd, 1) := dk_96 (dk_at dksX3_canBe_5 0 rfl rfl)
theorem dX3_canBe_119 : decode cX3_canBe 119 = .ok (.invokestatic 74, 3) := dk_184 0 74 (dk_at dksX3_canBe_5 1 rfl rfl)
theorem dX3_canBe_122 : decode cX3_canBe 122 = .ok (.iconst 0, 1) := dk_3 (dk_at dksX3_canBe_5 4 rfl rfl)
theorem dX3_canBe_123 : decode cX3_canBe 123 = .ok (.iconst 5, 1) := dk_8 (dk_at dksX3_canBe_5 5 rfl rfl)
theorem dX3_canBe_124 : decode cX3_canBe 124 = .ok (.invokestatic 48, 3) := dk_184 0 48 (dk_at dksX3_canBe_5 6 rfl rfl)
theorem dX3_canBe_127 : decode cX3_canBe 127 = .ok (.ifCond .eq 5, 3) := dk_153 0 5 (dk_at dksX3_canBe_5 9 rfl rfl)
theorem dX3_canBe_130 : decode cX3_canBe 130 = .ok (.iconst 0, 1) := dk_3 (dk_at dksX3_canBe_5 12 rfl rfl)
theorem dX3_canBe_131 : decode cX3_canBe 131 = .ok (.ireturn, 1) := dk_172 (dk_at dksX3_canBe_5 13 rfl rfl)
theorem dX3_canBe_132 : decode cX3_canBe 132 = .ok (.iinc 5 1, 3) := dk_132 5 1 (dk_at dksX3_canBe_5 14 rfl rfl)
theorem dX3_canBe_135 : decode cX3_canBe 135 = .ok (.goto (-132), 3) := dk_167 255 124 (dk_at dksX3_canBe_5 17 rfl rfl)
theorem dX3_canBe_138 : decode cX3_canBe 138 = .ok (.iconst 1, 1) := dk_4 (dk_at dksX3_canBe_5 20 rfl rfl)
theorem dX3_canBe_139 : decode cX3_canBe 139 = .ok (.ireturn, 1) := dk_172 (dk_at dksX3_canBe_5 21 rfl rfl)
abbrev cX3_what : ByteArray := prog_8_method_13_code
def yX3_what : MethodName := ⟨RX3, "what", "([III)I"⟩
def dkwX3_what_0 : List UInt8 := [27, 28, 184, 0, 67, 153, 0, 14, 42, 16, 16, 28, 104, 27, 96, 46, 167, 0, 5, 16, 99, 172]
abbrev dktX3_what_0 : List UInt8 := dkwX3_what_0 ++ []
theorem dksX3_what_0 : cX3_what.data.toList.drop 0 = dktX3_what_0 := by decide +kernel
theorem dX3_what_0 : decode cX3_what 0 = .ok (.iload_n 1, 1) := dk_27 (dk_at dksX3_what_0 0 rfl rfl)
theorem dX3_what_1 : decode cX3_what 1 = .ok (.iload_n 2, 1) := dk_28 (dk_at dksX3_what_0 1 rfl rfl)
theorem dX3_what_2 : decode cX3_what 2 = .ok (.invokestatic 67, 3) := dk_184 0 67 (dk_at dksX3_what_0 2 rfl rfl)
theorem dX3_what_5 : decode cX3_what 5 = .ok (.ifCond .eq 14, 3) := dk_153 0 14 (dk_at dksX3_what_0 5 rfl rfl)
theorem dX3_what_8 : decode cX3_what 8 = .ok (.aload_n 0, 1) := dk_42 (dk_at dksX3_what_0 8 rfl rfl)
theorem dX3_what_9 : decode cX3_what 9 = .ok (.bipush 16, 2) := dk_16 16 (dk_at dksX3_what_0 9 rfl rfl)
theorem dX3_what_11 : decode cX3_what 11 = .ok (.iload_n 2, 1) := dk_28 (dk_at dksX3_what_0 11 rfl rfl)
theorem dX3_what_12 : decode cX3_what 12 = .ok (.imul, 1) := dk_104 (dk_at dksX3_what_0 12 rfl rfl)
theorem dX3_what_13 : decode cX3_what 13 = .ok (.iload_n 1, 1) := dk_27 (dk_at dksX3_what_0 13 rfl rfl)
theorem dX3_what_14 : decode cX3_what 14 = .ok (.iadd, 1) := dk_96 (dk_at dksX3_what_0 14 rfl rfl)
theorem dX3_what_15 : decode cX3_what 15 = .ok (.iaload, 1) := dk_46 (dk_at dksX3_what_0 15 rfl rfl)
theorem dX3_what_16 : decode cX3_what 16 = .ok (.goto 5, 3) := dk_167 0 5 (dk_at dksX3_what_0 16 rfl rfl)
theorem dX3_what_19 : decode cX3_what 19 = .ok (.bipush 99, 2) := dk_16 99 (dk_at dksX3_what_0 19 rfl rfl)
theorem dX3_what_21 : decode cX3_what 21 = .ok (.ireturn, 1) := dk_172 (dk_at dksX3_what_0 21 rfl rfl)
abbrev cX3_isSquare : ByteArray := prog_8_method_5_code
def yX3_isSquare : MethodName := ⟨RX3, "isSquare", "(II)Z"⟩
def dkwX3_isSquare_1 : List UInt8 := [3, 172]
abbrev dktX3_isSquare_1 : List UInt8 := dkwX3_isSquare_1 ++ []
def dkwX3_isSquare_0 : List UInt8 := [26, 3, 16, 15, 184, 0, 48, 153, 0, 17, 27, 3, 16, 11, 184, 0, 48, 153, 0, 7, 4, 167, 0, 4]
abbrev dktX3_isSquare_0 : List UInt8 := dkwX3_isSquare_0 ++ dktX3_isSquare_1
theorem dksX3_isSquare_0 : cX3_isSquare.data.toList.drop 0 = dktX3_isSquare_0 := by decide +kernel
theorem dksX3_isSquare_1 : cX3_isSquare.data.toList.drop 24 = dktX3_isSquare_1 := dk_seg dksX3_isSquare_0 24 rfl rfl
theorem dX3_isSquare_0 : decode cX3_isSquare 0 = .ok (.iload_n 0, 1) := dk_26 (dk_at dksX3_isSquare_0 0 rfl rfl)
theorem dX3_isSquare_1 : decode cX3_isSquare 1 = .ok (.iconst 0, 1) := dk_3 (dk_at dksX3_isSquare_0 1 rfl rfl)
theorem dX3_isSquare_2 : decode cX3_isSquare 2 = .ok (.bipush 15, 2) := dk_16 15 (dk_at dksX3_isSquare_0 2 rfl rfl)
theorem dX3_isSquare_4 : decode cX3_isSquare 4 = .ok (.invokestatic 48, 3) := dk_184 0 48 (dk_at dksX3_isSquare_0 4 rfl rfl)
theorem dX3_isSquare_7 : decode cX3_isSquare 7 = .ok (.ifCond .eq 17, 3) := dk_153 0 17 (dk_at dksX3_isSquare_0 7 rfl rfl)
theorem dX3_isSquare_10 : decode cX3_isSquare 10 = .ok (.iload_n 1, 1) := dk_27 (dk_at dksX3_isSquare_0 10 rfl rfl)
theorem dX3_isSquare_11 : decode cX3_isSquare 11 = .ok (.iconst 0, 1) := dk_3 (dk_at dksX3_isSquare_0 11 rfl rfl)
theorem dX3_isSquare_12 : decode cX3_isSquare 12 = .ok (.bipush 11, 2) := dk_16 11 (dk_at dksX3_isSquare_0 12 rfl rfl)
theorem dX3_isSquare_14 : decode cX3_isSquare 14 = .ok (.invokestatic 48, 3) := dk_184 0 48 (dk_at dksX3_isSquare_0 14 rfl rfl)
theorem dX3_isSquare_17 : decode cX3_isSquare 17 = .ok (.ifCond .eq 7, 3) := dk_153 0 7 (dk_at dksX3_isSquare_0 17 rfl rfl)
theorem dX3_isSquare_20 : decode cX3_isSquare 20 = .ok (.iconst 1, 1) := dk_4 (dk_at dksX3_isSquare_0 20 rfl rfl)
theorem dX3_isSquare_21 : decode cX3_isSquare 21 = .ok (.goto 4, 3) := dk_167 0 4 (dk_at dksX3_isSquare_0 21 rfl rfl)
theorem dX3_isSquare_24 : decode cX3_isSquare 24 = .ok (.iconst 0, 1) := dk_3 (dk_at dksX3_isSquare_1 0 rfl rfl)
theorem dX3_isSquare_25 : decode cX3_isSquare 25 = .ok (.ireturn, 1) := dk_172 (dk_at dksX3_isSquare_1 1 rfl rfl)
abbrev cX3_saves : ByteArray := prog_8_method_10_code
def yX3_saves : MethodName := ⟨RX3, "saves", "()V"⟩
def dkwX3_saves_3 : List UInt8 := [89, 180, 0, 56, 4, 96, 181, 0, 56, 177]
abbrev dktX3_saves_3 : List UInt8 := dkwX3_saves_3 ++ []
def dkwX3_saves_2 : List UInt8 := [181, 0, 56, 42, 180, 0, 7, 3, 42, 180, 0, 16, 17, 0, 253, 42, 180, 0, 56, 104, 184, 0, 59, 42]
abbrev dktX3_saves_2 : List UInt8 := dkwX3_saves_2 ++ dktX3_saves_3
def dkwX3_saves_1 : List UInt8 := [180, 0, 16, 27, 17, 0, 253, 96, 46, 79, 132, 1, 1, 167, 255, 230, 42, 89, 180, 0, 56, 4, 100]
abbrev dktX3_saves_1 : List UInt8 := dkwX3_saves_1 ++ dktX3_saves_2
def dkwX3_saves_0 : List UInt8 := [42, 180, 0, 56, 16, 6, 160, 0, 44, 3, 60, 27, 17, 4, 241, 162, 0, 25, 42, 180, 0, 16, 27, 42]
abbrev dktX3_saves_0 : List UInt8 := dkwX3_saves_0 ++ dktX3_saves_1
theorem dksX3_saves_0 : cX3_saves.data.toList.drop 0 = dktX3_saves_0 := by decide +kernel
theorem dksX3_saves_1 : cX3_saves.data.toList.drop 24 = dktX3_saves_1 := dk_seg dksX3_saves_0 24 rfl rfl
theorem dksX3_saves_2 : cX3_saves.data.toList.drop 47 = dktX3_saves_2 := dk_seg dksX3_saves_1 23 rfl rfl
theorem dksX3_saves_3 : cX3_saves.data.toList.drop 71 = dktX3_saves_3 := dk_seg dksX3_saves_2 24 rfl rfl
theorem dX3_saves_0 : decode cX3_saves 0 = .ok (.aload_n 0, 1) := dk_42 (dk_at dksX3_saves_0 0 rfl rfl)
theorem dX3_saves_1 : decode cX3_saves 1 = .ok (.getfield 56, 3) := dk_180 0 56 (dk_at dksX3_saves_0 1 rfl rfl)
theorem dX3_saves_4 : decode cX3_saves 4 = .ok (.bipush 6, 2) := dk_16 6 (dk_at dksX3_saves_0 4 rfl rfl)
theorem dX3_saves_6 : decode cX3_saves 6 = .ok (.if_icmp .ne 44, 3) := dk_160 0 44 (dk_at dksX3_saves_0 6 rfl rfl)
theorem dX3_saves_9 : decode cX3_saves 9 = .ok (.iconst 0, 1) := dk_3 (dk_at dksX3_saves_0 9 rfl rfl)
theorem dX3_saves_10 : decode cX3_saves 10 = .ok (.istore_n 1, 1) := dk_60 (dk_at dksX3_saves_0 10 rfl rfl)
theorem dX3_saves_11 : decode cX3_saves 11 = .ok (.iload_n 1, 1) := dk_27 (dk_at dksX3_saves_0 11 rfl rfl)
theorem dX3_saves_12 : decode cX3_saves 12 = .ok (.sipush 1265, 3) := dk_17 4 241 (dk_at dksX3_saves_0 12 rfl rfl)
theorem dX3_saves_15 : decode cX3_saves 15 = .ok (.if_icmp .ge 25, 3) := dk_162 0 25 (dk_at dksX3_saves_0 15 rfl rfl)
theorem dX3_saves_18 : decode cX3_saves 18 = .ok (.aload_n 0, 1) := dk_42 (dk_at dksX3_saves_0 18 rfl rfl)
theorem dX3_saves_19 : decode cX3_saves 19 = .ok (.getfield 16, 3) := dk_180 0 16 (dk_at dksX3_saves_0 19 rfl rfl)
theorem dX3_saves_22 : decode cX3_saves 22 = .ok (.iload_n 1, 1) := dk_27 (dk_at dksX3_saves_0 22 rfl rfl)
theorem dX3_saves_23 : decode cX3_saves 23 = .ok (.aload_n 0, 1) := dk_42 (dk_at dksX3_saves_0 23 rfl rfl)
theorem dX3_saves_24 : decode cX3_saves 24 = .ok (.getfield 16, 3) := dk_180 0 16 (dk_at dksX3_saves_1 0 rfl rfl)
theorem dX3_saves_27 : decode cX3_saves 27 = .ok (.iload_n 1, 1) := dk_27 (dk_at dksX3_saves_1 3 rfl rfl)
theorem dX3_saves_28 : decode cX3_saves 28 = .ok (.sipush 253, 3) := dk_17 0 253 (dk_at dksX3_saves_1 4 rfl rfl)
theorem dX3_saves_31 : decode cX3_saves 31 = .ok (.iadd, 1) := dk_96 (dk_at dksX3_saves_1 7 rfl rfl)
theorem dX3_saves_32 : decode cX3_saves 32 = .ok (.iaload, 1) := dk_46 (dk_at dksX3_saves_1 8 rfl rfl)
theorem dX3_saves_33 : decode cX3_saves 33 = .ok (.iastore, 1) := dk_79 (dk_at dksX3_saves_1 9 rfl rfl)
theorem dX3_saves_34 : decode cX3_saves 34 = .ok (.iinc 1 1, 3) := dk_132 1 1 (dk_at dksX3_saves_1 10 rfl rfl)
theorem dX3_saves_37 : decode cX3_saves 37 = .ok (.goto (-26), 3) := dk_167 255 230 (dk_at dksX3_saves_1 13 rfl rfl)
theorem dX3_saves_40 : decode cX3_saves 40 = .ok (.aload_n 0, 1) := dk_42 (dk_at dksX3_saves_1 16 rfl rfl)
theorem dX3_saves_41 : decode cX3_saves 41 = .ok (.dup, 1) := dk_89 (dk_at dksX3_saves_1 17 rfl rfl)
theorem dX3_saves_42 : decode cX3_saves 42 = .ok (.getfield 56, 3) := dk_180 0 56 (dk_at dksX3_saves_1 18 rfl rfl)
theorem dX3_saves_45 : decode cX3_saves 45 = .ok (.iconst 1, 1) := dk_4 (dk_at dksX3_saves_1 21 rfl rfl)
theorem dX3_saves_46 : decode cX3_saves 46 = .ok (.isub, 1) := dk_100 (dk_at dksX3_saves_1 22 rfl rfl)
theorem dX3_saves_47 : decode cX3_saves 47 = .ok (.putfield 56, 3) := dk_181 0 56 (dk_at dksX3_saves_2 0 rfl rfl)
theorem dX3_saves_50 : decode cX3_saves 50 = .ok (.aload_n 0, 1) := dk_42 (dk_at dksX3_saves_2 3 rfl rfl)
theorem dX3_saves_51 : decode cX3_saves 51 = .ok (.getfield 7, 3) := dk_180 0 7 (dk_at dksX3_saves_2 4 rfl rfl)
theorem dX3_saves_54 : decode cX3_saves 54 = .ok (.iconst 0, 1) := dk_3 (dk_at dksX3_saves_2 7 rfl rfl)
theorem dX3_saves_55 : decode cX3_saves 55 = .ok (.aload_n 0, 1) := dk_42 (dk_at dksX3_saves_2 8 rfl rfl)
theorem dX3_saves_56 : decode cX3_saves 56 = .ok (.getfield 16, 3) := dk_180 0 16 (dk_at dksX3_saves_2 9 rfl rfl)
theorem dX3_saves_59 : decode cX3_saves 59 = .ok (.sipush 253, 3) := dk_17 0 253 (dk_at dksX3_saves_2 12 rfl rfl)
theorem dX3_saves_62 : decode cX3_saves 62 = .ok (.aload_n 0, 1) := dk_42 (dk_at dksX3_saves_2 15 rfl rfl)
theorem dX3_saves_63 : decode cX3_saves 63 = .ok (.getfield 56, 3) := dk_180 0 56 (dk_at dksX3_saves_2 16 rfl rfl)
theorem dX3_saves_66 : decode cX3_saves 66 = .ok (.imul, 1) := dk_104 (dk_at dksX3_saves_2 19 rfl rfl)
theorem dX3_saves_67 : decode cX3_saves 67 = .ok (.invokestatic 59, 3) := dk_184 0 59 (dk_at dksX3_saves_2 20 rfl rfl)
theorem dX3_saves_70 : decode cX3_saves 70 = .ok (.aload_n 0, 1) := dk_42 (dk_at dksX3_saves_2 23 rfl rfl)
theorem dX3_saves_71 : decode cX3_saves 71 = .ok (.dup, 1) := dk_89 (dk_at dksX3_saves_3 0 rfl rfl)
theorem dX3_saves_72 : decode cX3_saves 72 = .ok (.getfield 56, 3) := dk_180 0 56 (dk_at dksX3_saves_3 1 rfl rfl)
theorem dX3_saves_75 : decode cX3_saves 75 = .ok (.iconst 1, 1) := dk_4 (dk_at dksX3_saves_3 4 rfl rfl)
theorem dX3_saves_76 : decode cX3_saves 76 = .ok (.iadd, 1) := dk_96 (dk_at dksX3_saves_3 5 rfl rfl)
theorem dX3_saves_77 : decode cX3_saves 77 = .ok (.putfield 56, 3) := dk_181 0 56 (dk_at dksX3_saves_3 6 rfl rfl)
theorem dX3_saves_80 : decode cX3_saves 80 = .ok (.return_, 1) := dk_177 (dk_at dksX3_saves_3 9 rfl rfl)
abbrev cX3_give : ByteArray := prog_8_method_34_code
def yX3_give : MethodName := ⟨RX3, "give", "(I)I"⟩
def dkwX3_give_1 : List UInt8 := [182, 0, 141, 42, 180, 0, 7, 27, 184, 0, 144, 172]
abbrev dktX3_give_1 : List UInt8 := dkwX3_give_1 ++ []
def dkwX3_give_0 : List UInt8 := [42, 3, 181, 0, 44, 42, 180, 0, 7, 27, 184, 0, 126, 154, 0, 9, 42, 4, 182, 0, 63, 172, 42]
abbrev dktX3_give_0 : List UInt8 := dkwX3_give_0 ++ dktX3_give_1
theorem dksX3_give_0 : cX3_give.data.toList.drop 0 = dktX3_give_0 := by decide +kernel
theorem dksX3_give_1 : cX3_give.data.toList.drop 23 = dktX3_give_1 := dk_seg dksX3_give_0 23 rfl rfl
theorem dX3_give_0 : decode cX3_give 0 = .ok (.aload_n 0, 1) := dk_42 (dk_at dksX3_give_0 0 rfl rfl)
theorem dX3_give_1 : decode cX3_give 1 = .ok (.iconst 0, 1) := dk_3 (dk_at dksX3_give_0 1 rfl rfl)
theorem dX3_give_2 : decode cX3_give 2 = .ok (.putfield 44, 3) := dk_181 0 44 (dk_at dksX3_give_0 2 rfl rfl)
theorem dX3_give_5 : decode cX3_give 5 = .ok (.aload_n 0, 1) := dk_42 (dk_at dksX3_give_0 5 rfl rfl)
theorem dX3_give_6 : decode cX3_give 6 = .ok (.getfield 7, 3) := dk_180 0 7 (dk_at dksX3_give_0 6 rfl rfl)
theorem dX3_give_9 : decode cX3_give 9 = .ok (.iload_n 1, 1) := dk_27 (dk_at dksX3_give_0 9 rfl rfl)
theorem dX3_give_10 : decode cX3_give 10 = .ok (.invokestatic 126, 3) := dk_184 0 126 (dk_at dksX3_give_0 10 rfl rfl)
theorem dX3_give_13 : decode cX3_give 13 = .ok (.ifCond .ne 9, 3) := dk_154 0 9 (dk_at dksX3_give_0 13 rfl rfl)
theorem dX3_give_16 : decode cX3_give 16 = .ok (.aload_n 0, 1) := dk_42 (dk_at dksX3_give_0 16 rfl rfl)
theorem dX3_give_17 : decode cX3_give 17 = .ok (.iconst 1, 1) := dk_4 (dk_at dksX3_give_0 17 rfl rfl)
theorem dX3_give_18 : decode cX3_give 18 = .ok (.invokevirtual 63, 3) := dk_182 0 63 (dk_at dksX3_give_0 18 rfl rfl)
theorem dX3_give_21 : decode cX3_give 21 = .ok (.ireturn, 1) := dk_172 (dk_at dksX3_give_0 21 rfl rfl)
theorem dX3_give_22 : decode cX3_give 22 = .ok (.aload_n 0, 1) := dk_42 (dk_at dksX3_give_0 22 rfl rfl)
theorem dX3_give_23 : decode cX3_give 23 = .ok (.invokevirtual 141, 3) := dk_182 0 141 (dk_at dksX3_give_1 0 rfl rfl)
theorem dX3_give_26 : decode cX3_give 26 = .ok (.aload_n 0, 1) := dk_42 (dk_at dksX3_give_1 3 rfl rfl)
theorem dX3_give_27 : decode cX3_give 27 = .ok (.getfield 7, 3) := dk_180 0 7 (dk_at dksX3_give_1 4 rfl rfl)
theorem dX3_give_30 : decode cX3_give 30 = .ok (.iload_n 1, 1) := dk_27 (dk_at dksX3_give_1 7 rfl rfl)
theorem dX3_give_31 : decode cX3_give 31 = .ok (.invokestatic 144, 3) := dk_184 0 144 (dk_at dksX3_give_1 8 rfl rfl)
theorem dX3_give_34 : decode cX3_give 34 = .ok (.ireturn, 1) := dk_172 (dk_at dksX3_give_1 11 rfl rfl)
abbrev cX3_gives : ByteArray := prog_8_method_33_code
def yX3_gives : MethodName := ⟨RX3, "gives", "([II)I"⟩
def dkwX3_gives_4 : List UInt8 := [79, 132, 3, 1, 167, 255, 221, 28, 172]
abbrev dktX3_gives_4 : List UInt8 := dkwX3_gives_4 ++ []
def dkwX3_gives_3 : List UInt8 := [17, 0, 216, 16, 6, 27, 104, 96, 29, 96, 3, 79, 42, 17, 0, 216, 16, 6, 29, 104, 96, 27, 96, 3]
abbrev dktX3_gives_3 : List UInt8 := dkwX3_gives_3 ++ dktX3_gives_4
def dkwX3_gives_2 : List UInt8 := [167, 255, 214, 42, 17, 0, 192, 7, 27, 104, 96, 5, 96, 3, 79, 3, 62, 29, 16, 6, 162, 0, 35, 42]
abbrev dktX3_gives_2 : List UInt8 := dkwX3_gives_2 ++ dktX3_gives_3
def dkwX3_gives_1 : List UInt8 := [96, 61, 42, 29, 42, 29, 46, 27, 160, 0, 7, 2, 167, 0, 6, 42, 29, 46, 79, 132, 3, 1]
abbrev dktX3_gives_1 : List UInt8 := dkwX3_gives_1 ++ dktX3_gives_2
def dkwX3_gives_0 : List UInt8 := [3, 61, 3, 62, 29, 17, 0, 192, 162, 0, 41, 28, 42, 29, 46, 27, 160, 0, 7, 4, 167, 0, 4, 3]
abbrev dktX3_gives_0 : List UInt8 := dkwX3_gives_0 ++ dktX3_gives_1
theorem dksX3_gives_0 : cX3_gives.data.toList.drop 0 = dktX3_gives_0 := by decide +kernel
theorem dksX3_gives_1 : cX3_gives.data.toList.drop 24 = dktX3_gives_1 := dk_seg dksX3_gives_0 24 rfl rfl
theorem dksX3_gives_2 : cX3_gives.data.toList.drop 46 = dktX3_gives_2 := dk_seg dksX3_gives_1 22 rfl rfl
theorem dksX3_gives_3 : cX3_gives.data.toList.drop 70 = dktX3_gives_3 := dk_seg dksX3_gives_2 24 rfl rfl
theorem dksX3_gives_4 : cX3_gives.data.toList.drop 94 = dktX3_gives_4 := dk_seg dksX3_gives_3 24 rfl rfl
theorem dX3_gives_0 : decode cX3_gives 0 = .ok (.iconst 0, 1) := dk_3 (dk_at dksX3_gives_0 0 rfl rfl)
theorem dX3_gives_1 : decode cX3_gives 1 = .ok (.istore_n 2, 1) := dk_61 (dk_at dksX3_gives_0 1 rfl rfl)
theorem dX3_gives_2 : decode cX3_gives 2 = .ok (.iconst 0, 1) := dk_3 (dk_at dksX3_gives_0 2 rfl rfl)
theorem dX3_gives_3 : decode cX3_gives 3 = .ok (.istore_n 3, 1) := dk_62 (dk_at dksX3_gives_0 3 rfl rfl)
theorem dX3_gives_4 : decode cX3_gives 4 = .ok (.iload_n 3, 1) := dk_29 (dk_at dksX3_gives_0 4 rfl rfl)
theorem dX3_gives_5 : decode cX3_gives 5 = .ok (.sipush 192, 3) := dk_17 0 192 (dk_at dksX3_gives_0 5 rfl rfl)
theorem dX3_gives_8 : decode cX3_gives 8 = .ok (.if_icmp .ge 41, 3) := dk_162 0 41 (dk_at dksX3_gives_0 8 rfl rfl)
theorem dX3_gives_11 : decode cX3_gives 11 = .ok (.iload_n 2, 1) := dk_28 (dk_at dksX3_gives_0 11 rfl rfl)
theorem dX3_gives_12 : decode cX3_gives 12 = .ok (.aload_n 0, 1) := dk_42 (dk_at dksX3_gives_0 12 rfl rfl)
theorem dX3_gives_13 : decode cX3_gives 13 = .ok (.iload_n 3, 1) := dk_29 (dk_at dksX3_gives_0 13 rfl rfl)
theorem dX3_gives_14 : decode cX3_gives 14 = .ok (.iaload, 1) := dk_46 (dk_at dksX3_gives_0 14 rfl rfl)
theorem dX3_gives_15 : decode cX3_gives 15 = .ok (.iload_n 1, 1) := dk_27 (dk_at dksX3_gives_0 15 rfl rfl)
theorem dX3_gives_16 : decode cX3_gives 16 = .ok (.if_icmp .ne 7, 3) := dk_160 0 7 (dk_at dksX3_gives_0 16 rfl rfl)
theorem dX3_gives_19 : decode cX3_gives 19 = .ok (.iconst 1, 1) := dk_4 (dk_at dksX3_gives_0 19 rfl rfl)
theorem dX3_gives_20 : decode cX3_gives 20 = .ok (.goto 4, 3) := dk_167 0 4 (dk_at dksX3_gives_0 20 rfl rfl)
theorem dX3_gives_23 : decode cX3_gives 23 = .ok (.iconst 0, 1) := dk_3 (dk_at dksX3_gives_0 23 rfl rfl)
theorem dX3_gives_24 : decode cX3_gives 24 = .ok (.iadd, 1) := dk_96 (dk_at dksX3_gives_1 0 rfl rfl)
theorem dX3_gives_25 : decode cX3_gives 25 = .ok (.istore_n 2, 1) := dk_61 (dk_at dksX3_gives_1 1 rfl rfl)
theorem dX3_gives_26 : decode cX3_gives 26 = .ok (.aload_n 0, 1) := dk_42 (dk_at dksX3_gives_1 2 rfl rfl)
theorem dX3_gives_27 : decode cX3_gives 27 = .ok (.iload_n 3, 1) := dk_29 (dk_at dksX3_gives_1 3 rfl rfl)
theorem dX3_gives_28 : decode cX3_gives 28 = .ok (.aload_n 0, 1) := dk_42 (dk_at dksX3_gives_1 4 rfl rfl)
theorem dX3_gives_29 : decode cX3_gives 29 = .ok (.iload_n 3, 1) := dk_29 (dk_at dksX3_gives_1 5 rfl rfl)
theorem dX3_gives_30 : decode cX3_gives 30 = .ok (.iaload, 1) := dk_46 (dk_at dksX3_gives_1 6 rfl rfl)
theorem dX3_gives_31 : decode cX3_gives 31 = .ok (.iload_n 1, 1) := dk_27 (dk_at dksX3_gives_1 7 rfl rfl)
theorem dX3_gives_32 : decode cX3_gives 32 = .ok (.if_icmp .ne 7, 3) := dk_160 0 7 (dk_at dksX3_gives_1 8 rfl rfl)
theorem dX3_gives_35 : decode cX3_gives 35 = .ok (.iconst (-1), 1) := dk_2 (dk_at dksX3_gives_1 11 rfl rfl)
theorem dX3_gives_36 : decode cX3_gives 36 = .ok (.goto 6, 3) := dk_167 0 6 (dk_at dksX3_gives_1 12 rfl rfl)
theorem dX3_gives_39 : decode cX3_gives 39 = .ok (.aload_n 0, 1) := dk_42 (dk_at dksX3_gives_1 15 rfl rfl)
theorem dX3_gives_40 : decode cX3_gives 40 = .ok (.iload_n 3, 1) := dk_29 (dk_at dksX3_gives_1 16 rfl rfl)
theorem dX3_gives_41 : decode cX3_gives 41 = .ok (.iaload, 1) := dk_46 (dk_at dksX3_gives_1 17 rfl rfl)
theorem dX3_gives_42 : decode cX3_gives 42 = .ok (.iastore, 1) := dk_79 (dk_at dksX3_gives_1 18 rfl rfl)
theorem dX3_gives_43 : decode cX3_gives 43 = .ok (.iinc 3 1, 3) := dk_132 3 1 (dk_at dksX3_gives_1 19 rfl rfl)
theorem dX3_gives_46 : decode cX3_gives 46 = .ok (.goto (-42), 3) := dk_167 255 214 (dk_at dksX3_gives_2 0 rfl rfl)
theorem dX3_gives_49 : decode cX3_gives 49 = .ok (.aload_n 0, 1) := dk_42 (dk_at dksX3_gives_2 3 rfl rfl)
theorem dX3_gives_50 : decode cX3_gives 50 = .ok (.sipush 192, 3) := dk_17 0 192 (dk_at dksX3_gives_2 4 rfl rfl)
theorem dX3_gives_53 : decode cX3_gives 53 = .ok (.iconst 4, 1) := dk_7 (dk_at dksX3_gives_2 7 rfl rfl)
theorem dX3_gives_54 : decode cX3_gives 54 = .ok (.iload_n 1, 1) := dk_27 (dk_at dksX3_gives_2 8 rfl rfl)
theorem dX3_gives_55 : decode cX3_gives 55 = .ok (.imul, 1) := dk_104 (dk_at dksX3_gives_2 9 rfl rfl)
theorem dX3_gives_56 : decode cX3_gives 56 = .ok (.iadd, 1) := dk_96 (dk_at dksX3_gives_2 10 rfl rfl)
theorem dX3_gives_57 : decode cX3_gives 57 = .ok (.iconst 2, 1) := dk_5 (dk_at dksX3_gives_2 11 rfl rfl)
theorem dX3_gives_58 : decode cX3_gives 58 = .ok (.iadd, 1) := dk_96 (dk_at dksX3_gives_2 12 rfl rfl)
theorem dX3_gives_59 : decode cX3_gives 59 = .ok (.iconst 0, 1) := dk_3 (dk_at dksX3_gives_2 13 rfl rfl)
theorem dX3_gives_60 : decode cX3_gives 60 = .ok (.iastore, 1) := dk_79 (dk_at dksX3_gives_2 14 rfl rfl)
theorem dX3_gives_61 : decode cX3_gives 61 = .ok (.iconst 0, 1) := dk_3 (dk_at dksX3_gives_2 15 rfl rfl)
theorem dX3_gives_62 : decode cX3_gives 62 = .ok (.istore_n 3, 1) := dk_62 (dk_at dksX3_gives_2 16 rfl rfl)
theorem dX3_gives_63 : decode cX3_gives 63 = .ok (.iload_n 3, 1) := dk_29 (dk_at dksX3_gives_2 17 rfl rfl)
theorem dX3_gives_64 : decode cX3_gives 64 = .ok (.bipush 6, 2) := dk_16 6 (dk_at dksX3_gives_2 18 rfl rfl)
theorem dX3_gives_66 : decode cX3_gives 66 = .ok (.if_icmp .ge 35, 3) := dk_162 0 35 (dk_at dksX3_gives_2 20 rfl rfl)
theorem dX3_gives_69 : decode cX3_gives 69 = .ok (.aload_n 0, 1) := dk_42 (dk_at dksX3_gives_2 23 rfl rfl)
theorem dX3_gives_70 : decode cX3_gives 70 = .ok (.sipush 216, 3) := dk_17 0 216 (dk_at dksX3_gives_3 0 rfl rfl)
theorem dX3_gives_73 : decode cX3_gives 73 = .ok (.bipush 6, 2) := dk_16 6 (dk_at dksX3_gives_3 3 rfl rfl)
theorem dX3_gives_75 : decode cX3_gives 75 = .ok (.iload_n 1, 1) := dk_27 (dk_at dksX3_gives_3 5 rfl rfl)
theorem dX3_gives_76 : decode cX3_gives 76 = .ok (.imul, 1) := dk_104 (dk_at dksX3_gives_3 6 rfl rfl)
theorem dX3_gives_77 : decode cX3_gives 77 = .ok (.iadd, 1) := dk_96 (dk_at dksX3_gives_3 7 rfl rfl)
theorem dX3_gives_78 : decode cX3_gives 78 = .ok (.iload_n 3, 1) := dk_29 (dk_at dksX3_gives_3 8 rfl rfl)
theorem dX3_gives_79 : decode cX3_gives 79 = .ok (.iadd, 1) := dk_96 (dk_at dksX3_gives_3 9 rfl rfl)
theorem dX3_gives_80 : decode cX3_gives 80 = .ok (.iconst 0, 1) := dk_3 (dk_at dksX3_gives_3 10 rfl rfl)
theorem dX3_gives_81 : decode cX3_gives 81 = .ok (.iastore, 1) := dk_79 (dk_at dksX3_gives_3 11 rfl rfl)
theorem dX3_gives_82 : decode cX3_gives 82 = .ok (.aload_n 0, 1) := dk_42 (dk_at dksX3_gives_3 12 rfl rfl)
theorem dX3_gives_83 : decode cX3_gives 83 = .ok (.sipush 216, 3) := dk_17 0 216 (dk_at dksX3_gives_3 13 rfl rfl)
theorem dX3_gives_86 : decode cX3_gives 86 = .ok (.bipush 6, 2) := dk_16 6 (dk_at dksX3_gives_3 16 rfl rfl)
theorem dX3_gives_88 : decode cX3_gives 88 = .ok (.iload_n 3, 1) := dk_29 (dk_at dksX3_gives_3 18 rfl rfl)
theorem dX3_gives_89 : decode cX3_gives 89 = .ok (.imul, 1) := dk_104 (dk_at dksX3_gives_3 19 rfl rfl)
theorem dX3_gives_90 : decode cX3_gives 90 = .ok (.iadd, 1) := dk_96 (dk_at dksX3_gives_3 20 rfl rfl)
theorem dX3_gives_91 : decode cX3_gives 91 = .ok (.iload_n 1, 1) := dk_27 (dk_at dksX3_gives_3 21 rfl rfl)
theorem dX3_gives_92 : decode cX3_gives 92 = .ok (.iadd, 1) := dk_96 (dk_at dksX3_gives_3 22 rfl rfl)
theorem dX3_gives_93 : decode cX3_gives 93 = .ok (.iconst 0, 1) := dk_3 (dk_at dksX3_gives_3 23 rfl rfl)
theorem dX3_gives_94 : decode cX3_gives 94 = .ok (.iastore, 1) := dk_79 (dk_at dksX3_gives_4 0 rfl rfl)
theorem dX3_gives_95 : decode cX3_gives 95 = .ok (.iinc 3 1, 3) := dk_132 3 1 (dk_at dksX3_gives_4 1 rfl rfl)
theorem dX3_gives_98 : decode cX3_gives 98 = .ok (.goto (-35), 3) := dk_167 255 221 (dk_at dksX3_gives_4 4 rfl rfl)
theorem dX3_gives_101 : decode cX3_gives 101 = .ok (.iload_n 2, 1) := dk_28 (dk_at dksX3_gives_4 7 rfl rfl)
theorem dX3_gives_102 : decode cX3_gives 102 = .ok (.ireturn, 1) := dk_172 (dk_at dksX3_gives_4 8 rfl rfl)
abbrev cX3_walk : ByteArray := prog_8_method_37_code
def yX3_walk : MethodName := ⟨RX3, "walk", "(III)I"⟩
def dkwX3_walk_1 : List UInt8 := [172, 42, 182, 0, 141, 42, 27, 28, 29, 182, 0, 151, 172]
abbrev dktX3_walk_1 : List UInt8 := dkwX3_walk_1 ++ []
def dkwX3_walk_0 : List UInt8 := [42, 42, 27, 28, 29, 3, 6, 184, 0, 48, 182, 0, 147, 181, 0, 44, 42, 180, 0, 44, 153, 0, 5, 3]
abbrev dktX3_walk_0 : List UInt8 := dkwX3_walk_0 ++ dktX3_walk_1
theorem dksX3_walk_0 : cX3_walk.data.toList.drop 0 = dktX3_walk_0 := by decide +kernel
theorem dksX3_walk_1 : cX3_walk.data.toList.drop 24 = dktX3_walk_1 := dk_seg dksX3_walk_0 24 rfl rfl
theorem dX3_walk_0 : decode cX3_walk 0 = .ok (.aload_n 0, 1) := dk_42 (dk_at dksX3_walk_0 0 rfl rfl)
theorem dX3_walk_1 : decode cX3_walk 1 = .ok (.aload_n 0, 1) := dk_42 (dk_at dksX3_walk_0 1 rfl rfl)
theorem dX3_walk_2 : decode cX3_walk 2 = .ok (.iload_n 1, 1) := dk_27 (dk_at dksX3_walk_0 2 rfl rfl)
theorem dX3_walk_3 : decode cX3_walk 3 = .ok (.iload_n 2, 1) := dk_28 (dk_at dksX3_walk_0 3 rfl rfl)
theorem dX3_walk_4 : decode cX3_walk 4 = .ok (.iload_n 3, 1) := dk_29 (dk_at dksX3_walk_0 4 rfl rfl)
theorem dX3_walk_5 : decode cX3_walk 5 = .ok (.iconst 0, 1) := dk_3 (dk_at dksX3_walk_0 5 rfl rfl)
theorem dX3_walk_6 : decode cX3_walk 6 = .ok (.iconst 3, 1) := dk_6 (dk_at dksX3_walk_0 6 rfl rfl)
theorem dX3_walk_7 : decode cX3_walk 7 = .ok (.invokestatic 48, 3) := dk_184 0 48 (dk_at dksX3_walk_0 7 rfl rfl)
theorem dX3_walk_10 : decode cX3_walk 10 = .ok (.invokevirtual 147, 3) := dk_182 0 147 (dk_at dksX3_walk_0 10 rfl rfl)
theorem dX3_walk_13 : decode cX3_walk 13 = .ok (.putfield 44, 3) := dk_181 0 44 (dk_at dksX3_walk_0 13 rfl rfl)
theorem dX3_walk_16 : decode cX3_walk 16 = .ok (.aload_n 0, 1) := dk_42 (dk_at dksX3_walk_0 16 rfl rfl)
theorem dX3_walk_17 : decode cX3_walk 17 = .ok (.getfield 44, 3) := dk_180 0 44 (dk_at dksX3_walk_0 17 rfl rfl)
theorem dX3_walk_20 : decode cX3_walk 20 = .ok (.ifCond .eq 5, 3) := dk_153 0 5 (dk_at dksX3_walk_0 20 rfl rfl)
theorem dX3_walk_23 : decode cX3_walk 23 = .ok (.iconst 0, 1) := dk_3 (dk_at dksX3_walk_0 23 rfl rfl)
theorem dX3_walk_24 : decode cX3_walk 24 = .ok (.ireturn, 1) := dk_172 (dk_at dksX3_walk_1 0 rfl rfl)
theorem dX3_walk_25 : decode cX3_walk 25 = .ok (.aload_n 0, 1) := dk_42 (dk_at dksX3_walk_1 1 rfl rfl)
theorem dX3_walk_26 : decode cX3_walk 26 = .ok (.invokevirtual 141, 3) := dk_182 0 141 (dk_at dksX3_walk_1 2 rfl rfl)
theorem dX3_walk_29 : decode cX3_walk 29 = .ok (.aload_n 0, 1) := dk_42 (dk_at dksX3_walk_1 5 rfl rfl)
theorem dX3_walk_30 : decode cX3_walk 30 = .ok (.iload_n 1, 1) := dk_27 (dk_at dksX3_walk_1 6 rfl rfl)
theorem dX3_walk_31 : decode cX3_walk 31 = .ok (.iload_n 2, 1) := dk_28 (dk_at dksX3_walk_1 7 rfl rfl)
theorem dX3_walk_32 : decode cX3_walk 32 = .ok (.iload_n 3, 1) := dk_29 (dk_at dksX3_walk_1 8 rfl rfl)
theorem dX3_walk_33 : decode cX3_walk 33 = .ok (.invokevirtual 151, 3) := dk_182 0 151 (dk_at dksX3_walk_1 9 rfl rfl)
theorem dX3_walk_36 : decode cX3_walk 36 = .ok (.ireturn, 1) := dk_172 (dk_at dksX3_walk_1 12 rfl rfl)
abbrev cX3_may : ByteArray := prog_8_method_35_code
def yX3_may : MethodName := ⟨RX3, "may", "(IIZ)I"⟩
def dkwX3_may_1 : List UInt8 := [167, 0, 17, 27, 28, 159, 0, 7, 29, 154, 0, 7, 5, 167, 0, 4, 3, 172]
abbrev dktX3_may_1 : List UInt8 := dkwX3_may_1 ++ []
def dkwX3_may_0 : List UInt8 := [42, 180, 0, 7, 27, 184, 0, 126, 153, 0, 14, 42, 180, 0, 7, 28, 184, 0, 126, 154, 0, 7, 4]
abbrev dktX3_may_0 : List UInt8 := dkwX3_may_0 ++ dktX3_may_1
theorem dksX3_may_0 : cX3_may.data.toList.drop 0 = dktX3_may_0 := by decide +kernel
theorem dksX3_may_1 : cX3_may.data.toList.drop 23 = dktX3_may_1 := dk_seg dksX3_may_0 23 rfl rfl
theorem dX3_may_0 : decode cX3_may 0 = .ok (.aload_n 0, 1) := dk_42 (dk_at dksX3_may_0 0 rfl rfl)
theorem dX3_may_1 : decode cX3_may 1 = .ok (.getfield 7, 3) := dk_180 0 7 (dk_at dksX3_may_0 1 rfl rfl)
theorem dX3_may_4 : decode cX3_may 4 = .ok (.iload_n 1, 1) := dk_27 (dk_at dksX3_may_0 4 rfl rfl)
theorem dX3_may_5 : decode cX3_may 5 = .ok (.invokestatic 126, 3) := dk_184 0 126 (dk_at dksX3_may_0 5 rfl rfl)
theorem dX3_may_8 : decode cX3_may 8 = .ok (.ifCond .eq 14, 3) := dk_153 0 14 (dk_at dksX3_may_0 8 rfl rfl)
theorem dX3_may_11 : decode cX3_may 11 = .ok (.aload_n 0, 1) := dk_42 (dk_at dksX3_may_0 11 rfl rfl)
theorem dX3_may_12 : decode cX3_may 12 = .ok (.getfield 7, 3) := dk_180 0 7 (dk_at dksX3_may_0 12 rfl rfl)
theorem dX3_may_15 : decode cX3_may 15 = .ok (.iload_n 2, 1) := dk_28 (dk_at dksX3_may_0 15 rfl rfl)
theorem dX3_may_16 : decode cX3_may 16 = .ok (.invokestatic 126, 3) := dk_184 0 126 (dk_at dksX3_may_0 16 rfl rfl)
theorem dX3_may_19 : decode cX3_may 19 = .ok (.ifCond .ne 7, 3) := dk_154 0 7 (dk_at dksX3_may_0 19 rfl rfl)
theorem dX3_may_22 : decode cX3_may 22 = .ok (.iconst 1, 1) := dk_4 (dk_at dksX3_may_0 22 rfl rfl)
theorem dX3_may_23 : decode cX3_may 23 = .ok (.goto 17, 3) := dk_167 0 17 (dk_at dksX3_may_1 0 rfl rfl)
theorem dX3_may_26 : decode cX3_may 26 = .ok (.iload_n 1, 1) := dk_27 (dk_at dksX3_may_1 3 rfl rfl)
theorem dX3_may_27 : decode cX3_may 27 = .ok (.iload_n 2, 1) := dk_28 (dk_at dksX3_may_1 4 rfl rfl)
theorem dX3_may_28 : decode cX3_may 28 = .ok (.if_icmp .eq 7, 3) := dk_159 0 7 (dk_at dksX3_may_1 5 rfl rfl)
theorem dX3_may_31 : decode cX3_may 31 = .ok (.iload_n 3, 1) := dk_29 (dk_at dksX3_may_1 8 rfl rfl)
theorem dX3_may_32 : decode cX3_may 32 = .ok (.ifCond .ne 7, 3) := dk_154 0 7 (dk_at dksX3_may_1 9 rfl rfl)
theorem dX3_may_35 : decode cX3_may 35 = .ok (.iconst 2, 1) := dk_5 (dk_at dksX3_may_1 12 rfl rfl)
theorem dX3_may_36 : decode cX3_may 36 = .ok (.goto 4, 3) := dk_167 0 4 (dk_at dksX3_may_1 13 rfl rfl)
theorem dX3_may_39 : decode cX3_may 39 = .ok (.iconst 0, 1) := dk_3 (dk_at dksX3_may_1 16 rfl rfl)
theorem dX3_may_40 : decode cX3_may 40 = .ok (.ireturn, 1) := dk_172 (dk_at dksX3_may_1 17 rfl rfl)
abbrev cX3_walking : ByteArray := prog_8_method_36_code
def yX3_walking : MethodName := ⟨RX3, "walking", "(III)I"⟩
def dkwX3_walking_1 : List UInt8 := [96, 29, 79, 42, 180, 0, 7, 17, 0, 216, 16, 6, 28, 104, 96, 27, 96, 29, 79, 21, 4, 172]
abbrev dktX3_walking_1 : List UInt8 := dkwX3_walking_1 ++ []
def dkwX3_walking_0 : List UInt8 := [42, 180, 0, 7, 27, 28, 184, 0, 99, 54, 4, 42, 180, 0, 7, 17, 0, 216, 16, 6, 27, 104, 96, 28]
abbrev dktX3_walking_0 : List UInt8 := dkwX3_walking_0 ++ dktX3_walking_1
theorem dksX3_walking_0 : cX3_walking.data.toList.drop 0 = dktX3_walking_0 := by decide +kernel
theorem dksX3_walking_1 : cX3_walking.data.toList.drop 24 = dktX3_walking_1 := dk_seg dksX3_walking_0 24 rfl rfl
theorem dX3_walking_0 : decode cX3_walking 0 = .ok (.aload_n 0, 1) := dk_42 (dk_at dksX3_walking_0 0 rfl rfl)
theorem dX3_walking_1 : decode cX3_walking 1 = .ok (.getfield 7, 3) := dk_180 0 7 (dk_at dksX3_walking_0 1 rfl rfl)
theorem dX3_walking_4 : decode cX3_walking 4 = .ok (.iload_n 1, 1) := dk_27 (dk_at dksX3_walking_0 4 rfl rfl)
theorem dX3_walking_5 : decode cX3_walking 5 = .ok (.iload_n 2, 1) := dk_28 (dk_at dksX3_walking_0 5 rfl rfl)
theorem dX3_walking_6 : decode cX3_walking 6 = .ok (.invokestatic 99, 3) := dk_184 0 99 (dk_at dksX3_walking_0 6 rfl rfl)
theorem dX3_walking_9 : decode cX3_walking 9 = .ok (.istore 4, 2) := dk_54 4 (dk_at dksX3_walking_0 9 rfl rfl)
theorem dX3_walking_11 : decode cX3_walking 11 = .ok (.aload_n 0, 1) := dk_42 (dk_at dksX3_walking_0 11 rfl rfl)
theorem dX3_walking_12 : decode cX3_walking 12 = .ok (.getfield 7, 3) := dk_180 0 7 (dk_at dksX3_walking_0 12 rfl rfl)
theorem dX3_walking_15 : decode cX3_walking 15 = .ok (.sipush 216, 3) := dk_17 0 216 (dk_at dksX3_walking_0 15 rfl rfl)
theorem dX3_walking_18 : decode cX3_walking 18 = .ok (.bipush 6, 2) := dk_16 6 (dk_at dksX3_walking_0 18 rfl rfl)
theorem dX3_walking_20 : decode cX3_walking 20 = .ok (.iload_n 1, 1) := dk_27 (dk_at dksX3_walking_0 20 rfl rfl)
theorem dX3_walking_21 : decode cX3_walking 21 = .ok (.imul, 1) := dk_104 (dk_at dksX3_walking_0 21 rfl rfl)
theorem dX3_walking_22 : decode cX3_walking 22 = .ok (.iadd, 1) := dk_96 (dk_at dksX3_walking_0 22 rfl rfl)
theorem dX3_walking_23 : decode cX3_walking 23 = .ok (.iload_n 2, 1) := dk_28 (dk_at dksX3_walking_0 23 rfl rfl)
theorem dX3_walking_24 : decode cX3_walking 24 = .ok (.iadd, 1) := dk_96 (dk_at dksX3_walking_1 0 rfl rfl)
theorem dX3_walking_25 : decode cX3_walking 25 = .ok (.iload_n 3, 1) := dk_29 (dk_at dksX3_walking_1 1 rfl rfl)
theorem dX3_walking_26 : decode cX3_walking 26 = .ok (.iastore, 1) := dk_79 (dk_at dksX3_walking_1 2 rfl rfl)
theorem dX3_walking_27 : decode cX3_walking 27 = .ok (.aload_n 0, 1) := dk_42 (dk_at dksX3_walking_1 3 rfl rfl)
theorem dX3_walking_28 : decode cX3_walking 28 = .ok (.getfield 7, 3) := dk_180 0 7 (dk_at dksX3_walking_1 4 rfl rfl)
theorem dX3_walking_31 : decode cX3_walking 31 = .ok (.sipush 216, 3) := dk_17 0 216 (dk_at dksX3_walking_1 7 rfl rfl)
theorem dX3_walking_34 : decode cX3_walking 34 = .ok (.bipush 6, 2) := dk_16 6 (dk_at dksX3_walking_1 10 rfl rfl)
theorem dX3_walking_36 : decode cX3_walking 36 = .ok (.iload_n 2, 1) := dk_28 (dk_at dksX3_walking_1 12 rfl rfl)
theorem dX3_walking_37 : decode cX3_walking 37 = .ok (.imul, 1) := dk_104 (dk_at dksX3_walking_1 13 rfl rfl)
theorem dX3_walking_38 : decode cX3_walking 38 = .ok (.iadd, 1) := dk_96 (dk_at dksX3_walking_1 14 rfl rfl)
theorem dX3_walking_39 : decode cX3_walking 39 = .ok (.iload_n 1, 1) := dk_27 (dk_at dksX3_walking_1 15 rfl rfl)
theorem dX3_walking_40 : decode cX3_walking 40 = .ok (.iadd, 1) := dk_96 (dk_at dksX3_walking_1 16 rfl rfl)
theorem dX3_walking_41 : decode cX3_walking 41 = .ok (.iload_n 3, 1) := dk_29 (dk_at dksX3_walking_1 17 rfl rfl)
theorem dX3_walking_42 : decode cX3_walking 42 = .ok (.iastore, 1) := dk_79 (dk_at dksX3_walking_1 18 rfl rfl)
theorem dX3_walking_43 : decode cX3_walking 43 = .ok (.iload 4, 2) := dk_21 4 (dk_at dksX3_walking_1 19 rfl rfl)
theorem dX3_walking_45 : decode cX3_walking 45 = .ok (.ireturn, 1) := dk_172 (dk_at dksX3_walking_1 21 rfl rfl)
abbrev cX3_walks : ByteArray := prog_8_method_8_code
def yX3_walks : MethodName := ⟨RX3, "walks", "([III)I"⟩
def dkwX3_walks_0 : List UInt8 := [42, 17, 0, 216, 16, 6, 27, 104, 96, 28, 96, 46, 172]
abbrev dktX3_walks_0 : List UInt8 := dkwX3_walks_0 ++ []
theorem dksX3_walks_0 : cX3_walks.data.toList.drop 0 = dktX3_walks_0 := by decide +kernel
theorem dX3_walks_0 : decode cX3_walks 0 = .ok (.aload_n 0, 1) := dk_42 (dk_at dksX3_walks_0 0 rfl rfl)
theorem dX3_walks_1 : decode cX3_walks 1 = .ok (.sipush 216, 3) := dk_17 0 216 (dk_at dksX3_walks_0 1 rfl rfl)
theorem dX3_walks_4 : decode cX3_walks 4 = .ok (.bipush 6, 2) := dk_16 6 (dk_at dksX3_walks_0 4 rfl rfl)
theorem dX3_walks_6 : decode cX3_walks 6 = .ok (.iload_n 1, 1) := dk_27 (dk_at dksX3_walks_0 6 rfl rfl)
theorem dX3_walks_7 : decode cX3_walks 7 = .ok (.imul, 1) := dk_104 (dk_at dksX3_walks_0 7 rfl rfl)
theorem dX3_walks_8 : decode cX3_walks 8 = .ok (.iadd, 1) := dk_96 (dk_at dksX3_walks_0 8 rfl rfl)
theorem dX3_walks_9 : decode cX3_walks 9 = .ok (.iload_n 2, 1) := dk_28 (dk_at dksX3_walks_0 9 rfl rfl)
theorem dX3_walks_10 : decode cX3_walks 10 = .ok (.iadd, 1) := dk_96 (dk_at dksX3_walks_0 10 rfl rfl)
theorem dX3_walks_11 : decode cX3_walks 11 = .ok (.iaload, 1) := dk_46 (dk_at dksX3_walks_0 11 rfl rfl)
theorem dX3_walks_12 : decode cX3_walks 12 = .ok (.ireturn, 1) := dk_172 (dk_at dksX3_walks_0 12 rfl rfl)
abbrev cX3_dig : ByteArray := prog_8_method_39_code
def yX3_dig : MethodName := ⟨RX3, "dig", "(II)I"⟩
def dkwX3_dig_3 : List UInt8 := [172]
abbrev dktX3_dig_3 : List UInt8 := dkwX3_dig_3 ++ []
def dkwX3_dig_2 : List UInt8 := [104, 27, 96, 184, 0, 155, 42, 180, 0, 7, 27, 28, 184, 0, 74, 2, 160, 0, 7, 4, 167, 0, 4, 3]
abbrev dktX3_dig_2 : List UInt8 := dkwX3_dig_2 ++ dktX3_dig_3
def dkwX3_dig_1 : List UInt8 := [28, 184, 0, 74, 155, 0, 9, 42, 5, 182, 0, 63, 172, 42, 182, 0, 141, 42, 180, 0, 7, 16, 16, 28]
abbrev dktX3_dig_1 : List UInt8 := dkwX3_dig_1 ++ dktX3_dig_2
def dkwX3_dig_0 : List UInt8 := [42, 3, 181, 0, 44, 27, 28, 184, 0, 67, 154, 0, 9, 42, 4, 182, 0, 63, 172, 42, 180, 0, 7, 27]
abbrev dktX3_dig_0 : List UInt8 := dkwX3_dig_0 ++ dktX3_dig_1
theorem dksX3_dig_0 : cX3_dig.data.toList.drop 0 = dktX3_dig_0 := by decide +kernel
theorem dksX3_dig_1 : cX3_dig.data.toList.drop 24 = dktX3_dig_1 := dk_seg dksX3_dig_0 24 rfl rfl
theorem dksX3_dig_2 : cX3_dig.data.toList.drop 48 = dktX3_dig_2 := dk_seg dksX3_dig_1 24 rfl rfl
theorem dksX3_dig_3 : cX3_dig.data.toList.drop 72 = dktX3_dig_3 := dk_seg dksX3_dig_2 24 rfl rfl
theorem dX3_dig_0 : decode cX3_dig 0 = .ok (.aload_n 0, 1) := dk_42 (dk_at dksX3_dig_0 0 rfl rfl)
theorem dX3_dig_1 : decode cX3_dig 1 = .ok (.iconst 0, 1) := dk_3 (dk_at dksX3_dig_0 1 rfl rfl)
theorem dX3_dig_2 : decode cX3_dig 2 = .ok (.putfield 44, 3) := dk_181 0 44 (dk_at dksX3_dig_0 2 rfl rfl)
theorem dX3_dig_5 : decode cX3_dig 5 = .ok (.iload_n 1, 1) := dk_27 (dk_at dksX3_dig_0 5 rfl rfl)
theorem dX3_dig_6 : decode cX3_dig 6 = .ok (.iload_n 2, 1) := dk_28 (dk_at dksX3_dig_0 6 rfl rfl)
theorem dX3_dig_7 : decode cX3_dig 7 = .ok (.invokestatic 67, 3) := dk_184 0 67 (dk_at dksX3_dig_0 7 rfl rfl)
theorem dX3_dig_10 : decode cX3_dig 10 = .ok (.ifCond .ne 9, 3) := dk_154 0 9 (dk_at dksX3_dig_0 10 rfl rfl)
theorem dX3_dig_13 : decode cX3_dig 13 = .ok (.aload_n 0, 1) := dk_42 (dk_at dksX3_dig_0 13 rfl rfl)
theorem dX3_dig_14 : decode cX3_dig 14 = .ok (.iconst 1, 1) := dk_4 (dk_at dksX3_dig_0 14 rfl rfl)
theorem dX3_dig_15 : decode cX3_dig 15 = .ok (.invokevirtual 63, 3) := dk_182 0 63 (dk_at dksX3_dig_0 15 rfl rfl)
theorem dX3_dig_18 : decode cX3_dig 18 = .ok (.ireturn, 1) := dk_172 (dk_at dksX3_dig_0 18 rfl rfl)
theorem dX3_dig_19 : decode cX3_dig 19 = .ok (.aload_n 0, 1) := dk_42 (dk_at dksX3_dig_0 19 rfl rfl)
theorem dX3_dig_20 : decode cX3_dig 20 = .ok (.getfield 7, 3) := dk_180 0 7 (dk_at dksX3_dig_0 20 rfl rfl)
theorem dX3_dig_23 : decode cX3_dig 23 = .ok (.iload_n 1, 1) := dk_27 (dk_at dksX3_dig_0 23 rfl rfl)
theorem dX3_dig_24 : decode cX3_dig 24 = .ok (.iload_n 2, 1) := dk_28 (dk_at dksX3_dig_1 0 rfl rfl)
theorem dX3_dig_25 : decode cX3_dig 25 = .ok (.invokestatic 74, 3) := dk_184 0 74 (dk_at dksX3_dig_1 1 rfl rfl)
theorem dX3_dig_28 : decode cX3_dig 28 = .ok (.ifCond .lt 9, 3) := dk_155 0 9 (dk_at dksX3_dig_1 4 rfl rfl)
theorem dX3_dig_31 : decode cX3_dig 31 = .ok (.aload_n 0, 1) := dk_42 (dk_at dksX3_dig_1 7 rfl rfl)
theorem dX3_dig_32 : decode cX3_dig 32 = .ok (.iconst 2, 1) := dk_5 (dk_at dksX3_dig_1 8 rfl rfl)
theorem dX3_dig_33 : decode cX3_dig 33 = .ok (.invokevirtual 63, 3) := dk_182 0 63 (dk_at dksX3_dig_1 9 rfl rfl)
theorem dX3_dig_36 : decode cX3_dig 36 = .ok (.ireturn, 1) := dk_172 (dk_at dksX3_dig_1 12 rfl rfl)
theorem dX3_dig_37 : decode cX3_dig 37 = .ok (.aload_n 0, 1) := dk_42 (dk_at dksX3_dig_1 13 rfl rfl)
theorem dX3_dig_38 : decode cX3_dig 38 = .ok (.invokevirtual 141, 3) := dk_182 0 141 (dk_at dksX3_dig_1 14 rfl rfl)
theorem dX3_dig_41 : decode cX3_dig 41 = .ok (.aload_n 0, 1) := dk_42 (dk_at dksX3_dig_1 17 rfl rfl)
theorem dX3_dig_42 : decode cX3_dig 42 = .ok (.getfield 7, 3) := dk_180 0 7 (dk_at dksX3_dig_1 18 rfl rfl)
theorem dX3_dig_45 : decode cX3_dig 45 = .ok (.bipush 16, 2) := dk_16 16 (dk_at dksX3_dig_1 21 rfl rfl)
theorem dX3_dig_47 : decode cX3_dig 47 = .ok (.iload_n 2, 1) := dk_28 (dk_at dksX3_dig_1 23 rfl rfl)
theorem dX3_dig_48 : decode cX3_dig 48 = .ok (.imul, 1) := dk_104 (dk_at dksX3_dig_2 0 rfl rfl)
theorem dX3_dig_49 : decode cX3_dig 49 = .ok (.iload_n 1, 1) := dk_27 (dk_at dksX3_dig_2 1 rfl rfl)
theorem dX3_dig_50 : decode cX3_dig 50 = .ok (.iadd, 1) := dk_96 (dk_at dksX3_dig_2 2 rfl rfl)
theorem dX3_dig_51 : decode cX3_dig 51 = .ok (.invokestatic 155, 3) := dk_184 0 155 (dk_at dksX3_dig_2 3 rfl rfl)
theorem dX3_dig_54 : decode cX3_dig 54 = .ok (.aload_n 0, 1) := dk_42 (dk_at dksX3_dig_2 6 rfl rfl)
theorem dX3_dig_55 : decode cX3_dig 55 = .ok (.getfield 7, 3) := dk_180 0 7 (dk_at dksX3_dig_2 7 rfl rfl)
theorem dX3_dig_58 : decode cX3_dig 58 = .ok (.iload_n 1, 1) := dk_27 (dk_at dksX3_dig_2 10 rfl rfl)
theorem dX3_dig_59 : decode cX3_dig 59 = .ok (.iload_n 2, 1) := dk_28 (dk_at dksX3_dig_2 11 rfl rfl)
theorem dX3_dig_60 : decode cX3_dig 60 = .ok (.invokestatic 74, 3) := dk_184 0 74 (dk_at dksX3_dig_2 12 rfl rfl)
theorem dX3_dig_63 : decode cX3_dig 63 = .ok (.iconst (-1), 1) := dk_2 (dk_at dksX3_dig_2 15 rfl rfl)
theorem dX3_dig_64 : decode cX3_dig 64 = .ok (.if_icmp .ne 7, 3) := dk_160 0 7 (dk_at dksX3_dig_2 16 rfl rfl)
theorem dX3_dig_67 : decode cX3_dig 67 = .ok (.iconst 1, 1) := dk_4 (dk_at dksX3_dig_2 19 rfl rfl)
theorem dX3_dig_68 : decode cX3_dig 68 = .ok (.goto 4, 3) := dk_167 0 4 (dk_at dksX3_dig_2 20 rfl rfl)
theorem dX3_dig_71 : decode cX3_dig 71 = .ok (.iconst 0, 1) := dk_3 (dk_at dksX3_dig_2 23 rfl rfl)
theorem dX3_dig_72 : decode cX3_dig 72 = .ok (.ireturn, 1) := dk_172 (dk_at dksX3_dig_3 0 rfl rfl)
abbrev cX3_toggles : ByteArray := prog_8_method_38_code
def yX3_toggles : MethodName := ⟨RX3, "toggles", "([II)V"⟩
def dkwX3_toggles_0 : List UInt8 := [42, 27, 42, 27, 46, 2, 160, 0, 8, 16, 254, 167, 0, 4, 2, 79, 177]
abbrev dktX3_toggles_0 : List UInt8 := dkwX3_toggles_0 ++ []
theorem dksX3_toggles_0 : cX3_toggles.data.toList.drop 0 = dktX3_toggles_0 := by decide +kernel
theorem dX3_toggles_0 : decode cX3_toggles 0 = .ok (.aload_n 0, 1) := dk_42 (dk_at dksX3_toggles_0 0 rfl rfl)
theorem dX3_toggles_1 : decode cX3_toggles 1 = .ok (.iload_n 1, 1) := dk_27 (dk_at dksX3_toggles_0 1 rfl rfl)
theorem dX3_toggles_2 : decode cX3_toggles 2 = .ok (.aload_n 0, 1) := dk_42 (dk_at dksX3_toggles_0 2 rfl rfl)
theorem dX3_toggles_3 : decode cX3_toggles 3 = .ok (.iload_n 1, 1) := dk_27 (dk_at dksX3_toggles_0 3 rfl rfl)
theorem dX3_toggles_4 : decode cX3_toggles 4 = .ok (.iaload, 1) := dk_46 (dk_at dksX3_toggles_0 4 rfl rfl)
theorem dX3_toggles_5 : decode cX3_toggles 5 = .ok (.iconst (-1), 1) := dk_2 (dk_at dksX3_toggles_0 5 rfl rfl)
theorem dX3_toggles_6 : decode cX3_toggles 6 = .ok (.if_icmp .ne 8, 3) := dk_160 0 8 (dk_at dksX3_toggles_0 6 rfl rfl)
theorem dX3_toggles_9 : decode cX3_toggles 9 = .ok (.bipush (-2), 2) := dk_16 254 (dk_at dksX3_toggles_0 9 rfl rfl)
theorem dX3_toggles_11 : decode cX3_toggles 11 = .ok (.goto 4, 3) := dk_167 0 4 (dk_at dksX3_toggles_0 11 rfl rfl)
theorem dX3_toggles_14 : decode cX3_toggles 14 = .ok (.iconst (-1), 1) := dk_2 (dk_at dksX3_toggles_0 14 rfl rfl)
theorem dX3_toggles_15 : decode cX3_toggles 15 = .ok (.iastore, 1) := dk_79 (dk_at dksX3_toggles_0 15 rfl rfl)
theorem dX3_toggles_16 : decode cX3_toggles 16 = .ok (.return_, 1) := dk_177 (dk_at dksX3_toggles_0 16 rfl rfl)
abbrev cX3_carve : ByteArray := prog_8_method_40_code
def yX3_carve : MethodName := ⟨RX3, "carve", "(II)I"⟩
def dkwX3_carve_2 : List UInt8 := [180, 0, 7, 182, 0, 119, 172]
abbrev dktX3_carve_2 : List UInt8 := dkwX3_carve_2 ++ []
def dkwX3_carve_1 : List UInt8 := [180, 0, 7, 27, 28, 182, 0, 116, 154, 0, 9, 42, 6, 182, 0, 63, 172, 42, 182, 0, 141, 42, 42]
abbrev dktX3_carve_1 : List UInt8 := dkwX3_carve_1 ++ dktX3_carve_2
def dkwX3_carve_0 : List UInt8 := [42, 42, 27, 28, 4, 182, 0, 147, 181, 0, 44, 42, 180, 0, 44, 153, 0, 5, 3, 172, 42, 42]
abbrev dktX3_carve_0 : List UInt8 := dkwX3_carve_0 ++ dktX3_carve_1
theorem dksX3_carve_0 : cX3_carve.data.toList.drop 0 = dktX3_carve_0 := by decide +kernel
theorem dksX3_carve_1 : cX3_carve.data.toList.drop 22 = dktX3_carve_1 := dk_seg dksX3_carve_0 22 rfl rfl
theorem dksX3_carve_2 : cX3_carve.data.toList.drop 45 = dktX3_carve_2 := dk_seg dksX3_carve_1 23 rfl rfl
theorem dX3_carve_0 : decode cX3_carve 0 = .ok (.aload_n 0, 1) := dk_42 (dk_at dksX3_carve_0 0 rfl rfl)
theorem dX3_carve_1 : decode cX3_carve 1 = .ok (.aload_n 0, 1) := dk_42 (dk_at dksX3_carve_0 1 rfl rfl)
theorem dX3_carve_2 : decode cX3_carve 2 = .ok (.iload_n 1, 1) := dk_27 (dk_at dksX3_carve_0 2 rfl rfl)
theorem dX3_carve_3 : decode cX3_carve 3 = .ok (.iload_n 2, 1) := dk_28 (dk_at dksX3_carve_0 3 rfl rfl)
theorem dX3_carve_4 : decode cX3_carve 4 = .ok (.iconst 1, 1) := dk_4 (dk_at dksX3_carve_0 4 rfl rfl)
theorem dX3_carve_5 : decode cX3_carve 5 = .ok (.invokevirtual 147, 3) := dk_182 0 147 (dk_at dksX3_carve_0 5 rfl rfl)
theorem dX3_carve_8 : decode cX3_carve 8 = .ok (.putfield 44, 3) := dk_181 0 44 (dk_at dksX3_carve_0 8 rfl rfl)
theorem dX3_carve_11 : decode cX3_carve 11 = .ok (.aload_n 0, 1) := dk_42 (dk_at dksX3_carve_0 11 rfl rfl)
theorem dX3_carve_12 : decode cX3_carve 12 = .ok (.getfield 44, 3) := dk_180 0 44 (dk_at dksX3_carve_0 12 rfl rfl)
theorem dX3_carve_15 : decode cX3_carve 15 = .ok (.ifCond .eq 5, 3) := dk_153 0 5 (dk_at dksX3_carve_0 15 rfl rfl)
theorem dX3_carve_18 : decode cX3_carve 18 = .ok (.iconst 0, 1) := dk_3 (dk_at dksX3_carve_0 18 rfl rfl)
theorem dX3_carve_19 : decode cX3_carve 19 = .ok (.ireturn, 1) := dk_172 (dk_at dksX3_carve_0 19 rfl rfl)
theorem dX3_carve_20 : decode cX3_carve 20 = .ok (.aload_n 0, 1) := dk_42 (dk_at dksX3_carve_0 20 rfl rfl)
theorem dX3_carve_21 : decode cX3_carve 21 = .ok (.aload_n 0, 1) := dk_42 (dk_at dksX3_carve_0 21 rfl rfl)
theorem dX3_carve_22 : decode cX3_carve 22 = .ok (.getfield 7, 3) := dk_180 0 7 (dk_at dksX3_carve_1 0 rfl rfl)
theorem dX3_carve_25 : decode cX3_carve 25 = .ok (.iload_n 1, 1) := dk_27 (dk_at dksX3_carve_1 3 rfl rfl)
theorem dX3_carve_26 : decode cX3_carve 26 = .ok (.iload_n 2, 1) := dk_28 (dk_at dksX3_carve_1 4 rfl rfl)
theorem dX3_carve_27 : decode cX3_carve 27 = .ok (.invokevirtual 116, 3) := dk_182 0 116 (dk_at dksX3_carve_1 5 rfl rfl)
theorem dX3_carve_30 : decode cX3_carve 30 = .ok (.ifCond .ne 9, 3) := dk_154 0 9 (dk_at dksX3_carve_1 8 rfl rfl)
theorem dX3_carve_33 : decode cX3_carve 33 = .ok (.aload_n 0, 1) := dk_42 (dk_at dksX3_carve_1 11 rfl rfl)
theorem dX3_carve_34 : decode cX3_carve 34 = .ok (.iconst 3, 1) := dk_6 (dk_at dksX3_carve_1 12 rfl rfl)
theorem dX3_carve_35 : decode cX3_carve 35 = .ok (.invokevirtual 63, 3) := dk_182 0 63 (dk_at dksX3_carve_1 13 rfl rfl)
theorem dX3_carve_38 : decode cX3_carve 38 = .ok (.ireturn, 1) := dk_172 (dk_at dksX3_carve_1 16 rfl rfl)
theorem dX3_carve_39 : decode cX3_carve 39 = .ok (.aload_n 0, 1) := dk_42 (dk_at dksX3_carve_1 17 rfl rfl)
theorem dX3_carve_40 : decode cX3_carve 40 = .ok (.invokevirtual 141, 3) := dk_182 0 141 (dk_at dksX3_carve_1 18 rfl rfl)
theorem dX3_carve_43 : decode cX3_carve 43 = .ok (.aload_n 0, 1) := dk_42 (dk_at dksX3_carve_1 21 rfl rfl)
theorem dX3_carve_44 : decode cX3_carve 44 = .ok (.aload_n 0, 1) := dk_42 (dk_at dksX3_carve_1 22 rfl rfl)
theorem dX3_carve_45 : decode cX3_carve 45 = .ok (.getfield 7, 3) := dk_180 0 7 (dk_at dksX3_carve_2 0 rfl rfl)
theorem dX3_carve_48 : decode cX3_carve 48 = .ok (.invokevirtual 119, 3) := dk_182 0 119 (dk_at dksX3_carve_2 3 rfl rfl)
theorem dX3_carve_51 : decode cX3_carve 51 = .ok (.ireturn, 1) := dk_172 (dk_at dksX3_carve_2 6 rfl rfl)
abbrev cX3_isWay : ByteArray := prog_8_method_21_code
def yX3_isWay : MethodName := ⟨RX3, "isWay", "([III)Z"⟩
def dkwX3_isWay_9 : List UInt8 := [159, 0, 7, 4, 167, 0, 4, 3, 172]
abbrev dktX3_isWay_9 : List UInt8 := dkwX3_isWay_9 ++ []
def dkwX3_isWay_8 : List UInt8 := [160, 0, 7, 2, 167, 0, 10, 42, 43, 21, 6, 182, 0, 112, 54, 6, 167, 255, 201, 21, 4, 2]
abbrev dktX3_isWay_8 : List UInt8 := dkwX3_isWay_8 ++ dktX3_isWay_9
def dkwX3_isWay_7 : List UInt8 := [79, 42, 89, 180, 0, 106, 4, 96, 181, 0, 106, 42, 180, 0, 31, 21, 6, 46, 17, 3, 232, 112, 4]
abbrev dktX3_isWay_7 : List UInt8 := dkwX3_isWay_7 ++ dktX3_isWay_8
def dkwX3_isWay_6 : List UInt8 := [108, 181, 0, 109, 21, 4, 54, 6, 21, 6, 2, 159, 0, 55, 42, 180, 0, 38, 42, 180, 0, 106, 21, 6]
abbrev dktX3_isWay_6 : List UInt8 := dkwX3_isWay_6 ++ dktX3_isWay_7
def dkwX3_isWay_5 : List UInt8 := [167, 0, 5, 21, 5, 54, 5, 132, 6, 1, 167, 255, 168, 42, 3, 181, 0, 106, 42, 21, 5, 17, 3, 232]
abbrev dktX3_isWay_5 : List UInt8 := dkwX3_isWay_5 ++ dktX3_isWay_6
def dkwX3_isWay_4 : List UInt8 := [21, 5, 162, 0, 8, 21, 6, 167, 0, 5, 21, 4, 54, 4, 21, 7, 21, 5, 162, 0, 8, 21, 7]
abbrev dktX3_isWay_4 : List UInt8 := dkwX3_isWay_4 ++ dktX3_isWay_5
def dkwX3_isWay_3 : List UInt8 := [180, 0, 31, 21, 6, 46, 17, 3, 232, 42, 43, 21, 6, 2, 182, 0, 96, 104, 96, 54, 7, 21, 7]
abbrev dktX3_isWay_3 : List UInt8 := dkwX3_isWay_3 ++ dktX3_isWay_4
def dkwX3_isWay_2 : List UInt8 := [180, 0, 31, 21, 6, 46, 18, 85, 162, 0, 68, 42, 43, 21, 6, 28, 182, 0, 86, 153, 0, 57, 42]
abbrev dktX3_isWay_2 : List UInt8 := dkwX3_isWay_2 ++ dktX3_isWay_3
def dkwX3_isWay_1 : List UInt8 := [43, 29, 182, 0, 102, 2, 54, 4, 18, 85, 54, 5, 3, 54, 6, 21, 6, 17, 0, 192, 162, 0, 86, 42]
abbrev dktX3_isWay_1 : List UInt8 := dkwX3_isWay_1 ++ dktX3_isWay_2
def dkwX3_isWay_0 : List UInt8 := [42, 43, 28, 29, 184, 0, 99, 154, 0, 7, 4, 167, 0, 9, 43, 28, 29, 184, 0, 99, 181, 0, 71, 42]
abbrev dktX3_isWay_0 : List UInt8 := dkwX3_isWay_0 ++ dktX3_isWay_1
theorem dksX3_isWay_0 : cX3_isWay.data.toList.drop 0 = dktX3_isWay_0 := by decide +kernel
theorem dksX3_isWay_1 : cX3_isWay.data.toList.drop 24 = dktX3_isWay_1 := dk_seg dksX3_isWay_0 24 rfl rfl
theorem dksX3_isWay_2 : cX3_isWay.data.toList.drop 48 = dktX3_isWay_2 := dk_seg dksX3_isWay_1 24 rfl rfl
theorem dksX3_isWay_3 : cX3_isWay.data.toList.drop 71 = dktX3_isWay_3 := dk_seg dksX3_isWay_2 23 rfl rfl
theorem dksX3_isWay_4 : cX3_isWay.data.toList.drop 94 = dktX3_isWay_4 := dk_seg dksX3_isWay_3 23 rfl rfl
theorem dksX3_isWay_5 : cX3_isWay.data.toList.drop 117 = dktX3_isWay_5 := dk_seg dksX3_isWay_4 23 rfl rfl
theorem dksX3_isWay_6 : cX3_isWay.data.toList.drop 141 = dktX3_isWay_6 := dk_seg dksX3_isWay_5 24 rfl rfl
theorem dksX3_isWay_7 : cX3_isWay.data.toList.drop 165 = dktX3_isWay_7 := dk_seg dksX3_isWay_6 24 rfl rfl
theorem dksX3_isWay_8 : cX3_isWay.data.toList.drop 188 = dktX3_isWay_8 := dk_seg dksX3_isWay_7 23 rfl rfl
theorem dksX3_isWay_9 : cX3_isWay.data.toList.drop 210 = dktX3_isWay_9 := dk_seg dksX3_isWay_8 22 rfl rfl
theorem dX3_isWay_0 : decode cX3_isWay 0 = .ok (.aload_n 0, 1) := dk_42 (dk_at dksX3_isWay_0 0 rfl rfl)
theorem dX3_isWay_1 : decode cX3_isWay 1 = .ok (.aload_n 1, 1) := dk_43 (dk_at dksX3_isWay_0 1 rfl rfl)
theorem dX3_isWay_2 : decode cX3_isWay 2 = .ok (.iload_n 2, 1) := dk_28 (dk_at dksX3_isWay_0 2 rfl rfl)
theorem dX3_isWay_3 : decode cX3_isWay 3 = .ok (.iload_n 3, 1) := dk_29 (dk_at dksX3_isWay_0 3 rfl rfl)
theorem dX3_isWay_4 : decode cX3_isWay 4 = .ok (.invokestatic 99, 3) := dk_184 0 99 (dk_at dksX3_isWay_0 4 rfl rfl)
theorem dX3_isWay_7 : decode cX3_isWay 7 = .ok (.ifCond .ne 7, 3) := dk_154 0 7 (dk_at dksX3_isWay_0 7 rfl rfl)
theorem dX3_isWay_10 : decode cX3_isWay 10 = .ok (.iconst 1, 1) := dk_4 (dk_at dksX3_isWay_0 10 rfl rfl)
theorem dX3_isWay_11 : decode cX3_isWay 11 = .ok (.goto 9, 3) := dk_167 0 9 (dk_at dksX3_isWay_0 11 rfl rfl)
theorem dX3_isWay_14 : decode cX3_isWay 14 = .ok (.aload_n 1, 1) := dk_43 (dk_at dksX3_isWay_0 14 rfl rfl)
theorem dX3_isWay_15 : decode cX3_isWay 15 = .ok (.iload_n 2, 1) := dk_28 (dk_at dksX3_isWay_0 15 rfl rfl)
theorem dX3_isWay_16 : decode cX3_isWay 16 = .ok (.iload_n 3, 1) := dk_29 (dk_at dksX3_isWay_0 16 rfl rfl)
theorem dX3_isWay_17 : decode cX3_isWay 17 = .ok (.invokestatic 99, 3) := dk_184 0 99 (dk_at dksX3_isWay_0 17 rfl rfl)
theorem dX3_isWay_20 : decode cX3_isWay 20 = .ok (.putfield 71, 3) := dk_181 0 71 (dk_at dksX3_isWay_0 20 rfl rfl)
theorem dX3_isWay_23 : decode cX3_isWay 23 = .ok (.aload_n 0, 1) := dk_42 (dk_at dksX3_isWay_0 23 rfl rfl)
theorem dX3_isWay_24 : decode cX3_isWay 24 = .ok (.aload_n 1, 1) := dk_43 (dk_at dksX3_isWay_1 0 rfl rfl)
theorem dX3_isWay_25 : decode cX3_isWay 25 = .ok (.iload_n 3, 1) := dk_29 (dk_at dksX3_isWay_1 1 rfl rfl)
theorem dX3_isWay_26 : decode cX3_isWay 26 = .ok (.invokevirtual 102, 3) := dk_182 0 102 (dk_at dksX3_isWay_1 2 rfl rfl)
theorem dX3_isWay_29 : decode cX3_isWay 29 = .ok (.iconst (-1), 1) := dk_2 (dk_at dksX3_isWay_1 5 rfl rfl)
theorem dX3_isWay_30 : decode cX3_isWay 30 = .ok (.istore 4, 2) := dk_54 4 (dk_at dksX3_isWay_1 6 rfl rfl)
theorem dX3_isWay_32 : decode cX3_isWay 32 = .ok (.ldc 85, 2) := dk_18 85 (dk_at dksX3_isWay_1 8 rfl rfl)
theorem dX3_isWay_34 : decode cX3_isWay 34 = .ok (.istore 5, 2) := dk_54 5 (dk_at dksX3_isWay_1 10 rfl rfl)
theorem dX3_isWay_36 : decode cX3_isWay 36 = .ok (.iconst 0, 1) := dk_3 (dk_at dksX3_isWay_1 12 rfl rfl)
theorem dX3_isWay_37 : decode cX3_isWay 37 = .ok (.istore 6, 2) := dk_54 6 (dk_at dksX3_isWay_1 13 rfl rfl)
theorem dX3_isWay_39 : decode cX3_isWay 39 = .ok (.iload 6, 2) := dk_21 6 (dk_at dksX3_isWay_1 15 rfl rfl)
theorem dX3_isWay_41 : decode cX3_isWay 41 = .ok (.sipush 192, 3) := dk_17 0 192 (dk_at dksX3_isWay_1 17 rfl rfl)
theorem dX3_isWay_44 : decode cX3_isWay 44 = .ok (.if_icmp .ge 86, 3) := dk_162 0 86 (dk_at dksX3_isWay_1 20 rfl rfl)
theorem dX3_isWay_47 : decode cX3_isWay 47 = .ok (.aload_n 0, 1) := dk_42 (dk_at dksX3_isWay_1 23 rfl rfl)
theorem dX3_isWay_48 : decode cX3_isWay 48 = .ok (.getfield 31, 3) := dk_180 0 31 (dk_at dksX3_isWay_2 0 rfl rfl)
theorem dX3_isWay_51 : decode cX3_isWay 51 = .ok (.iload 6, 2) := dk_21 6 (dk_at dksX3_isWay_2 3 rfl rfl)
theorem dX3_isWay_53 : decode cX3_isWay 53 = .ok (.iaload, 1) := dk_46 (dk_at dksX3_isWay_2 5 rfl rfl)
theorem dX3_isWay_54 : decode cX3_isWay 54 = .ok (.ldc 85, 2) := dk_18 85 (dk_at dksX3_isWay_2 6 rfl rfl)
theorem dX3_isWay_56 : decode cX3_isWay 56 = .ok (.if_icmp .ge 68, 3) := dk_162 0 68 (dk_at dksX3_isWay_2 8 rfl rfl)
theorem dX3_isWay_59 : decode cX3_isWay 59 = .ok (.aload_n 0, 1) := dk_42 (dk_at dksX3_isWay_2 11 rfl rfl)
theorem dX3_isWay_60 : decode cX3_isWay 60 = .ok (.aload_n 1, 1) := dk_43 (dk_at dksX3_isWay_2 12 rfl rfl)
theorem dX3_isWay_61 : decode cX3_isWay 61 = .ok (.iload 6, 2) := dk_21 6 (dk_at dksX3_isWay_2 13 rfl rfl)
theorem dX3_isWay_63 : decode cX3_isWay 63 = .ok (.iload_n 2, 1) := dk_28 (dk_at dksX3_isWay_2 15 rfl rfl)
theorem dX3_isWay_64 : decode cX3_isWay 64 = .ok (.invokevirtual 86, 3) := dk_182 0 86 (dk_at dksX3_isWay_2 16 rfl rfl)
theorem dX3_isWay_67 : decode cX3_isWay 67 = .ok (.ifCond .eq 57, 3) := dk_153 0 57 (dk_at dksX3_isWay_2 19 rfl rfl)
theorem dX3_isWay_70 : decode cX3_isWay 70 = .ok (.aload_n 0, 1) := dk_42 (dk_at dksX3_isWay_2 22 rfl rfl)
theorem dX3_isWay_71 : decode cX3_isWay 71 = .ok (.getfield 31, 3) := dk_180 0 31 (dk_at dksX3_isWay_3 0 rfl rfl)
theorem dX3_isWay_74 : decode cX3_isWay 74 = .ok (.iload 6, 2) := dk_21 6 (dk_at dksX3_isWay_3 3 rfl rfl)
theorem dX3_isWay_76 : decode cX3_isWay 76 = .ok (.iaload, 1) := dk_46 (dk_at dksX3_isWay_3 5 rfl rfl)
theorem dX3_isWay_77 : decode cX3_isWay 77 = .ok (.sipush 1000, 3) := dk_17 3 232 (dk_at dksX3_isWay_3 6 rfl rfl)
theorem dX3_isWay_80 : decode cX3_isWay 80 = .ok (.aload_n 0, 1) := dk_42 (dk_at dksX3_isWay_3 9 rfl rfl)
theorem dX3_isWay_81 : decode cX3_isWay 81 = .ok (.aload_n 1, 1) := dk_43 (dk_at dksX3_isWay_3 10 rfl rfl)
theorem dX3_isWay_82 : decode cX3_isWay 82 = .ok (.iload 6, 2) := dk_21 6 (dk_at dksX3_isWay_3 11 rfl rfl)
theorem dX3_isWay_84 : decode cX3_isWay 84 = .ok (.iconst (-1), 1) := dk_2 (dk_at dksX3_isWay_3 13 rfl rfl)
theorem dX3_isWay_85 : decode cX3_isWay 85 = .ok (.invokevirtual 96, 3) := dk_182 0 96 (dk_at dksX3_isWay_3 14 rfl rfl)
theorem dX3_isWay_88 : decode cX3_isWay 88 = .ok (.imul, 1) := dk_104 (dk_at dksX3_isWay_3 17 rfl rfl)
theorem dX3_isWay_89 : decode cX3_isWay 89 = .ok (.iadd, 1) := dk_96 (dk_at dksX3_isWay_3 18 rfl rfl)
theorem dX3_isWay_90 : decode cX3_isWay 90 = .ok (.istore 7, 2) := dk_54 7 (dk_at dksX3_isWay_3 19 rfl rfl)
theorem dX3_isWay_92 : decode cX3_isWay 92 = .ok (.iload 7, 2) := dk_21 7 (dk_at dksX3_isWay_3 21 rfl rfl)
theorem dX3_isWay_94 : decode cX3_isWay 94 = .ok (.iload 5, 2) := dk_21 5 (dk_at dksX3_isWay_4 0 rfl rfl)
theorem dX3_isWay_96 : decode cX3_isWay 96 = .ok (.if_icmp .ge 8, 3) := dk_162 0 8 (dk_at dksX3_isWay_4 2 rfl rfl)
theorem dX3_isWay_99 : decode cX3_isWay 99 = .ok (.iload 6, 2) := dk_21 6 (dk_at dksX3_isWay_4 5 rfl rfl)
theorem dX3_isWay_101 : decode cX3_isWay 101 = .ok (.goto 5, 3) := dk_167 0 5 (dk_at dksX3_isWay_4 7 rfl rfl)
theorem dX3_isWay_104 : decode cX3_isWay 104 = .ok (.iload 4, 2) := dk_21 4 (dk_at dksX3_isWay_4 10 rfl rfl)
theorem dX3_isWay_106 : decode cX3_isWay 106 = .ok (.istore 4, 2) := dk_54 4 (dk_at dksX3_isWay_4 12 rfl rfl)
theorem dX3_isWay_108 : decode cX3_isWay 108 = .ok (.iload 7, 2) := dk_21 7 (dk_at dksX3_isWay_4 14 rfl rfl)
theorem dX3_isWay_110 : decode cX3_isWay 110 = .ok (.iload 5, 2) := dk_21 5 (dk_at dksX3_isWay_4 16 rfl rfl)
theorem dX3_isWay_112 : decode cX3_isWay 112 = .ok (.if_icmp .ge 8, 3) := dk_162 0 8 (dk_at dksX3_isWay_4 18 rfl rfl)
theorem dX3_isWay_115 : decode cX3_isWay 115 = .ok (.iload 7, 2) := dk_21 7 (dk_at dksX3_isWay_4 21 rfl rfl)
theorem dX3_isWay_117 : decode cX3_isWay 117 = .ok (.goto 5, 3) := dk_167 0 5 (dk_at dksX3_isWay_5 0 rfl rfl)
theorem dX3_isWay_120 : decode cX3_isWay 120 = .ok (.iload 5, 2) := dk_21 5 (dk_at dksX3_isWay_5 3 rfl rfl)
theorem dX3_isWay_122 : decode cX3_isWay 122 = .ok (.istore 5, 2) := dk_54 5 (dk_at dksX3_isWay_5 5 rfl rfl)
theorem dX3_isWay_124 : decode cX3_isWay 124 = .ok (.iinc 6 1, 3) := dk_132 6 1 (dk_at dksX3_isWay_5 7 rfl rfl)
theorem dX3_isWay_127 : decode cX3_isWay 127 = .ok (.goto (-88), 3) := dk_167 255 168 (dk_at dksX3_isWay_5 10 rfl rfl)
theorem dX3_isWay_130 : decode cX3_isWay 130 = .ok (.aload_n 0, 1) := dk_42 (dk_at dksX3_isWay_5 13 rfl rfl)
theorem dX3_isWay_131 : decode cX3_isWay 131 = .ok (.iconst 0, 1) := dk_3 (dk_at dksX3_isWay_5 14 rfl rfl)
theorem dX3_isWay_132 : decode cX3_isWay 132 = .ok (.putfield 106, 3) := dk_181 0 106 (dk_at dksX3_isWay_5 15 rfl rfl)
theorem dX3_isWay_135 : decode cX3_isWay 135 = .ok (.aload_n 0, 1) := dk_42 (dk_at dksX3_isWay_5 18 rfl rfl)
theorem dX3_isWay_136 : decode cX3_isWay 136 = .ok (.iload 5, 2) := dk_21 5 (dk_at dksX3_isWay_5 19 rfl rfl)
theorem dX3_isWay_138 : decode cX3_isWay 138 = .ok (.sipush 1000, 3) := dk_17 3 232 (dk_at dksX3_isWay_5 21 rfl rfl)
theorem dX3_isWay_141 : decode cX3_isWay 141 = .ok (.idiv, 1) := dk_108 (dk_at dksX3_isWay_6 0 rfl rfl)
theorem dX3_isWay_142 : decode cX3_isWay 142 = .ok (.putfield 109, 3) := dk_181 0 109 (dk_at dksX3_isWay_6 1 rfl rfl)
theorem dX3_isWay_145 : decode cX3_isWay 145 = .ok (.iload 4, 2) := dk_21 4 (dk_at dksX3_isWay_6 4 rfl rfl)
theorem dX3_isWay_147 : decode cX3_isWay 147 = .ok (.istore 6, 2) := dk_54 6 (dk_at dksX3_isWay_6 6 rfl rfl)
theorem dX3_isWay_149 : decode cX3_isWay 149 = .ok (.iload 6, 2) := dk_21 6 (dk_at dksX3_isWay_6 8 rfl rfl)
theorem dX3_isWay_151 : decode cX3_isWay 151 = .ok (.iconst (-1), 1) := dk_2 (dk_at dksX3_isWay_6 10 rfl rfl)
theorem dX3_isWay_152 : decode cX3_isWay 152 = .ok (.if_icmp .eq 55, 3) := dk_159 0 55 (dk_at dksX3_isWay_6 11 rfl rfl)
theorem dX3_isWay_155 : decode cX3_isWay 155 = .ok (.aload_n 0, 1) := dk_42 (dk_at dksX3_isWay_6 14 rfl rfl)
theorem dX3_isWay_156 : decode cX3_isWay 156 = .ok (.getfield 38, 3) := dk_180 0 38 (dk_at dksX3_isWay_6 15 rfl rfl)
theorem dX3_isWay_159 : decode cX3_isWay 159 = .ok (.aload_n 0, 1) := dk_42 (dk_at dksX3_isWay_6 18 rfl rfl)
theorem dX3_isWay_160 : decode cX3_isWay 160 = .ok (.getfield 106, 3) := dk_180 0 106 (dk_at dksX3_isWay_6 19 rfl rfl)
theorem dX3_isWay_163 : decode cX3_isWay 163 = .ok (.iload 6, 2) := dk_21 6 (dk_at dksX3_isWay_6 22 rfl rfl)
theorem dX3_isWay_165 : decode cX3_isWay 165 = .ok (.iastore, 1) := dk_79 (dk_at dksX3_isWay_7 0 rfl rfl)
theorem dX3_isWay_166 : decode cX3_isWay 166 = .ok (.aload_n 0, 1) := dk_42 (dk_at dksX3_isWay_7 1 rfl rfl)
theorem dX3_isWay_167 : decode cX3_isWay 167 = .ok (.dup, 1) := dk_89 (dk_at dksX3_isWay_7 2 rfl rfl)
theorem dX3_isWay_168 : decode cX3_isWay 168 = .ok (.getfield 106, 3) := dk_180 0 106 (dk_at dksX3_isWay_7 3 rfl rfl)
theorem dX3_isWay_171 : decode cX3_isWay 171 = .ok (.iconst 1, 1) := dk_4 (dk_at dksX3_isWay_7 6 rfl rfl)
theorem dX3_isWay_172 : decode cX3_isWay 172 = .ok (.iadd, 1) := dk_96 (dk_at dksX3_isWay_7 7 rfl rfl)
theorem dX3_isWay_173 : decode cX3_isWay 173 = .ok (.putfield 106, 3) := dk_181 0 106 (dk_at dksX3_isWay_7 8 rfl rfl)
theorem dX3_isWay_176 : decode cX3_isWay 176 = .ok (.aload_n 0, 1) := dk_42 (dk_at dksX3_isWay_7 11 rfl rfl)
theorem dX3_isWay_177 : decode cX3_isWay 177 = .ok (.getfield 31, 3) := dk_180 0 31 (dk_at dksX3_isWay_7 12 rfl rfl)
theorem dX3_isWay_180 : decode cX3_isWay 180 = .ok (.iload 6, 2) := dk_21 6 (dk_at dksX3_isWay_7 15 rfl rfl)
theorem dX3_isWay_182 : decode cX3_isWay 182 = .ok (.iaload, 1) := dk_46 (dk_at dksX3_isWay_7 17 rfl rfl)
theorem dX3_isWay_183 : decode cX3_isWay 183 = .ok (.sipush 1000, 3) := dk_17 3 232 (dk_at dksX3_isWay_7 18 rfl rfl)
theorem dX3_isWay_186 : decode cX3_isWay 186 = .ok (.irem, 1) := dk_112 (dk_at dksX3_isWay_7 21 rfl rfl)
theorem dX3_isWay_187 : decode cX3_isWay 187 = .ok (.iconst 1, 1) := dk_4 (dk_at dksX3_isWay_7 22 rfl rfl)
theorem dX3_isWay_188 : decode cX3_isWay 188 = .ok (.if_icmp .ne 7, 3) := dk_160 0 7 (dk_at dksX3_isWay_8 0 rfl rfl)
theorem dX3_isWay_191 : decode cX3_isWay 191 = .ok (.iconst (-1), 1) := dk_2 (dk_at dksX3_isWay_8 3 rfl rfl)
theorem dX3_isWay_192 : decode cX3_isWay 192 = .ok (.goto 10, 3) := dk_167 0 10 (dk_at dksX3_isWay_8 4 rfl rfl)
theorem dX3_isWay_195 : decode cX3_isWay 195 = .ok (.aload_n 0, 1) := dk_42 (dk_at dksX3_isWay_8 7 rfl rfl)
theorem dX3_isWay_196 : decode cX3_isWay 196 = .ok (.aload_n 1, 1) := dk_43 (dk_at dksX3_isWay_8 8 rfl rfl)
theorem dX3_isWay_197 : decode cX3_isWay 197 = .ok (.iload 6, 2) := dk_21 6 (dk_at dksX3_isWay_8 9 rfl rfl)
theorem dX3_isWay_199 : decode cX3_isWay 199 = .ok (.invokevirtual 112, 3) := dk_182 0 112 (dk_at dksX3_isWay_8 11 rfl rfl)
theorem dX3_isWay_202 : decode cX3_isWay 202 = .ok (.istore 6, 2) := dk_54 6 (dk_at dksX3_isWay_8 14 rfl rfl)
theorem dX3_isWay_204 : decode cX3_isWay 204 = .ok (.goto (-55), 3) := dk_167 255 201 (dk_at dksX3_isWay_8 16 rfl rfl)
theorem dX3_isWay_207 : decode cX3_isWay 207 = .ok (.iload 4, 2) := dk_21 4 (dk_at dksX3_isWay_8 19 rfl rfl)
theorem dX3_isWay_209 : decode cX3_isWay 209 = .ok (.iconst (-1), 1) := dk_2 (dk_at dksX3_isWay_8 21 rfl rfl)
theorem dX3_isWay_210 : decode cX3_isWay 210 = .ok (.if_icmp .eq 7, 3) := dk_159 0 7 (dk_at dksX3_isWay_9 0 rfl rfl)
theorem dX3_isWay_213 : decode cX3_isWay 213 = .ok (.iconst 1, 1) := dk_4 (dk_at dksX3_isWay_9 3 rfl rfl)
theorem dX3_isWay_214 : decode cX3_isWay 214 = .ok (.goto 4, 3) := dk_167 0 4 (dk_at dksX3_isWay_9 4 rfl rfl)
theorem dX3_isWay_217 : decode cX3_isWay 217 = .ok (.iconst 0, 1) := dk_3 (dk_at dksX3_isWay_9 7 rfl rfl)
theorem dX3_isWay_218 : decode cX3_isWay 218 = .ok (.ireturn, 1) := dk_172 (dk_at dksX3_isWay_9 8 rfl rfl)
abbrev cX3_laysRests : ByteArray := prog_8_method_20_code
def yX3_laysRests : MethodName := ⟨RX3, "laysRests", "([II)V"⟩
def dkwX3_laysRests_7 : List UInt8 := [182, 0, 89, 62, 167, 255, 154, 177]
abbrev dktX3_laysRests_7 : List UInt8 := dkwX3_laysRests_7 ++ []
def dkwX3_laysRests_6 : List UInt8 := [162, 0, 8, 21, 6, 167, 0, 10, 42, 180, 0, 31, 21, 5, 46, 79, 132, 4, 1, 167, 255, 177, 42]
abbrev dktX3_laysRests_6 : List UInt8 := dkwX3_laysRests_6 ++ dktX3_laysRests_7
def dkwX3_laysRests_5 : List UInt8 := [182, 0, 96, 104, 96, 54, 6, 42, 180, 0, 31, 21, 5, 21, 6, 42, 180, 0, 31, 21, 5, 46]
abbrev dktX3_laysRests_5 : List UInt8 := dkwX3_laysRests_5 ++ dktX3_laysRests_6
def dkwX3_laysRests_4 : List UInt8 := [54, 5, 21, 5, 2, 159, 0, 57, 42, 180, 0, 31, 29, 46, 4, 96, 17, 3, 232, 42, 43, 29, 21, 5]
abbrev dktX3_laysRests_4 : List UInt8 := dkwX3_laysRests_4 ++ dktX3_laysRests_5
def dkwX3_laysRests_3 : List UInt8 := [180, 0, 34, 29, 4, 84, 3, 54, 4, 21, 4, 7, 162, 0, 79, 42, 43, 29, 21, 4, 182, 0, 93]
abbrev dktX3_laysRests_3 : List UInt8 := dkwX3_laysRests_3 ++ dktX3_laysRests_4
def dkwX3_laysRests_2 : List UInt8 := [167, 0, 5, 18, 85, 79, 132, 3, 1, 167, 255, 201, 42, 182, 0, 89, 62, 29, 2, 159, 0, 103, 42]
abbrev dktX3_laysRests_2 : List UInt8 := dkwX3_laysRests_2 ++ dktX3_laysRests_3
def dkwX3_laysRests_1 : List UInt8 := [16, 16, 112, 29, 16, 16, 108, 182, 0, 81, 153, 0, 17, 42, 43, 29, 28, 182, 0, 86, 153, 0, 7, 4]
abbrev dktX3_laysRests_1 : List UInt8 := dkwX3_laysRests_1 ++ dktX3_laysRests_2
def dkwX3_laysRests_0 : List UInt8 := [3, 62, 29, 17, 0, 192, 162, 0, 54, 42, 180, 0, 34, 29, 3, 84, 42, 180, 0, 31, 29, 42, 43, 29]
abbrev dktX3_laysRests_0 : List UInt8 := dkwX3_laysRests_0 ++ dktX3_laysRests_1
theorem dksX3_laysRests_0 : cX3_laysRests.data.toList.drop 0 = dktX3_laysRests_0 := by decide +kernel
theorem dksX3_laysRests_1 : cX3_laysRests.data.toList.drop 24 = dktX3_laysRests_1 := dk_seg dksX3_laysRests_0 24 rfl rfl
theorem dksX3_laysRests_2 : cX3_laysRests.data.toList.drop 48 = dktX3_laysRests_2 := dk_seg dksX3_laysRests_1 24 rfl rfl
theorem dksX3_laysRests_3 : cX3_laysRests.data.toList.drop 71 = dktX3_laysRests_3 := dk_seg dksX3_laysRests_2 23 rfl rfl
theorem dksX3_laysRests_4 : cX3_laysRests.data.toList.drop 94 = dktX3_laysRests_4 := dk_seg dksX3_laysRests_3 23 rfl rfl
theorem dksX3_laysRests_5 : cX3_laysRests.data.toList.drop 118 = dktX3_laysRests_5 := dk_seg dksX3_laysRests_4 24 rfl rfl
theorem dksX3_laysRests_6 : cX3_laysRests.data.toList.drop 140 = dktX3_laysRests_6 := dk_seg dksX3_laysRests_5 22 rfl rfl
theorem dksX3_laysRests_7 : cX3_laysRests.data.toList.drop 163 = dktX3_laysRests_7 := dk_seg dksX3_laysRests_6 23 rfl rfl
theorem dX3_laysRests_0 : decode cX3_laysRests 0 = .ok (.iconst 0, 1) := dk_3 (dk_at dksX3_laysRests_0 0 rfl rfl)
theorem dX3_laysRests_1 : decode cX3_laysRests 1 = .ok (.istore_n 3, 1) := dk_62 (dk_at dksX3_laysRests_0 1 rfl rfl)
theorem dX3_laysRests_2 : decode cX3_laysRests 2 = .ok (.iload_n 3, 1) := dk_29 (dk_at dksX3_laysRests_0 2 rfl rfl)
theorem dX3_laysRests_3 : decode cX3_laysRests 3 = .ok (.sipush 192, 3) := dk_17 0 192 (dk_at dksX3_laysRests_0 3 rfl rfl)
theorem dX3_laysRests_6 : decode cX3_laysRests 6 = .ok (.if_icmp .ge 54, 3) := dk_162 0 54 (dk_at dksX3_laysRests_0 6 rfl rfl)
theorem dX3_laysRests_9 : decode cX3_laysRests 9 = .ok (.aload_n 0, 1) := dk_42 (dk_at dksX3_laysRests_0 9 rfl rfl)
theorem dX3_laysRests_10 : decode cX3_laysRests 10 = .ok (.getfield 34, 3) := dk_180 0 34 (dk_at dksX3_laysRests_0 10 rfl rfl)
theorem dX3_laysRests_13 : decode cX3_laysRests 13 = .ok (.iload_n 3, 1) := dk_29 (dk_at dksX3_laysRests_0 13 rfl rfl)
theorem dX3_laysRests_14 : decode cX3_laysRests 14 = .ok (.iconst 0, 1) := dk_3 (dk_at dksX3_laysRests_0 14 rfl rfl)
theorem dX3_laysRests_15 : decode cX3_laysRests 15 = .ok (.bastore, 1) := dk_84 (dk_at dksX3_laysRests_0 15 rfl rfl)
theorem dX3_laysRests_16 : decode cX3_laysRests 16 = .ok (.aload_n 0, 1) := dk_42 (dk_at dksX3_laysRests_0 16 rfl rfl)
theorem dX3_laysRests_17 : decode cX3_laysRests 17 = .ok (.getfield 31, 3) := dk_180 0 31 (dk_at dksX3_laysRests_0 17 rfl rfl)
theorem dX3_laysRests_20 : decode cX3_laysRests 20 = .ok (.iload_n 3, 1) := dk_29 (dk_at dksX3_laysRests_0 20 rfl rfl)
theorem dX3_laysRests_21 : decode cX3_laysRests 21 = .ok (.aload_n 0, 1) := dk_42 (dk_at dksX3_laysRests_0 21 rfl rfl)
theorem dX3_laysRests_22 : decode cX3_laysRests 22 = .ok (.aload_n 1, 1) := dk_43 (dk_at dksX3_laysRests_0 22 rfl rfl)
theorem dX3_laysRests_23 : decode cX3_laysRests 23 = .ok (.iload_n 3, 1) := dk_29 (dk_at dksX3_laysRests_0 23 rfl rfl)
theorem dX3_laysRests_24 : decode cX3_laysRests 24 = .ok (.bipush 16, 2) := dk_16 16 (dk_at dksX3_laysRests_1 0 rfl rfl)
theorem dX3_laysRests_26 : decode cX3_laysRests 26 = .ok (.irem, 1) := dk_112 (dk_at dksX3_laysRests_1 2 rfl rfl)
theorem dX3_laysRests_27 : decode cX3_laysRests 27 = .ok (.iload_n 3, 1) := dk_29 (dk_at dksX3_laysRests_1 3 rfl rfl)
theorem dX3_laysRests_28 : decode cX3_laysRests 28 = .ok (.bipush 16, 2) := dk_16 16 (dk_at dksX3_laysRests_1 4 rfl rfl)
theorem dX3_laysRests_30 : decode cX3_laysRests 30 = .ok (.idiv, 1) := dk_108 (dk_at dksX3_laysRests_1 6 rfl rfl)
theorem dX3_laysRests_31 : decode cX3_laysRests 31 = .ok (.invokevirtual 81, 3) := dk_182 0 81 (dk_at dksX3_laysRests_1 7 rfl rfl)
theorem dX3_laysRests_34 : decode cX3_laysRests 34 = .ok (.ifCond .eq 17, 3) := dk_153 0 17 (dk_at dksX3_laysRests_1 10 rfl rfl)
theorem dX3_laysRests_37 : decode cX3_laysRests 37 = .ok (.aload_n 0, 1) := dk_42 (dk_at dksX3_laysRests_1 13 rfl rfl)
theorem dX3_laysRests_38 : decode cX3_laysRests 38 = .ok (.aload_n 1, 1) := dk_43 (dk_at dksX3_laysRests_1 14 rfl rfl)
theorem dX3_laysRests_39 : decode cX3_laysRests 39 = .ok (.iload_n 3, 1) := dk_29 (dk_at dksX3_laysRests_1 15 rfl rfl)
theorem dX3_laysRests_40 : decode cX3_laysRests 40 = .ok (.iload_n 2, 1) := dk_28 (dk_at dksX3_laysRests_1 16 rfl rfl)
theorem dX3_laysRests_41 : decode cX3_laysRests 41 = .ok (.invokevirtual 86, 3) := dk_182 0 86 (dk_at dksX3_laysRests_1 17 rfl rfl)
theorem dX3_laysRests_44 : decode cX3_laysRests 44 = .ok (.ifCond .eq 7, 3) := dk_153 0 7 (dk_at dksX3_laysRests_1 20 rfl rfl)
theorem dX3_laysRests_47 : decode cX3_laysRests 47 = .ok (.iconst 1, 1) := dk_4 (dk_at dksX3_laysRests_1 23 rfl rfl)
theorem dX3_laysRests_48 : decode cX3_laysRests 48 = .ok (.goto 5, 3) := dk_167 0 5 (dk_at dksX3_laysRests_2 0 rfl rfl)
theorem dX3_laysRests_51 : decode cX3_laysRests 51 = .ok (.ldc 85, 2) := dk_18 85 (dk_at dksX3_laysRests_2 3 rfl rfl)
theorem dX3_laysRests_53 : decode cX3_laysRests 53 = .ok (.iastore, 1) := dk_79 (dk_at dksX3_laysRests_2 5 rfl rfl)
theorem dX3_laysRests_54 : decode cX3_laysRests 54 = .ok (.iinc 3 1, 3) := dk_132 3 1 (dk_at dksX3_laysRests_2 6 rfl rfl)
theorem dX3_laysRests_57 : decode cX3_laysRests 57 = .ok (.goto (-55), 3) := dk_167 255 201 (dk_at dksX3_laysRests_2 9 rfl rfl)
theorem dX3_laysRests_60 : decode cX3_laysRests 60 = .ok (.aload_n 0, 1) := dk_42 (dk_at dksX3_laysRests_2 12 rfl rfl)
theorem dX3_laysRests_61 : decode cX3_laysRests 61 = .ok (.invokevirtual 89, 3) := dk_182 0 89 (dk_at dksX3_laysRests_2 13 rfl rfl)
theorem dX3_laysRests_64 : decode cX3_laysRests 64 = .ok (.istore_n 3, 1) := dk_62 (dk_at dksX3_laysRests_2 16 rfl rfl)
theorem dX3_laysRests_65 : decode cX3_laysRests 65 = .ok (.iload_n 3, 1) := dk_29 (dk_at dksX3_laysRests_2 17 rfl rfl)
theorem dX3_laysRests_66 : decode cX3_laysRests 66 = .ok (.iconst (-1), 1) := dk_2 (dk_at dksX3_laysRests_2 18 rfl rfl)
theorem dX3_laysRests_67 : decode cX3_laysRests 67 = .ok (.if_icmp .eq 103, 3) := dk_159 0 103 (dk_at dksX3_laysRests_2 19 rfl rfl)
theorem dX3_laysRests_70 : decode cX3_laysRests 70 = .ok (.aload_n 0, 1) := dk_42 (dk_at dksX3_laysRests_2 22 rfl rfl)
theorem dX3_laysRests_71 : decode cX3_laysRests 71 = .ok (.getfield 34, 3) := dk_180 0 34 (dk_at dksX3_laysRests_3 0 rfl rfl)
theorem dX3_laysRests_74 : decode cX3_laysRests 74 = .ok (.iload_n 3, 1) := dk_29 (dk_at dksX3_laysRests_3 3 rfl rfl)
theorem dX3_laysRests_75 : decode cX3_laysRests 75 = .ok (.iconst 1, 1) := dk_4 (dk_at dksX3_laysRests_3 4 rfl rfl)
theorem dX3_laysRests_76 : decode cX3_laysRests 76 = .ok (.bastore, 1) := dk_84 (dk_at dksX3_laysRests_3 5 rfl rfl)
theorem dX3_laysRests_77 : decode cX3_laysRests 77 = .ok (.iconst 0, 1) := dk_3 (dk_at dksX3_laysRests_3 6 rfl rfl)
theorem dX3_laysRests_78 : decode cX3_laysRests 78 = .ok (.istore 4, 2) := dk_54 4 (dk_at dksX3_laysRests_3 7 rfl rfl)
theorem dX3_laysRests_80 : decode cX3_laysRests 80 = .ok (.iload 4, 2) := dk_21 4 (dk_at dksX3_laysRests_3 9 rfl rfl)
theorem dX3_laysRests_82 : decode cX3_laysRests 82 = .ok (.iconst 4, 1) := dk_7 (dk_at dksX3_laysRests_3 11 rfl rfl)
theorem dX3_laysRests_83 : decode cX3_laysRests 83 = .ok (.if_icmp .ge 79, 3) := dk_162 0 79 (dk_at dksX3_laysRests_3 12 rfl rfl)
theorem dX3_laysRests_86 : decode cX3_laysRests 86 = .ok (.aload_n 0, 1) := dk_42 (dk_at dksX3_laysRests_3 15 rfl rfl)
theorem dX3_laysRests_87 : decode cX3_laysRests 87 = .ok (.aload_n 1, 1) := dk_43 (dk_at dksX3_laysRests_3 16 rfl rfl)
theorem dX3_laysRests_88 : decode cX3_laysRests 88 = .ok (.iload_n 3, 1) := dk_29 (dk_at dksX3_laysRests_3 17 rfl rfl)
theorem dX3_laysRests_89 : decode cX3_laysRests 89 = .ok (.iload 4, 2) := dk_21 4 (dk_at dksX3_laysRests_3 18 rfl rfl)
theorem dX3_laysRests_91 : decode cX3_laysRests 91 = .ok (.invokevirtual 93, 3) := dk_182 0 93 (dk_at dksX3_laysRests_3 20 rfl rfl)
theorem dX3_laysRests_94 : decode cX3_laysRests 94 = .ok (.istore 5, 2) := dk_54 5 (dk_at dksX3_laysRests_4 0 rfl rfl)
theorem dX3_laysRests_96 : decode cX3_laysRests 96 = .ok (.iload 5, 2) := dk_21 5 (dk_at dksX3_laysRests_4 2 rfl rfl)
theorem dX3_laysRests_98 : decode cX3_laysRests 98 = .ok (.iconst (-1), 1) := dk_2 (dk_at dksX3_laysRests_4 4 rfl rfl)
theorem dX3_laysRests_99 : decode cX3_laysRests 99 = .ok (.if_icmp .eq 57, 3) := dk_159 0 57 (dk_at dksX3_laysRests_4 5 rfl rfl)
theorem dX3_laysRests_102 : decode cX3_laysRests 102 = .ok (.aload_n 0, 1) := dk_42 (dk_at dksX3_laysRests_4 8 rfl rfl)
theorem dX3_laysRests_103 : decode cX3_laysRests 103 = .ok (.getfield 31, 3) := dk_180 0 31 (dk_at dksX3_laysRests_4 9 rfl rfl)
theorem dX3_laysRests_106 : decode cX3_laysRests 106 = .ok (.iload_n 3, 1) := dk_29 (dk_at dksX3_laysRests_4 12 rfl rfl)
theorem dX3_laysRests_107 : decode cX3_laysRests 107 = .ok (.iaload, 1) := dk_46 (dk_at dksX3_laysRests_4 13 rfl rfl)
theorem dX3_laysRests_108 : decode cX3_laysRests 108 = .ok (.iconst 1, 1) := dk_4 (dk_at dksX3_laysRests_4 14 rfl rfl)
theorem dX3_laysRests_109 : decode cX3_laysRests 109 = .ok (.iadd, 1) := dk_96 (dk_at dksX3_laysRests_4 15 rfl rfl)
theorem dX3_laysRests_110 : decode cX3_laysRests 110 = .ok (.sipush 1000, 3) := dk_17 3 232 (dk_at dksX3_laysRests_4 16 rfl rfl)
theorem dX3_laysRests_113 : decode cX3_laysRests 113 = .ok (.aload_n 0, 1) := dk_42 (dk_at dksX3_laysRests_4 19 rfl rfl)
theorem dX3_laysRests_114 : decode cX3_laysRests 114 = .ok (.aload_n 1, 1) := dk_43 (dk_at dksX3_laysRests_4 20 rfl rfl)
theorem dX3_laysRests_115 : decode cX3_laysRests 115 = .ok (.iload_n 3, 1) := dk_29 (dk_at dksX3_laysRests_4 21 rfl rfl)
theorem dX3_laysRests_116 : decode cX3_laysRests 116 = .ok (.iload 5, 2) := dk_21 5 (dk_at dksX3_laysRests_4 22 rfl rfl)
theorem dX3_laysRests_118 : decode cX3_laysRests 118 = .ok (.invokevirtual 96, 3) := dk_182 0 96 (dk_at dksX3_laysRests_5 0 rfl rfl)
theorem dX3_laysRests_121 : decode cX3_laysRests 121 = .ok (.imul, 1) := dk_104 (dk_at dksX3_laysRests_5 3 rfl rfl)
theorem dX3_laysRests_122 : decode cX3_laysRests 122 = .ok (.iadd, 1) := dk_96 (dk_at dksX3_laysRests_5 4 rfl rfl)
theorem dX3_laysRests_123 : decode cX3_laysRests 123 = .ok (.istore 6, 2) := dk_54 6 (dk_at dksX3_laysRests_5 5 rfl rfl)
theorem dX3_laysRests_125 : decode cX3_laysRests 125 = .ok (.aload_n 0, 1) := dk_42 (dk_at dksX3_laysRests_5 7 rfl rfl)
theorem dX3_laysRests_126 : decode cX3_laysRests 126 = .ok (.getfield 31, 3) := dk_180 0 31 (dk_at dksX3_laysRests_5 8 rfl rfl)
theorem dX3_laysRests_129 : decode cX3_laysRests 129 = .ok (.iload 5, 2) := dk_21 5 (dk_at dksX3_laysRests_5 11 rfl rfl)
theorem dX3_laysRests_131 : decode cX3_laysRests 131 = .ok (.iload 6, 2) := dk_21 6 (dk_at dksX3_laysRests_5 13 rfl rfl)
theorem dX3_laysRests_133 : decode cX3_laysRests 133 = .ok (.aload_n 0, 1) := dk_42 (dk_at dksX3_laysRests_5 15 rfl rfl)
theorem dX3_laysRests_134 : decode cX3_laysRests 134 = .ok (.getfield 31, 3) := dk_180 0 31 (dk_at dksX3_laysRests_5 16 rfl rfl)
theorem dX3_laysRests_137 : decode cX3_laysRests 137 = .ok (.iload 5, 2) := dk_21 5 (dk_at dksX3_laysRests_5 19 rfl rfl)
theorem dX3_laysRests_139 : decode cX3_laysRests 139 = .ok (.iaload, 1) := dk_46 (dk_at dksX3_laysRests_5 21 rfl rfl)
theorem dX3_laysRests_140 : decode cX3_laysRests 140 = .ok (.if_icmp .ge 8, 3) := dk_162 0 8 (dk_at dksX3_laysRests_6 0 rfl rfl)
theorem dX3_laysRests_143 : decode cX3_laysRests 143 = .ok (.iload 6, 2) := dk_21 6 (dk_at dksX3_laysRests_6 3 rfl rfl)
theorem dX3_laysRests_145 : decode cX3_laysRests 145 = .ok (.goto 10, 3) := dk_167 0 10 (dk_at dksX3_laysRests_6 5 rfl rfl)
theorem dX3_laysRests_148 : decode cX3_laysRests 148 = .ok (.aload_n 0, 1) := dk_42 (dk_at dksX3_laysRests_6 8 rfl rfl)
theorem dX3_laysRests_149 : decode cX3_laysRests 149 = .ok (.getfield 31, 3) := dk_180 0 31 (dk_at dksX3_laysRests_6 9 rfl rfl)
theorem dX3_laysRests_152 : decode cX3_laysRests 152 = .ok (.iload 5, 2) := dk_21 5 (dk_at dksX3_laysRests_6 12 rfl rfl)
theorem dX3_laysRests_154 : decode cX3_laysRests 154 = .ok (.iaload, 1) := dk_46 (dk_at dksX3_laysRests_6 14 rfl rfl)
theorem dX3_laysRests_155 : decode cX3_laysRests 155 = .ok (.iastore, 1) := dk_79 (dk_at dksX3_laysRests_6 15 rfl rfl)
theorem dX3_laysRests_156 : decode cX3_laysRests 156 = .ok (.iinc 4 1, 3) := dk_132 4 1 (dk_at dksX3_laysRests_6 16 rfl rfl)
theorem dX3_laysRests_159 : decode cX3_laysRests 159 = .ok (.goto (-79), 3) := dk_167 255 177 (dk_at dksX3_laysRests_6 19 rfl rfl)
theorem dX3_laysRests_162 : decode cX3_laysRests 162 = .ok (.aload_n 0, 1) := dk_42 (dk_at dksX3_laysRests_6 22 rfl rfl)
theorem dX3_laysRests_163 : decode cX3_laysRests 163 = .ok (.invokevirtual 89, 3) := dk_182 0 89 (dk_at dksX3_laysRests_7 0 rfl rfl)
theorem dX3_laysRests_166 : decode cX3_laysRests 166 = .ok (.istore_n 3, 1) := dk_62 (dk_at dksX3_laysRests_7 3 rfl rfl)
theorem dX3_laysRests_167 : decode cX3_laysRests 167 = .ok (.goto (-102), 3) := dk_167 255 154 (dk_at dksX3_laysRests_7 4 rfl rfl)
theorem dX3_laysRests_170 : decode cX3_laysRests 170 = .ok (.return_, 1) := dk_177 (dk_at dksX3_laysRests_7 7 rfl rfl)
abbrev cX3_isPlace : ByteArray := prog_8_method_14_code
def yX3_isPlace : MethodName := ⟨RX3, "isPlace", "([III)Z"⟩
def dkwX3_isPlace_3 : List UInt8 := [184, 0, 74, 155, 0, 5, 3, 172, 132, 4, 1, 167, 255, 212, 4, 172]
abbrev dktX3_isPlace_3 : List UInt8 := dkwX3_isPlace_3 ++ []
def dkwX3_isPlace_2 : List UInt8 := [162, 0, 36, 43, 28, 21, 4, 42, 180, 0, 71, 112, 96, 29, 21, 4, 42, 180, 0, 71, 108, 96]
abbrev dktX3_isPlace_2 : List UInt8 := dkwX3_isPlace_2 ++ dktX3_isPlace_3
def dkwX3_isPlace_1 : List UInt8 := [96, 16, 12, 164, 0, 5, 3, 172, 3, 54, 4, 21, 4, 42, 180, 0, 71, 42, 180, 0, 71, 104]
abbrev dktX3_isPlace_1 : List UInt8 := dkwX3_isPlace_1 ++ dktX3_isPlace_2
def dkwX3_isPlace_0 : List UInt8 := [28, 155, 0, 29, 29, 155, 0, 25, 28, 42, 180, 0, 71, 96, 16, 16, 163, 0, 14, 29, 42, 180, 0, 71]
abbrev dktX3_isPlace_0 : List UInt8 := dkwX3_isPlace_0 ++ dktX3_isPlace_1
theorem dksX3_isPlace_0 : cX3_isPlace.data.toList.drop 0 = dktX3_isPlace_0 := by decide +kernel
theorem dksX3_isPlace_1 : cX3_isPlace.data.toList.drop 24 = dktX3_isPlace_1 := dk_seg dksX3_isPlace_0 24 rfl rfl
theorem dksX3_isPlace_2 : cX3_isPlace.data.toList.drop 46 = dktX3_isPlace_2 := dk_seg dksX3_isPlace_1 22 rfl rfl
theorem dksX3_isPlace_3 : cX3_isPlace.data.toList.drop 68 = dktX3_isPlace_3 := dk_seg dksX3_isPlace_2 22 rfl rfl
theorem dX3_isPlace_0 : decode cX3_isPlace 0 = .ok (.iload_n 2, 1) := dk_28 (dk_at dksX3_isPlace_0 0 rfl rfl)
theorem dX3_isPlace_1 : decode cX3_isPlace 1 = .ok (.ifCond .lt 29, 3) := dk_155 0 29 (dk_at dksX3_isPlace_0 1 rfl rfl)
theorem dX3_isPlace_4 : decode cX3_isPlace 4 = .ok (.iload_n 3, 1) := dk_29 (dk_at dksX3_isPlace_0 4 rfl rfl)
theorem dX3_isPlace_5 : decode cX3_isPlace 5 = .ok (.ifCond .lt 25, 3) := dk_155 0 25 (dk_at dksX3_isPlace_0 5 rfl rfl)
theorem dX3_isPlace_8 : decode cX3_isPlace 8 = .ok (.iload_n 2, 1) := dk_28 (dk_at dksX3_isPlace_0 8 rfl rfl)
theorem dX3_isPlace_9 : decode cX3_isPlace 9 = .ok (.aload_n 0, 1) := dk_42 (dk_at dksX3_isPlace_0 9 rfl rfl)
theorem dX3_isPlace_10 : decode cX3_isPlace 10 = .ok (.getfield 71, 3) := dk_180 0 71 (dk_at dksX3_isPlace_0 10 rfl rfl)
theorem dX3_isPlace_13 : decode cX3_isPlace 13 = .ok (.iadd, 1) := dk_96 (dk_at dksX3_isPlace_0 13 rfl rfl)
theorem dX3_isPlace_14 : decode cX3_isPlace 14 = .ok (.bipush 16, 2) := dk_16 16 (dk_at dksX3_isPlace_0 14 rfl rfl)
theorem dX3_isPlace_16 : decode cX3_isPlace 16 = .ok (.if_icmp .gt 14, 3) := dk_163 0 14 (dk_at dksX3_isPlace_0 16 rfl rfl)
theorem dX3_isPlace_19 : decode cX3_isPlace 19 = .ok (.iload_n 3, 1) := dk_29 (dk_at dksX3_isPlace_0 19 rfl rfl)
theorem dX3_isPlace_20 : decode cX3_isPlace 20 = .ok (.aload_n 0, 1) := dk_42 (dk_at dksX3_isPlace_0 20 rfl rfl)
theorem dX3_isPlace_21 : decode cX3_isPlace 21 = .ok (.getfield 71, 3) := dk_180 0 71 (dk_at dksX3_isPlace_0 21 rfl rfl)
theorem dX3_isPlace_24 : decode cX3_isPlace 24 = .ok (.iadd, 1) := dk_96 (dk_at dksX3_isPlace_1 0 rfl rfl)
theorem dX3_isPlace_25 : decode cX3_isPlace 25 = .ok (.bipush 12, 2) := dk_16 12 (dk_at dksX3_isPlace_1 1 rfl rfl)
theorem dX3_isPlace_27 : decode cX3_isPlace 27 = .ok (.if_icmp .le 5, 3) := dk_164 0 5 (dk_at dksX3_isPlace_1 3 rfl rfl)
theorem dX3_isPlace_30 : decode cX3_isPlace 30 = .ok (.iconst 0, 1) := dk_3 (dk_at dksX3_isPlace_1 6 rfl rfl)
theorem dX3_isPlace_31 : decode cX3_isPlace 31 = .ok (.ireturn, 1) := dk_172 (dk_at dksX3_isPlace_1 7 rfl rfl)
theorem dX3_isPlace_32 : decode cX3_isPlace 32 = .ok (.iconst 0, 1) := dk_3 (dk_at dksX3_isPlace_1 8 rfl rfl)
theorem dX3_isPlace_33 : decode cX3_isPlace 33 = .ok (.istore 4, 2) := dk_54 4 (dk_at dksX3_isPlace_1 9 rfl rfl)
theorem dX3_isPlace_35 : decode cX3_isPlace 35 = .ok (.iload 4, 2) := dk_21 4 (dk_at dksX3_isPlace_1 11 rfl rfl)
theorem dX3_isPlace_37 : decode cX3_isPlace 37 = .ok (.aload_n 0, 1) := dk_42 (dk_at dksX3_isPlace_1 13 rfl rfl)
theorem dX3_isPlace_38 : decode cX3_isPlace 38 = .ok (.getfield 71, 3) := dk_180 0 71 (dk_at dksX3_isPlace_1 14 rfl rfl)
theorem dX3_isPlace_41 : decode cX3_isPlace 41 = .ok (.aload_n 0, 1) := dk_42 (dk_at dksX3_isPlace_1 17 rfl rfl)
theorem dX3_isPlace_42 : decode cX3_isPlace 42 = .ok (.getfield 71, 3) := dk_180 0 71 (dk_at dksX3_isPlace_1 18 rfl rfl)
theorem dX3_isPlace_45 : decode cX3_isPlace 45 = .ok (.imul, 1) := dk_104 (dk_at dksX3_isPlace_1 21 rfl rfl)
theorem dX3_isPlace_46 : decode cX3_isPlace 46 = .ok (.if_icmp .ge 36, 3) := dk_162 0 36 (dk_at dksX3_isPlace_2 0 rfl rfl)
theorem dX3_isPlace_49 : decode cX3_isPlace 49 = .ok (.aload_n 1, 1) := dk_43 (dk_at dksX3_isPlace_2 3 rfl rfl)
theorem dX3_isPlace_50 : decode cX3_isPlace 50 = .ok (.iload_n 2, 1) := dk_28 (dk_at dksX3_isPlace_2 4 rfl rfl)
theorem dX3_isPlace_51 : decode cX3_isPlace 51 = .ok (.iload 4, 2) := dk_21 4 (dk_at dksX3_isPlace_2 5 rfl rfl)
theorem dX3_isPlace_53 : decode cX3_isPlace 53 = .ok (.aload_n 0, 1) := dk_42 (dk_at dksX3_isPlace_2 7 rfl rfl)
theorem dX3_isPlace_54 : decode cX3_isPlace 54 = .ok (.getfield 71, 3) := dk_180 0 71 (dk_at dksX3_isPlace_2 8 rfl rfl)
theorem dX3_isPlace_57 : decode cX3_isPlace 57 = .ok (.irem, 1) := dk_112 (dk_at dksX3_isPlace_2 11 rfl rfl)
theorem dX3_isPlace_58 : decode cX3_isPlace 58 = .ok (.iadd, 1) := dk_96 (dk_at dksX3_isPlace_2 12 rfl rfl)
theorem dX3_isPlace_59 : decode cX3_isPlace 59 = .ok (.iload_n 3, 1) := dk_29 (dk_at dksX3_isPlace_2 13 rfl rfl)
theorem dX3_isPlace_60 : decode cX3_isPlace 60 = .ok (.iload 4, 2) := dk_21 4 (dk_at dksX3_isPlace_2 14 rfl rfl)
theorem dX3_isPlace_62 : decode cX3_isPlace 62 = .ok (.aload_n 0, 1) := dk_42 (dk_at dksX3_isPlace_2 16 rfl rfl)
theorem dX3_isPlace_63 : decode cX3_isPlace 63 = .ok (.getfield 71, 3) := dk_180 0 71 (dk_at dksX3_isPlace_2 17 rfl rfl)
theorem dX3_isPlace_66 : decode cX3_isPlace 66 = .ok (.idiv, 1) := dk_108 (dk_at dksX3_isPlace_2 20 rfl rfl)
theorem dX3_isPlace_67 : decode cX3_isPlace 67 = .ok (.iadd, 1) := dk_96 (dk_at dksX3_isPlace_2 21 rfl rfl)
theorem dX3_isPlace_68 : decode cX3_isPlace 68 = .ok (.invokestatic 74, 3) := dk_184 0 74 (dk_at dksX3_isPlace_3 0 rfl rfl)
theorem dX3_isPlace_71 : decode cX3_isPlace 71 = .ok (.ifCond .lt 5, 3) := dk_155 0 5 (dk_at dksX3_isPlace_3 3 rfl rfl)
theorem dX3_isPlace_74 : decode cX3_isPlace 74 = .ok (.iconst 0, 1) := dk_3 (dk_at dksX3_isPlace_3 6 rfl rfl)
theorem dX3_isPlace_75 : decode cX3_isPlace 75 = .ok (.ireturn, 1) := dk_172 (dk_at dksX3_isPlace_3 7 rfl rfl)
theorem dX3_isPlace_76 : decode cX3_isPlace 76 = .ok (.iinc 4 1, 3) := dk_132 4 1 (dk_at dksX3_isPlace_3 8 rfl rfl)
theorem dX3_isPlace_79 : decode cX3_isPlace 79 = .ok (.goto (-44), 3) := dk_167 255 212 (dk_at dksX3_isPlace_3 11 rfl rfl)
theorem dX3_isPlace_82 : decode cX3_isPlace 82 = .ok (.iconst 1, 1) := dk_4 (dk_at dksX3_isPlace_3 14 rfl rfl)
theorem dX3_isPlace_83 : decode cX3_isPlace 83 = .ok (.ireturn, 1) := dk_172 (dk_at dksX3_isPlace_3 15 rfl rfl)
abbrev cX3_isAtRoom : ByteArray := prog_8_method_17_code
def yX3_isAtRoom : MethodName := ⟨RX3, "isAtRoom", "([III)Z"⟩
def dkwX3_isAtRoom_3 : List UInt8 := [167, 255, 195, 21, 4, 172]
abbrev dktX3_isAtRoom_3 : List UInt8 := dkwX3_isAtRoom_3 ++ []
def dkwX3_isAtRoom_2 : List UInt8 := [180, 0, 71, 108, 96, 29, 184, 0, 77, 153, 0, 7, 4, 167, 0, 4, 3, 54, 4, 132, 5, 1]
abbrev dktX3_isAtRoom_2 : List UInt8 := dkwX3_isAtRoom_2 ++ dktX3_isAtRoom_3
def dkwX3_isAtRoom_1 : List UInt8 := [154, 0, 35, 43, 28, 16, 16, 112, 21, 5, 42, 180, 0, 71, 112, 96, 28, 16, 16, 108, 21, 5, 42]
abbrev dktX3_isAtRoom_1 : List UInt8 := dkwX3_isAtRoom_1 ++ dktX3_isAtRoom_2
def dkwX3_isAtRoom_0 : List UInt8 := [3, 54, 4, 3, 54, 5, 21, 5, 42, 180, 0, 71, 42, 180, 0, 71, 104, 162, 0, 53, 21, 4]
abbrev dktX3_isAtRoom_0 : List UInt8 := dkwX3_isAtRoom_0 ++ dktX3_isAtRoom_1
theorem dksX3_isAtRoom_0 : cX3_isAtRoom.data.toList.drop 0 = dktX3_isAtRoom_0 := by decide +kernel
theorem dksX3_isAtRoom_1 : cX3_isAtRoom.data.toList.drop 22 = dktX3_isAtRoom_1 := dk_seg dksX3_isAtRoom_0 22 rfl rfl
theorem dksX3_isAtRoom_2 : cX3_isAtRoom.data.toList.drop 45 = dktX3_isAtRoom_2 := dk_seg dksX3_isAtRoom_1 23 rfl rfl
theorem dksX3_isAtRoom_3 : cX3_isAtRoom.data.toList.drop 67 = dktX3_isAtRoom_3 := dk_seg dksX3_isAtRoom_2 22 rfl rfl
theorem dX3_isAtRoom_0 : decode cX3_isAtRoom 0 = .ok (.iconst 0, 1) := dk_3 (dk_at dksX3_isAtRoom_0 0 rfl rfl)
theorem dX3_isAtRoom_1 : decode cX3_isAtRoom 1 = .ok (.istore 4, 2) := dk_54 4 (dk_at dksX3_isAtRoom_0 1 rfl rfl)
theorem dX3_isAtRoom_3 : decode cX3_isAtRoom 3 = .ok (.iconst 0, 1) := dk_3 (dk_at dksX3_isAtRoom_0 3 rfl rfl)
theorem dX3_isAtRoom_4 : decode cX3_isAtRoom 4 = .ok (.istore 5, 2) := dk_54 5 (dk_at dksX3_isAtRoom_0 4 rfl rfl)
theorem dX3_isAtRoom_6 : decode cX3_isAtRoom 6 = .ok (.iload 5, 2) := dk_21 5 (dk_at dksX3_isAtRoom_0 6 rfl rfl)
theorem dX3_isAtRoom_8 : decode cX3_isAtRoom 8 = .ok (.aload_n 0, 1) := dk_42 (dk_at dksX3_isAtRoom_0 8 rfl rfl)
theorem dX3_isAtRoom_9 : decode cX3_isAtRoom 9 = .ok (.getfield 71, 3) := dk_180 0 71 (dk_at dksX3_isAtRoom_0 9 rfl rfl)
theorem dX3_isAtRoom_12 : decode cX3_isAtRoom 12 = .ok (.aload_n 0, 1) := dk_42 (dk_at dksX3_isAtRoom_0 12 rfl rfl)
theorem dX3_isAtRoom_13 : decode cX3_isAtRoom 13 = .ok (.getfield 71, 3) := dk_180 0 71 (dk_at dksX3_isAtRoom_0 13 rfl rfl)
theorem dX3_isAtRoom_16 : decode cX3_isAtRoom 16 = .ok (.imul, 1) := dk_104 (dk_at dksX3_isAtRoom_0 16 rfl rfl)
theorem dX3_isAtRoom_17 : decode cX3_isAtRoom 17 = .ok (.if_icmp .ge 53, 3) := dk_162 0 53 (dk_at dksX3_isAtRoom_0 17 rfl rfl)
theorem dX3_isAtRoom_20 : decode cX3_isAtRoom 20 = .ok (.iload 4, 2) := dk_21 4 (dk_at dksX3_isAtRoom_0 20 rfl rfl)
theorem dX3_isAtRoom_22 : decode cX3_isAtRoom 22 = .ok (.ifCond .ne 35, 3) := dk_154 0 35 (dk_at dksX3_isAtRoom_1 0 rfl rfl)
theorem dX3_isAtRoom_25 : decode cX3_isAtRoom 25 = .ok (.aload_n 1, 1) := dk_43 (dk_at dksX3_isAtRoom_1 3 rfl rfl)
theorem dX3_isAtRoom_26 : decode cX3_isAtRoom 26 = .ok (.iload_n 2, 1) := dk_28 (dk_at dksX3_isAtRoom_1 4 rfl rfl)
theorem dX3_isAtRoom_27 : decode cX3_isAtRoom 27 = .ok (.bipush 16, 2) := dk_16 16 (dk_at dksX3_isAtRoom_1 5 rfl rfl)
theorem dX3_isAtRoom_29 : decode cX3_isAtRoom 29 = .ok (.irem, 1) := dk_112 (dk_at dksX3_isAtRoom_1 7 rfl rfl)
theorem dX3_isAtRoom_30 : decode cX3_isAtRoom 30 = .ok (.iload 5, 2) := dk_21 5 (dk_at dksX3_isAtRoom_1 8 rfl rfl)
theorem dX3_isAtRoom_32 : decode cX3_isAtRoom 32 = .ok (.aload_n 0, 1) := dk_42 (dk_at dksX3_isAtRoom_1 10 rfl rfl)
theorem dX3_isAtRoom_33 : decode cX3_isAtRoom 33 = .ok (.getfield 71, 3) := dk_180 0 71 (dk_at dksX3_isAtRoom_1 11 rfl rfl)
theorem dX3_isAtRoom_36 : decode cX3_isAtRoom 36 = .ok (.irem, 1) := dk_112 (dk_at dksX3_isAtRoom_1 14 rfl rfl)
theorem dX3_isAtRoom_37 : decode cX3_isAtRoom 37 = .ok (.iadd, 1) := dk_96 (dk_at dksX3_isAtRoom_1 15 rfl rfl)
theorem dX3_isAtRoom_38 : decode cX3_isAtRoom 38 = .ok (.iload_n 2, 1) := dk_28 (dk_at dksX3_isAtRoom_1 16 rfl rfl)
theorem dX3_isAtRoom_39 : decode cX3_isAtRoom 39 = .ok (.bipush 16, 2) := dk_16 16 (dk_at dksX3_isAtRoom_1 17 rfl rfl)
theorem dX3_isAtRoom_41 : decode cX3_isAtRoom 41 = .ok (.idiv, 1) := dk_108 (dk_at dksX3_isAtRoom_1 19 rfl rfl)
theorem dX3_isAtRoom_42 : decode cX3_isAtRoom 42 = .ok (.iload 5, 2) := dk_21 5 (dk_at dksX3_isAtRoom_1 20 rfl rfl)
theorem dX3_isAtRoom_44 : decode cX3_isAtRoom 44 = .ok (.aload_n 0, 1) := dk_42 (dk_at dksX3_isAtRoom_1 22 rfl rfl)
theorem dX3_isAtRoom_45 : decode cX3_isAtRoom 45 = .ok (.getfield 71, 3) := dk_180 0 71 (dk_at dksX3_isAtRoom_2 0 rfl rfl)
theorem dX3_isAtRoom_48 : decode cX3_isAtRoom 48 = .ok (.idiv, 1) := dk_108 (dk_at dksX3_isAtRoom_2 3 rfl rfl)
theorem dX3_isAtRoom_49 : decode cX3_isAtRoom 49 = .ok (.iadd, 1) := dk_96 (dk_at dksX3_isAtRoom_2 4 rfl rfl)
theorem dX3_isAtRoom_50 : decode cX3_isAtRoom 50 = .ok (.iload_n 3, 1) := dk_29 (dk_at dksX3_isAtRoom_2 5 rfl rfl)
theorem dX3_isAtRoom_51 : decode cX3_isAtRoom 51 = .ok (.invokestatic 77, 3) := dk_184 0 77 (dk_at dksX3_isAtRoom_2 6 rfl rfl)
theorem dX3_isAtRoom_54 : decode cX3_isAtRoom 54 = .ok (.ifCond .eq 7, 3) := dk_153 0 7 (dk_at dksX3_isAtRoom_2 9 rfl rfl)
theorem dX3_isAtRoom_57 : decode cX3_isAtRoom 57 = .ok (.iconst 1, 1) := dk_4 (dk_at dksX3_isAtRoom_2 12 rfl rfl)
theorem dX3_isAtRoom_58 : decode cX3_isAtRoom 58 = .ok (.goto 4, 3) := dk_167 0 4 (dk_at dksX3_isAtRoom_2 13 rfl rfl)
theorem dX3_isAtRoom_61 : decode cX3_isAtRoom 61 = .ok (.iconst 0, 1) := dk_3 (dk_at dksX3_isAtRoom_2 16 rfl rfl)
theorem dX3_isAtRoom_62 : decode cX3_isAtRoom 62 = .ok (.istore 4, 2) := dk_54 4 (dk_at dksX3_isAtRoom_2 17 rfl rfl)
theorem dX3_isAtRoom_64 : decode cX3_isAtRoom 64 = .ok (.iinc 5 1, 3) := dk_132 5 1 (dk_at dksX3_isAtRoom_2 19 rfl rfl)
theorem dX3_isAtRoom_67 : decode cX3_isAtRoom 67 = .ok (.goto (-61), 3) := dk_167 255 195 (dk_at dksX3_isAtRoom_3 0 rfl rfl)
theorem dX3_isAtRoom_70 : decode cX3_isAtRoom 70 = .ok (.iload 4, 2) := dk_21 4 (dk_at dksX3_isAtRoom_3 3 rfl rfl)
theorem dX3_isAtRoom_72 : decode cX3_isAtRoom 72 = .ok (.ireturn, 1) := dk_172 (dk_at dksX3_isAtRoom_3 5 rfl rfl)
abbrev cX3_isBeside : ByteArray := prog_8_method_16_code
def yX3_isBeside : MethodName := ⟨RX3, "isBeside", "([IIII)Z"⟩
def dkwX3_isBeside_2 : List UInt8 := [4, 167, 0, 4, 3, 172]
abbrev dktX3_isBeside_2 : List UInt8 := dkwX3_isBeside_2 ++ []
def dkwX3_isBeside_1 : List UInt8 := [42, 27, 28, 4, 100, 184, 0, 74, 29, 159, 0, 15, 42, 27, 28, 4, 96, 184, 0, 74, 29, 160, 0, 7]
abbrev dktX3_isBeside_1 : List UInt8 := dkwX3_isBeside_1 ++ dktX3_isBeside_2
def dkwX3_isBeside_0 : List UInt8 := [42, 27, 4, 100, 28, 184, 0, 74, 29, 159, 0, 39, 42, 27, 4, 96, 28, 184, 0, 74, 29, 159, 0, 27]
abbrev dktX3_isBeside_0 : List UInt8 := dkwX3_isBeside_0 ++ dktX3_isBeside_1
theorem dksX3_isBeside_0 : cX3_isBeside.data.toList.drop 0 = dktX3_isBeside_0 := by decide +kernel
theorem dksX3_isBeside_1 : cX3_isBeside.data.toList.drop 24 = dktX3_isBeside_1 := dk_seg dksX3_isBeside_0 24 rfl rfl
theorem dksX3_isBeside_2 : cX3_isBeside.data.toList.drop 48 = dktX3_isBeside_2 := dk_seg dksX3_isBeside_1 24 rfl rfl
theorem dX3_isBeside_0 : decode cX3_isBeside 0 = .ok (.aload_n 0, 1) := dk_42 (dk_at dksX3_isBeside_0 0 rfl rfl)
theorem dX3_isBeside_1 : decode cX3_isBeside 1 = .ok (.iload_n 1, 1) := dk_27 (dk_at dksX3_isBeside_0 1 rfl rfl)
theorem dX3_isBeside_2 : decode cX3_isBeside 2 = .ok (.iconst 1, 1) := dk_4 (dk_at dksX3_isBeside_0 2 rfl rfl)
theorem dX3_isBeside_3 : decode cX3_isBeside 3 = .ok (.isub, 1) := dk_100 (dk_at dksX3_isBeside_0 3 rfl rfl)
theorem dX3_isBeside_4 : decode cX3_isBeside 4 = .ok (.iload_n 2, 1) := dk_28 (dk_at dksX3_isBeside_0 4 rfl rfl)
theorem dX3_isBeside_5 : decode cX3_isBeside 5 = .ok (.invokestatic 74, 3) := dk_184 0 74 (dk_at dksX3_isBeside_0 5 rfl rfl)
theorem dX3_isBeside_8 : decode cX3_isBeside 8 = .ok (.iload_n 3, 1) := dk_29 (dk_at dksX3_isBeside_0 8 rfl rfl)
theorem dX3_isBeside_9 : decode cX3_isBeside 9 = .ok (.if_icmp .eq 39, 3) := dk_159 0 39 (dk_at dksX3_isBeside_0 9 rfl rfl)
theorem dX3_isBeside_12 : decode cX3_isBeside 12 = .ok (.aload_n 0, 1) := dk_42 (dk_at dksX3_isBeside_0 12 rfl rfl)
theorem dX3_isBeside_13 : decode cX3_isBeside 13 = .ok (.iload_n 1, 1) := dk_27 (dk_at dksX3_isBeside_0 13 rfl rfl)
theorem dX3_isBeside_14 : decode cX3_isBeside 14 = .ok (.iconst 1, 1) := dk_4 (dk_at dksX3_isBeside_0 14 rfl rfl)
theorem dX3_isBeside_15 : decode cX3_isBeside 15 = .ok (.iadd, 1) := dk_96 (dk_at dksX3_isBeside_0 15 rfl rfl)
theorem dX3_isBeside_16 : decode cX3_isBeside 16 = .ok (.iload_n 2, 1) := dk_28 (dk_at dksX3_isBeside_0 16 rfl rfl)
theorem dX3_isBeside_17 : decode cX3_isBeside 17 = .ok (.invokestatic 74, 3) := dk_184 0 74 (dk_at dksX3_isBeside_0 17 rfl rfl)
theorem dX3_isBeside_20 : decode cX3_isBeside 20 = .ok (.iload_n 3, 1) := dk_29 (dk_at dksX3_isBeside_0 20 rfl rfl)
theorem dX3_isBeside_21 : decode cX3_isBeside 21 = .ok (.if_icmp .eq 27, 3) := dk_159 0 27 (dk_at dksX3_isBeside_0 21 rfl rfl)
theorem dX3_isBeside_24 : decode cX3_isBeside 24 = .ok (.aload_n 0, 1) := dk_42 (dk_at dksX3_isBeside_1 0 rfl rfl)
theorem dX3_isBeside_25 : decode cX3_isBeside 25 = .ok (.iload_n 1, 1) := dk_27 (dk_at dksX3_isBeside_1 1 rfl rfl)
theorem dX3_isBeside_26 : decode cX3_isBeside 26 = .ok (.iload_n 2, 1) := dk_28 (dk_at dksX3_isBeside_1 2 rfl rfl)
theorem dX3_isBeside_27 : decode cX3_isBeside 27 = .ok (.iconst 1, 1) := dk_4 (dk_at dksX3_isBeside_1 3 rfl rfl)
theorem dX3_isBeside_28 : decode cX3_isBeside 28 = .ok (.isub, 1) := dk_100 (dk_at dksX3_isBeside_1 4 rfl rfl)
theorem dX3_isBeside_29 : decode cX3_isBeside 29 = .ok (.invokestatic 74, 3) := dk_184 0 74 (dk_at dksX3_isBeside_1 5 rfl rfl)
theorem dX3_isBeside_32 : decode cX3_isBeside 32 = .ok (.iload_n 3, 1) := dk_29 (dk_at dksX3_isBeside_1 8 rfl rfl)
theorem dX3_isBeside_33 : decode cX3_isBeside 33 = .ok (.if_icmp .eq 15, 3) := dk_159 0 15 (dk_at dksX3_isBeside_1 9 rfl rfl)
theorem dX3_isBeside_36 : decode cX3_isBeside 36 = .ok (.aload_n 0, 1) := dk_42 (dk_at dksX3_isBeside_1 12 rfl rfl)
theorem dX3_isBeside_37 : decode cX3_isBeside 37 = .ok (.iload_n 1, 1) := dk_27 (dk_at dksX3_isBeside_1 13 rfl rfl)
theorem dX3_isBeside_38 : decode cX3_isBeside 38 = .ok (.iload_n 2, 1) := dk_28 (dk_at dksX3_isBeside_1 14 rfl rfl)
theorem dX3_isBeside_39 : decode cX3_isBeside 39 = .ok (.iconst 1, 1) := dk_4 (dk_at dksX3_isBeside_1 15 rfl rfl)
theorem dX3_isBeside_40 : decode cX3_isBeside 40 = .ok (.iadd, 1) := dk_96 (dk_at dksX3_isBeside_1 16 rfl rfl)
theorem dX3_isBeside_41 : decode cX3_isBeside 41 = .ok (.invokestatic 74, 3) := dk_184 0 74 (dk_at dksX3_isBeside_1 17 rfl rfl)
theorem dX3_isBeside_44 : decode cX3_isBeside 44 = .ok (.iload_n 3, 1) := dk_29 (dk_at dksX3_isBeside_1 20 rfl rfl)
theorem dX3_isBeside_45 : decode cX3_isBeside 45 = .ok (.if_icmp .ne 7, 3) := dk_160 0 7 (dk_at dksX3_isBeside_1 21 rfl rfl)
theorem dX3_isBeside_48 : decode cX3_isBeside 48 = .ok (.iconst 1, 1) := dk_4 (dk_at dksX3_isBeside_2 0 rfl rfl)
theorem dX3_isBeside_49 : decode cX3_isBeside 49 = .ok (.goto 4, 3) := dk_167 0 4 (dk_at dksX3_isBeside_2 1 rfl rfl)
theorem dX3_isBeside_52 : decode cX3_isBeside 52 = .ok (.iconst 0, 1) := dk_3 (dk_at dksX3_isBeside_2 4 rfl rfl)
theorem dX3_isBeside_53 : decode cX3_isBeside 53 = .ok (.ireturn, 1) := dk_172 (dk_at dksX3_isBeside_2 5 rfl rfl)
abbrev cX3_nearest : ByteArray := prog_8_method_19_code
def yX3_nearest : MethodName := ⟨RX3, "nearest", "()I"⟩
def dkwX3_nearest_2 : List UInt8 := [162, 0, 7, 28, 167, 0, 4, 27, 60, 132, 2, 1, 167, 255, 200, 27, 172]
abbrev dktX3_nearest_2 : List UInt8 := dkwX3_nearest_2 ++ []
def dkwX3_nearest_1 : List UInt8 := [28, 46, 18, 85, 162, 0, 27, 27, 2, 159, 0, 18, 42, 180, 0, 31, 28, 46, 42, 180, 0, 31, 27, 46]
abbrev dktX3_nearest_1 : List UInt8 := dkwX3_nearest_1 ++ dktX3_nearest_2
def dkwX3_nearest_0 : List UInt8 := [2, 60, 3, 61, 28, 17, 0, 192, 162, 0, 55, 42, 180, 0, 34, 28, 51, 154, 0, 38, 42, 180, 0, 31]
abbrev dktX3_nearest_0 : List UInt8 := dkwX3_nearest_0 ++ dktX3_nearest_1
theorem dksX3_nearest_0 : cX3_nearest.data.toList.drop 0 = dktX3_nearest_0 := by decide +kernel
theorem dksX3_nearest_1 : cX3_nearest.data.toList.drop 24 = dktX3_nearest_1 := dk_seg dksX3_nearest_0 24 rfl rfl
theorem dksX3_nearest_2 : cX3_nearest.data.toList.drop 48 = dktX3_nearest_2 := dk_seg dksX3_nearest_1 24 rfl rfl
theorem dX3_nearest_0 : decode cX3_nearest 0 = .ok (.iconst (-1), 1) := dk_2 (dk_at dksX3_nearest_0 0 rfl rfl)
theorem dX3_nearest_1 : decode cX3_nearest 1 = .ok (.istore_n 1, 1) := dk_60 (dk_at dksX3_nearest_0 1 rfl rfl)
theorem dX3_nearest_2 : decode cX3_nearest 2 = .ok (.iconst 0, 1) := dk_3 (dk_at dksX3_nearest_0 2 rfl rfl)
theorem dX3_nearest_3 : decode cX3_nearest 3 = .ok (.istore_n 2, 1) := dk_61 (dk_at dksX3_nearest_0 3 rfl rfl)
theorem dX3_nearest_4 : decode cX3_nearest 4 = .ok (.iload_n 2, 1) := dk_28 (dk_at dksX3_nearest_0 4 rfl rfl)
theorem dX3_nearest_5 : decode cX3_nearest 5 = .ok (.sipush 192, 3) := dk_17 0 192 (dk_at dksX3_nearest_0 5 rfl rfl)
theorem dX3_nearest_8 : decode cX3_nearest 8 = .ok (.if_icmp .ge 55, 3) := dk_162 0 55 (dk_at dksX3_nearest_0 8 rfl rfl)
theorem dX3_nearest_11 : decode cX3_nearest 11 = .ok (.aload_n 0, 1) := dk_42 (dk_at dksX3_nearest_0 11 rfl rfl)
theorem dX3_nearest_12 : decode cX3_nearest 12 = .ok (.getfield 34, 3) := dk_180 0 34 (dk_at dksX3_nearest_0 12 rfl rfl)
theorem dX3_nearest_15 : decode cX3_nearest 15 = .ok (.iload_n 2, 1) := dk_28 (dk_at dksX3_nearest_0 15 rfl rfl)
theorem dX3_nearest_16 : decode cX3_nearest 16 = .ok (.baload, 1) := dk_51 (dk_at dksX3_nearest_0 16 rfl rfl)
theorem dX3_nearest_17 : decode cX3_nearest 17 = .ok (.ifCond .ne 38, 3) := dk_154 0 38 (dk_at dksX3_nearest_0 17 rfl rfl)
theorem dX3_nearest_20 : decode cX3_nearest 20 = .ok (.aload_n 0, 1) := dk_42 (dk_at dksX3_nearest_0 20 rfl rfl)
theorem dX3_nearest_21 : decode cX3_nearest 21 = .ok (.getfield 31, 3) := dk_180 0 31 (dk_at dksX3_nearest_0 21 rfl rfl)
theorem dX3_nearest_24 : decode cX3_nearest 24 = .ok (.iload_n 2, 1) := dk_28 (dk_at dksX3_nearest_1 0 rfl rfl)
theorem dX3_nearest_25 : decode cX3_nearest 25 = .ok (.iaload, 1) := dk_46 (dk_at dksX3_nearest_1 1 rfl rfl)
theorem dX3_nearest_26 : decode cX3_nearest 26 = .ok (.ldc 85, 2) := dk_18 85 (dk_at dksX3_nearest_1 2 rfl rfl)
theorem dX3_nearest_28 : decode cX3_nearest 28 = .ok (.if_icmp .ge 27, 3) := dk_162 0 27 (dk_at dksX3_nearest_1 4 rfl rfl)
theorem dX3_nearest_31 : decode cX3_nearest 31 = .ok (.iload_n 1, 1) := dk_27 (dk_at dksX3_nearest_1 7 rfl rfl)
theorem dX3_nearest_32 : decode cX3_nearest 32 = .ok (.iconst (-1), 1) := dk_2 (dk_at dksX3_nearest_1 8 rfl rfl)
theorem dX3_nearest_33 : decode cX3_nearest 33 = .ok (.if_icmp .eq 18, 3) := dk_159 0 18 (dk_at dksX3_nearest_1 9 rfl rfl)
theorem dX3_nearest_36 : decode cX3_nearest 36 = .ok (.aload_n 0, 1) := dk_42 (dk_at dksX3_nearest_1 12 rfl rfl)
theorem dX3_nearest_37 : decode cX3_nearest 37 = .ok (.getfield 31, 3) := dk_180 0 31 (dk_at dksX3_nearest_1 13 rfl rfl)
theorem dX3_nearest_40 : decode cX3_nearest 40 = .ok (.iload_n 2, 1) := dk_28 (dk_at dksX3_nearest_1 16 rfl rfl)
theorem dX3_nearest_41 : decode cX3_nearest 41 = .ok (.iaload, 1) := dk_46 (dk_at dksX3_nearest_1 17 rfl rfl)
theorem dX3_nearest_42 : decode cX3_nearest 42 = .ok (.aload_n 0, 1) := dk_42 (dk_at dksX3_nearest_1 18 rfl rfl)
theorem dX3_nearest_43 : decode cX3_nearest 43 = .ok (.getfield 31, 3) := dk_180 0 31 (dk_at dksX3_nearest_1 19 rfl rfl)
theorem dX3_nearest_46 : decode cX3_nearest 46 = .ok (.iload_n 1, 1) := dk_27 (dk_at dksX3_nearest_1 22 rfl rfl)
theorem dX3_nearest_47 : decode cX3_nearest 47 = .ok (.iaload, 1) := dk_46 (dk_at dksX3_nearest_1 23 rfl rfl)
theorem dX3_nearest_48 : decode cX3_nearest 48 = .ok (.if_icmp .ge 7, 3) := dk_162 0 7 (dk_at dksX3_nearest_2 0 rfl rfl)
theorem dX3_nearest_51 : decode cX3_nearest 51 = .ok (.iload_n 2, 1) := dk_28 (dk_at dksX3_nearest_2 3 rfl rfl)
theorem dX3_nearest_52 : decode cX3_nearest 52 = .ok (.goto 4, 3) := dk_167 0 4 (dk_at dksX3_nearest_2 4 rfl rfl)
theorem dX3_nearest_55 : decode cX3_nearest 55 = .ok (.iload_n 1, 1) := dk_27 (dk_at dksX3_nearest_2 7 rfl rfl)
theorem dX3_nearest_56 : decode cX3_nearest 56 = .ok (.istore_n 1, 1) := dk_60 (dk_at dksX3_nearest_2 8 rfl rfl)
theorem dX3_nearest_57 : decode cX3_nearest 57 = .ok (.iinc 2 1, 3) := dk_132 2 1 (dk_at dksX3_nearest_2 9 rfl rfl)
theorem dX3_nearest_60 : decode cX3_nearest 60 = .ok (.goto (-56), 3) := dk_167 255 200 (dk_at dksX3_nearest_2 12 rfl rfl)
theorem dX3_nearest_63 : decode cX3_nearest 63 = .ok (.iload_n 1, 1) := dk_27 (dk_at dksX3_nearest_2 15 rfl rfl)
theorem dX3_nearest_64 : decode cX3_nearest 64 = .ok (.ireturn, 1) := dk_172 (dk_at dksX3_nearest_2 16 rfl rfl)
abbrev cX3_next : ByteArray := prog_8_method_18_code
def yX3_next : MethodName := ⟨RX3, "next", "([III)I"⟩
def dkwX3_next_2 : List UInt8 := [167, 0, 4, 2, 172]
abbrev dktX3_next_2 : List UInt8 := dkwX3_next_2 ++ []
def dkwX3_next_1 : List UInt8 := [54, 5, 42, 43, 21, 4, 21, 5, 182, 0, 81, 153, 0, 14, 16, 16, 21, 5, 104, 21, 4, 96]
abbrev dktX3_next_1 : List UInt8 := dkwX3_next_1 ++ dktX3_next_2
def dkwX3_next_0 : List UInt8 := [28, 16, 16, 112, 42, 180, 0, 25, 29, 46, 96, 54, 4, 28, 16, 16, 108, 42, 180, 0, 28, 29, 46, 96]
abbrev dktX3_next_0 : List UInt8 := dkwX3_next_0 ++ dktX3_next_1
theorem dksX3_next_0 : cX3_next.data.toList.drop 0 = dktX3_next_0 := by decide +kernel
theorem dksX3_next_1 : cX3_next.data.toList.drop 24 = dktX3_next_1 := dk_seg dksX3_next_0 24 rfl rfl
theorem dksX3_next_2 : cX3_next.data.toList.drop 46 = dktX3_next_2 := dk_seg dksX3_next_1 22 rfl rfl
theorem dX3_next_0 : decode cX3_next 0 = .ok (.iload_n 2, 1) := dk_28 (dk_at dksX3_next_0 0 rfl rfl)
theorem dX3_next_1 : decode cX3_next 1 = .ok (.bipush 16, 2) := dk_16 16 (dk_at dksX3_next_0 1 rfl rfl)
theorem dX3_next_3 : decode cX3_next 3 = .ok (.irem, 1) := dk_112 (dk_at dksX3_next_0 3 rfl rfl)
theorem dX3_next_4 : decode cX3_next 4 = .ok (.aload_n 0, 1) := dk_42 (dk_at dksX3_next_0 4 rfl rfl)
theorem dX3_next_5 : decode cX3_next 5 = .ok (.getfield 25, 3) := dk_180 0 25 (dk_at dksX3_next_0 5 rfl rfl)
theorem dX3_next_8 : decode cX3_next 8 = .ok (.iload_n 3, 1) := dk_29 (dk_at dksX3_next_0 8 rfl rfl)
theorem dX3_next_9 : decode cX3_next 9 = .ok (.iaload, 1) := dk_46 (dk_at dksX3_next_0 9 rfl rfl)
theorem dX3_next_10 : decode cX3_next 10 = .ok (.iadd, 1) := dk_96 (dk_at dksX3_next_0 10 rfl rfl)
theorem dX3_next_11 : decode cX3_next 11 = .ok (.istore 4, 2) := dk_54 4 (dk_at dksX3_next_0 11 rfl rfl)
theorem dX3_next_13 : decode cX3_next 13 = .ok (.iload_n 2, 1) := dk_28 (dk_at dksX3_next_0 13 rfl rfl)
theorem dX3_next_14 : decode cX3_next 14 = .ok (.bipush 16, 2) := dk_16 16 (dk_at dksX3_next_0 14 rfl rfl)
theorem dX3_next_16 : decode cX3_next 16 = .ok (.idiv, 1) := dk_108 (dk_at dksX3_next_0 16 rfl rfl)
theorem dX3_next_17 : decode cX3_next 17 = .ok (.aload_n 0, 1) := dk_42 (dk_at dksX3_next_0 17 rfl rfl)
theorem dX3_next_18 : decode cX3_next 18 = .ok (.getfield 28, 3) := dk_180 0 28 (dk_at dksX3_next_0 18 rfl rfl)
theorem dX3_next_21 : decode cX3_next 21 = .ok (.iload_n 3, 1) := dk_29 (dk_at dksX3_next_0 21 rfl rfl)
theorem dX3_next_22 : decode cX3_next 22 = .ok (.iaload, 1) := dk_46 (dk_at dksX3_next_0 22 rfl rfl)
theorem dX3_next_23 : decode cX3_next 23 = .ok (.iadd, 1) := dk_96 (dk_at dksX3_next_0 23 rfl rfl)
theorem dX3_next_24 : decode cX3_next 24 = .ok (.istore 5, 2) := dk_54 5 (dk_at dksX3_next_1 0 rfl rfl)
theorem dX3_next_26 : decode cX3_next 26 = .ok (.aload_n 0, 1) := dk_42 (dk_at dksX3_next_1 2 rfl rfl)
theorem dX3_next_27 : decode cX3_next 27 = .ok (.aload_n 1, 1) := dk_43 (dk_at dksX3_next_1 3 rfl rfl)
theorem dX3_next_28 : decode cX3_next 28 = .ok (.iload 4, 2) := dk_21 4 (dk_at dksX3_next_1 4 rfl rfl)
theorem dX3_next_30 : decode cX3_next 30 = .ok (.iload 5, 2) := dk_21 5 (dk_at dksX3_next_1 6 rfl rfl)
theorem dX3_next_32 : decode cX3_next 32 = .ok (.invokevirtual 81, 3) := dk_182 0 81 (dk_at dksX3_next_1 8 rfl rfl)
theorem dX3_next_35 : decode cX3_next 35 = .ok (.ifCond .eq 14, 3) := dk_153 0 14 (dk_at dksX3_next_1 11 rfl rfl)
theorem dX3_next_38 : decode cX3_next 38 = .ok (.bipush 16, 2) := dk_16 16 (dk_at dksX3_next_1 14 rfl rfl)
theorem dX3_next_40 : decode cX3_next 40 = .ok (.iload 5, 2) := dk_21 5 (dk_at dksX3_next_1 16 rfl rfl)
theorem dX3_next_42 : decode cX3_next 42 = .ok (.imul, 1) := dk_104 (dk_at dksX3_next_1 18 rfl rfl)
theorem dX3_next_43 : decode cX3_next 43 = .ok (.iload 4, 2) := dk_21 4 (dk_at dksX3_next_1 19 rfl rfl)
theorem dX3_next_45 : decode cX3_next 45 = .ok (.iadd, 1) := dk_96 (dk_at dksX3_next_1 21 rfl rfl)
theorem dX3_next_46 : decode cX3_next 46 = .ok (.goto 4, 3) := dk_167 0 4 (dk_at dksX3_next_2 0 rfl rfl)
theorem dX3_next_49 : decode cX3_next 49 = .ok (.iconst (-1), 1) := dk_2 (dk_at dksX3_next_2 3 rfl rfl)
theorem dX3_next_50 : decode cX3_next 50 = .ok (.ireturn, 1) := dk_172 (dk_at dksX3_next_2 4 rfl rfl)
abbrev cX3_rock : ByteArray := prog_8_method_15_code
def yX3_rock : MethodName := ⟨RX3, "rock", "([III)I"⟩
def dkwX3_rock_5 : List UInt8 := [160, 0, 7, 4, 167, 0, 4, 3, 96, 54, 4, 132, 5, 1, 167, 255, 131, 21, 4, 172]
abbrev dktX3_rock_5 : List UInt8 := dkwX3_rock_5 ++ []
def dkwX3_rock_4 : List UInt8 := [167, 0, 4, 3, 54, 8, 21, 4, 21, 8, 154, 0, 20, 43, 21, 6, 21, 7, 184, 0, 74, 16, 254]
abbrev dktX3_rock_4 : List UInt8 := dkwX3_rock_4 ++ dktX3_rock_5
def dkwX3_rock_3 : List UInt8 := [153, 0, 27, 21, 7, 29, 16, 16, 108, 100, 3, 42, 180, 0, 71, 4, 100, 184, 0, 48, 153, 0, 7, 4]
abbrev dktX3_rock_3 : List UInt8 := dkwX3_rock_3 ++ dktX3_rock_4
def dkwX3_rock_2 : List UInt8 := [29, 2, 159, 0, 47, 21, 6, 29, 16, 16, 112, 100, 3, 42, 180, 0, 71, 4, 100, 184, 0, 48]
abbrev dktX3_rock_2 : List UInt8 := dkwX3_rock_2 ++ dktX3_rock_3
def dkwX3_rock_1 : List UInt8 := [21, 5, 42, 180, 0, 71, 112, 96, 54, 6, 28, 16, 16, 108, 21, 5, 42, 180, 0, 71, 108, 96, 54, 7]
abbrev dktX3_rock_1 : List UInt8 := dkwX3_rock_1 ++ dktX3_rock_2
def dkwX3_rock_0 : List UInt8 := [3, 54, 4, 3, 54, 5, 21, 5, 42, 180, 0, 71, 42, 180, 0, 71, 104, 162, 0, 117, 28, 16, 16, 112]
abbrev dktX3_rock_0 : List UInt8 := dkwX3_rock_0 ++ dktX3_rock_1
theorem dksX3_rock_0 : cX3_rock.data.toList.drop 0 = dktX3_rock_0 := by decide +kernel
theorem dksX3_rock_1 : cX3_rock.data.toList.drop 24 = dktX3_rock_1 := dk_seg dksX3_rock_0 24 rfl rfl
theorem dksX3_rock_2 : cX3_rock.data.toList.drop 48 = dktX3_rock_2 := dk_seg dksX3_rock_1 24 rfl rfl
theorem dksX3_rock_3 : cX3_rock.data.toList.drop 70 = dktX3_rock_3 := dk_seg dksX3_rock_2 22 rfl rfl
theorem dksX3_rock_4 : cX3_rock.data.toList.drop 94 = dktX3_rock_4 := dk_seg dksX3_rock_3 24 rfl rfl
theorem dksX3_rock_5 : cX3_rock.data.toList.drop 117 = dktX3_rock_5 := dk_seg dksX3_rock_4 23 rfl rfl
theorem dX3_rock_0 : decode cX3_rock 0 = .ok (.iconst 0, 1) := dk_3 (dk_at dksX3_rock_0 0 rfl rfl)
theorem dX3_rock_1 : decode cX3_rock 1 = .ok (.istore 4, 2) := dk_54 4 (dk_at dksX3_rock_0 1 rfl rfl)
theorem dX3_rock_3 : decode cX3_rock 3 = .ok (.iconst 0, 1) := dk_3 (dk_at dksX3_rock_0 3 rfl rfl)
theorem dX3_rock_4 : decode cX3_rock 4 = .ok (.istore 5, 2) := dk_54 5 (dk_at dksX3_rock_0 4 rfl rfl)
theorem dX3_rock_6 : decode cX3_rock 6 = .ok (.iload 5, 2) := dk_21 5 (dk_at dksX3_rock_0 6 rfl rfl)
theorem dX3_rock_8 : decode cX3_rock 8 = .ok (.aload_n 0, 1) := dk_42 (dk_at dksX3_rock_0 8 rfl rfl)
theorem dX3_rock_9 : decode cX3_rock 9 = .ok (.getfield 71, 3) := dk_180 0 71 (dk_at dksX3_rock_0 9 rfl rfl)
theorem dX3_rock_12 : decode cX3_rock 12 = .ok (.aload_n 0, 1) := dk_42 (dk_at dksX3_rock_0 12 rfl rfl)
theorem dX3_rock_13 : decode cX3_rock 13 = .ok (.getfield 71, 3) := dk_180 0 71 (dk_at dksX3_rock_0 13 rfl rfl)
theorem dX3_rock_16 : decode cX3_rock 16 = .ok (.imul, 1) := dk_104 (dk_at dksX3_rock_0 16 rfl rfl)
theorem dX3_rock_17 : decode cX3_rock 17 = .ok (.if_icmp .ge 117, 3) := dk_162 0 117 (dk_at dksX3_rock_0 17 rfl rfl)
theorem dX3_rock_20 : decode cX3_rock 20 = .ok (.iload_n 2, 1) := dk_28 (dk_at dksX3_rock_0 20 rfl rfl)
theorem dX3_rock_21 : decode cX3_rock 21 = .ok (.bipush 16, 2) := dk_16 16 (dk_at dksX3_rock_0 21 rfl rfl)
theorem dX3_rock_23 : decode cX3_rock 23 = .ok (.irem, 1) := dk_112 (dk_at dksX3_rock_0 23 rfl rfl)
theorem dX3_rock_24 : decode cX3_rock 24 = .ok (.iload 5, 2) := dk_21 5 (dk_at dksX3_rock_1 0 rfl rfl)
theorem dX3_rock_26 : decode cX3_rock 26 = .ok (.aload_n 0, 1) := dk_42 (dk_at dksX3_rock_1 2 rfl rfl)
theorem dX3_rock_27 : decode cX3_rock 27 = .ok (.getfield 71, 3) := dk_180 0 71 (dk_at dksX3_rock_1 3 rfl rfl)
theorem dX3_rock_30 : decode cX3_rock 30 = .ok (.irem, 1) := dk_112 (dk_at dksX3_rock_1 6 rfl rfl)
theorem dX3_rock_31 : decode cX3_rock 31 = .ok (.iadd, 1) := dk_96 (dk_at dksX3_rock_1 7 rfl rfl)
theorem dX3_rock_32 : decode cX3_rock 32 = .ok (.istore 6, 2) := dk_54 6 (dk_at dksX3_rock_1 8 rfl rfl)
theorem dX3_rock_34 : decode cX3_rock 34 = .ok (.iload_n 2, 1) := dk_28 (dk_at dksX3_rock_1 10 rfl rfl)
theorem dX3_rock_35 : decode cX3_rock 35 = .ok (.bipush 16, 2) := dk_16 16 (dk_at dksX3_rock_1 11 rfl rfl)
theorem dX3_rock_37 : decode cX3_rock 37 = .ok (.idiv, 1) := dk_108 (dk_at dksX3_rock_1 13 rfl rfl)
theorem dX3_rock_38 : decode cX3_rock 38 = .ok (.iload 5, 2) := dk_21 5 (dk_at dksX3_rock_1 14 rfl rfl)
theorem dX3_rock_40 : decode cX3_rock 40 = .ok (.aload_n 0, 1) := dk_42 (dk_at dksX3_rock_1 16 rfl rfl)
theorem dX3_rock_41 : decode cX3_rock 41 = .ok (.getfield 71, 3) := dk_180 0 71 (dk_at dksX3_rock_1 17 rfl rfl)
theorem dX3_rock_44 : decode cX3_rock 44 = .ok (.idiv, 1) := dk_108 (dk_at dksX3_rock_1 20 rfl rfl)
theorem dX3_rock_45 : decode cX3_rock 45 = .ok (.iadd, 1) := dk_96 (dk_at dksX3_rock_1 21 rfl rfl)
theorem dX3_rock_46 : decode cX3_rock 46 = .ok (.istore 7, 2) := dk_54 7 (dk_at dksX3_rock_1 22 rfl rfl)
theorem dX3_rock_48 : decode cX3_rock 48 = .ok (.iload_n 3, 1) := dk_29 (dk_at dksX3_rock_2 0 rfl rfl)
theorem dX3_rock_49 : decode cX3_rock 49 = .ok (.iconst (-1), 1) := dk_2 (dk_at dksX3_rock_2 1 rfl rfl)
theorem dX3_rock_50 : decode cX3_rock 50 = .ok (.if_icmp .eq 47, 3) := dk_159 0 47 (dk_at dksX3_rock_2 2 rfl rfl)
theorem dX3_rock_53 : decode cX3_rock 53 = .ok (.iload 6, 2) := dk_21 6 (dk_at dksX3_rock_2 5 rfl rfl)
theorem dX3_rock_55 : decode cX3_rock 55 = .ok (.iload_n 3, 1) := dk_29 (dk_at dksX3_rock_2 7 rfl rfl)
theorem dX3_rock_56 : decode cX3_rock 56 = .ok (.bipush 16, 2) := dk_16 16 (dk_at dksX3_rock_2 8 rfl rfl)
theorem dX3_rock_58 : decode cX3_rock 58 = .ok (.irem, 1) := dk_112 (dk_at dksX3_rock_2 10 rfl rfl)
theorem dX3_rock_59 : decode cX3_rock 59 = .ok (.isub, 1) := dk_100 (dk_at dksX3_rock_2 11 rfl rfl)
theorem dX3_rock_60 : decode cX3_rock 60 = .ok (.iconst 0, 1) := dk_3 (dk_at dksX3_rock_2 12 rfl rfl)
theorem dX3_rock_61 : decode cX3_rock 61 = .ok (.aload_n 0, 1) := dk_42 (dk_at dksX3_rock_2 13 rfl rfl)
theorem dX3_rock_62 : decode cX3_rock 62 = .ok (.getfield 71, 3) := dk_180 0 71 (dk_at dksX3_rock_2 14 rfl rfl)
theorem dX3_rock_65 : decode cX3_rock 65 = .ok (.iconst 1, 1) := dk_4 (dk_at dksX3_rock_2 17 rfl rfl)
theorem dX3_rock_66 : decode cX3_rock 66 = .ok (.isub, 1) := dk_100 (dk_at dksX3_rock_2 18 rfl rfl)
theorem dX3_rock_67 : decode cX3_rock 67 = .ok (.invokestatic 48, 3) := dk_184 0 48 (dk_at dksX3_rock_2 19 rfl rfl)
theorem dX3_rock_70 : decode cX3_rock 70 = .ok (.ifCond .eq 27, 3) := dk_153 0 27 (dk_at dksX3_rock_3 0 rfl rfl)
theorem dX3_rock_73 : decode cX3_rock 73 = .ok (.iload 7, 2) := dk_21 7 (dk_at dksX3_rock_3 3 rfl rfl)
theorem dX3_rock_75 : decode cX3_rock 75 = .ok (.iload_n 3, 1) := dk_29 (dk_at dksX3_rock_3 5 rfl rfl)
theorem dX3_rock_76 : decode cX3_rock 76 = .ok (.bipush 16, 2) := dk_16 16 (dk_at dksX3_rock_3 6 rfl rfl)
theorem dX3_rock_78 : decode cX3_rock 78 = .ok (.idiv, 1) := dk_108 (dk_at dksX3_rock_3 8 rfl rfl)
theorem dX3_rock_79 : decode cX3_rock 79 = .ok (.isub, 1) := dk_100 (dk_at dksX3_rock_3 9 rfl rfl)
theorem dX3_rock_80 : decode cX3_rock 80 = .ok (.iconst 0, 1) := dk_3 (dk_at dksX3_rock_3 10 rfl rfl)
theorem dX3_rock_81 : decode cX3_rock 81 = .ok (.aload_n 0, 1) := dk_42 (dk_at dksX3_rock_3 11 rfl rfl)
theorem dX3_rock_82 : decode cX3_rock 82 = .ok (.getfield 71, 3) := dk_180 0 71 (dk_at dksX3_rock_3 12 rfl rfl)
theorem dX3_rock_85 : decode cX3_rock 85 = .ok (.iconst 1, 1) := dk_4 (dk_at dksX3_rock_3 15 rfl rfl)
theorem dX3_rock_86 : decode cX3_rock 86 = .ok (.isub, 1) := dk_100 (dk_at dksX3_rock_3 16 rfl rfl)
theorem dX3_rock_87 : decode cX3_rock 87 = .ok (.invokestatic 48, 3) := dk_184 0 48 (dk_at dksX3_rock_3 17 rfl rfl)
theorem dX3_rock_90 : decode cX3_rock 90 = .ok (.ifCond .eq 7, 3) := dk_153 0 7 (dk_at dksX3_rock_3 20 rfl rfl)
theorem dX3_rock_93 : decode cX3_rock 93 = .ok (.iconst 1, 1) := dk_4 (dk_at dksX3_rock_3 23 rfl rfl)
theorem dX3_rock_94 : decode cX3_rock 94 = .ok (.goto 4, 3) := dk_167 0 4 (dk_at dksX3_rock_4 0 rfl rfl)
theorem dX3_rock_97 : decode cX3_rock 97 = .ok (.iconst 0, 1) := dk_3 (dk_at dksX3_rock_4 3 rfl rfl)
theorem dX3_rock_98 : decode cX3_rock 98 = .ok (.istore 8, 2) := dk_54 8 (dk_at dksX3_rock_4 4 rfl rfl)
theorem dX3_rock_100 : decode cX3_rock 100 = .ok (.iload 4, 2) := dk_21 4 (dk_at dksX3_rock_4 6 rfl rfl)
theorem dX3_rock_102 : decode cX3_rock 102 = .ok (.iload 8, 2) := dk_21 8 (dk_at dksX3_rock_4 8 rfl rfl)
theorem dX3_rock_104 : decode cX3_rock 104 = .ok (.ifCond .ne 20, 3) := dk_154 0 20 (dk_at dksX3_rock_4 10 rfl rfl)
theorem dX3_rock_107 : decode cX3_rock 107 = .ok (.aload_n 1, 1) := dk_43 (dk_at dksX3_rock_4 13 rfl rfl)
theorem dX3_rock_108 : decode cX3_rock 108 = .ok (.iload 6, 2) := dk_21 6 (dk_at dksX3_rock_4 14 rfl rfl)
theorem dX3_rock_110 : decode cX3_rock 110 = .ok (.iload 7, 2) := dk_21 7 (dk_at dksX3_rock_4 16 rfl rfl)
theorem dX3_rock_112 : decode cX3_rock 112 = .ok (.invokestatic 74, 3) := dk_184 0 74 (dk_at dksX3_rock_4 18 rfl rfl)
theorem dX3_rock_115 : decode cX3_rock 115 = .ok (.bipush (-2), 2) := dk_16 254 (dk_at dksX3_rock_4 21 rfl rfl)
theorem dX3_rock_117 : decode cX3_rock 117 = .ok (.if_icmp .ne 7, 3) := dk_160 0 7 (dk_at dksX3_rock_5 0 rfl rfl)
theorem dX3_rock_120 : decode cX3_rock 120 = .ok (.iconst 1, 1) := dk_4 (dk_at dksX3_rock_5 3 rfl rfl)
theorem dX3_rock_121 : decode cX3_rock 121 = .ok (.goto 4, 3) := dk_167 0 4 (dk_at dksX3_rock_5 4 rfl rfl)
theorem dX3_rock_124 : decode cX3_rock 124 = .ok (.iconst 0, 1) := dk_3 (dk_at dksX3_rock_5 7 rfl rfl)
theorem dX3_rock_125 : decode cX3_rock 125 = .ok (.iadd, 1) := dk_96 (dk_at dksX3_rock_5 8 rfl rfl)
theorem dX3_rock_126 : decode cX3_rock 126 = .ok (.istore 4, 2) := dk_54 4 (dk_at dksX3_rock_5 9 rfl rfl)
theorem dX3_rock_128 : decode cX3_rock 128 = .ok (.iinc 5 1, 3) := dk_132 5 1 (dk_at dksX3_rock_5 11 rfl rfl)
theorem dX3_rock_131 : decode cX3_rock 131 = .ok (.goto (-125), 3) := dk_167 255 131 (dk_at dksX3_rock_5 14 rfl rfl)
theorem dX3_rock_134 : decode cX3_rock 134 = .ok (.iload 4, 2) := dk_21 4 (dk_at dksX3_rock_5 17 rfl rfl)
theorem dX3_rock_136 : decode cX3_rock 136 = .ok (.ireturn, 1) := dk_172 (dk_at dksX3_rock_5 19 rfl rfl)
abbrev cX3_follower : ByteArray := prog_8_method_22_code
def yX3_follower : MethodName := ⟨RX3, "follower", "([II)I"⟩
def dkwX3_follower_3 : List UInt8 := [167, 0, 4, 29, 62, 132, 4, 1, 167, 255, 182, 29, 172]
abbrev dktX3_follower_3 : List UInt8 := dkwX3_follower_3 ++ []
def dkwX3_follower_2 : List UInt8 := [96, 42, 180, 0, 31, 28, 46, 160, 0, 21, 29, 2, 159, 0, 9, 21, 5, 29, 162, 0, 8, 21, 5]
abbrev dktX3_follower_2 : List UInt8 := dkwX3_follower_2 ++ dktX3_follower_3
def dkwX3_follower_1 : List UInt8 := [159, 0, 52, 42, 180, 0, 31, 21, 5, 46, 4, 96, 17, 3, 232, 42, 43, 21, 5, 28, 182, 0, 96, 104]
abbrev dktX3_follower_1 : List UInt8 := dkwX3_follower_1 ++ dktX3_follower_2
def dkwX3_follower_0 : List UInt8 := [2, 62, 3, 54, 4, 21, 4, 7, 162, 0, 74, 42, 43, 28, 21, 4, 182, 0, 93, 54, 5, 21, 5, 2]
abbrev dktX3_follower_0 : List UInt8 := dkwX3_follower_0 ++ dktX3_follower_1
theorem dksX3_follower_0 : cX3_follower.data.toList.drop 0 = dktX3_follower_0 := by decide +kernel
theorem dksX3_follower_1 : cX3_follower.data.toList.drop 24 = dktX3_follower_1 := dk_seg dksX3_follower_0 24 rfl rfl
theorem dksX3_follower_2 : cX3_follower.data.toList.drop 48 = dktX3_follower_2 := dk_seg dksX3_follower_1 24 rfl rfl
theorem dksX3_follower_3 : cX3_follower.data.toList.drop 71 = dktX3_follower_3 := dk_seg dksX3_follower_2 23 rfl rfl
theorem dX3_follower_0 : decode cX3_follower 0 = .ok (.iconst (-1), 1) := dk_2 (dk_at dksX3_follower_0 0 rfl rfl)
theorem dX3_follower_1 : decode cX3_follower 1 = .ok (.istore_n 3, 1) := dk_62 (dk_at dksX3_follower_0 1 rfl rfl)
theorem dX3_follower_2 : decode cX3_follower 2 = .ok (.iconst 0, 1) := dk_3 (dk_at dksX3_follower_0 2 rfl rfl)
theorem dX3_follower_3 : decode cX3_follower 3 = .ok (.istore 4, 2) := dk_54 4 (dk_at dksX3_follower_0 3 rfl rfl)
theorem dX3_follower_5 : decode cX3_follower 5 = .ok (.iload 4, 2) := dk_21 4 (dk_at dksX3_follower_0 5 rfl rfl)
theorem dX3_follower_7 : decode cX3_follower 7 = .ok (.iconst 4, 1) := dk_7 (dk_at dksX3_follower_0 7 rfl rfl)
theorem dX3_follower_8 : decode cX3_follower 8 = .ok (.if_icmp .ge 74, 3) := dk_162 0 74 (dk_at dksX3_follower_0 8 rfl rfl)
theorem dX3_follower_11 : decode cX3_follower 11 = .ok (.aload_n 0, 1) := dk_42 (dk_at dksX3_follower_0 11 rfl rfl)
theorem dX3_follower_12 : decode cX3_follower 12 = .ok (.aload_n 1, 1) := dk_43 (dk_at dksX3_follower_0 12 rfl rfl)
theorem dX3_follower_13 : decode cX3_follower 13 = .ok (.iload_n 2, 1) := dk_28 (dk_at dksX3_follower_0 13 rfl rfl)
theorem dX3_follower_14 : decode cX3_follower 14 = .ok (.iload 4, 2) := dk_21 4 (dk_at dksX3_follower_0 14 rfl rfl)
theorem dX3_follower_16 : decode cX3_follower 16 = .ok (.invokevirtual 93, 3) := dk_182 0 93 (dk_at dksX3_follower_0 16 rfl rfl)
theorem dX3_follower_19 : decode cX3_follower 19 = .ok (.istore 5, 2) := dk_54 5 (dk_at dksX3_follower_0 19 rfl rfl)
theorem dX3_follower_21 : decode cX3_follower 21 = .ok (.iload 5, 2) := dk_21 5 (dk_at dksX3_follower_0 21 rfl rfl)
theorem dX3_follower_23 : decode cX3_follower 23 = .ok (.iconst (-1), 1) := dk_2 (dk_at dksX3_follower_0 23 rfl rfl)
theorem dX3_follower_24 : decode cX3_follower 24 = .ok (.if_icmp .eq 52, 3) := dk_159 0 52 (dk_at dksX3_follower_1 0 rfl rfl)
theorem dX3_follower_27 : decode cX3_follower 27 = .ok (.aload_n 0, 1) := dk_42 (dk_at dksX3_follower_1 3 rfl rfl)
theorem dX3_follower_28 : decode cX3_follower 28 = .ok (.getfield 31, 3) := dk_180 0 31 (dk_at dksX3_follower_1 4 rfl rfl)
theorem dX3_follower_31 : decode cX3_follower 31 = .ok (.iload 5, 2) := dk_21 5 (dk_at dksX3_follower_1 7 rfl rfl)
theorem dX3_follower_33 : decode cX3_follower 33 = .ok (.iaload, 1) := dk_46 (dk_at dksX3_follower_1 9 rfl rfl)
theorem dX3_follower_34 : decode cX3_follower 34 = .ok (.iconst 1, 1) := dk_4 (dk_at dksX3_follower_1 10 rfl rfl)
theorem dX3_follower_35 : decode cX3_follower 35 = .ok (.iadd, 1) := dk_96 (dk_at dksX3_follower_1 11 rfl rfl)
theorem dX3_follower_36 : decode cX3_follower 36 = .ok (.sipush 1000, 3) := dk_17 3 232 (dk_at dksX3_follower_1 12 rfl rfl)
theorem dX3_follower_39 : decode cX3_follower 39 = .ok (.aload_n 0, 1) := dk_42 (dk_at dksX3_follower_1 15 rfl rfl)
theorem dX3_follower_40 : decode cX3_follower 40 = .ok (.aload_n 1, 1) := dk_43 (dk_at dksX3_follower_1 16 rfl rfl)
theorem dX3_follower_41 : decode cX3_follower 41 = .ok (.iload 5, 2) := dk_21 5 (dk_at dksX3_follower_1 17 rfl rfl)
theorem dX3_follower_43 : decode cX3_follower 43 = .ok (.iload_n 2, 1) := dk_28 (dk_at dksX3_follower_1 19 rfl rfl)
theorem dX3_follower_44 : decode cX3_follower 44 = .ok (.invokevirtual 96, 3) := dk_182 0 96 (dk_at dksX3_follower_1 20 rfl rfl)
theorem dX3_follower_47 : decode cX3_follower 47 = .ok (.imul, 1) := dk_104 (dk_at dksX3_follower_1 23 rfl rfl)
theorem dX3_follower_48 : decode cX3_follower 48 = .ok (.iadd, 1) := dk_96 (dk_at dksX3_follower_2 0 rfl rfl)
theorem dX3_follower_49 : decode cX3_follower 49 = .ok (.aload_n 0, 1) := dk_42 (dk_at dksX3_follower_2 1 rfl rfl)
theorem dX3_follower_50 : decode cX3_follower 50 = .ok (.getfield 31, 3) := dk_180 0 31 (dk_at dksX3_follower_2 2 rfl rfl)
theorem dX3_follower_53 : decode cX3_follower 53 = .ok (.iload_n 2, 1) := dk_28 (dk_at dksX3_follower_2 5 rfl rfl)
theorem dX3_follower_54 : decode cX3_follower 54 = .ok (.iaload, 1) := dk_46 (dk_at dksX3_follower_2 6 rfl rfl)
theorem dX3_follower_55 : decode cX3_follower 55 = .ok (.if_icmp .ne 21, 3) := dk_160 0 21 (dk_at dksX3_follower_2 7 rfl rfl)
theorem dX3_follower_58 : decode cX3_follower 58 = .ok (.iload_n 3, 1) := dk_29 (dk_at dksX3_follower_2 10 rfl rfl)
theorem dX3_follower_59 : decode cX3_follower 59 = .ok (.iconst (-1), 1) := dk_2 (dk_at dksX3_follower_2 11 rfl rfl)
theorem dX3_follower_60 : decode cX3_follower 60 = .ok (.if_icmp .eq 9, 3) := dk_159 0 9 (dk_at dksX3_follower_2 12 rfl rfl)
theorem dX3_follower_63 : decode cX3_follower 63 = .ok (.iload 5, 2) := dk_21 5 (dk_at dksX3_follower_2 15 rfl rfl)
theorem dX3_follower_65 : decode cX3_follower 65 = .ok (.iload_n 3, 1) := dk_29 (dk_at dksX3_follower_2 17 rfl rfl)
theorem dX3_follower_66 : decode cX3_follower 66 = .ok (.if_icmp .ge 8, 3) := dk_162 0 8 (dk_at dksX3_follower_2 18 rfl rfl)
theorem dX3_follower_69 : decode cX3_follower 69 = .ok (.iload 5, 2) := dk_21 5 (dk_at dksX3_follower_2 21 rfl rfl)
theorem dX3_follower_71 : decode cX3_follower 71 = .ok (.goto 4, 3) := dk_167 0 4 (dk_at dksX3_follower_3 0 rfl rfl)
theorem dX3_follower_74 : decode cX3_follower 74 = .ok (.iload_n 3, 1) := dk_29 (dk_at dksX3_follower_3 3 rfl rfl)
theorem dX3_follower_75 : decode cX3_follower 75 = .ok (.istore_n 3, 1) := dk_62 (dk_at dksX3_follower_3 4 rfl rfl)
theorem dX3_follower_76 : decode cX3_follower 76 = .ok (.iinc 4 1, 3) := dk_132 4 1 (dk_at dksX3_follower_3 5 rfl rfl)
theorem dX3_follower_79 : decode cX3_follower 79 = .ok (.goto (-74), 3) := dk_167 255 182 (dk_at dksX3_follower_3 8 rfl rfl)
theorem dX3_follower_82 : decode cX3_follower 82 = .ok (.iload_n 3, 1) := dk_29 (dk_at dksX3_follower_3 11 rfl rfl)
theorem dX3_follower_83 : decode cX3_follower 83 = .ok (.ireturn, 1) := dk_172 (dk_at dksX3_follower_3 12 rfl rfl)
abbrev cX3_digs : ByteArray := prog_8_method_24_code
def yX3_digs : MethodName := ⟨RX3, "digs", "([I)I"⟩
def dkwX3_digs_4 : List UInt8 := [172]
abbrev dktX3_digs_4 : List UInt8 := dkwX3_digs_4 ++ []
def dkwX3_digs_3 : List UInt8 := [167, 0, 4, 3, 96, 61, 43, 21, 5, 2, 79, 132, 4, 1, 167, 255, 190, 132, 3, 1, 167, 255, 173, 28]
abbrev dktX3_digs_3 : List UInt8 := dkwX3_digs_3 ++ dktX3_digs_4
def dkwX3_digs_2 : List UInt8 := [21, 4, 42, 180, 0, 71, 108, 104, 96, 54, 5, 28, 43, 21, 5, 46, 16, 254, 160, 0, 7, 4]
abbrev dktX3_digs_2 : List UInt8 := dkwX3_digs_2 ++ dktX3_digs_3
def dkwX3_digs_1 : List UInt8 := [180, 0, 71, 104, 162, 0, 58, 42, 180, 0, 38, 29, 46, 21, 4, 42, 180, 0, 71, 112, 96, 16, 16]
abbrev dktX3_digs_1 : List UInt8 := dkwX3_digs_1 ++ dktX3_digs_2
def dkwX3_digs_0 : List UInt8 := [3, 61, 3, 62, 29, 42, 180, 0, 106, 162, 0, 81, 3, 54, 4, 21, 4, 42, 180, 0, 71, 42]
abbrev dktX3_digs_0 : List UInt8 := dkwX3_digs_0 ++ dktX3_digs_1
theorem dksX3_digs_0 : cX3_digs.data.toList.drop 0 = dktX3_digs_0 := by decide +kernel
theorem dksX3_digs_1 : cX3_digs.data.toList.drop 22 = dktX3_digs_1 := dk_seg dksX3_digs_0 22 rfl rfl
theorem dksX3_digs_2 : cX3_digs.data.toList.drop 45 = dktX3_digs_2 := dk_seg dksX3_digs_1 23 rfl rfl
theorem dksX3_digs_3 : cX3_digs.data.toList.drop 67 = dktX3_digs_3 := dk_seg dksX3_digs_2 22 rfl rfl
theorem dksX3_digs_4 : cX3_digs.data.toList.drop 91 = dktX3_digs_4 := dk_seg dksX3_digs_3 24 rfl rfl
theorem dX3_digs_0 : decode cX3_digs 0 = .ok (.iconst 0, 1) := dk_3 (dk_at dksX3_digs_0 0 rfl rfl)
theorem dX3_digs_1 : decode cX3_digs 1 = .ok (.istore_n 2, 1) := dk_61 (dk_at dksX3_digs_0 1 rfl rfl)
theorem dX3_digs_2 : decode cX3_digs 2 = .ok (.iconst 0, 1) := dk_3 (dk_at dksX3_digs_0 2 rfl rfl)
theorem dX3_digs_3 : decode cX3_digs 3 = .ok (.istore_n 3, 1) := dk_62 (dk_at dksX3_digs_0 3 rfl rfl)
theorem dX3_digs_4 : decode cX3_digs 4 = .ok (.iload_n 3, 1) := dk_29 (dk_at dksX3_digs_0 4 rfl rfl)
theorem dX3_digs_5 : decode cX3_digs 5 = .ok (.aload_n 0, 1) := dk_42 (dk_at dksX3_digs_0 5 rfl rfl)
theorem dX3_digs_6 : decode cX3_digs 6 = .ok (.getfield 106, 3) := dk_180 0 106 (dk_at dksX3_digs_0 6 rfl rfl)
theorem dX3_digs_9 : decode cX3_digs 9 = .ok (.if_icmp .ge 81, 3) := dk_162 0 81 (dk_at dksX3_digs_0 9 rfl rfl)
theorem dX3_digs_12 : decode cX3_digs 12 = .ok (.iconst 0, 1) := dk_3 (dk_at dksX3_digs_0 12 rfl rfl)
theorem dX3_digs_13 : decode cX3_digs 13 = .ok (.istore 4, 2) := dk_54 4 (dk_at dksX3_digs_0 13 rfl rfl)
theorem dX3_digs_15 : decode cX3_digs 15 = .ok (.iload 4, 2) := dk_21 4 (dk_at dksX3_digs_0 15 rfl rfl)
theorem dX3_digs_17 : decode cX3_digs 17 = .ok (.aload_n 0, 1) := dk_42 (dk_at dksX3_digs_0 17 rfl rfl)
theorem dX3_digs_18 : decode cX3_digs 18 = .ok (.getfield 71, 3) := dk_180 0 71 (dk_at dksX3_digs_0 18 rfl rfl)
theorem dX3_digs_21 : decode cX3_digs 21 = .ok (.aload_n 0, 1) := dk_42 (dk_at dksX3_digs_0 21 rfl rfl)
theorem dX3_digs_22 : decode cX3_digs 22 = .ok (.getfield 71, 3) := dk_180 0 71 (dk_at dksX3_digs_1 0 rfl rfl)
theorem dX3_digs_25 : decode cX3_digs 25 = .ok (.imul, 1) := dk_104 (dk_at dksX3_digs_1 3 rfl rfl)
theorem dX3_digs_26 : decode cX3_digs 26 = .ok (.if_icmp .ge 58, 3) := dk_162 0 58 (dk_at dksX3_digs_1 4 rfl rfl)
theorem dX3_digs_29 : decode cX3_digs 29 = .ok (.aload_n 0, 1) := dk_42 (dk_at dksX3_digs_1 7 rfl rfl)
theorem dX3_digs_30 : decode cX3_digs 30 = .ok (.getfield 38, 3) := dk_180 0 38 (dk_at dksX3_digs_1 8 rfl rfl)
theorem dX3_digs_33 : decode cX3_digs 33 = .ok (.iload_n 3, 1) := dk_29 (dk_at dksX3_digs_1 11 rfl rfl)
theorem dX3_digs_34 : decode cX3_digs 34 = .ok (.iaload, 1) := dk_46 (dk_at dksX3_digs_1 12 rfl rfl)
theorem dX3_digs_35 : decode cX3_digs 35 = .ok (.iload 4, 2) := dk_21 4 (dk_at dksX3_digs_1 13 rfl rfl)
theorem dX3_digs_37 : decode cX3_digs 37 = .ok (.aload_n 0, 1) := dk_42 (dk_at dksX3_digs_1 15 rfl rfl)
theorem dX3_digs_38 : decode cX3_digs 38 = .ok (.getfield 71, 3) := dk_180 0 71 (dk_at dksX3_digs_1 16 rfl rfl)
theorem dX3_digs_41 : decode cX3_digs 41 = .ok (.irem, 1) := dk_112 (dk_at dksX3_digs_1 19 rfl rfl)
theorem dX3_digs_42 : decode cX3_digs 42 = .ok (.iadd, 1) := dk_96 (dk_at dksX3_digs_1 20 rfl rfl)
theorem dX3_digs_43 : decode cX3_digs 43 = .ok (.bipush 16, 2) := dk_16 16 (dk_at dksX3_digs_1 21 rfl rfl)
theorem dX3_digs_45 : decode cX3_digs 45 = .ok (.iload 4, 2) := dk_21 4 (dk_at dksX3_digs_2 0 rfl rfl)
theorem dX3_digs_47 : decode cX3_digs 47 = .ok (.aload_n 0, 1) := dk_42 (dk_at dksX3_digs_2 2 rfl rfl)
theorem dX3_digs_48 : decode cX3_digs 48 = .ok (.getfield 71, 3) := dk_180 0 71 (dk_at dksX3_digs_2 3 rfl rfl)
theorem dX3_digs_51 : decode cX3_digs 51 = .ok (.idiv, 1) := dk_108 (dk_at dksX3_digs_2 6 rfl rfl)
theorem dX3_digs_52 : decode cX3_digs 52 = .ok (.imul, 1) := dk_104 (dk_at dksX3_digs_2 7 rfl rfl)
theorem dX3_digs_53 : decode cX3_digs 53 = .ok (.iadd, 1) := dk_96 (dk_at dksX3_digs_2 8 rfl rfl)
theorem dX3_digs_54 : decode cX3_digs 54 = .ok (.istore 5, 2) := dk_54 5 (dk_at dksX3_digs_2 9 rfl rfl)
theorem dX3_digs_56 : decode cX3_digs 56 = .ok (.iload_n 2, 1) := dk_28 (dk_at dksX3_digs_2 11 rfl rfl)
theorem dX3_digs_57 : decode cX3_digs 57 = .ok (.aload_n 1, 1) := dk_43 (dk_at dksX3_digs_2 12 rfl rfl)
theorem dX3_digs_58 : decode cX3_digs 58 = .ok (.iload 5, 2) := dk_21 5 (dk_at dksX3_digs_2 13 rfl rfl)
theorem dX3_digs_60 : decode cX3_digs 60 = .ok (.iaload, 1) := dk_46 (dk_at dksX3_digs_2 15 rfl rfl)
theorem dX3_digs_61 : decode cX3_digs 61 = .ok (.bipush (-2), 2) := dk_16 254 (dk_at dksX3_digs_2 16 rfl rfl)
theorem dX3_digs_63 : decode cX3_digs 63 = .ok (.if_icmp .ne 7, 3) := dk_160 0 7 (dk_at dksX3_digs_2 18 rfl rfl)
theorem dX3_digs_66 : decode cX3_digs 66 = .ok (.iconst 1, 1) := dk_4 (dk_at dksX3_digs_2 21 rfl rfl)
theorem dX3_digs_67 : decode cX3_digs 67 = .ok (.goto 4, 3) := dk_167 0 4 (dk_at dksX3_digs_3 0 rfl rfl)
theorem dX3_digs_70 : decode cX3_digs 70 = .ok (.iconst 0, 1) := dk_3 (dk_at dksX3_digs_3 3 rfl rfl)
theorem dX3_digs_71 : decode cX3_digs 71 = .ok (.iadd, 1) := dk_96 (dk_at dksX3_digs_3 4 rfl rfl)
theorem dX3_digs_72 : decode cX3_digs 72 = .ok (.istore_n 2, 1) := dk_61 (dk_at dksX3_digs_3 5 rfl rfl)
theorem dX3_digs_73 : decode cX3_digs 73 = .ok (.aload_n 1, 1) := dk_43 (dk_at dksX3_digs_3 6 rfl rfl)
theorem dX3_digs_74 : decode cX3_digs 74 = .ok (.iload 5, 2) := dk_21 5 (dk_at dksX3_digs_3 7 rfl rfl)
theorem dX3_digs_76 : decode cX3_digs 76 = .ok (.iconst (-1), 1) := dk_2 (dk_at dksX3_digs_3 9 rfl rfl)
theorem dX3_digs_77 : decode cX3_digs 77 = .ok (.iastore, 1) := dk_79 (dk_at dksX3_digs_3 10 rfl rfl)
theorem dX3_digs_78 : decode cX3_digs 78 = .ok (.iinc 4 1, 3) := dk_132 4 1 (dk_at dksX3_digs_3 11 rfl rfl)
theorem dX3_digs_81 : decode cX3_digs 81 = .ok (.goto (-66), 3) := dk_167 255 190 (dk_at dksX3_digs_3 14 rfl rfl)
theorem dX3_digs_84 : decode cX3_digs 84 = .ok (.iinc 3 1, 3) := dk_132 3 1 (dk_at dksX3_digs_3 17 rfl rfl)
theorem dX3_digs_87 : decode cX3_digs 87 = .ok (.goto (-83), 3) := dk_167 255 173 (dk_at dksX3_digs_3 20 rfl rfl)
theorem dX3_digs_90 : decode cX3_digs 90 = .ok (.iload_n 2, 1) := dk_28 (dk_at dksX3_digs_3 23 rfl rfl)
theorem dX3_digs_91 : decode cX3_digs 91 = .ok (.ireturn, 1) := dk_172 (dk_at dksX3_digs_4 0 rfl rfl)
abbrev cX3_carveAll : ByteArray := prog_8_method_41_code
def yX3_carveAll : MethodName := ⟨RX3, "carveAll", "()I"⟩
def dkwX3_carveAll_1 : List UInt8 := [132, 1, 1, 167, 255, 241, 27, 172]
abbrev dktX3_carveAll_1 : List UInt8 := dkwX3_carveAll_1 ++ []
def dkwX3_carveAll_0 : List UInt8 := [42, 3, 181, 0, 44, 42, 182, 0, 141, 3, 60, 42, 42, 180, 0, 7, 182, 0, 158, 2, 159, 0, 9]
abbrev dktX3_carveAll_0 : List UInt8 := dkwX3_carveAll_0 ++ dktX3_carveAll_1
theorem dksX3_carveAll_0 : cX3_carveAll.data.toList.drop 0 = dktX3_carveAll_0 := by decide +kernel
theorem dksX3_carveAll_1 : cX3_carveAll.data.toList.drop 23 = dktX3_carveAll_1 := dk_seg dksX3_carveAll_0 23 rfl rfl
theorem dX3_carveAll_0 : decode cX3_carveAll 0 = .ok (.aload_n 0, 1) := dk_42 (dk_at dksX3_carveAll_0 0 rfl rfl)
theorem dX3_carveAll_1 : decode cX3_carveAll 1 = .ok (.iconst 0, 1) := dk_3 (dk_at dksX3_carveAll_0 1 rfl rfl)
theorem dX3_carveAll_2 : decode cX3_carveAll 2 = .ok (.putfield 44, 3) := dk_181 0 44 (dk_at dksX3_carveAll_0 2 rfl rfl)
theorem dX3_carveAll_5 : decode cX3_carveAll 5 = .ok (.aload_n 0, 1) := dk_42 (dk_at dksX3_carveAll_0 5 rfl rfl)
theorem dX3_carveAll_6 : decode cX3_carveAll 6 = .ok (.invokevirtual 141, 3) := dk_182 0 141 (dk_at dksX3_carveAll_0 6 rfl rfl)
theorem dX3_carveAll_9 : decode cX3_carveAll 9 = .ok (.iconst 0, 1) := dk_3 (dk_at dksX3_carveAll_0 9 rfl rfl)
theorem dX3_carveAll_10 : decode cX3_carveAll 10 = .ok (.istore_n 1, 1) := dk_60 (dk_at dksX3_carveAll_0 10 rfl rfl)
theorem dX3_carveAll_11 : decode cX3_carveAll 11 = .ok (.aload_n 0, 1) := dk_42 (dk_at dksX3_carveAll_0 11 rfl rfl)
theorem dX3_carveAll_12 : decode cX3_carveAll 12 = .ok (.aload_n 0, 1) := dk_42 (dk_at dksX3_carveAll_0 12 rfl rfl)
theorem dX3_carveAll_13 : decode cX3_carveAll 13 = .ok (.getfield 7, 3) := dk_180 0 7 (dk_at dksX3_carveAll_0 13 rfl rfl)
theorem dX3_carveAll_16 : decode cX3_carveAll 16 = .ok (.invokevirtual 158, 3) := dk_182 0 158 (dk_at dksX3_carveAll_0 16 rfl rfl)
theorem dX3_carveAll_19 : decode cX3_carveAll 19 = .ok (.iconst (-1), 1) := dk_2 (dk_at dksX3_carveAll_0 19 rfl rfl)
theorem dX3_carveAll_20 : decode cX3_carveAll 20 = .ok (.if_icmp .eq 9, 3) := dk_159 0 9 (dk_at dksX3_carveAll_0 20 rfl rfl)
theorem dX3_carveAll_23 : decode cX3_carveAll 23 = .ok (.iinc 1 1, 3) := dk_132 1 1 (dk_at dksX3_carveAll_1 0 rfl rfl)
theorem dX3_carveAll_26 : decode cX3_carveAll 26 = .ok (.goto (-15), 3) := dk_167 255 241 (dk_at dksX3_carveAll_1 3 rfl rfl)
theorem dX3_carveAll_29 : decode cX3_carveAll 29 = .ok (.iload_n 1, 1) := dk_27 (dk_at dksX3_carveAll_1 6 rfl rfl)
theorem dX3_carveAll_30 : decode cX3_carveAll 30 = .ok (.ireturn, 1) := dk_172 (dk_at dksX3_carveAll_1 7 rfl rfl)
abbrev cX3_digsNext : ByteArray := prog_8_method_25_code
def yX3_digsNext : MethodName := ⟨RX3, "digsNext", "([I)I"⟩
def dkwX3_digsNext_6 : List UInt8 := [167, 0, 4, 2, 172]
abbrev dktX3_digsNext_6 : List UInt8 := dkwX3_digsNext_6 ++ []
def dkwX3_digsNext_5 : List UInt8 := [159, 0, 27, 42, 43, 28, 16, 6, 108, 28, 16, 6, 112, 182, 0, 116, 153, 0, 11, 42, 43, 182, 0, 119]
abbrev dktX3_digsNext_5 : List UInt8 := dkwX3_digsNext_5 ++ dktX3_digsNext_6
def dkwX3_digsNext_4 : List UInt8 := [28, 61, 21, 7, 153, 0, 10, 42, 180, 0, 109, 167, 0, 4, 29, 62, 132, 4, 1, 167, 255, 149, 28, 2]
abbrev dktX3_digsNext_4 : List UInt8 := dkwX3_digsNext_4 ++ dktX3_digsNext_5
def dkwX3_digsNext_3 : List UInt8 := [180, 0, 109, 29, 162, 0, 7, 4, 167, 0, 4, 3, 54, 7, 21, 7, 153, 0, 8, 21, 4, 167, 0, 4]
abbrev dktX3_digsNext_3 : List UInt8 := dkwX3_digsNext_3 ++ dktX3_digsNext_4
def dkwX3_digsNext_2 : List UInt8 := [43, 21, 5, 21, 6, 182, 0, 116, 153, 0, 56, 42, 180, 0, 109, 158, 0, 49, 28, 2, 159, 0, 11, 42]
abbrev dktX3_digsNext_2 : List UInt8 := dkwX3_digsNext_2 ++ dktX3_digsNext_3
def dkwX3_digsNext_1 : List UInt8 := [16, 6, 112, 54, 6, 21, 5, 21, 6, 162, 0, 79, 43, 21, 5, 21, 6, 184, 0, 99, 158, 0, 68, 42]
abbrev dktX3_digsNext_1 : List UInt8 := dkwX3_digsNext_1 ++ dktX3_digsNext_2
def dkwX3_digsNext_0 : List UInt8 := [2, 61, 3, 62, 3, 54, 4, 21, 4, 16, 36, 162, 0, 106, 21, 4, 16, 6, 108, 54, 5, 21, 4]
abbrev dktX3_digsNext_0 : List UInt8 := dkwX3_digsNext_0 ++ dktX3_digsNext_1
theorem dksX3_digsNext_0 : cX3_digsNext.data.toList.drop 0 = dktX3_digsNext_0 := by decide +kernel
theorem dksX3_digsNext_1 : cX3_digsNext.data.toList.drop 23 = dktX3_digsNext_1 := dk_seg dksX3_digsNext_0 23 rfl rfl
theorem dksX3_digsNext_2 : cX3_digsNext.data.toList.drop 47 = dktX3_digsNext_2 := dk_seg dksX3_digsNext_1 24 rfl rfl
theorem dksX3_digsNext_3 : cX3_digsNext.data.toList.drop 71 = dktX3_digsNext_3 := dk_seg dksX3_digsNext_2 24 rfl rfl
theorem dksX3_digsNext_4 : cX3_digsNext.data.toList.drop 95 = dktX3_digsNext_4 := dk_seg dksX3_digsNext_3 24 rfl rfl
theorem dksX3_digsNext_5 : cX3_digsNext.data.toList.drop 119 = dktX3_digsNext_5 := dk_seg dksX3_digsNext_4 24 rfl rfl
theorem dksX3_digsNext_6 : cX3_digsNext.data.toList.drop 143 = dktX3_digsNext_6 := dk_seg dksX3_digsNext_5 24 rfl rfl
theorem dX3_digsNext_0 : decode cX3_digsNext 0 = .ok (.iconst (-1), 1) := dk_2 (dk_at dksX3_digsNext_0 0 rfl rfl)
theorem dX3_digsNext_1 : decode cX3_digsNext 1 = .ok (.istore_n 2, 1) := dk_61 (dk_at dksX3_digsNext_0 1 rfl rfl)
theorem dX3_digsNext_2 : decode cX3_digsNext 2 = .ok (.iconst 0, 1) := dk_3 (dk_at dksX3_digsNext_0 2 rfl rfl)
theorem dX3_digsNext_3 : decode cX3_digsNext 3 = .ok (.istore_n 3, 1) := dk_62 (dk_at dksX3_digsNext_0 3 rfl rfl)
theorem dX3_digsNext_4 : decode cX3_digsNext 4 = .ok (.iconst 0, 1) := dk_3 (dk_at dksX3_digsNext_0 4 rfl rfl)
theorem dX3_digsNext_5 : decode cX3_digsNext 5 = .ok (.istore 4, 2) := dk_54 4 (dk_at dksX3_digsNext_0 5 rfl rfl)
theorem dX3_digsNext_7 : decode cX3_digsNext 7 = .ok (.iload 4, 2) := dk_21 4 (dk_at dksX3_digsNext_0 7 rfl rfl)
theorem dX3_digsNext_9 : decode cX3_digsNext 9 = .ok (.bipush 36, 2) := dk_16 36 (dk_at dksX3_digsNext_0 9 rfl rfl)
theorem dX3_digsNext_11 : decode cX3_digsNext 11 = .ok (.if_icmp .ge 106, 3) := dk_162 0 106 (dk_at dksX3_digsNext_0 11 rfl rfl)
theorem dX3_digsNext_14 : decode cX3_digsNext 14 = .ok (.iload 4, 2) := dk_21 4 (dk_at dksX3_digsNext_0 14 rfl rfl)
theorem dX3_digsNext_16 : decode cX3_digsNext 16 = .ok (.bipush 6, 2) := dk_16 6 (dk_at dksX3_digsNext_0 16 rfl rfl)
theorem dX3_digsNext_18 : decode cX3_digsNext 18 = .ok (.idiv, 1) := dk_108 (dk_at dksX3_digsNext_0 18 rfl rfl)
theorem dX3_digsNext_19 : decode cX3_digsNext 19 = .ok (.istore 5, 2) := dk_54 5 (dk_at dksX3_digsNext_0 19 rfl rfl)
theorem dX3_digsNext_21 : decode cX3_digsNext 21 = .ok (.iload 4, 2) := dk_21 4 (dk_at dksX3_digsNext_0 21 rfl rfl)
theorem dX3_digsNext_23 : decode cX3_digsNext 23 = .ok (.bipush 6, 2) := dk_16 6 (dk_at dksX3_digsNext_1 0 rfl rfl)
theorem dX3_digsNext_25 : decode cX3_digsNext 25 = .ok (.irem, 1) := dk_112 (dk_at dksX3_digsNext_1 2 rfl rfl)
theorem dX3_digsNext_26 : decode cX3_digsNext 26 = .ok (.istore 6, 2) := dk_54 6 (dk_at dksX3_digsNext_1 3 rfl rfl)
theorem dX3_digsNext_28 : decode cX3_digsNext 28 = .ok (.iload 5, 2) := dk_21 5 (dk_at dksX3_digsNext_1 5 rfl rfl)
theorem dX3_digsNext_30 : decode cX3_digsNext 30 = .ok (.iload 6, 2) := dk_21 6 (dk_at dksX3_digsNext_1 7 rfl rfl)
theorem dX3_digsNext_32 : decode cX3_digsNext 32 = .ok (.if_icmp .ge 79, 3) := dk_162 0 79 (dk_at dksX3_digsNext_1 9 rfl rfl)
theorem dX3_digsNext_35 : decode cX3_digsNext 35 = .ok (.aload_n 1, 1) := dk_43 (dk_at dksX3_digsNext_1 12 rfl rfl)
theorem dX3_digsNext_36 : decode cX3_digsNext 36 = .ok (.iload 5, 2) := dk_21 5 (dk_at dksX3_digsNext_1 13 rfl rfl)
theorem dX3_digsNext_38 : decode cX3_digsNext 38 = .ok (.iload 6, 2) := dk_21 6 (dk_at dksX3_digsNext_1 15 rfl rfl)
theorem dX3_digsNext_40 : decode cX3_digsNext 40 = .ok (.invokestatic 99, 3) := dk_184 0 99 (dk_at dksX3_digsNext_1 17 rfl rfl)
theorem dX3_digsNext_43 : decode cX3_digsNext 43 = .ok (.ifCond .le 68, 3) := dk_158 0 68 (dk_at dksX3_digsNext_1 20 rfl rfl)
theorem dX3_digsNext_46 : decode cX3_digsNext 46 = .ok (.aload_n 0, 1) := dk_42 (dk_at dksX3_digsNext_1 23 rfl rfl)
theorem dX3_digsNext_47 : decode cX3_digsNext 47 = .ok (.aload_n 1, 1) := dk_43 (dk_at dksX3_digsNext_2 0 rfl rfl)
theorem dX3_digsNext_48 : decode cX3_digsNext 48 = .ok (.iload 5, 2) := dk_21 5 (dk_at dksX3_digsNext_2 1 rfl rfl)
theorem dX3_digsNext_50 : decode cX3_digsNext 50 = .ok (.iload 6, 2) := dk_21 6 (dk_at dksX3_digsNext_2 3 rfl rfl)
theorem dX3_digsNext_52 : decode cX3_digsNext 52 = .ok (.invokevirtual 116, 3) := dk_182 0 116 (dk_at dksX3_digsNext_2 5 rfl rfl)
theorem dX3_digsNext_55 : decode cX3_digsNext 55 = .ok (.ifCond .eq 56, 3) := dk_153 0 56 (dk_at dksX3_digsNext_2 8 rfl rfl)
theorem dX3_digsNext_58 : decode cX3_digsNext 58 = .ok (.aload_n 0, 1) := dk_42 (dk_at dksX3_digsNext_2 11 rfl rfl)
theorem dX3_digsNext_59 : decode cX3_digsNext 59 = .ok (.getfield 109, 3) := dk_180 0 109 (dk_at dksX3_digsNext_2 12 rfl rfl)
theorem dX3_digsNext_62 : decode cX3_digsNext 62 = .ok (.ifCond .le 49, 3) := dk_158 0 49 (dk_at dksX3_digsNext_2 15 rfl rfl)
theorem dX3_digsNext_65 : decode cX3_digsNext 65 = .ok (.iload_n 2, 1) := dk_28 (dk_at dksX3_digsNext_2 18 rfl rfl)
theorem dX3_digsNext_66 : decode cX3_digsNext 66 = .ok (.iconst (-1), 1) := dk_2 (dk_at dksX3_digsNext_2 19 rfl rfl)
theorem dX3_digsNext_67 : decode cX3_digsNext 67 = .ok (.if_icmp .eq 11, 3) := dk_159 0 11 (dk_at dksX3_digsNext_2 20 rfl rfl)
theorem dX3_digsNext_70 : decode cX3_digsNext 70 = .ok (.aload_n 0, 1) := dk_42 (dk_at dksX3_digsNext_2 23 rfl rfl)
theorem dX3_digsNext_71 : decode cX3_digsNext 71 = .ok (.getfield 109, 3) := dk_180 0 109 (dk_at dksX3_digsNext_3 0 rfl rfl)
theorem dX3_digsNext_74 : decode cX3_digsNext 74 = .ok (.iload_n 3, 1) := dk_29 (dk_at dksX3_digsNext_3 3 rfl rfl)
theorem dX3_digsNext_75 : decode cX3_digsNext 75 = .ok (.if_icmp .ge 7, 3) := dk_162 0 7 (dk_at dksX3_digsNext_3 4 rfl rfl)
theorem dX3_digsNext_78 : decode cX3_digsNext 78 = .ok (.iconst 1, 1) := dk_4 (dk_at dksX3_digsNext_3 7 rfl rfl)
theorem dX3_digsNext_79 : decode cX3_digsNext 79 = .ok (.goto 4, 3) := dk_167 0 4 (dk_at dksX3_digsNext_3 8 rfl rfl)
theorem dX3_digsNext_82 : decode cX3_digsNext 82 = .ok (.iconst 0, 1) := dk_3 (dk_at dksX3_digsNext_3 11 rfl rfl)
theorem dX3_digsNext_83 : decode cX3_digsNext 83 = .ok (.istore 7, 2) := dk_54 7 (dk_at dksX3_digsNext_3 12 rfl rfl)
theorem dX3_digsNext_85 : decode cX3_digsNext 85 = .ok (.iload 7, 2) := dk_21 7 (dk_at dksX3_digsNext_3 14 rfl rfl)
theorem dX3_digsNext_87 : decode cX3_digsNext 87 = .ok (.ifCond .eq 8, 3) := dk_153 0 8 (dk_at dksX3_digsNext_3 16 rfl rfl)
theorem dX3_digsNext_90 : decode cX3_digsNext 90 = .ok (.iload 4, 2) := dk_21 4 (dk_at dksX3_digsNext_3 19 rfl rfl)
theorem dX3_digsNext_92 : decode cX3_digsNext 92 = .ok (.goto 4, 3) := dk_167 0 4 (dk_at dksX3_digsNext_3 21 rfl rfl)
theorem dX3_digsNext_95 : decode cX3_digsNext 95 = .ok (.iload_n 2, 1) := dk_28 (dk_at dksX3_digsNext_4 0 rfl rfl)
theorem dX3_digsNext_96 : decode cX3_digsNext 96 = .ok (.istore_n 2, 1) := dk_61 (dk_at dksX3_digsNext_4 1 rfl rfl)
theorem dX3_digsNext_97 : decode cX3_digsNext 97 = .ok (.iload 7, 2) := dk_21 7 (dk_at dksX3_digsNext_4 2 rfl rfl)
theorem dX3_digsNext_99 : decode cX3_digsNext 99 = .ok (.ifCond .eq 10, 3) := dk_153 0 10 (dk_at dksX3_digsNext_4 4 rfl rfl)
theorem dX3_digsNext_102 : decode cX3_digsNext 102 = .ok (.aload_n 0, 1) := dk_42 (dk_at dksX3_digsNext_4 7 rfl rfl)
theorem dX3_digsNext_103 : decode cX3_digsNext 103 = .ok (.getfield 109, 3) := dk_180 0 109 (dk_at dksX3_digsNext_4 8 rfl rfl)
theorem dX3_digsNext_106 : decode cX3_digsNext 106 = .ok (.goto 4, 3) := dk_167 0 4 (dk_at dksX3_digsNext_4 11 rfl rfl)
theorem dX3_digsNext_109 : decode cX3_digsNext 109 = .ok (.iload_n 3, 1) := dk_29 (dk_at dksX3_digsNext_4 14 rfl rfl)
theorem dX3_digsNext_110 : decode cX3_digsNext 110 = .ok (.istore_n 3, 1) := dk_62 (dk_at dksX3_digsNext_4 15 rfl rfl)
theorem dX3_digsNext_111 : decode cX3_digsNext 111 = .ok (.iinc 4 1, 3) := dk_132 4 1 (dk_at dksX3_digsNext_4 16 rfl rfl)
theorem dX3_digsNext_114 : decode cX3_digsNext 114 = .ok (.goto (-107), 3) := dk_167 255 149 (dk_at dksX3_digsNext_4 19 rfl rfl)
theorem dX3_digsNext_117 : decode cX3_digsNext 117 = .ok (.iload_n 2, 1) := dk_28 (dk_at dksX3_digsNext_4 22 rfl rfl)
theorem dX3_digsNext_118 : decode cX3_digsNext 118 = .ok (.iconst (-1), 1) := dk_2 (dk_at dksX3_digsNext_4 23 rfl rfl)
theorem dX3_digsNext_119 : decode cX3_digsNext 119 = .ok (.if_icmp .eq 27, 3) := dk_159 0 27 (dk_at dksX3_digsNext_5 0 rfl rfl)
theorem dX3_digsNext_122 : decode cX3_digsNext 122 = .ok (.aload_n 0, 1) := dk_42 (dk_at dksX3_digsNext_5 3 rfl rfl)
theorem dX3_digsNext_123 : decode cX3_digsNext 123 = .ok (.aload_n 1, 1) := dk_43 (dk_at dksX3_digsNext_5 4 rfl rfl)
theorem dX3_digsNext_124 : decode cX3_digsNext 124 = .ok (.iload_n 2, 1) := dk_28 (dk_at dksX3_digsNext_5 5 rfl rfl)
theorem dX3_digsNext_125 : decode cX3_digsNext 125 = .ok (.bipush 6, 2) := dk_16 6 (dk_at dksX3_digsNext_5 6 rfl rfl)
theorem dX3_digsNext_127 : decode cX3_digsNext 127 = .ok (.idiv, 1) := dk_108 (dk_at dksX3_digsNext_5 8 rfl rfl)
theorem dX3_digsNext_128 : decode cX3_digsNext 128 = .ok (.iload_n 2, 1) := dk_28 (dk_at dksX3_digsNext_5 9 rfl rfl)
theorem dX3_digsNext_129 : decode cX3_digsNext 129 = .ok (.bipush 6, 2) := dk_16 6 (dk_at dksX3_digsNext_5 10 rfl rfl)
theorem dX3_digsNext_131 : decode cX3_digsNext 131 = .ok (.irem, 1) := dk_112 (dk_at dksX3_digsNext_5 12 rfl rfl)
theorem dX3_digsNext_132 : decode cX3_digsNext 132 = .ok (.invokevirtual 116, 3) := dk_182 0 116 (dk_at dksX3_digsNext_5 13 rfl rfl)
theorem dX3_digsNext_135 : decode cX3_digsNext 135 = .ok (.ifCond .eq 11, 3) := dk_153 0 11 (dk_at dksX3_digsNext_5 16 rfl rfl)
theorem dX3_digsNext_138 : decode cX3_digsNext 138 = .ok (.aload_n 0, 1) := dk_42 (dk_at dksX3_digsNext_5 19 rfl rfl)
theorem dX3_digsNext_139 : decode cX3_digsNext 139 = .ok (.aload_n 1, 1) := dk_43 (dk_at dksX3_digsNext_5 20 rfl rfl)
theorem dX3_digsNext_140 : decode cX3_digsNext 140 = .ok (.invokevirtual 119, 3) := dk_182 0 119 (dk_at dksX3_digsNext_5 21 rfl rfl)
theorem dX3_digsNext_143 : decode cX3_digsNext 143 = .ok (.goto 4, 3) := dk_167 0 4 (dk_at dksX3_digsNext_6 0 rfl rfl)
theorem dX3_digsNext_146 : decode cX3_digsNext 146 = .ok (.iconst (-1), 1) := dk_2 (dk_at dksX3_digsNext_6 3 rfl rfl)
theorem dX3_digsNext_147 : decode cX3_digsNext 147 = .ok (.ireturn, 1) := dk_172 (dk_at dksX3_digsNext_6 4 rfl rfl)
abbrev cX3_fillUp : ByteArray := prog_8_method_42_code
def yX3_fillUp : MethodName := ⟨RX3, "fillUp", "()I"⟩
def dkwX3_fillUp_10 : List UInt8 := [28, 46, 79, 132, 2, 1, 167, 255, 188, 27, 172]
abbrev dktX3_fillUp_10 : List UInt8 := dkwX3_fillUp_10 ++ []
def dkwX3_fillUp_9 : List UInt8 := [167, 0, 4, 3, 96, 60, 42, 180, 0, 7, 28, 29, 153, 0, 8, 16, 254, 167, 0, 9, 42, 180, 0, 7]
abbrev dktX3_fillUp_9 : List UInt8 := dkwX3_fillUp_9 ++ dktX3_fillUp_10
def dkwX3_fillUp_8 : List UInt8 := [160, 0, 16, 42, 180, 0, 41, 28, 51, 154, 0, 7, 4, 167, 0, 4, 3, 62, 27, 29, 153, 0, 7, 4]
abbrev dktX3_fillUp_8 : List UInt8 := dkwX3_fillUp_8 ++ dktX3_fillUp_9
def dkwX3_fillUp_7 : List UInt8 := [132, 1, 1, 167, 255, 122, 3, 60, 3, 61, 28, 17, 0, 192, 162, 0, 67, 42, 180, 0, 7, 28, 46, 2]
abbrev dktX3_fillUp_7 : List UInt8 := dkwX3_fillUp_7 ++ dktX3_fillUp_8
def dkwX3_fillUp_6 : List UInt8 := [180, 0, 71, 112, 96, 16, 16, 29, 42, 180, 0, 71, 108, 104, 96, 4, 84, 132, 2, 1, 167, 255, 184]
abbrev dktX3_fillUp_6 : List UInt8 := dkwX3_fillUp_6 ++ dktX3_fillUp_7
def dkwX3_fillUp_5 : List UInt8 := [62, 42, 180, 0, 41, 42, 180, 0, 38, 28, 42, 180, 0, 71, 42, 180, 0, 71, 104, 108, 46, 29, 42]
abbrev dktX3_fillUp_5 : List UInt8 := dkwX3_fillUp_5 ++ dktX3_fillUp_6
def dkwX3_fillUp_4 : List UInt8 := [42, 180, 0, 71, 104, 42, 180, 0, 71, 104, 162, 0, 60, 28, 42, 180, 0, 71, 42, 180, 0, 71, 104, 112]
abbrev dktX3_fillUp_4 : List UInt8 := dkwX3_fillUp_4 ++ dktX3_fillUp_5
def dkwX3_fillUp_3 : List UInt8 := [180, 0, 7, 27, 16, 6, 108, 27, 16, 6, 112, 182, 0, 161, 153, 0, 80, 3, 61, 28, 42, 180, 0, 106]
abbrev dktX3_fillUp_3 : List UInt8 := dkwX3_fillUp_3 ++ dktX3_fillUp_4
def dkwX3_fillUp_2 : List UInt8 := [162, 0, 117, 42, 180, 0, 7, 27, 16, 6, 108, 27, 16, 6, 112, 184, 0, 99, 158, 0, 99, 42, 42]
abbrev dktX3_fillUp_2 : List UInt8 := dkwX3_fillUp_2 ++ dktX3_fillUp_3
def dkwX3_fillUp_1 : List UInt8 := [84, 132, 1, 1, 167, 255, 239, 3, 60, 27, 16, 36, 162, 0, 134, 27, 16, 6, 108, 27, 16, 6, 112]
abbrev dktX3_fillUp_1 : List UInt8 := dkwX3_fillUp_1 ++ dktX3_fillUp_2
def dkwX3_fillUp_0 : List UInt8 := [42, 3, 181, 0, 44, 42, 182, 0, 141, 3, 60, 27, 17, 0, 192, 162, 0, 16, 42, 180, 0, 41, 27, 3]
abbrev dktX3_fillUp_0 : List UInt8 := dkwX3_fillUp_0 ++ dktX3_fillUp_1
theorem dksX3_fillUp_0 : cX3_fillUp.data.toList.drop 0 = dktX3_fillUp_0 := by decide +kernel
theorem dksX3_fillUp_1 : cX3_fillUp.data.toList.drop 24 = dktX3_fillUp_1 := dk_seg dksX3_fillUp_0 24 rfl rfl
theorem dksX3_fillUp_2 : cX3_fillUp.data.toList.drop 47 = dktX3_fillUp_2 := dk_seg dksX3_fillUp_1 23 rfl rfl
theorem dksX3_fillUp_3 : cX3_fillUp.data.toList.drop 70 = dktX3_fillUp_3 := dk_seg dksX3_fillUp_2 23 rfl rfl
theorem dksX3_fillUp_4 : cX3_fillUp.data.toList.drop 94 = dktX3_fillUp_4 := dk_seg dksX3_fillUp_3 24 rfl rfl
theorem dksX3_fillUp_5 : cX3_fillUp.data.toList.drop 118 = dktX3_fillUp_5 := dk_seg dksX3_fillUp_4 24 rfl rfl
theorem dksX3_fillUp_6 : cX3_fillUp.data.toList.drop 141 = dktX3_fillUp_6 := dk_seg dksX3_fillUp_5 23 rfl rfl
theorem dksX3_fillUp_7 : cX3_fillUp.data.toList.drop 164 = dktX3_fillUp_7 := dk_seg dksX3_fillUp_6 23 rfl rfl
theorem dksX3_fillUp_8 : cX3_fillUp.data.toList.drop 188 = dktX3_fillUp_8 := dk_seg dksX3_fillUp_7 24 rfl rfl
theorem dksX3_fillUp_9 : cX3_fillUp.data.toList.drop 212 = dktX3_fillUp_9 := dk_seg dksX3_fillUp_8 24 rfl rfl
theorem dksX3_fillUp_10 : cX3_fillUp.data.toList.drop 236 = dktX3_fillUp_10 := dk_seg dksX3_fillUp_9 24 rfl rfl
theorem dX3_fillUp_0 : decode cX3_fillUp 0 = .ok (.aload_n 0, 1) := dk_42 (dk_at dksX3_fillUp_0 0 rfl rfl)
theorem dX3_fillUp_1 : decode cX3_fillUp 1 = .ok (.iconst 0, 1) := dk_3 (dk_at dksX3_fillUp_0 1 rfl rfl)
theorem dX3_fillUp_2 : decode cX3_fillUp 2 = .ok (.putfield 44, 3) := dk_181 0 44 (dk_at dksX3_fillUp_0 2 rfl rfl)
theorem dX3_fillUp_5 : decode cX3_fillUp 5 = .ok (.aload_n 0, 1) := dk_42 (dk_at dksX3_fillUp_0 5 rfl rfl)
theorem dX3_fillUp_6 : decode cX3_fillUp 6 = .ok (.invokevirtual 141, 3) := dk_182 0 141 (dk_at dksX3_fillUp_0 6 rfl rfl)
theorem dX3_fillUp_9 : decode cX3_fillUp 9 = .ok (.iconst 0, 1) := dk_3 (dk_at dksX3_fillUp_0 9 rfl rfl)
theorem dX3_fillUp_10 : decode cX3_fillUp 10 = .ok (.istore_n 1, 1) := dk_60 (dk_at dksX3_fillUp_0 10 rfl rfl)
theorem dX3_fillUp_11 : decode cX3_fillUp 11 = .ok (.iload_n 1, 1) := dk_27 (dk_at dksX3_fillUp_0 11 rfl rfl)
theorem dX3_fillUp_12 : decode cX3_fillUp 12 = .ok (.sipush 192, 3) := dk_17 0 192 (dk_at dksX3_fillUp_0 12 rfl rfl)
theorem dX3_fillUp_15 : decode cX3_fillUp 15 = .ok (.if_icmp .ge 16, 3) := dk_162 0 16 (dk_at dksX3_fillUp_0 15 rfl rfl)
theorem dX3_fillUp_18 : decode cX3_fillUp 18 = .ok (.aload_n 0, 1) := dk_42 (dk_at dksX3_fillUp_0 18 rfl rfl)
theorem dX3_fillUp_19 : decode cX3_fillUp 19 = .ok (.getfield 41, 3) := dk_180 0 41 (dk_at dksX3_fillUp_0 19 rfl rfl)
theorem dX3_fillUp_22 : decode cX3_fillUp 22 = .ok (.iload_n 1, 1) := dk_27 (dk_at dksX3_fillUp_0 22 rfl rfl)
theorem dX3_fillUp_23 : decode cX3_fillUp 23 = .ok (.iconst 0, 1) := dk_3 (dk_at dksX3_fillUp_0 23 rfl rfl)
theorem dX3_fillUp_24 : decode cX3_fillUp 24 = .ok (.bastore, 1) := dk_84 (dk_at dksX3_fillUp_1 0 rfl rfl)
theorem dX3_fillUp_25 : decode cX3_fillUp 25 = .ok (.iinc 1 1, 3) := dk_132 1 1 (dk_at dksX3_fillUp_1 1 rfl rfl)
theorem dX3_fillUp_28 : decode cX3_fillUp 28 = .ok (.goto (-17), 3) := dk_167 255 239 (dk_at dksX3_fillUp_1 4 rfl rfl)
theorem dX3_fillUp_31 : decode cX3_fillUp 31 = .ok (.iconst 0, 1) := dk_3 (dk_at dksX3_fillUp_1 7 rfl rfl)
theorem dX3_fillUp_32 : decode cX3_fillUp 32 = .ok (.istore_n 1, 1) := dk_60 (dk_at dksX3_fillUp_1 8 rfl rfl)
theorem dX3_fillUp_33 : decode cX3_fillUp 33 = .ok (.iload_n 1, 1) := dk_27 (dk_at dksX3_fillUp_1 9 rfl rfl)
theorem dX3_fillUp_34 : decode cX3_fillUp 34 = .ok (.bipush 36, 2) := dk_16 36 (dk_at dksX3_fillUp_1 10 rfl rfl)
theorem dX3_fillUp_36 : decode cX3_fillUp 36 = .ok (.if_icmp .ge 134, 3) := dk_162 0 134 (dk_at dksX3_fillUp_1 12 rfl rfl)
theorem dX3_fillUp_39 : decode cX3_fillUp 39 = .ok (.iload_n 1, 1) := dk_27 (dk_at dksX3_fillUp_1 15 rfl rfl)
theorem dX3_fillUp_40 : decode cX3_fillUp 40 = .ok (.bipush 6, 2) := dk_16 6 (dk_at dksX3_fillUp_1 16 rfl rfl)
theorem dX3_fillUp_42 : decode cX3_fillUp 42 = .ok (.idiv, 1) := dk_108 (dk_at dksX3_fillUp_1 18 rfl rfl)
theorem dX3_fillUp_43 : decode cX3_fillUp 43 = .ok (.iload_n 1, 1) := dk_27 (dk_at dksX3_fillUp_1 19 rfl rfl)
theorem dX3_fillUp_44 : decode cX3_fillUp 44 = .ok (.bipush 6, 2) := dk_16 6 (dk_at dksX3_fillUp_1 20 rfl rfl)
theorem dX3_fillUp_46 : decode cX3_fillUp 46 = .ok (.irem, 1) := dk_112 (dk_at dksX3_fillUp_1 22 rfl rfl)
theorem dX3_fillUp_47 : decode cX3_fillUp 47 = .ok (.if_icmp .ge 117, 3) := dk_162 0 117 (dk_at dksX3_fillUp_2 0 rfl rfl)
theorem dX3_fillUp_50 : decode cX3_fillUp 50 = .ok (.aload_n 0, 1) := dk_42 (dk_at dksX3_fillUp_2 3 rfl rfl)
theorem dX3_fillUp_51 : decode cX3_fillUp 51 = .ok (.getfield 7, 3) := dk_180 0 7 (dk_at dksX3_fillUp_2 4 rfl rfl)
theorem dX3_fillUp_54 : decode cX3_fillUp 54 = .ok (.iload_n 1, 1) := dk_27 (dk_at dksX3_fillUp_2 7 rfl rfl)
theorem dX3_fillUp_55 : decode cX3_fillUp 55 = .ok (.bipush 6, 2) := dk_16 6 (dk_at dksX3_fillUp_2 8 rfl rfl)
theorem dX3_fillUp_57 : decode cX3_fillUp 57 = .ok (.idiv, 1) := dk_108 (dk_at dksX3_fillUp_2 10 rfl rfl)
theorem dX3_fillUp_58 : decode cX3_fillUp 58 = .ok (.iload_n 1, 1) := dk_27 (dk_at dksX3_fillUp_2 11 rfl rfl)
theorem dX3_fillUp_59 : decode cX3_fillUp 59 = .ok (.bipush 6, 2) := dk_16 6 (dk_at dksX3_fillUp_2 12 rfl rfl)
theorem dX3_fillUp_61 : decode cX3_fillUp 61 = .ok (.irem, 1) := dk_112 (dk_at dksX3_fillUp_2 14 rfl rfl)
theorem dX3_fillUp_62 : decode cX3_fillUp 62 = .ok (.invokestatic 99, 3) := dk_184 0 99 (dk_at dksX3_fillUp_2 15 rfl rfl)
theorem dX3_fillUp_65 : decode cX3_fillUp 65 = .ok (.ifCond .le 99, 3) := dk_158 0 99 (dk_at dksX3_fillUp_2 18 rfl rfl)
theorem dX3_fillUp_68 : decode cX3_fillUp 68 = .ok (.aload_n 0, 1) := dk_42 (dk_at dksX3_fillUp_2 21 rfl rfl)
theorem dX3_fillUp_69 : decode cX3_fillUp 69 = .ok (.aload_n 0, 1) := dk_42 (dk_at dksX3_fillUp_2 22 rfl rfl)
theorem dX3_fillUp_70 : decode cX3_fillUp 70 = .ok (.getfield 7, 3) := dk_180 0 7 (dk_at dksX3_fillUp_3 0 rfl rfl)
theorem dX3_fillUp_73 : decode cX3_fillUp 73 = .ok (.iload_n 1, 1) := dk_27 (dk_at dksX3_fillUp_3 3 rfl rfl)
theorem dX3_fillUp_74 : decode cX3_fillUp 74 = .ok (.bipush 6, 2) := dk_16 6 (dk_at dksX3_fillUp_3 4 rfl rfl)
theorem dX3_fillUp_76 : decode cX3_fillUp 76 = .ok (.idiv, 1) := dk_108 (dk_at dksX3_fillUp_3 6 rfl rfl)
theorem dX3_fillUp_77 : decode cX3_fillUp 77 = .ok (.iload_n 1, 1) := dk_27 (dk_at dksX3_fillUp_3 7 rfl rfl)
theorem dX3_fillUp_78 : decode cX3_fillUp 78 = .ok (.bipush 6, 2) := dk_16 6 (dk_at dksX3_fillUp_3 8 rfl rfl)
theorem dX3_fillUp_80 : decode cX3_fillUp 80 = .ok (.irem, 1) := dk_112 (dk_at dksX3_fillUp_3 10 rfl rfl)
theorem dX3_fillUp_81 : decode cX3_fillUp 81 = .ok (.invokevirtual 161, 3) := dk_182 0 161 (dk_at dksX3_fillUp_3 11 rfl rfl)
theorem dX3_fillUp_84 : decode cX3_fillUp 84 = .ok (.ifCond .eq 80, 3) := dk_153 0 80 (dk_at dksX3_fillUp_3 14 rfl rfl)
theorem dX3_fillUp_87 : decode cX3_fillUp 87 = .ok (.iconst 0, 1) := dk_3 (dk_at dksX3_fillUp_3 17 rfl rfl)
theorem dX3_fillUp_88 : decode cX3_fillUp 88 = .ok (.istore_n 2, 1) := dk_61 (dk_at dksX3_fillUp_3 18 rfl rfl)
theorem dX3_fillUp_89 : decode cX3_fillUp 89 = .ok (.iload_n 2, 1) := dk_28 (dk_at dksX3_fillUp_3 19 rfl rfl)
theorem dX3_fillUp_90 : decode cX3_fillUp 90 = .ok (.aload_n 0, 1) := dk_42 (dk_at dksX3_fillUp_3 20 rfl rfl)
theorem dX3_fillUp_91 : decode cX3_fillUp 91 = .ok (.getfield 106, 3) := dk_180 0 106 (dk_at dksX3_fillUp_3 21 rfl rfl)
theorem dX3_fillUp_94 : decode cX3_fillUp 94 = .ok (.aload_n 0, 1) := dk_42 (dk_at dksX3_fillUp_4 0 rfl rfl)
theorem dX3_fillUp_95 : decode cX3_fillUp 95 = .ok (.getfield 71, 3) := dk_180 0 71 (dk_at dksX3_fillUp_4 1 rfl rfl)
theorem dX3_fillUp_98 : decode cX3_fillUp 98 = .ok (.imul, 1) := dk_104 (dk_at dksX3_fillUp_4 4 rfl rfl)
theorem dX3_fillUp_99 : decode cX3_fillUp 99 = .ok (.aload_n 0, 1) := dk_42 (dk_at dksX3_fillUp_4 5 rfl rfl)
theorem dX3_fillUp_100 : decode cX3_fillUp 100 = .ok (.getfield 71, 3) := dk_180 0 71 (dk_at dksX3_fillUp_4 6 rfl rfl)
theorem dX3_fillUp_103 : decode cX3_fillUp 103 = .ok (.imul, 1) := dk_104 (dk_at dksX3_fillUp_4 9 rfl rfl)
theorem dX3_fillUp_104 : decode cX3_fillUp 104 = .ok (.if_icmp .ge 60, 3) := dk_162 0 60 (dk_at dksX3_fillUp_4 10 rfl rfl)
theorem dX3_fillUp_107 : decode cX3_fillUp 107 = .ok (.iload_n 2, 1) := dk_28 (dk_at dksX3_fillUp_4 13 rfl rfl)
theorem dX3_fillUp_108 : decode cX3_fillUp 108 = .ok (.aload_n 0, 1) := dk_42 (dk_at dksX3_fillUp_4 14 rfl rfl)
theorem dX3_fillUp_109 : decode cX3_fillUp 109 = .ok (.getfield 71, 3) := dk_180 0 71 (dk_at dksX3_fillUp_4 15 rfl rfl)
theorem dX3_fillUp_112 : decode cX3_fillUp 112 = .ok (.aload_n 0, 1) := dk_42 (dk_at dksX3_fillUp_4 18 rfl rfl)
theorem dX3_fillUp_113 : decode cX3_fillUp 113 = .ok (.getfield 71, 3) := dk_180 0 71 (dk_at dksX3_fillUp_4 19 rfl rfl)
theorem dX3_fillUp_116 : decode cX3_fillUp 116 = .ok (.imul, 1) := dk_104 (dk_at dksX3_fillUp_4 22 rfl rfl)
theorem dX3_fillUp_117 : decode cX3_fillUp 117 = .ok (.irem, 1) := dk_112 (dk_at dksX3_fillUp_4 23 rfl rfl)
theorem dX3_fillUp_118 : decode cX3_fillUp 118 = .ok (.istore_n 3, 1) := dk_62 (dk_at dksX3_fillUp_5 0 rfl rfl)
theorem dX3_fillUp_119 : decode cX3_fillUp 119 = .ok (.aload_n 0, 1) := dk_42 (dk_at dksX3_fillUp_5 1 rfl rfl)
theorem dX3_fillUp_120 : decode cX3_fillUp 120 = .ok (.getfield 41, 3) := dk_180 0 41 (dk_at dksX3_fillUp_5 2 rfl rfl)
theorem dX3_fillUp_123 : decode cX3_fillUp 123 = .ok (.aload_n 0, 1) := dk_42 (dk_at dksX3_fillUp_5 5 rfl rfl)
theorem dX3_fillUp_124 : decode cX3_fillUp 124 = .ok (.getfield 38, 3) := dk_180 0 38 (dk_at dksX3_fillUp_5 6 rfl rfl)
theorem dX3_fillUp_127 : decode cX3_fillUp 127 = .ok (.iload_n 2, 1) := dk_28 (dk_at dksX3_fillUp_5 9 rfl rfl)
theorem dX3_fillUp_128 : decode cX3_fillUp 128 = .ok (.aload_n 0, 1) := dk_42 (dk_at dksX3_fillUp_5 10 rfl rfl)
theorem dX3_fillUp_129 : decode cX3_fillUp 129 = .ok (.getfield 71, 3) := dk_180 0 71 (dk_at dksX3_fillUp_5 11 rfl rfl)
theorem dX3_fillUp_132 : decode cX3_fillUp 132 = .ok (.aload_n 0, 1) := dk_42 (dk_at dksX3_fillUp_5 14 rfl rfl)
theorem dX3_fillUp_133 : decode cX3_fillUp 133 = .ok (.getfield 71, 3) := dk_180 0 71 (dk_at dksX3_fillUp_5 15 rfl rfl)
theorem dX3_fillUp_136 : decode cX3_fillUp 136 = .ok (.imul, 1) := dk_104 (dk_at dksX3_fillUp_5 18 rfl rfl)
theorem dX3_fillUp_137 : decode cX3_fillUp 137 = .ok (.idiv, 1) := dk_108 (dk_at dksX3_fillUp_5 19 rfl rfl)
theorem dX3_fillUp_138 : decode cX3_fillUp 138 = .ok (.iaload, 1) := dk_46 (dk_at dksX3_fillUp_5 20 rfl rfl)
theorem dX3_fillUp_139 : decode cX3_fillUp 139 = .ok (.iload_n 3, 1) := dk_29 (dk_at dksX3_fillUp_5 21 rfl rfl)
theorem dX3_fillUp_140 : decode cX3_fillUp 140 = .ok (.aload_n 0, 1) := dk_42 (dk_at dksX3_fillUp_5 22 rfl rfl)
theorem dX3_fillUp_141 : decode cX3_fillUp 141 = .ok (.getfield 71, 3) := dk_180 0 71 (dk_at dksX3_fillUp_6 0 rfl rfl)
theorem dX3_fillUp_144 : decode cX3_fillUp 144 = .ok (.irem, 1) := dk_112 (dk_at dksX3_fillUp_6 3 rfl rfl)
theorem dX3_fillUp_145 : decode cX3_fillUp 145 = .ok (.iadd, 1) := dk_96 (dk_at dksX3_fillUp_6 4 rfl rfl)
theorem dX3_fillUp_146 : decode cX3_fillUp 146 = .ok (.bipush 16, 2) := dk_16 16 (dk_at dksX3_fillUp_6 5 rfl rfl)
theorem dX3_fillUp_148 : decode cX3_fillUp 148 = .ok (.iload_n 3, 1) := dk_29 (dk_at dksX3_fillUp_6 7 rfl rfl)
theorem dX3_fillUp_149 : decode cX3_fillUp 149 = .ok (.aload_n 0, 1) := dk_42 (dk_at dksX3_fillUp_6 8 rfl rfl)
theorem dX3_fillUp_150 : decode cX3_fillUp 150 = .ok (.getfield 71, 3) := dk_180 0 71 (dk_at dksX3_fillUp_6 9 rfl rfl)
theorem dX3_fillUp_153 : decode cX3_fillUp 153 = .ok (.idiv, 1) := dk_108 (dk_at dksX3_fillUp_6 12 rfl rfl)
theorem dX3_fillUp_154 : decode cX3_fillUp 154 = .ok (.imul, 1) := dk_104 (dk_at dksX3_fillUp_6 13 rfl rfl)
theorem dX3_fillUp_155 : decode cX3_fillUp 155 = .ok (.iadd, 1) := dk_96 (dk_at dksX3_fillUp_6 14 rfl rfl)
theorem dX3_fillUp_156 : decode cX3_fillUp 156 = .ok (.iconst 1, 1) := dk_4 (dk_at dksX3_fillUp_6 15 rfl rfl)
theorem dX3_fillUp_157 : decode cX3_fillUp 157 = .ok (.bastore, 1) := dk_84 (dk_at dksX3_fillUp_6 16 rfl rfl)
theorem dX3_fillUp_158 : decode cX3_fillUp 158 = .ok (.iinc 2 1, 3) := dk_132 2 1 (dk_at dksX3_fillUp_6 17 rfl rfl)
theorem dX3_fillUp_161 : decode cX3_fillUp 161 = .ok (.goto (-72), 3) := dk_167 255 184 (dk_at dksX3_fillUp_6 20 rfl rfl)
theorem dX3_fillUp_164 : decode cX3_fillUp 164 = .ok (.iinc 1 1, 3) := dk_132 1 1 (dk_at dksX3_fillUp_7 0 rfl rfl)
theorem dX3_fillUp_167 : decode cX3_fillUp 167 = .ok (.goto (-134), 3) := dk_167 255 122 (dk_at dksX3_fillUp_7 3 rfl rfl)
theorem dX3_fillUp_170 : decode cX3_fillUp 170 = .ok (.iconst 0, 1) := dk_3 (dk_at dksX3_fillUp_7 6 rfl rfl)
theorem dX3_fillUp_171 : decode cX3_fillUp 171 = .ok (.istore_n 1, 1) := dk_60 (dk_at dksX3_fillUp_7 7 rfl rfl)
theorem dX3_fillUp_172 : decode cX3_fillUp 172 = .ok (.iconst 0, 1) := dk_3 (dk_at dksX3_fillUp_7 8 rfl rfl)
theorem dX3_fillUp_173 : decode cX3_fillUp 173 = .ok (.istore_n 2, 1) := dk_61 (dk_at dksX3_fillUp_7 9 rfl rfl)
theorem dX3_fillUp_174 : decode cX3_fillUp 174 = .ok (.iload_n 2, 1) := dk_28 (dk_at dksX3_fillUp_7 10 rfl rfl)
theorem dX3_fillUp_175 : decode cX3_fillUp 175 = .ok (.sipush 192, 3) := dk_17 0 192 (dk_at dksX3_fillUp_7 11 rfl rfl)
theorem dX3_fillUp_178 : decode cX3_fillUp 178 = .ok (.if_icmp .ge 67, 3) := dk_162 0 67 (dk_at dksX3_fillUp_7 14 rfl rfl)
theorem dX3_fillUp_181 : decode cX3_fillUp 181 = .ok (.aload_n 0, 1) := dk_42 (dk_at dksX3_fillUp_7 17 rfl rfl)
theorem dX3_fillUp_182 : decode cX3_fillUp 182 = .ok (.getfield 7, 3) := dk_180 0 7 (dk_at dksX3_fillUp_7 18 rfl rfl)
theorem dX3_fillUp_185 : decode cX3_fillUp 185 = .ok (.iload_n 2, 1) := dk_28 (dk_at dksX3_fillUp_7 21 rfl rfl)
theorem dX3_fillUp_186 : decode cX3_fillUp 186 = .ok (.iaload, 1) := dk_46 (dk_at dksX3_fillUp_7 22 rfl rfl)
theorem dX3_fillUp_187 : decode cX3_fillUp 187 = .ok (.iconst (-1), 1) := dk_2 (dk_at dksX3_fillUp_7 23 rfl rfl)
theorem dX3_fillUp_188 : decode cX3_fillUp 188 = .ok (.if_icmp .ne 16, 3) := dk_160 0 16 (dk_at dksX3_fillUp_8 0 rfl rfl)
theorem dX3_fillUp_191 : decode cX3_fillUp 191 = .ok (.aload_n 0, 1) := dk_42 (dk_at dksX3_fillUp_8 3 rfl rfl)
theorem dX3_fillUp_192 : decode cX3_fillUp 192 = .ok (.getfield 41, 3) := dk_180 0 41 (dk_at dksX3_fillUp_8 4 rfl rfl)
theorem dX3_fillUp_195 : decode cX3_fillUp 195 = .ok (.iload_n 2, 1) := dk_28 (dk_at dksX3_fillUp_8 7 rfl rfl)
theorem dX3_fillUp_196 : decode cX3_fillUp 196 = .ok (.baload, 1) := dk_51 (dk_at dksX3_fillUp_8 8 rfl rfl)
theorem dX3_fillUp_197 : decode cX3_fillUp 197 = .ok (.ifCond .ne 7, 3) := dk_154 0 7 (dk_at dksX3_fillUp_8 9 rfl rfl)
theorem dX3_fillUp_200 : decode cX3_fillUp 200 = .ok (.iconst 1, 1) := dk_4 (dk_at dksX3_fillUp_8 12 rfl rfl)
theorem dX3_fillUp_201 : decode cX3_fillUp 201 = .ok (.goto 4, 3) := dk_167 0 4 (dk_at dksX3_fillUp_8 13 rfl rfl)
theorem dX3_fillUp_204 : decode cX3_fillUp 204 = .ok (.iconst 0, 1) := dk_3 (dk_at dksX3_fillUp_8 16 rfl rfl)
theorem dX3_fillUp_205 : decode cX3_fillUp 205 = .ok (.istore_n 3, 1) := dk_62 (dk_at dksX3_fillUp_8 17 rfl rfl)
theorem dX3_fillUp_206 : decode cX3_fillUp 206 = .ok (.iload_n 1, 1) := dk_27 (dk_at dksX3_fillUp_8 18 rfl rfl)
theorem dX3_fillUp_207 : decode cX3_fillUp 207 = .ok (.iload_n 3, 1) := dk_29 (dk_at dksX3_fillUp_8 19 rfl rfl)
theorem dX3_fillUp_208 : decode cX3_fillUp 208 = .ok (.ifCond .eq 7, 3) := dk_153 0 7 (dk_at dksX3_fillUp_8 20 rfl rfl)
theorem dX3_fillUp_211 : decode cX3_fillUp 211 = .ok (.iconst 1, 1) := dk_4 (dk_at dksX3_fillUp_8 23 rfl rfl)
theorem dX3_fillUp_212 : decode cX3_fillUp 212 = .ok (.goto 4, 3) := dk_167 0 4 (dk_at dksX3_fillUp_9 0 rfl rfl)
theorem dX3_fillUp_215 : decode cX3_fillUp 215 = .ok (.iconst 0, 1) := dk_3 (dk_at dksX3_fillUp_9 3 rfl rfl)
theorem dX3_fillUp_216 : decode cX3_fillUp 216 = .ok (.iadd, 1) := dk_96 (dk_at dksX3_fillUp_9 4 rfl rfl)
theorem dX3_fillUp_217 : decode cX3_fillUp 217 = .ok (.istore_n 1, 1) := dk_60 (dk_at dksX3_fillUp_9 5 rfl rfl)
theorem dX3_fillUp_218 : decode cX3_fillUp 218 = .ok (.aload_n 0, 1) := dk_42 (dk_at dksX3_fillUp_9 6 rfl rfl)
theorem dX3_fillUp_219 : decode cX3_fillUp 219 = .ok (.getfield 7, 3) := dk_180 0 7 (dk_at dksX3_fillUp_9 7 rfl rfl)
theorem dX3_fillUp_222 : decode cX3_fillUp 222 = .ok (.iload_n 2, 1) := dk_28 (dk_at dksX3_fillUp_9 10 rfl rfl)
theorem dX3_fillUp_223 : decode cX3_fillUp 223 = .ok (.iload_n 3, 1) := dk_29 (dk_at dksX3_fillUp_9 11 rfl rfl)
theorem dX3_fillUp_224 : decode cX3_fillUp 224 = .ok (.ifCond .eq 8, 3) := dk_153 0 8 (dk_at dksX3_fillUp_9 12 rfl rfl)
theorem dX3_fillUp_227 : decode cX3_fillUp 227 = .ok (.bipush (-2), 2) := dk_16 254 (dk_at dksX3_fillUp_9 15 rfl rfl)
theorem dX3_fillUp_229 : decode cX3_fillUp 229 = .ok (.goto 9, 3) := dk_167 0 9 (dk_at dksX3_fillUp_9 17 rfl rfl)
theorem dX3_fillUp_232 : decode cX3_fillUp 232 = .ok (.aload_n 0, 1) := dk_42 (dk_at dksX3_fillUp_9 20 rfl rfl)
theorem dX3_fillUp_233 : decode cX3_fillUp 233 = .ok (.getfield 7, 3) := dk_180 0 7 (dk_at dksX3_fillUp_9 21 rfl rfl)
theorem dX3_fillUp_236 : decode cX3_fillUp 236 = .ok (.iload_n 2, 1) := dk_28 (dk_at dksX3_fillUp_10 0 rfl rfl)
theorem dX3_fillUp_237 : decode cX3_fillUp 237 = .ok (.iaload, 1) := dk_46 (dk_at dksX3_fillUp_10 1 rfl rfl)
theorem dX3_fillUp_238 : decode cX3_fillUp 238 = .ok (.iastore, 1) := dk_79 (dk_at dksX3_fillUp_10 2 rfl rfl)
theorem dX3_fillUp_239 : decode cX3_fillUp 239 = .ok (.iinc 2 1, 3) := dk_132 2 1 (dk_at dksX3_fillUp_10 3 rfl rfl)
theorem dX3_fillUp_242 : decode cX3_fillUp 242 = .ok (.goto (-68), 3) := dk_167 255 188 (dk_at dksX3_fillUp_10 6 rfl rfl)
theorem dX3_fillUp_245 : decode cX3_fillUp 245 = .ok (.iload_n 1, 1) := dk_27 (dk_at dksX3_fillUp_10 9 rfl rfl)
theorem dX3_fillUp_246 : decode cX3_fillUp 246 = .ok (.ireturn, 1) := dk_172 (dk_at dksX3_fillUp_10 10 rfl rfl)
abbrev cX3_isOpen : ByteArray := prog_8_method_23_code
def yX3_isOpen : MethodName := ⟨RX3, "isOpen", "([III)Z"⟩
def dkwX3_isOpen_0 : List UInt8 := [42, 43, 28, 29, 182, 0, 116, 153, 0, 14, 42, 180, 0, 109, 154, 0, 7, 4, 167, 0, 4, 3, 172]
abbrev dktX3_isOpen_0 : List UInt8 := dkwX3_isOpen_0 ++ []
theorem dksX3_isOpen_0 : cX3_isOpen.data.toList.drop 0 = dktX3_isOpen_0 := by decide +kernel
theorem dX3_isOpen_0 : decode cX3_isOpen 0 = .ok (.aload_n 0, 1) := dk_42 (dk_at dksX3_isOpen_0 0 rfl rfl)
theorem dX3_isOpen_1 : decode cX3_isOpen 1 = .ok (.aload_n 1, 1) := dk_43 (dk_at dksX3_isOpen_0 1 rfl rfl)
theorem dX3_isOpen_2 : decode cX3_isOpen 2 = .ok (.iload_n 2, 1) := dk_28 (dk_at dksX3_isOpen_0 2 rfl rfl)
theorem dX3_isOpen_3 : decode cX3_isOpen 3 = .ok (.iload_n 3, 1) := dk_29 (dk_at dksX3_isOpen_0 3 rfl rfl)
theorem dX3_isOpen_4 : decode cX3_isOpen 4 = .ok (.invokevirtual 116, 3) := dk_182 0 116 (dk_at dksX3_isOpen_0 4 rfl rfl)
theorem dX3_isOpen_7 : decode cX3_isOpen 7 = .ok (.ifCond .eq 14, 3) := dk_153 0 14 (dk_at dksX3_isOpen_0 7 rfl rfl)
theorem dX3_isOpen_10 : decode cX3_isOpen 10 = .ok (.aload_n 0, 1) := dk_42 (dk_at dksX3_isOpen_0 10 rfl rfl)
theorem dX3_isOpen_11 : decode cX3_isOpen 11 = .ok (.getfield 109, 3) := dk_180 0 109 (dk_at dksX3_isOpen_0 11 rfl rfl)
theorem dX3_isOpen_14 : decode cX3_isOpen 14 = .ok (.ifCond .ne 7, 3) := dk_154 0 7 (dk_at dksX3_isOpen_0 14 rfl rfl)
theorem dX3_isOpen_17 : decode cX3_isOpen 17 = .ok (.iconst 1, 1) := dk_4 (dk_at dksX3_isOpen_0 17 rfl rfl)
theorem dX3_isOpen_18 : decode cX3_isOpen 18 = .ok (.goto 4, 3) := dk_167 0 4 (dk_at dksX3_isOpen_0 18 rfl rfl)
theorem dX3_isOpen_21 : decode cX3_isOpen 21 = .ok (.iconst 0, 1) := dk_3 (dk_at dksX3_isOpen_0 21 rfl rfl)
theorem dX3_isOpen_22 : decode cX3_isOpen 22 = .ok (.ireturn, 1) := dk_172 (dk_at dksX3_isOpen_0 22 rfl rfl)
abbrev cX3_set : ByteArray := prog_8_method_43_code
def yX3_set : MethodName := ⟨RX3, "set", "(I)I"⟩
def dkwX3_set_1 : List UInt8 := [182, 0, 141, 42, 180, 0, 7, 17, 0, 252, 46, 61, 42, 180, 0, 7, 17, 0, 252, 27, 79, 28, 172]
abbrev dktX3_set_1 : List UInt8 := dkwX3_set_1 ++ []
def dkwX3_set_0 : List UInt8 := [42, 3, 181, 0, 44, 27, 3, 16, 9, 184, 0, 48, 154, 0, 9, 42, 4, 182, 0, 63, 172, 42]
abbrev dktX3_set_0 : List UInt8 := dkwX3_set_0 ++ dktX3_set_1
theorem dksX3_set_0 : cX3_set.data.toList.drop 0 = dktX3_set_0 := by decide +kernel
theorem dksX3_set_1 : cX3_set.data.toList.drop 22 = dktX3_set_1 := dk_seg dksX3_set_0 22 rfl rfl
theorem dX3_set_0 : decode cX3_set 0 = .ok (.aload_n 0, 1) := dk_42 (dk_at dksX3_set_0 0 rfl rfl)
theorem dX3_set_1 : decode cX3_set 1 = .ok (.iconst 0, 1) := dk_3 (dk_at dksX3_set_0 1 rfl rfl)
theorem dX3_set_2 : decode cX3_set 2 = .ok (.putfield 44, 3) := dk_181 0 44 (dk_at dksX3_set_0 2 rfl rfl)
theorem dX3_set_5 : decode cX3_set 5 = .ok (.iload_n 1, 1) := dk_27 (dk_at dksX3_set_0 5 rfl rfl)
theorem dX3_set_6 : decode cX3_set 6 = .ok (.iconst 0, 1) := dk_3 (dk_at dksX3_set_0 6 rfl rfl)
theorem dX3_set_7 : decode cX3_set 7 = .ok (.bipush 9, 2) := dk_16 9 (dk_at dksX3_set_0 7 rfl rfl)
theorem dX3_set_9 : decode cX3_set 9 = .ok (.invokestatic 48, 3) := dk_184 0 48 (dk_at dksX3_set_0 9 rfl rfl)
theorem dX3_set_12 : decode cX3_set 12 = .ok (.ifCond .ne 9, 3) := dk_154 0 9 (dk_at dksX3_set_0 12 rfl rfl)
theorem dX3_set_15 : decode cX3_set 15 = .ok (.aload_n 0, 1) := dk_42 (dk_at dksX3_set_0 15 rfl rfl)
theorem dX3_set_16 : decode cX3_set 16 = .ok (.iconst 1, 1) := dk_4 (dk_at dksX3_set_0 16 rfl rfl)
theorem dX3_set_17 : decode cX3_set 17 = .ok (.invokevirtual 63, 3) := dk_182 0 63 (dk_at dksX3_set_0 17 rfl rfl)
theorem dX3_set_20 : decode cX3_set 20 = .ok (.ireturn, 1) := dk_172 (dk_at dksX3_set_0 20 rfl rfl)
theorem dX3_set_21 : decode cX3_set 21 = .ok (.aload_n 0, 1) := dk_42 (dk_at dksX3_set_0 21 rfl rfl)
theorem dX3_set_22 : decode cX3_set 22 = .ok (.invokevirtual 141, 3) := dk_182 0 141 (dk_at dksX3_set_1 0 rfl rfl)
theorem dX3_set_25 : decode cX3_set 25 = .ok (.aload_n 0, 1) := dk_42 (dk_at dksX3_set_1 3 rfl rfl)
theorem dX3_set_26 : decode cX3_set 26 = .ok (.getfield 7, 3) := dk_180 0 7 (dk_at dksX3_set_1 4 rfl rfl)
theorem dX3_set_29 : decode cX3_set 29 = .ok (.sipush 252, 3) := dk_17 0 252 (dk_at dksX3_set_1 7 rfl rfl)
theorem dX3_set_32 : decode cX3_set 32 = .ok (.iaload, 1) := dk_46 (dk_at dksX3_set_1 10 rfl rfl)
theorem dX3_set_33 : decode cX3_set 33 = .ok (.istore_n 2, 1) := dk_61 (dk_at dksX3_set_1 11 rfl rfl)
theorem dX3_set_34 : decode cX3_set 34 = .ok (.aload_n 0, 1) := dk_42 (dk_at dksX3_set_1 12 rfl rfl)
theorem dX3_set_35 : decode cX3_set 35 = .ok (.getfield 7, 3) := dk_180 0 7 (dk_at dksX3_set_1 13 rfl rfl)
theorem dX3_set_38 : decode cX3_set 38 = .ok (.sipush 252, 3) := dk_17 0 252 (dk_at dksX3_set_1 16 rfl rfl)
theorem dX3_set_41 : decode cX3_set 41 = .ok (.iload_n 1, 1) := dk_27 (dk_at dksX3_set_1 19 rfl rfl)
theorem dX3_set_42 : decode cX3_set 42 = .ok (.iastore, 1) := dk_79 (dk_at dksX3_set_1 20 rfl rfl)
theorem dX3_set_43 : decode cX3_set 43 = .ok (.iload_n 2, 1) := dk_28 (dk_at dksX3_set_1 21 rfl rfl)
theorem dX3_set_44 : decode cX3_set 44 = .ok (.ireturn, 1) := dk_172 (dk_at dksX3_set_1 22 rfl rfl)
abbrev cX3_append : ByteArray := prog_8_method_44_code
def yX3_append : MethodName := ⟨RX3, "append", "(I)I"⟩
def dkwX3_append_2 : List UInt8 := [42, 89, 180, 0, 164, 4, 96, 181, 0, 164, 42, 180, 0, 164, 172]
abbrev dktX3_append_2 : List UInt8 := dkwX3_append_2 ++ []
def dkwX3_append_1 : List UInt8 := [180, 0, 164, 16, 60, 160, 0, 9, 42, 5, 182, 0, 63, 172, 42, 180, 0, 19, 42, 180, 0, 164, 27, 79]
abbrev dktX3_append_1 : List UInt8 := dkwX3_append_1 ++ dktX3_append_2
def dkwX3_append_0 : List UInt8 := [42, 3, 181, 0, 44, 27, 16, 33, 16, 126, 184, 0, 48, 154, 0, 9, 42, 4, 182, 0, 63, 172, 42]
abbrev dktX3_append_0 : List UInt8 := dkwX3_append_0 ++ dktX3_append_1
theorem dksX3_append_0 : cX3_append.data.toList.drop 0 = dktX3_append_0 := by decide +kernel
theorem dksX3_append_1 : cX3_append.data.toList.drop 23 = dktX3_append_1 := dk_seg dksX3_append_0 23 rfl rfl
theorem dksX3_append_2 : cX3_append.data.toList.drop 47 = dktX3_append_2 := dk_seg dksX3_append_1 24 rfl rfl
theorem dX3_append_0 : decode cX3_append 0 = .ok (.aload_n 0, 1) := dk_42 (dk_at dksX3_append_0 0 rfl rfl)
theorem dX3_append_1 : decode cX3_append 1 = .ok (.iconst 0, 1) := dk_3 (dk_at dksX3_append_0 1 rfl rfl)
theorem dX3_append_2 : decode cX3_append 2 = .ok (.putfield 44, 3) := dk_181 0 44 (dk_at dksX3_append_0 2 rfl rfl)
theorem dX3_append_5 : decode cX3_append 5 = .ok (.iload_n 1, 1) := dk_27 (dk_at dksX3_append_0 5 rfl rfl)
theorem dX3_append_6 : decode cX3_append 6 = .ok (.bipush 33, 2) := dk_16 33 (dk_at dksX3_append_0 6 rfl rfl)
theorem dX3_append_8 : decode cX3_append 8 = .ok (.bipush 126, 2) := dk_16 126 (dk_at dksX3_append_0 8 rfl rfl)
theorem dX3_append_10 : decode cX3_append 10 = .ok (.invokestatic 48, 3) := dk_184 0 48 (dk_at dksX3_append_0 10 rfl rfl)
theorem dX3_append_13 : decode cX3_append 13 = .ok (.ifCond .ne 9, 3) := dk_154 0 9 (dk_at dksX3_append_0 13 rfl rfl)
theorem dX3_append_16 : decode cX3_append 16 = .ok (.aload_n 0, 1) := dk_42 (dk_at dksX3_append_0 16 rfl rfl)
theorem dX3_append_17 : decode cX3_append 17 = .ok (.iconst 1, 1) := dk_4 (dk_at dksX3_append_0 17 rfl rfl)
theorem dX3_append_18 : decode cX3_append 18 = .ok (.invokevirtual 63, 3) := dk_182 0 63 (dk_at dksX3_append_0 18 rfl rfl)
theorem dX3_append_21 : decode cX3_append 21 = .ok (.ireturn, 1) := dk_172 (dk_at dksX3_append_0 21 rfl rfl)
theorem dX3_append_22 : decode cX3_append 22 = .ok (.aload_n 0, 1) := dk_42 (dk_at dksX3_append_0 22 rfl rfl)
theorem dX3_append_23 : decode cX3_append 23 = .ok (.getfield 164, 3) := dk_180 0 164 (dk_at dksX3_append_1 0 rfl rfl)
theorem dX3_append_26 : decode cX3_append 26 = .ok (.bipush 60, 2) := dk_16 60 (dk_at dksX3_append_1 3 rfl rfl)
theorem dX3_append_28 : decode cX3_append 28 = .ok (.if_icmp .ne 9, 3) := dk_160 0 9 (dk_at dksX3_append_1 5 rfl rfl)
theorem dX3_append_31 : decode cX3_append 31 = .ok (.aload_n 0, 1) := dk_42 (dk_at dksX3_append_1 8 rfl rfl)
theorem dX3_append_32 : decode cX3_append 32 = .ok (.iconst 2, 1) := dk_5 (dk_at dksX3_append_1 9 rfl rfl)
theorem dX3_append_33 : decode cX3_append 33 = .ok (.invokevirtual 63, 3) := dk_182 0 63 (dk_at dksX3_append_1 10 rfl rfl)
theorem dX3_append_36 : decode cX3_append 36 = .ok (.ireturn, 1) := dk_172 (dk_at dksX3_append_1 13 rfl rfl)
theorem dX3_append_37 : decode cX3_append 37 = .ok (.aload_n 0, 1) := dk_42 (dk_at dksX3_append_1 14 rfl rfl)
theorem dX3_append_38 : decode cX3_append 38 = .ok (.getfield 19, 3) := dk_180 0 19 (dk_at dksX3_append_1 15 rfl rfl)
theorem dX3_append_41 : decode cX3_append 41 = .ok (.aload_n 0, 1) := dk_42 (dk_at dksX3_append_1 18 rfl rfl)
theorem dX3_append_42 : decode cX3_append 42 = .ok (.getfield 164, 3) := dk_180 0 164 (dk_at dksX3_append_1 19 rfl rfl)
theorem dX3_append_45 : decode cX3_append 45 = .ok (.iload_n 1, 1) := dk_27 (dk_at dksX3_append_1 22 rfl rfl)
theorem dX3_append_46 : decode cX3_append 46 = .ok (.iastore, 1) := dk_79 (dk_at dksX3_append_1 23 rfl rfl)
theorem dX3_append_47 : decode cX3_append 47 = .ok (.aload_n 0, 1) := dk_42 (dk_at dksX3_append_2 0 rfl rfl)
theorem dX3_append_48 : decode cX3_append 48 = .ok (.dup, 1) := dk_89 (dk_at dksX3_append_2 1 rfl rfl)
theorem dX3_append_49 : decode cX3_append 49 = .ok (.getfield 164, 3) := dk_180 0 164 (dk_at dksX3_append_2 2 rfl rfl)
theorem dX3_append_52 : decode cX3_append 52 = .ok (.iconst 1, 1) := dk_4 (dk_at dksX3_append_2 5 rfl rfl)
theorem dX3_append_53 : decode cX3_append 53 = .ok (.iadd, 1) := dk_96 (dk_at dksX3_append_2 6 rfl rfl)
theorem dX3_append_54 : decode cX3_append 54 = .ok (.putfield 164, 3) := dk_181 0 164 (dk_at dksX3_append_2 7 rfl rfl)
theorem dX3_append_57 : decode cX3_append 57 = .ok (.aload_n 0, 1) := dk_42 (dk_at dksX3_append_2 10 rfl rfl)
theorem dX3_append_58 : decode cX3_append 58 = .ok (.getfield 164, 3) := dk_180 0 164 (dk_at dksX3_append_2 11 rfl rfl)
theorem dX3_append_61 : decode cX3_append 61 = .ok (.ireturn, 1) := dk_172 (dk_at dksX3_append_2 14 rfl rfl)
abbrev cX3_clearBuffer : ByteArray := prog_8_method_45_code
def yX3_clearBuffer : MethodName := ⟨RX3, "clearBuffer", "()I"⟩
def dkwX3_clearBuffer_0 : List UInt8 := [42, 3, 181, 0, 44, 42, 180, 0, 164, 60, 42, 3, 181, 0, 164, 27, 172]
abbrev dktX3_clearBuffer_0 : List UInt8 := dkwX3_clearBuffer_0 ++ []
theorem dksX3_clearBuffer_0 : cX3_clearBuffer.data.toList.drop 0 = dktX3_clearBuffer_0 := by decide +kernel
theorem dX3_clearBuffer_0 : decode cX3_clearBuffer 0 = .ok (.aload_n 0, 1) := dk_42 (dk_at dksX3_clearBuffer_0 0 rfl rfl)
theorem dX3_clearBuffer_1 : decode cX3_clearBuffer 1 = .ok (.iconst 0, 1) := dk_3 (dk_at dksX3_clearBuffer_0 1 rfl rfl)
theorem dX3_clearBuffer_2 : decode cX3_clearBuffer 2 = .ok (.putfield 44, 3) := dk_181 0 44 (dk_at dksX3_clearBuffer_0 2 rfl rfl)
theorem dX3_clearBuffer_5 : decode cX3_clearBuffer 5 = .ok (.aload_n 0, 1) := dk_42 (dk_at dksX3_clearBuffer_0 5 rfl rfl)
theorem dX3_clearBuffer_6 : decode cX3_clearBuffer 6 = .ok (.getfield 164, 3) := dk_180 0 164 (dk_at dksX3_clearBuffer_0 6 rfl rfl)
theorem dX3_clearBuffer_9 : decode cX3_clearBuffer 9 = .ok (.istore_n 1, 1) := dk_60 (dk_at dksX3_clearBuffer_0 9 rfl rfl)
theorem dX3_clearBuffer_10 : decode cX3_clearBuffer 10 = .ok (.aload_n 0, 1) := dk_42 (dk_at dksX3_clearBuffer_0 10 rfl rfl)
theorem dX3_clearBuffer_11 : decode cX3_clearBuffer 11 = .ok (.iconst 0, 1) := dk_3 (dk_at dksX3_clearBuffer_0 11 rfl rfl)
theorem dX3_clearBuffer_12 : decode cX3_clearBuffer 12 = .ok (.putfield 164, 3) := dk_181 0 164 (dk_at dksX3_clearBuffer_0 12 rfl rfl)
theorem dX3_clearBuffer_15 : decode cX3_clearBuffer 15 = .ok (.iload_n 1, 1) := dk_27 (dk_at dksX3_clearBuffer_0 15 rfl rfl)
theorem dX3_clearBuffer_16 : decode cX3_clearBuffer 16 = .ok (.ireturn, 1) := dk_172 (dk_at dksX3_clearBuffer_0 16 rfl rfl)
abbrev cX3_firstError : ByteArray := prog_8_method_53_code
def yX3_firstError : MethodName := ⟨RX3, "firstError", "()I"⟩
def dkwX3_firstError_1 : List UInt8 := [180, 0, 167, 167, 0, 7, 42, 180, 0, 164, 172]
abbrev dktX3_firstError_1 : List UInt8 := dkwX3_firstError_1 ++ []
def dkwX3_firstError_0 : List UInt8 := [42, 3, 181, 0, 44, 42, 182, 0, 197, 60, 27, 154, 0, 17, 42, 180, 0, 170, 153, 0, 10, 42]
abbrev dktX3_firstError_0 : List UInt8 := dkwX3_firstError_0 ++ dktX3_firstError_1
theorem dksX3_firstError_0 : cX3_firstError.data.toList.drop 0 = dktX3_firstError_0 := by decide +kernel
theorem dksX3_firstError_1 : cX3_firstError.data.toList.drop 22 = dktX3_firstError_1 := dk_seg dksX3_firstError_0 22 rfl rfl
theorem dX3_firstError_0 : decode cX3_firstError 0 = .ok (.aload_n 0, 1) := dk_42 (dk_at dksX3_firstError_0 0 rfl rfl)
theorem dX3_firstError_1 : decode cX3_firstError 1 = .ok (.iconst 0, 1) := dk_3 (dk_at dksX3_firstError_0 1 rfl rfl)
theorem dX3_firstError_2 : decode cX3_firstError 2 = .ok (.putfield 44, 3) := dk_181 0 44 (dk_at dksX3_firstError_0 2 rfl rfl)
theorem dX3_firstError_5 : decode cX3_firstError 5 = .ok (.aload_n 0, 1) := dk_42 (dk_at dksX3_firstError_0 5 rfl rfl)
theorem dX3_firstError_6 : decode cX3_firstError 6 = .ok (.invokevirtual 197, 3) := dk_182 0 197 (dk_at dksX3_firstError_0 6 rfl rfl)
theorem dX3_firstError_9 : decode cX3_firstError 9 = .ok (.istore_n 1, 1) := dk_60 (dk_at dksX3_firstError_0 9 rfl rfl)
theorem dX3_firstError_10 : decode cX3_firstError 10 = .ok (.iload_n 1, 1) := dk_27 (dk_at dksX3_firstError_0 10 rfl rfl)
theorem dX3_firstError_11 : decode cX3_firstError 11 = .ok (.ifCond .ne 17, 3) := dk_154 0 17 (dk_at dksX3_firstError_0 11 rfl rfl)
theorem dX3_firstError_14 : decode cX3_firstError 14 = .ok (.aload_n 0, 1) := dk_42 (dk_at dksX3_firstError_0 14 rfl rfl)
theorem dX3_firstError_15 : decode cX3_firstError 15 = .ok (.getfield 170, 3) := dk_180 0 170 (dk_at dksX3_firstError_0 15 rfl rfl)
theorem dX3_firstError_18 : decode cX3_firstError 18 = .ok (.ifCond .eq 10, 3) := dk_153 0 10 (dk_at dksX3_firstError_0 18 rfl rfl)
theorem dX3_firstError_21 : decode cX3_firstError 21 = .ok (.aload_n 0, 1) := dk_42 (dk_at dksX3_firstError_0 21 rfl rfl)
theorem dX3_firstError_22 : decode cX3_firstError 22 = .ok (.getfield 167, 3) := dk_180 0 167 (dk_at dksX3_firstError_1 0 rfl rfl)
theorem dX3_firstError_25 : decode cX3_firstError 25 = .ok (.goto 7, 3) := dk_167 0 7 (dk_at dksX3_firstError_1 3 rfl rfl)
theorem dX3_firstError_28 : decode cX3_firstError 28 = .ok (.aload_n 0, 1) := dk_42 (dk_at dksX3_firstError_1 6 rfl rfl)
theorem dX3_firstError_29 : decode cX3_firstError 29 = .ok (.getfield 164, 3) := dk_180 0 164 (dk_at dksX3_firstError_1 7 rfl rfl)
theorem dX3_firstError_32 : decode cX3_firstError 32 = .ok (.ireturn, 1) := dk_172 (dk_at dksX3_firstError_1 10 rfl rfl)
abbrev cX3_isText : ByteArray := prog_8_method_52_code
def yX3_isText : MethodName := ⟨RX3, "isText", "()Z"⟩
def dkwX3_isText_4 : List UInt8 := [180, 0, 164, 160, 0, 7, 4, 167, 0, 4, 3, 172]
abbrev dktX3_isText_4 : List UInt8 := dkwX3_isText_4 ++ []
def dkwX3_isText_3 : List UInt8 := [180, 0, 167, 42, 180, 0, 164, 162, 0, 7, 4, 167, 0, 4, 3, 181, 0, 170, 42, 180, 0, 167, 42]
abbrev dktX3_isText_3 : List UInt8 := dkwX3_isText_3 ++ dktX3_isText_4
def dkwX3_isText_2 : List UInt8 := [60, 42, 89, 180, 0, 167, 27, 153, 0, 7, 4, 167, 0, 4, 3, 96, 181, 0, 167, 167, 255, 208, 42, 42]
abbrev dktX3_isText_2 : List UInt8 := dkwX3_isText_2 ++ dktX3_isText_3
def dkwX3_isText_1 : List UInt8 := [182, 0, 194, 154, 0, 5, 3, 172, 42, 89, 180, 0, 185, 4, 96, 181, 0, 185, 42, 16, 59, 182, 0, 174]
abbrev dktX3_isText_1 : List UInt8 := dkwX3_isText_1 ++ dktX3_isText_2
def dkwX3_isText_0 : List UInt8 := [42, 3, 181, 0, 167, 42, 3, 181, 0, 185, 42, 3, 181, 0, 170, 4, 60, 27, 153, 0, 50, 42]
abbrev dktX3_isText_0 : List UInt8 := dkwX3_isText_0 ++ dktX3_isText_1
theorem dksX3_isText_0 : cX3_isText.data.toList.drop 0 = dktX3_isText_0 := by decide +kernel
theorem dksX3_isText_1 : cX3_isText.data.toList.drop 22 = dktX3_isText_1 := dk_seg dksX3_isText_0 22 rfl rfl
theorem dksX3_isText_2 : cX3_isText.data.toList.drop 46 = dktX3_isText_2 := dk_seg dksX3_isText_1 24 rfl rfl
theorem dksX3_isText_3 : cX3_isText.data.toList.drop 70 = dktX3_isText_3 := dk_seg dksX3_isText_2 24 rfl rfl
theorem dksX3_isText_4 : cX3_isText.data.toList.drop 93 = dktX3_isText_4 := dk_seg dksX3_isText_3 23 rfl rfl
theorem dX3_isText_0 : decode cX3_isText 0 = .ok (.aload_n 0, 1) := dk_42 (dk_at dksX3_isText_0 0 rfl rfl)
theorem dX3_isText_1 : decode cX3_isText 1 = .ok (.iconst 0, 1) := dk_3 (dk_at dksX3_isText_0 1 rfl rfl)
theorem dX3_isText_2 : decode cX3_isText 2 = .ok (.putfield 167, 3) := dk_181 0 167 (dk_at dksX3_isText_0 2 rfl rfl)
theorem dX3_isText_5 : decode cX3_isText 5 = .ok (.aload_n 0, 1) := dk_42 (dk_at dksX3_isText_0 5 rfl rfl)
theorem dX3_isText_6 : decode cX3_isText 6 = .ok (.iconst 0, 1) := dk_3 (dk_at dksX3_isText_0 6 rfl rfl)
theorem dX3_isText_7 : decode cX3_isText 7 = .ok (.putfield 185, 3) := dk_181 0 185 (dk_at dksX3_isText_0 7 rfl rfl)
theorem dX3_isText_10 : decode cX3_isText 10 = .ok (.aload_n 0, 1) := dk_42 (dk_at dksX3_isText_0 10 rfl rfl)
theorem dX3_isText_11 : decode cX3_isText 11 = .ok (.iconst 0, 1) := dk_3 (dk_at dksX3_isText_0 11 rfl rfl)
theorem dX3_isText_12 : decode cX3_isText 12 = .ok (.putfield 170, 3) := dk_181 0 170 (dk_at dksX3_isText_0 12 rfl rfl)
theorem dX3_isText_15 : decode cX3_isText 15 = .ok (.iconst 1, 1) := dk_4 (dk_at dksX3_isText_0 15 rfl rfl)
theorem dX3_isText_16 : decode cX3_isText 16 = .ok (.istore_n 1, 1) := dk_60 (dk_at dksX3_isText_0 16 rfl rfl)
theorem dX3_isText_17 : decode cX3_isText 17 = .ok (.iload_n 1, 1) := dk_27 (dk_at dksX3_isText_0 17 rfl rfl)
theorem dX3_isText_18 : decode cX3_isText 18 = .ok (.ifCond .eq 50, 3) := dk_153 0 50 (dk_at dksX3_isText_0 18 rfl rfl)
theorem dX3_isText_21 : decode cX3_isText 21 = .ok (.aload_n 0, 1) := dk_42 (dk_at dksX3_isText_0 21 rfl rfl)
theorem dX3_isText_22 : decode cX3_isText 22 = .ok (.invokevirtual 194, 3) := dk_182 0 194 (dk_at dksX3_isText_1 0 rfl rfl)
theorem dX3_isText_25 : decode cX3_isText 25 = .ok (.ifCond .ne 5, 3) := dk_154 0 5 (dk_at dksX3_isText_1 3 rfl rfl)
theorem dX3_isText_28 : decode cX3_isText 28 = .ok (.iconst 0, 1) := dk_3 (dk_at dksX3_isText_1 6 rfl rfl)
theorem dX3_isText_29 : decode cX3_isText 29 = .ok (.ireturn, 1) := dk_172 (dk_at dksX3_isText_1 7 rfl rfl)
theorem dX3_isText_30 : decode cX3_isText 30 = .ok (.aload_n 0, 1) := dk_42 (dk_at dksX3_isText_1 8 rfl rfl)
theorem dX3_isText_31 : decode cX3_isText 31 = .ok (.dup, 1) := dk_89 (dk_at dksX3_isText_1 9 rfl rfl)
theorem dX3_isText_32 : decode cX3_isText 32 = .ok (.getfield 185, 3) := dk_180 0 185 (dk_at dksX3_isText_1 10 rfl rfl)
theorem dX3_isText_35 : decode cX3_isText 35 = .ok (.iconst 1, 1) := dk_4 (dk_at dksX3_isText_1 13 rfl rfl)
theorem dX3_isText_36 : decode cX3_isText 36 = .ok (.iadd, 1) := dk_96 (dk_at dksX3_isText_1 14 rfl rfl)
theorem dX3_isText_37 : decode cX3_isText 37 = .ok (.putfield 185, 3) := dk_181 0 185 (dk_at dksX3_isText_1 15 rfl rfl)
theorem dX3_isText_40 : decode cX3_isText 40 = .ok (.aload_n 0, 1) := dk_42 (dk_at dksX3_isText_1 18 rfl rfl)
theorem dX3_isText_41 : decode cX3_isText 41 = .ok (.bipush 59, 2) := dk_16 59 (dk_at dksX3_isText_1 19 rfl rfl)
theorem dX3_isText_43 : decode cX3_isText 43 = .ok (.invokevirtual 174, 3) := dk_182 0 174 (dk_at dksX3_isText_1 21 rfl rfl)
theorem dX3_isText_46 : decode cX3_isText 46 = .ok (.istore_n 1, 1) := dk_60 (dk_at dksX3_isText_2 0 rfl rfl)
theorem dX3_isText_47 : decode cX3_isText 47 = .ok (.aload_n 0, 1) := dk_42 (dk_at dksX3_isText_2 1 rfl rfl)
theorem dX3_isText_48 : decode cX3_isText 48 = .ok (.dup, 1) := dk_89 (dk_at dksX3_isText_2 2 rfl rfl)
theorem dX3_isText_49 : decode cX3_isText 49 = .ok (.getfield 167, 3) := dk_180 0 167 (dk_at dksX3_isText_2 3 rfl rfl)
theorem dX3_isText_52 : decode cX3_isText 52 = .ok (.iload_n 1, 1) := dk_27 (dk_at dksX3_isText_2 6 rfl rfl)
theorem dX3_isText_53 : decode cX3_isText 53 = .ok (.ifCond .eq 7, 3) := dk_153 0 7 (dk_at dksX3_isText_2 7 rfl rfl)
theorem dX3_isText_56 : decode cX3_isText 56 = .ok (.iconst 1, 1) := dk_4 (dk_at dksX3_isText_2 10 rfl rfl)
theorem dX3_isText_57 : decode cX3_isText 57 = .ok (.goto 4, 3) := dk_167 0 4 (dk_at dksX3_isText_2 11 rfl rfl)
theorem dX3_isText_60 : decode cX3_isText 60 = .ok (.iconst 0, 1) := dk_3 (dk_at dksX3_isText_2 14 rfl rfl)
theorem dX3_isText_61 : decode cX3_isText 61 = .ok (.iadd, 1) := dk_96 (dk_at dksX3_isText_2 15 rfl rfl)
theorem dX3_isText_62 : decode cX3_isText 62 = .ok (.putfield 167, 3) := dk_181 0 167 (dk_at dksX3_isText_2 16 rfl rfl)
theorem dX3_isText_65 : decode cX3_isText 65 = .ok (.goto (-48), 3) := dk_167 255 208 (dk_at dksX3_isText_2 19 rfl rfl)
theorem dX3_isText_68 : decode cX3_isText 68 = .ok (.aload_n 0, 1) := dk_42 (dk_at dksX3_isText_2 22 rfl rfl)
theorem dX3_isText_69 : decode cX3_isText 69 = .ok (.aload_n 0, 1) := dk_42 (dk_at dksX3_isText_2 23 rfl rfl)
theorem dX3_isText_70 : decode cX3_isText 70 = .ok (.getfield 167, 3) := dk_180 0 167 (dk_at dksX3_isText_3 0 rfl rfl)
theorem dX3_isText_73 : decode cX3_isText 73 = .ok (.aload_n 0, 1) := dk_42 (dk_at dksX3_isText_3 3 rfl rfl)
theorem dX3_isText_74 : decode cX3_isText 74 = .ok (.getfield 164, 3) := dk_180 0 164 (dk_at dksX3_isText_3 4 rfl rfl)
theorem dX3_isText_77 : decode cX3_isText 77 = .ok (.if_icmp .ge 7, 3) := dk_162 0 7 (dk_at dksX3_isText_3 7 rfl rfl)
theorem dX3_isText_80 : decode cX3_isText 80 = .ok (.iconst 1, 1) := dk_4 (dk_at dksX3_isText_3 10 rfl rfl)
theorem dX3_isText_81 : decode cX3_isText 81 = .ok (.goto 4, 3) := dk_167 0 4 (dk_at dksX3_isText_3 11 rfl rfl)
theorem dX3_isText_84 : decode cX3_isText 84 = .ok (.iconst 0, 1) := dk_3 (dk_at dksX3_isText_3 14 rfl rfl)
theorem dX3_isText_85 : decode cX3_isText 85 = .ok (.putfield 170, 3) := dk_181 0 170 (dk_at dksX3_isText_3 15 rfl rfl)
theorem dX3_isText_88 : decode cX3_isText 88 = .ok (.aload_n 0, 1) := dk_42 (dk_at dksX3_isText_3 18 rfl rfl)
theorem dX3_isText_89 : decode cX3_isText 89 = .ok (.getfield 167, 3) := dk_180 0 167 (dk_at dksX3_isText_3 19 rfl rfl)
theorem dX3_isText_92 : decode cX3_isText 92 = .ok (.aload_n 0, 1) := dk_42 (dk_at dksX3_isText_3 22 rfl rfl)
theorem dX3_isText_93 : decode cX3_isText 93 = .ok (.getfield 164, 3) := dk_180 0 164 (dk_at dksX3_isText_4 0 rfl rfl)
theorem dX3_isText_96 : decode cX3_isText 96 = .ok (.if_icmp .ne 7, 3) := dk_160 0 7 (dk_at dksX3_isText_4 3 rfl rfl)
theorem dX3_isText_99 : decode cX3_isText 99 = .ok (.iconst 1, 1) := dk_4 (dk_at dksX3_isText_4 6 rfl rfl)
theorem dX3_isText_100 : decode cX3_isText 100 = .ok (.goto 4, 3) := dk_167 0 4 (dk_at dksX3_isText_4 7 rfl rfl)
theorem dX3_isText_103 : decode cX3_isText 103 = .ok (.iconst 0, 1) := dk_3 (dk_at dksX3_isText_4 10 rfl rfl)
theorem dX3_isText_104 : decode cX3_isText 104 = .ok (.ireturn, 1) := dk_172 (dk_at dksX3_isText_4 11 rfl rfl)
abbrev cX3_isOrder : ByteArray := prog_8_method_51_code
def yX3_isOrder : MethodName := ⟨RX3, "isOrder", "()Z"⟩
def dkwX3_isOrder_9 : List UInt8 := [182, 0, 191, 172]
abbrev dktX3_isOrder_9 : List UInt8 := dkwX3_isOrder_9 ++ []
def dkwX3_isOrder_8 : List UInt8 := [172, 42, 16, 112, 16, 97, 16, 105, 16, 114, 182, 0, 191, 172, 42, 16, 99, 16, 97, 16, 114, 16, 116]
abbrev dktX3_isOrder_8 : List UInt8 := dkwX3_isOrder_8 ++ dktX3_isOrder_9
def dkwX3_isOrder_7 : List UInt8 := [42, 16, 110, 16, 111, 16, 110, 16, 101, 182, 0, 191, 172, 42, 16, 111, 16, 110, 16, 101, 3, 182, 0, 191]
abbrev dktX3_isOrder_7 : List UInt8 := dkwX3_isOrder_7 ++ dktX3_isOrder_8
def dkwX3_isOrder_6 : List UInt8 := [170, 0, 0, 0, 0, 0, 0, 66, 0, 0, 0, 0, 0, 0, 0, 2, 0, 0, 0, 28, 0, 0, 0, 41, 0, 0, 0, 53]
abbrev dktX3_isOrder_6 : List UInt8 := dkwX3_isOrder_6 ++ dktX3_isOrder_7
def dkwX3_isOrder_5 : List UInt8 := [60, 42, 180, 0, 22, 6, 42, 180, 0, 185, 104, 5, 96, 27, 79, 27]
abbrev dktX3_isOrder_5 : List UInt8 := dkwX3_isOrder_5 ++ dktX3_isOrder_6
def dkwX3_isOrder_4 : List UInt8 := [182, 0, 174, 153, 0, 7, 4, 167, 0, 17, 42, 16, 112, 182, 0, 174, 153, 0, 7, 5, 167, 0, 4, 6]
abbrev dktX3_isOrder_4 : List UInt8 := dkwX3_isOrder_4 ++ dktX3_isOrder_5
def dkwX3_isOrder_3 : List UInt8 := [4, 96, 181, 0, 167, 4, 172, 42, 16, 110, 182, 0, 174, 153, 0, 7, 3, 167, 0, 30, 42, 16, 111]
abbrev dktX3_isOrder_3 : List UInt8 := dkwX3_isOrder_3 ++ dktX3_isOrder_4
def dkwX3_isOrder_2 : List UInt8 := [16, 58, 182, 0, 182, 154, 0, 5, 3, 172, 42, 16, 33, 182, 0, 174, 153, 0, 15, 42, 89, 180, 0, 167]
abbrev dktX3_isOrder_2 : List UInt8 := dkwX3_isOrder_2 ++ dktX3_isOrder_3
def dkwX3_isOrder_1 : List UInt8 := [182, 0, 188, 154, 0, 5, 3, 172, 42, 180, 0, 22, 6, 42, 180, 0, 185, 104, 5, 96, 2, 79, 42]
abbrev dktX3_isOrder_1 : List UInt8 := dkwX3_isOrder_1 ++ dktX3_isOrder_2
def dkwX3_isOrder_0 : List UInt8 := [42, 3, 2, 182, 0, 188, 153, 0, 22, 42, 4, 42, 180, 0, 22, 6, 42, 180, 0, 185, 104, 46]
abbrev dktX3_isOrder_0 : List UInt8 := dkwX3_isOrder_0 ++ dktX3_isOrder_1
theorem dksX3_isOrder_0 : cX3_isOrder.data.toList.drop 0 = dktX3_isOrder_0 := by decide +kernel
theorem dksX3_isOrder_1 : cX3_isOrder.data.toList.drop 22 = dktX3_isOrder_1 := dk_seg dksX3_isOrder_0 22 rfl rfl
theorem dksX3_isOrder_2 : cX3_isOrder.data.toList.drop 45 = dktX3_isOrder_2 := dk_seg dksX3_isOrder_1 23 rfl rfl
theorem dksX3_isOrder_3 : cX3_isOrder.data.toList.drop 69 = dktX3_isOrder_3 := dk_seg dksX3_isOrder_2 24 rfl rfl
theorem dksX3_isOrder_4 : cX3_isOrder.data.toList.drop 92 = dktX3_isOrder_4 := dk_seg dksX3_isOrder_3 23 rfl rfl
theorem dksX3_isOrder_5 : cX3_isOrder.data.toList.drop 116 = dktX3_isOrder_5 := dk_seg dksX3_isOrder_4 24 rfl rfl
theorem dksX3_isOrder_6 : cX3_isOrder.data.toList.drop 132 = dktX3_isOrder_6 := dk_seg dksX3_isOrder_5 16 rfl rfl
theorem dksX3_isOrder_7 : cX3_isOrder.data.toList.drop 160 = dktX3_isOrder_7 := dk_seg dksX3_isOrder_6 28 rfl rfl
theorem dksX3_isOrder_8 : cX3_isOrder.data.toList.drop 184 = dktX3_isOrder_8 := dk_seg dksX3_isOrder_7 24 rfl rfl
theorem dksX3_isOrder_9 : cX3_isOrder.data.toList.drop 207 = dktX3_isOrder_9 := dk_seg dksX3_isOrder_8 23 rfl rfl
theorem dX3_isOrder_0 : decode cX3_isOrder 0 = .ok (.aload_n 0, 1) := dk_42 (dk_at dksX3_isOrder_0 0 rfl rfl)
theorem dX3_isOrder_1 : decode cX3_isOrder 1 = .ok (.iconst 0, 1) := dk_3 (dk_at dksX3_isOrder_0 1 rfl rfl)
theorem dX3_isOrder_2 : decode cX3_isOrder 2 = .ok (.iconst (-1), 1) := dk_2 (dk_at dksX3_isOrder_0 2 rfl rfl)
theorem dX3_isOrder_3 : decode cX3_isOrder 3 = .ok (.invokevirtual 188, 3) := dk_182 0 188 (dk_at dksX3_isOrder_0 3 rfl rfl)
theorem dX3_isOrder_6 : decode cX3_isOrder 6 = .ok (.ifCond .eq 22, 3) := dk_153 0 22 (dk_at dksX3_isOrder_0 6 rfl rfl)
theorem dX3_isOrder_9 : decode cX3_isOrder 9 = .ok (.aload_n 0, 1) := dk_42 (dk_at dksX3_isOrder_0 9 rfl rfl)
theorem dX3_isOrder_10 : decode cX3_isOrder 10 = .ok (.iconst 1, 1) := dk_4 (dk_at dksX3_isOrder_0 10 rfl rfl)
theorem dX3_isOrder_11 : decode cX3_isOrder 11 = .ok (.aload_n 0, 1) := dk_42 (dk_at dksX3_isOrder_0 11 rfl rfl)
theorem dX3_isOrder_12 : decode cX3_isOrder 12 = .ok (.getfield 22, 3) := dk_180 0 22 (dk_at dksX3_isOrder_0 12 rfl rfl)
theorem dX3_isOrder_15 : decode cX3_isOrder 15 = .ok (.iconst 3, 1) := dk_6 (dk_at dksX3_isOrder_0 15 rfl rfl)
theorem dX3_isOrder_16 : decode cX3_isOrder 16 = .ok (.aload_n 0, 1) := dk_42 (dk_at dksX3_isOrder_0 16 rfl rfl)
theorem dX3_isOrder_17 : decode cX3_isOrder 17 = .ok (.getfield 185, 3) := dk_180 0 185 (dk_at dksX3_isOrder_0 17 rfl rfl)
theorem dX3_isOrder_20 : decode cX3_isOrder 20 = .ok (.imul, 1) := dk_104 (dk_at dksX3_isOrder_0 20 rfl rfl)
theorem dX3_isOrder_21 : decode cX3_isOrder 21 = .ok (.iaload, 1) := dk_46 (dk_at dksX3_isOrder_0 21 rfl rfl)
theorem dX3_isOrder_22 : decode cX3_isOrder 22 = .ok (.invokevirtual 188, 3) := dk_182 0 188 (dk_at dksX3_isOrder_1 0 rfl rfl)
theorem dX3_isOrder_25 : decode cX3_isOrder 25 = .ok (.ifCond .ne 5, 3) := dk_154 0 5 (dk_at dksX3_isOrder_1 3 rfl rfl)
theorem dX3_isOrder_28 : decode cX3_isOrder 28 = .ok (.iconst 0, 1) := dk_3 (dk_at dksX3_isOrder_1 6 rfl rfl)
theorem dX3_isOrder_29 : decode cX3_isOrder 29 = .ok (.ireturn, 1) := dk_172 (dk_at dksX3_isOrder_1 7 rfl rfl)
theorem dX3_isOrder_30 : decode cX3_isOrder 30 = .ok (.aload_n 0, 1) := dk_42 (dk_at dksX3_isOrder_1 8 rfl rfl)
theorem dX3_isOrder_31 : decode cX3_isOrder 31 = .ok (.getfield 22, 3) := dk_180 0 22 (dk_at dksX3_isOrder_1 9 rfl rfl)
theorem dX3_isOrder_34 : decode cX3_isOrder 34 = .ok (.iconst 3, 1) := dk_6 (dk_at dksX3_isOrder_1 12 rfl rfl)
theorem dX3_isOrder_35 : decode cX3_isOrder 35 = .ok (.aload_n 0, 1) := dk_42 (dk_at dksX3_isOrder_1 13 rfl rfl)
theorem dX3_isOrder_36 : decode cX3_isOrder 36 = .ok (.getfield 185, 3) := dk_180 0 185 (dk_at dksX3_isOrder_1 14 rfl rfl)
theorem dX3_isOrder_39 : decode cX3_isOrder 39 = .ok (.imul, 1) := dk_104 (dk_at dksX3_isOrder_1 17 rfl rfl)
theorem dX3_isOrder_40 : decode cX3_isOrder 40 = .ok (.iconst 2, 1) := dk_5 (dk_at dksX3_isOrder_1 18 rfl rfl)
theorem dX3_isOrder_41 : decode cX3_isOrder 41 = .ok (.iadd, 1) := dk_96 (dk_at dksX3_isOrder_1 19 rfl rfl)
theorem dX3_isOrder_42 : decode cX3_isOrder 42 = .ok (.iconst (-1), 1) := dk_2 (dk_at dksX3_isOrder_1 20 rfl rfl)
theorem dX3_isOrder_43 : decode cX3_isOrder 43 = .ok (.iastore, 1) := dk_79 (dk_at dksX3_isOrder_1 21 rfl rfl)
theorem dX3_isOrder_44 : decode cX3_isOrder 44 = .ok (.aload_n 0, 1) := dk_42 (dk_at dksX3_isOrder_1 22 rfl rfl)
theorem dX3_isOrder_45 : decode cX3_isOrder 45 = .ok (.bipush 58, 2) := dk_16 58 (dk_at dksX3_isOrder_2 0 rfl rfl)
theorem dX3_isOrder_47 : decode cX3_isOrder 47 = .ok (.invokevirtual 182, 3) := dk_182 0 182 (dk_at dksX3_isOrder_2 2 rfl rfl)
theorem dX3_isOrder_50 : decode cX3_isOrder 50 = .ok (.ifCond .ne 5, 3) := dk_154 0 5 (dk_at dksX3_isOrder_2 5 rfl rfl)
theorem dX3_isOrder_53 : decode cX3_isOrder 53 = .ok (.iconst 0, 1) := dk_3 (dk_at dksX3_isOrder_2 8 rfl rfl)
theorem dX3_isOrder_54 : decode cX3_isOrder 54 = .ok (.ireturn, 1) := dk_172 (dk_at dksX3_isOrder_2 9 rfl rfl)
theorem dX3_isOrder_55 : decode cX3_isOrder 55 = .ok (.aload_n 0, 1) := dk_42 (dk_at dksX3_isOrder_2 10 rfl rfl)
theorem dX3_isOrder_56 : decode cX3_isOrder 56 = .ok (.bipush 33, 2) := dk_16 33 (dk_at dksX3_isOrder_2 11 rfl rfl)
theorem dX3_isOrder_58 : decode cX3_isOrder 58 = .ok (.invokevirtual 174, 3) := dk_182 0 174 (dk_at dksX3_isOrder_2 13 rfl rfl)
theorem dX3_isOrder_61 : decode cX3_isOrder 61 = .ok (.ifCond .eq 15, 3) := dk_153 0 15 (dk_at dksX3_isOrder_2 16 rfl rfl)
theorem dX3_isOrder_64 : decode cX3_isOrder 64 = .ok (.aload_n 0, 1) := dk_42 (dk_at dksX3_isOrder_2 19 rfl rfl)
theorem dX3_isOrder_65 : decode cX3_isOrder 65 = .ok (.dup, 1) := dk_89 (dk_at dksX3_isOrder_2 20 rfl rfl)
theorem dX3_isOrder_66 : decode cX3_isOrder 66 = .ok (.getfield 167, 3) := dk_180 0 167 (dk_at dksX3_isOrder_2 21 rfl rfl)
theorem dX3_isOrder_69 : decode cX3_isOrder 69 = .ok (.iconst 1, 1) := dk_4 (dk_at dksX3_isOrder_3 0 rfl rfl)
theorem dX3_isOrder_70 : decode cX3_isOrder 70 = .ok (.iadd, 1) := dk_96 (dk_at dksX3_isOrder_3 1 rfl rfl)
theorem dX3_isOrder_71 : decode cX3_isOrder 71 = .ok (.putfield 167, 3) := dk_181 0 167 (dk_at dksX3_isOrder_3 2 rfl rfl)
theorem dX3_isOrder_74 : decode cX3_isOrder 74 = .ok (.iconst 1, 1) := dk_4 (dk_at dksX3_isOrder_3 5 rfl rfl)
theorem dX3_isOrder_75 : decode cX3_isOrder 75 = .ok (.ireturn, 1) := dk_172 (dk_at dksX3_isOrder_3 6 rfl rfl)
theorem dX3_isOrder_76 : decode cX3_isOrder 76 = .ok (.aload_n 0, 1) := dk_42 (dk_at dksX3_isOrder_3 7 rfl rfl)
theorem dX3_isOrder_77 : decode cX3_isOrder 77 = .ok (.bipush 110, 2) := dk_16 110 (dk_at dksX3_isOrder_3 8 rfl rfl)
theorem dX3_isOrder_79 : decode cX3_isOrder 79 = .ok (.invokevirtual 174, 3) := dk_182 0 174 (dk_at dksX3_isOrder_3 10 rfl rfl)
theorem dX3_isOrder_82 : decode cX3_isOrder 82 = .ok (.ifCond .eq 7, 3) := dk_153 0 7 (dk_at dksX3_isOrder_3 13 rfl rfl)
theorem dX3_isOrder_85 : decode cX3_isOrder 85 = .ok (.iconst 0, 1) := dk_3 (dk_at dksX3_isOrder_3 16 rfl rfl)
theorem dX3_isOrder_86 : decode cX3_isOrder 86 = .ok (.goto 30, 3) := dk_167 0 30 (dk_at dksX3_isOrder_3 17 rfl rfl)
theorem dX3_isOrder_89 : decode cX3_isOrder 89 = .ok (.aload_n 0, 1) := dk_42 (dk_at dksX3_isOrder_3 20 rfl rfl)
theorem dX3_isOrder_90 : decode cX3_isOrder 90 = .ok (.bipush 111, 2) := dk_16 111 (dk_at dksX3_isOrder_3 21 rfl rfl)
theorem dX3_isOrder_92 : decode cX3_isOrder 92 = .ok (.invokevirtual 174, 3) := dk_182 0 174 (dk_at dksX3_isOrder_4 0 rfl rfl)
theorem dX3_isOrder_95 : decode cX3_isOrder 95 = .ok (.ifCond .eq 7, 3) := dk_153 0 7 (dk_at dksX3_isOrder_4 3 rfl rfl)
theorem dX3_isOrder_98 : decode cX3_isOrder 98 = .ok (.iconst 1, 1) := dk_4 (dk_at dksX3_isOrder_4 6 rfl rfl)
theorem dX3_isOrder_99 : decode cX3_isOrder 99 = .ok (.goto 17, 3) := dk_167 0 17 (dk_at dksX3_isOrder_4 7 rfl rfl)
theorem dX3_isOrder_102 : decode cX3_isOrder 102 = .ok (.aload_n 0, 1) := dk_42 (dk_at dksX3_isOrder_4 10 rfl rfl)
theorem dX3_isOrder_103 : decode cX3_isOrder 103 = .ok (.bipush 112, 2) := dk_16 112 (dk_at dksX3_isOrder_4 11 rfl rfl)
theorem dX3_isOrder_105 : decode cX3_isOrder 105 = .ok (.invokevirtual 174, 3) := dk_182 0 174 (dk_at dksX3_isOrder_4 13 rfl rfl)
theorem dX3_isOrder_108 : decode cX3_isOrder 108 = .ok (.ifCond .eq 7, 3) := dk_153 0 7 (dk_at dksX3_isOrder_4 16 rfl rfl)
theorem dX3_isOrder_111 : decode cX3_isOrder 111 = .ok (.iconst 2, 1) := dk_5 (dk_at dksX3_isOrder_4 19 rfl rfl)
theorem dX3_isOrder_112 : decode cX3_isOrder 112 = .ok (.goto 4, 3) := dk_167 0 4 (dk_at dksX3_isOrder_4 20 rfl rfl)
theorem dX3_isOrder_115 : decode cX3_isOrder 115 = .ok (.iconst 3, 1) := dk_6 (dk_at dksX3_isOrder_4 23 rfl rfl)
theorem dX3_isOrder_116 : decode cX3_isOrder 116 = .ok (.istore_n 1, 1) := dk_60 (dk_at dksX3_isOrder_5 0 rfl rfl)
theorem dX3_isOrder_117 : decode cX3_isOrder 117 = .ok (.aload_n 0, 1) := dk_42 (dk_at dksX3_isOrder_5 1 rfl rfl)
theorem dX3_isOrder_118 : decode cX3_isOrder 118 = .ok (.getfield 22, 3) := dk_180 0 22 (dk_at dksX3_isOrder_5 2 rfl rfl)
theorem dX3_isOrder_121 : decode cX3_isOrder 121 = .ok (.iconst 3, 1) := dk_6 (dk_at dksX3_isOrder_5 5 rfl rfl)
theorem dX3_isOrder_122 : decode cX3_isOrder 122 = .ok (.aload_n 0, 1) := dk_42 (dk_at dksX3_isOrder_5 6 rfl rfl)
theorem dX3_isOrder_123 : decode cX3_isOrder 123 = .ok (.getfield 185, 3) := dk_180 0 185 (dk_at dksX3_isOrder_5 7 rfl rfl)
theorem dX3_isOrder_126 : decode cX3_isOrder 126 = .ok (.imul, 1) := dk_104 (dk_at dksX3_isOrder_5 10 rfl rfl)
theorem dX3_isOrder_127 : decode cX3_isOrder 127 = .ok (.iconst 2, 1) := dk_5 (dk_at dksX3_isOrder_5 11 rfl rfl)
theorem dX3_isOrder_128 : decode cX3_isOrder 128 = .ok (.iadd, 1) := dk_96 (dk_at dksX3_isOrder_5 12 rfl rfl)
theorem dX3_isOrder_129 : decode cX3_isOrder 129 = .ok (.iload_n 1, 1) := dk_27 (dk_at dksX3_isOrder_5 13 rfl rfl)
theorem dX3_isOrder_130 : decode cX3_isOrder 130 = .ok (.iastore, 1) := dk_79 (dk_at dksX3_isOrder_5 14 rfl rfl)
theorem dX3_isOrder_131 : decode cX3_isOrder 131 = .ok (.iload_n 1, 1) := dk_27 (dk_at dksX3_isOrder_5 15 rfl rfl)
theorem dX3_isOrder_132 : decode cX3_isOrder 132 = .ok (.tableswitch 66 0 2 #[28, 41, 53], 28) := by decide +kernel
theorem dX3_isOrder_160 : decode cX3_isOrder 160 = .ok (.aload_n 0, 1) := dk_42 (dk_at dksX3_isOrder_7 0 rfl rfl)
theorem dX3_isOrder_161 : decode cX3_isOrder 161 = .ok (.bipush 110, 2) := dk_16 110 (dk_at dksX3_isOrder_7 1 rfl rfl)
theorem dX3_isOrder_163 : decode cX3_isOrder 163 = .ok (.bipush 111, 2) := dk_16 111 (dk_at dksX3_isOrder_7 3 rfl rfl)
theorem dX3_isOrder_165 : decode cX3_isOrder 165 = .ok (.bipush 110, 2) := dk_16 110 (dk_at dksX3_isOrder_7 5 rfl rfl)
theorem dX3_isOrder_167 : decode cX3_isOrder 167 = .ok (.bipush 101, 2) := dk_16 101 (dk_at dksX3_isOrder_7 7 rfl rfl)
theorem dX3_isOrder_169 : decode cX3_isOrder 169 = .ok (.invokevirtual 191, 3) := dk_182 0 191 (dk_at dksX3_isOrder_7 9 rfl rfl)
theorem dX3_isOrder_172 : decode cX3_isOrder 172 = .ok (.ireturn, 1) := dk_172 (dk_at dksX3_isOrder_7 12 rfl rfl)
theorem dX3_isOrder_173 : decode cX3_isOrder 173 = .ok (.aload_n 0, 1) := dk_42 (dk_at dksX3_isOrder_7 13 rfl rfl)
theorem dX3_isOrder_174 : decode cX3_isOrder 174 = .ok (.bipush 111, 2) := dk_16 111 (dk_at dksX3_isOrder_7 14 rfl rfl)
theorem dX3_isOrder_176 : decode cX3_isOrder 176 = .ok (.bipush 110, 2) := dk_16 110 (dk_at dksX3_isOrder_7 16 rfl rfl)
theorem dX3_isOrder_178 : decode cX3_isOrder 178 = .ok (.bipush 101, 2) := dk_16 101 (dk_at dksX3_isOrder_7 18 rfl rfl)
theorem dX3_isOrder_180 : decode cX3_isOrder 180 = .ok (.iconst 0, 1) := dk_3 (dk_at dksX3_isOrder_7 20 rfl rfl)
theorem dX3_isOrder_181 : decode cX3_isOrder 181 = .ok (.invokevirtual 191, 3) := dk_182 0 191 (dk_at dksX3_isOrder_7 21 rfl rfl)
theorem dX3_isOrder_184 : decode cX3_isOrder 184 = .ok (.ireturn, 1) := dk_172 (dk_at dksX3_isOrder_8 0 rfl rfl)
theorem dX3_isOrder_185 : decode cX3_isOrder 185 = .ok (.aload_n 0, 1) := dk_42 (dk_at dksX3_isOrder_8 1 rfl rfl)
theorem dX3_isOrder_186 : decode cX3_isOrder 186 = .ok (.bipush 112, 2) := dk_16 112 (dk_at dksX3_isOrder_8 2 rfl rfl)
theorem dX3_isOrder_188 : decode cX3_isOrder 188 = .ok (.bipush 97, 2) := dk_16 97 (dk_at dksX3_isOrder_8 4 rfl rfl)
theorem dX3_isOrder_190 : decode cX3_isOrder 190 = .ok (.bipush 105, 2) := dk_16 105 (dk_at dksX3_isOrder_8 6 rfl rfl)
theorem dX3_isOrder_192 : decode cX3_isOrder 192 = .ok (.bipush 114, 2) := dk_16 114 (dk_at dksX3_isOrder_8 8 rfl rfl)
theorem dX3_isOrder_194 : decode cX3_isOrder 194 = .ok (.invokevirtual 191, 3) := dk_182 0 191 (dk_at dksX3_isOrder_8 10 rfl rfl)
theorem dX3_isOrder_197 : decode cX3_isOrder 197 = .ok (.ireturn, 1) := dk_172 (dk_at dksX3_isOrder_8 13 rfl rfl)
theorem dX3_isOrder_198 : decode cX3_isOrder 198 = .ok (.aload_n 0, 1) := dk_42 (dk_at dksX3_isOrder_8 14 rfl rfl)
theorem dX3_isOrder_199 : decode cX3_isOrder 199 = .ok (.bipush 99, 2) := dk_16 99 (dk_at dksX3_isOrder_8 15 rfl rfl)
theorem dX3_isOrder_201 : decode cX3_isOrder 201 = .ok (.bipush 97, 2) := dk_16 97 (dk_at dksX3_isOrder_8 17 rfl rfl)
theorem dX3_isOrder_203 : decode cX3_isOrder 203 = .ok (.bipush 114, 2) := dk_16 114 (dk_at dksX3_isOrder_8 19 rfl rfl)
theorem dX3_isOrder_205 : decode cX3_isOrder 205 = .ok (.bipush 116, 2) := dk_16 116 (dk_at dksX3_isOrder_8 21 rfl rfl)
theorem dX3_isOrder_207 : decode cX3_isOrder 207 = .ok (.invokevirtual 191, 3) := dk_182 0 191 (dk_at dksX3_isOrder_9 0 rfl rfl)
theorem dX3_isOrder_210 : decode cX3_isOrder 210 = .ok (.ireturn, 1) := dk_172 (dk_at dksX3_isOrder_9 3 rfl rfl)
abbrev cX3_isLetter : ByteArray := prog_8_method_50_code
def yX3_isLetter : MethodName := ⟨RX3, "isLetter", "(II)Z"⟩
def dkwX3_isLetter_3 : List UInt8 := [46, 16, 65, 100, 79, 42, 89, 180, 0, 167, 4, 96, 181, 0, 167, 4, 172]
abbrev dktX3_isLetter_3 : List UInt8 := dkwX3_isLetter_3 ++ []
def dkwX3_isLetter_2 : List UInt8 := [182, 0, 178, 172, 42, 180, 0, 22, 6, 42, 180, 0, 185, 104, 27, 96, 42, 180, 0, 19, 42, 180, 0, 167]
abbrev dktX3_isLetter_2 : List UInt8 := dkwX3_isLetter_2 ++ dktX3_isLetter_3
def dkwX3_isLetter_1 : List UInt8 := [184, 0, 48, 153, 0, 19, 42, 180, 0, 19, 42, 180, 0, 167, 46, 16, 65, 100, 28, 160, 0, 8, 42]
abbrev dktX3_isLetter_1 : List UInt8 := dkwX3_isLetter_1 ++ dktX3_isLetter_2
def dkwX3_isLetter_0 : List UInt8 := [42, 180, 0, 167, 42, 180, 0, 164, 159, 0, 38, 42, 180, 0, 19, 42, 180, 0, 167, 46, 16, 65, 16, 70]
abbrev dktX3_isLetter_0 : List UInt8 := dkwX3_isLetter_0 ++ dktX3_isLetter_1
theorem dksX3_isLetter_0 : cX3_isLetter.data.toList.drop 0 = dktX3_isLetter_0 := by decide +kernel
theorem dksX3_isLetter_1 : cX3_isLetter.data.toList.drop 24 = dktX3_isLetter_1 := dk_seg dksX3_isLetter_0 24 rfl rfl
theorem dksX3_isLetter_2 : cX3_isLetter.data.toList.drop 47 = dktX3_isLetter_2 := dk_seg dksX3_isLetter_1 23 rfl rfl
theorem dksX3_isLetter_3 : cX3_isLetter.data.toList.drop 71 = dktX3_isLetter_3 := dk_seg dksX3_isLetter_2 24 rfl rfl
theorem dX3_isLetter_0 : decode cX3_isLetter 0 = .ok (.aload_n 0, 1) := dk_42 (dk_at dksX3_isLetter_0 0 rfl rfl)
theorem dX3_isLetter_1 : decode cX3_isLetter 1 = .ok (.getfield 167, 3) := dk_180 0 167 (dk_at dksX3_isLetter_0 1 rfl rfl)
theorem dX3_isLetter_4 : decode cX3_isLetter 4 = .ok (.aload_n 0, 1) := dk_42 (dk_at dksX3_isLetter_0 4 rfl rfl)
theorem dX3_isLetter_5 : decode cX3_isLetter 5 = .ok (.getfield 164, 3) := dk_180 0 164 (dk_at dksX3_isLetter_0 5 rfl rfl)
theorem dX3_isLetter_8 : decode cX3_isLetter 8 = .ok (.if_icmp .eq 38, 3) := dk_159 0 38 (dk_at dksX3_isLetter_0 8 rfl rfl)
theorem dX3_isLetter_11 : decode cX3_isLetter 11 = .ok (.aload_n 0, 1) := dk_42 (dk_at dksX3_isLetter_0 11 rfl rfl)
theorem dX3_isLetter_12 : decode cX3_isLetter 12 = .ok (.getfield 19, 3) := dk_180 0 19 (dk_at dksX3_isLetter_0 12 rfl rfl)
theorem dX3_isLetter_15 : decode cX3_isLetter 15 = .ok (.aload_n 0, 1) := dk_42 (dk_at dksX3_isLetter_0 15 rfl rfl)
theorem dX3_isLetter_16 : decode cX3_isLetter 16 = .ok (.getfield 167, 3) := dk_180 0 167 (dk_at dksX3_isLetter_0 16 rfl rfl)
theorem dX3_isLetter_19 : decode cX3_isLetter 19 = .ok (.iaload, 1) := dk_46 (dk_at dksX3_isLetter_0 19 rfl rfl)
theorem dX3_isLetter_20 : decode cX3_isLetter 20 = .ok (.bipush 65, 2) := dk_16 65 (dk_at dksX3_isLetter_0 20 rfl rfl)
theorem dX3_isLetter_22 : decode cX3_isLetter 22 = .ok (.bipush 70, 2) := dk_16 70 (dk_at dksX3_isLetter_0 22 rfl rfl)
theorem dX3_isLetter_24 : decode cX3_isLetter 24 = .ok (.invokestatic 48, 3) := dk_184 0 48 (dk_at dksX3_isLetter_1 0 rfl rfl)
theorem dX3_isLetter_27 : decode cX3_isLetter 27 = .ok (.ifCond .eq 19, 3) := dk_153 0 19 (dk_at dksX3_isLetter_1 3 rfl rfl)
theorem dX3_isLetter_30 : decode cX3_isLetter 30 = .ok (.aload_n 0, 1) := dk_42 (dk_at dksX3_isLetter_1 6 rfl rfl)
theorem dX3_isLetter_31 : decode cX3_isLetter 31 = .ok (.getfield 19, 3) := dk_180 0 19 (dk_at dksX3_isLetter_1 7 rfl rfl)
theorem dX3_isLetter_34 : decode cX3_isLetter 34 = .ok (.aload_n 0, 1) := dk_42 (dk_at dksX3_isLetter_1 10 rfl rfl)
theorem dX3_isLetter_35 : decode cX3_isLetter 35 = .ok (.getfield 167, 3) := dk_180 0 167 (dk_at dksX3_isLetter_1 11 rfl rfl)
theorem dX3_isLetter_38 : decode cX3_isLetter 38 = .ok (.iaload, 1) := dk_46 (dk_at dksX3_isLetter_1 14 rfl rfl)
theorem dX3_isLetter_39 : decode cX3_isLetter 39 = .ok (.bipush 65, 2) := dk_16 65 (dk_at dksX3_isLetter_1 15 rfl rfl)
theorem dX3_isLetter_41 : decode cX3_isLetter 41 = .ok (.isub, 1) := dk_100 (dk_at dksX3_isLetter_1 17 rfl rfl)
theorem dX3_isLetter_42 : decode cX3_isLetter 42 = .ok (.iload_n 2, 1) := dk_28 (dk_at dksX3_isLetter_1 18 rfl rfl)
theorem dX3_isLetter_43 : decode cX3_isLetter 43 = .ok (.if_icmp .ne 8, 3) := dk_160 0 8 (dk_at dksX3_isLetter_1 19 rfl rfl)
theorem dX3_isLetter_46 : decode cX3_isLetter 46 = .ok (.aload_n 0, 1) := dk_42 (dk_at dksX3_isLetter_1 22 rfl rfl)
theorem dX3_isLetter_47 : decode cX3_isLetter 47 = .ok (.invokevirtual 178, 3) := dk_182 0 178 (dk_at dksX3_isLetter_2 0 rfl rfl)
theorem dX3_isLetter_50 : decode cX3_isLetter 50 = .ok (.ireturn, 1) := dk_172 (dk_at dksX3_isLetter_2 3 rfl rfl)
theorem dX3_isLetter_51 : decode cX3_isLetter 51 = .ok (.aload_n 0, 1) := dk_42 (dk_at dksX3_isLetter_2 4 rfl rfl)
theorem dX3_isLetter_52 : decode cX3_isLetter 52 = .ok (.getfield 22, 3) := dk_180 0 22 (dk_at dksX3_isLetter_2 5 rfl rfl)
theorem dX3_isLetter_55 : decode cX3_isLetter 55 = .ok (.iconst 3, 1) := dk_6 (dk_at dksX3_isLetter_2 8 rfl rfl)
theorem dX3_isLetter_56 : decode cX3_isLetter 56 = .ok (.aload_n 0, 1) := dk_42 (dk_at dksX3_isLetter_2 9 rfl rfl)
theorem dX3_isLetter_57 : decode cX3_isLetter 57 = .ok (.getfield 185, 3) := dk_180 0 185 (dk_at dksX3_isLetter_2 10 rfl rfl)
theorem dX3_isLetter_60 : decode cX3_isLetter 60 = .ok (.imul, 1) := dk_104 (dk_at dksX3_isLetter_2 13 rfl rfl)
theorem dX3_isLetter_61 : decode cX3_isLetter 61 = .ok (.iload_n 1, 1) := dk_27 (dk_at dksX3_isLetter_2 14 rfl rfl)
theorem dX3_isLetter_62 : decode cX3_isLetter 62 = .ok (.iadd, 1) := dk_96 (dk_at dksX3_isLetter_2 15 rfl rfl)
theorem dX3_isLetter_63 : decode cX3_isLetter 63 = .ok (.aload_n 0, 1) := dk_42 (dk_at dksX3_isLetter_2 16 rfl rfl)
theorem dX3_isLetter_64 : decode cX3_isLetter 64 = .ok (.getfield 19, 3) := dk_180 0 19 (dk_at dksX3_isLetter_2 17 rfl rfl)
theorem dX3_isLetter_67 : decode cX3_isLetter 67 = .ok (.aload_n 0, 1) := dk_42 (dk_at dksX3_isLetter_2 20 rfl rfl)
theorem dX3_isLetter_68 : decode cX3_isLetter 68 = .ok (.getfield 167, 3) := dk_180 0 167 (dk_at dksX3_isLetter_2 21 rfl rfl)
theorem dX3_isLetter_71 : decode cX3_isLetter 71 = .ok (.iaload, 1) := dk_46 (dk_at dksX3_isLetter_3 0 rfl rfl)
theorem dX3_isLetter_72 : decode cX3_isLetter 72 = .ok (.bipush 65, 2) := dk_16 65 (dk_at dksX3_isLetter_3 1 rfl rfl)
theorem dX3_isLetter_74 : decode cX3_isLetter 74 = .ok (.isub, 1) := dk_100 (dk_at dksX3_isLetter_3 3 rfl rfl)
theorem dX3_isLetter_75 : decode cX3_isLetter 75 = .ok (.iastore, 1) := dk_79 (dk_at dksX3_isLetter_3 4 rfl rfl)
theorem dX3_isLetter_76 : decode cX3_isLetter 76 = .ok (.aload_n 0, 1) := dk_42 (dk_at dksX3_isLetter_3 5 rfl rfl)
theorem dX3_isLetter_77 : decode cX3_isLetter 77 = .ok (.dup, 1) := dk_89 (dk_at dksX3_isLetter_3 6 rfl rfl)
theorem dX3_isLetter_78 : decode cX3_isLetter 78 = .ok (.getfield 167, 3) := dk_180 0 167 (dk_at dksX3_isLetter_3 7 rfl rfl)
theorem dX3_isLetter_81 : decode cX3_isLetter 81 = .ok (.iconst 1, 1) := dk_4 (dk_at dksX3_isLetter_3 10 rfl rfl)
theorem dX3_isLetter_82 : decode cX3_isLetter 82 = .ok (.iadd, 1) := dk_96 (dk_at dksX3_isLetter_3 11 rfl rfl)
theorem dX3_isLetter_83 : decode cX3_isLetter 83 = .ok (.putfield 167, 3) := dk_181 0 167 (dk_at dksX3_isLetter_3 12 rfl rfl)
theorem dX3_isLetter_86 : decode cX3_isLetter 86 = .ok (.iconst 1, 1) := dk_4 (dk_at dksX3_isLetter_3 15 rfl rfl)
theorem dX3_isLetter_87 : decode cX3_isLetter 87 = .ok (.ireturn, 1) := dk_172 (dk_at dksX3_isLetter_3 16 rfl rfl)
abbrev cX3_stops : ByteArray := prog_8_method_47_code
def yX3_stops : MethodName := ⟨RX3, "stops", "()Z"⟩
def dkwX3_stops_0 : List UInt8 := [42, 42, 180, 0, 167, 42, 180, 0, 164, 162, 0, 7, 4, 167, 0, 4, 3, 181, 0, 170, 3, 172]
abbrev dktX3_stops_0 : List UInt8 := dkwX3_stops_0 ++ []
theorem dksX3_stops_0 : cX3_stops.data.toList.drop 0 = dktX3_stops_0 := by decide +kernel
theorem dX3_stops_0 : decode cX3_stops 0 = .ok (.aload_n 0, 1) := dk_42 (dk_at dksX3_stops_0 0 rfl rfl)
theorem dX3_stops_1 : decode cX3_stops 1 = .ok (.aload_n 0, 1) := dk_42 (dk_at dksX3_stops_0 1 rfl rfl)
theorem dX3_stops_2 : decode cX3_stops 2 = .ok (.getfield 167, 3) := dk_180 0 167 (dk_at dksX3_stops_0 2 rfl rfl)
theorem dX3_stops_5 : decode cX3_stops 5 = .ok (.aload_n 0, 1) := dk_42 (dk_at dksX3_stops_0 5 rfl rfl)
theorem dX3_stops_6 : decode cX3_stops 6 = .ok (.getfield 164, 3) := dk_180 0 164 (dk_at dksX3_stops_0 6 rfl rfl)
theorem dX3_stops_9 : decode cX3_stops 9 = .ok (.if_icmp .ge 7, 3) := dk_162 0 7 (dk_at dksX3_stops_0 9 rfl rfl)
theorem dX3_stops_12 : decode cX3_stops 12 = .ok (.iconst 1, 1) := dk_4 (dk_at dksX3_stops_0 12 rfl rfl)
theorem dX3_stops_13 : decode cX3_stops 13 = .ok (.goto 4, 3) := dk_167 0 4 (dk_at dksX3_stops_0 13 rfl rfl)
theorem dX3_stops_16 : decode cX3_stops 16 = .ok (.iconst 0, 1) := dk_3 (dk_at dksX3_stops_0 16 rfl rfl)
theorem dX3_stops_17 : decode cX3_stops 17 = .ok (.putfield 170, 3) := dk_181 0 170 (dk_at dksX3_stops_0 17 rfl rfl)
theorem dX3_stops_20 : decode cX3_stops 20 = .ok (.iconst 0, 1) := dk_3 (dk_at dksX3_stops_0 20 rfl rfl)
theorem dX3_stops_21 : decode cX3_stops 21 = .ok (.ireturn, 1) := dk_172 (dk_at dksX3_stops_0 21 rfl rfl)
abbrev cX3_isSign : ByteArray := prog_8_method_48_code
def yX3_isSign : MethodName := ⟨RX3, "isSign", "(I)Z"⟩
def dkwX3_isSign_1 : List UInt8 := [172]
abbrev dktX3_isSign_1 : List UInt8 := dkwX3_isSign_1 ++ []
def dkwX3_isSign_0 : List UInt8 := [42, 27, 182, 0, 174, 154, 0, 8, 42, 182, 0, 178, 172, 42, 89, 180, 0, 167, 4, 96, 181, 0, 167, 4]
abbrev dktX3_isSign_0 : List UInt8 := dkwX3_isSign_0 ++ dktX3_isSign_1
theorem dksX3_isSign_0 : cX3_isSign.data.toList.drop 0 = dktX3_isSign_0 := by decide +kernel
theorem dksX3_isSign_1 : cX3_isSign.data.toList.drop 24 = dktX3_isSign_1 := dk_seg dksX3_isSign_0 24 rfl rfl
theorem dX3_isSign_0 : decode cX3_isSign 0 = .ok (.aload_n 0, 1) := dk_42 (dk_at dksX3_isSign_0 0 rfl rfl)
theorem dX3_isSign_1 : decode cX3_isSign 1 = .ok (.iload_n 1, 1) := dk_27 (dk_at dksX3_isSign_0 1 rfl rfl)
theorem dX3_isSign_2 : decode cX3_isSign 2 = .ok (.invokevirtual 174, 3) := dk_182 0 174 (dk_at dksX3_isSign_0 2 rfl rfl)
theorem dX3_isSign_5 : decode cX3_isSign 5 = .ok (.ifCond .ne 8, 3) := dk_154 0 8 (dk_at dksX3_isSign_0 5 rfl rfl)
theorem dX3_isSign_8 : decode cX3_isSign 8 = .ok (.aload_n 0, 1) := dk_42 (dk_at dksX3_isSign_0 8 rfl rfl)
theorem dX3_isSign_9 : decode cX3_isSign 9 = .ok (.invokevirtual 178, 3) := dk_182 0 178 (dk_at dksX3_isSign_0 9 rfl rfl)
theorem dX3_isSign_12 : decode cX3_isSign 12 = .ok (.ireturn, 1) := dk_172 (dk_at dksX3_isSign_0 12 rfl rfl)
theorem dX3_isSign_13 : decode cX3_isSign 13 = .ok (.aload_n 0, 1) := dk_42 (dk_at dksX3_isSign_0 13 rfl rfl)
theorem dX3_isSign_14 : decode cX3_isSign 14 = .ok (.dup, 1) := dk_89 (dk_at dksX3_isSign_0 14 rfl rfl)
theorem dX3_isSign_15 : decode cX3_isSign 15 = .ok (.getfield 167, 3) := dk_180 0 167 (dk_at dksX3_isSign_0 15 rfl rfl)
theorem dX3_isSign_18 : decode cX3_isSign 18 = .ok (.iconst 1, 1) := dk_4 (dk_at dksX3_isSign_0 18 rfl rfl)
theorem dX3_isSign_19 : decode cX3_isSign 19 = .ok (.iadd, 1) := dk_96 (dk_at dksX3_isSign_0 19 rfl rfl)
theorem dX3_isSign_20 : decode cX3_isSign 20 = .ok (.putfield 167, 3) := dk_181 0 167 (dk_at dksX3_isSign_0 20 rfl rfl)
theorem dX3_isSign_23 : decode cX3_isSign 23 = .ok (.iconst 1, 1) := dk_4 (dk_at dksX3_isSign_0 23 rfl rfl)
theorem dX3_isSign_24 : decode cX3_isSign 24 = .ok (.ireturn, 1) := dk_172 (dk_at dksX3_isSign_1 0 rfl rfl)
abbrev cX3_isAt : ByteArray := prog_8_method_46_code
def yX3_isAt : MethodName := ⟨RX3, "isAt", "(I)Z"⟩
def dkwX3_isAt_1 : List UInt8 := [4, 167, 0, 4, 3, 172]
abbrev dktX3_isAt_1 : List UInt8 := dkwX3_isAt_1 ++ []
def dkwX3_isAt_0 : List UInt8 := [42, 180, 0, 167, 42, 180, 0, 164, 162, 0, 20, 42, 180, 0, 19, 42, 180, 0, 167, 46, 27, 160, 0, 7]
abbrev dktX3_isAt_0 : List UInt8 := dkwX3_isAt_0 ++ dktX3_isAt_1
theorem dksX3_isAt_0 : cX3_isAt.data.toList.drop 0 = dktX3_isAt_0 := by decide +kernel
theorem dksX3_isAt_1 : cX3_isAt.data.toList.drop 24 = dktX3_isAt_1 := dk_seg dksX3_isAt_0 24 rfl rfl
theorem dX3_isAt_0 : decode cX3_isAt 0 = .ok (.aload_n 0, 1) := dk_42 (dk_at dksX3_isAt_0 0 rfl rfl)
theorem dX3_isAt_1 : decode cX3_isAt 1 = .ok (.getfield 167, 3) := dk_180 0 167 (dk_at dksX3_isAt_0 1 rfl rfl)
theorem dX3_isAt_4 : decode cX3_isAt 4 = .ok (.aload_n 0, 1) := dk_42 (dk_at dksX3_isAt_0 4 rfl rfl)
theorem dX3_isAt_5 : decode cX3_isAt 5 = .ok (.getfield 164, 3) := dk_180 0 164 (dk_at dksX3_isAt_0 5 rfl rfl)
theorem dX3_isAt_8 : decode cX3_isAt 8 = .ok (.if_icmp .ge 20, 3) := dk_162 0 20 (dk_at dksX3_isAt_0 8 rfl rfl)
theorem dX3_isAt_11 : decode cX3_isAt 11 = .ok (.aload_n 0, 1) := dk_42 (dk_at dksX3_isAt_0 11 rfl rfl)
theorem dX3_isAt_12 : decode cX3_isAt 12 = .ok (.getfield 19, 3) := dk_180 0 19 (dk_at dksX3_isAt_0 12 rfl rfl)
theorem dX3_isAt_15 : decode cX3_isAt 15 = .ok (.aload_n 0, 1) := dk_42 (dk_at dksX3_isAt_0 15 rfl rfl)
theorem dX3_isAt_16 : decode cX3_isAt 16 = .ok (.getfield 167, 3) := dk_180 0 167 (dk_at dksX3_isAt_0 16 rfl rfl)
theorem dX3_isAt_19 : decode cX3_isAt 19 = .ok (.iaload, 1) := dk_46 (dk_at dksX3_isAt_0 19 rfl rfl)
theorem dX3_isAt_20 : decode cX3_isAt 20 = .ok (.iload_n 1, 1) := dk_27 (dk_at dksX3_isAt_0 20 rfl rfl)
theorem dX3_isAt_21 : decode cX3_isAt 21 = .ok (.if_icmp .ne 7, 3) := dk_160 0 7 (dk_at dksX3_isAt_0 21 rfl rfl)
theorem dX3_isAt_24 : decode cX3_isAt 24 = .ok (.iconst 1, 1) := dk_4 (dk_at dksX3_isAt_1 0 rfl rfl)
theorem dX3_isAt_25 : decode cX3_isAt 25 = .ok (.goto 4, 3) := dk_167 0 4 (dk_at dksX3_isAt_1 1 rfl rfl)
theorem dX3_isAt_28 : decode cX3_isAt 28 = .ok (.iconst 0, 1) := dk_3 (dk_at dksX3_isAt_1 4 rfl rfl)
theorem dX3_isAt_29 : decode cX3_isAt 29 = .ok (.ireturn, 1) := dk_172 (dk_at dksX3_isAt_1 5 rfl rfl)
abbrev cX3_isWord : ByteArray := prog_8_method_49_code
def yX3_isWord : MethodName := ⟨RX3, "isWord", "(IIII)Z"⟩
def dkwX3_isWord_1 : List UInt8 := [21, 4, 153, 0, 12, 42, 21, 4, 182, 0, 182, 153, 0, 7, 4, 167, 0, 4, 3, 172]
abbrev dktX3_isWord_1 : List UInt8 := dkwX3_isWord_1 ++ []
def dkwX3_isWord_0 : List UInt8 := [42, 27, 182, 0, 182, 153, 0, 37, 42, 28, 182, 0, 182, 153, 0, 29, 42, 29, 182, 0, 182, 153, 0, 21]
abbrev dktX3_isWord_0 : List UInt8 := dkwX3_isWord_0 ++ dktX3_isWord_1
theorem dksX3_isWord_0 : cX3_isWord.data.toList.drop 0 = dktX3_isWord_0 := by decide +kernel
theorem dksX3_isWord_1 : cX3_isWord.data.toList.drop 24 = dktX3_isWord_1 := dk_seg dksX3_isWord_0 24 rfl rfl
theorem dX3_isWord_0 : decode cX3_isWord 0 = .ok (.aload_n 0, 1) := dk_42 (dk_at dksX3_isWord_0 0 rfl rfl)
theorem dX3_isWord_1 : decode cX3_isWord 1 = .ok (.iload_n 1, 1) := dk_27 (dk_at dksX3_isWord_0 1 rfl rfl)
theorem dX3_isWord_2 : decode cX3_isWord 2 = .ok (.invokevirtual 182, 3) := dk_182 0 182 (dk_at dksX3_isWord_0 2 rfl rfl)
theorem dX3_isWord_5 : decode cX3_isWord 5 = .ok (.ifCond .eq 37, 3) := dk_153 0 37 (dk_at dksX3_isWord_0 5 rfl rfl)
theorem dX3_isWord_8 : decode cX3_isWord 8 = .ok (.aload_n 0, 1) := dk_42 (dk_at dksX3_isWord_0 8 rfl rfl)
theorem dX3_isWord_9 : decode cX3_isWord 9 = .ok (.iload_n 2, 1) := dk_28 (dk_at dksX3_isWord_0 9 rfl rfl)
theorem dX3_isWord_10 : decode cX3_isWord 10 = .ok (.invokevirtual 182, 3) := dk_182 0 182 (dk_at dksX3_isWord_0 10 rfl rfl)
theorem dX3_isWord_13 : decode cX3_isWord 13 = .ok (.ifCond .eq 29, 3) := dk_153 0 29 (dk_at dksX3_isWord_0 13 rfl rfl)
theorem dX3_isWord_16 : decode cX3_isWord 16 = .ok (.aload_n 0, 1) := dk_42 (dk_at dksX3_isWord_0 16 rfl rfl)
theorem dX3_isWord_17 : decode cX3_isWord 17 = .ok (.iload_n 3, 1) := dk_29 (dk_at dksX3_isWord_0 17 rfl rfl)
theorem dX3_isWord_18 : decode cX3_isWord 18 = .ok (.invokevirtual 182, 3) := dk_182 0 182 (dk_at dksX3_isWord_0 18 rfl rfl)
theorem dX3_isWord_21 : decode cX3_isWord 21 = .ok (.ifCond .eq 21, 3) := dk_153 0 21 (dk_at dksX3_isWord_0 21 rfl rfl)
theorem dX3_isWord_24 : decode cX3_isWord 24 = .ok (.iload 4, 2) := dk_21 4 (dk_at dksX3_isWord_1 0 rfl rfl)
theorem dX3_isWord_26 : decode cX3_isWord 26 = .ok (.ifCond .eq 12, 3) := dk_153 0 12 (dk_at dksX3_isWord_1 2 rfl rfl)
theorem dX3_isWord_29 : decode cX3_isWord 29 = .ok (.aload_n 0, 1) := dk_42 (dk_at dksX3_isWord_1 5 rfl rfl)
theorem dX3_isWord_30 : decode cX3_isWord 30 = .ok (.iload 4, 2) := dk_21 4 (dk_at dksX3_isWord_1 6 rfl rfl)
theorem dX3_isWord_32 : decode cX3_isWord 32 = .ok (.invokevirtual 182, 3) := dk_182 0 182 (dk_at dksX3_isWord_1 8 rfl rfl)
theorem dX3_isWord_35 : decode cX3_isWord 35 = .ok (.ifCond .eq 7, 3) := dk_153 0 7 (dk_at dksX3_isWord_1 11 rfl rfl)
theorem dX3_isWord_38 : decode cX3_isWord 38 = .ok (.iconst 1, 1) := dk_4 (dk_at dksX3_isWord_1 14 rfl rfl)
theorem dX3_isWord_39 : decode cX3_isWord 39 = .ok (.goto 4, 3) := dk_167 0 4 (dk_at dksX3_isWord_1 15 rfl rfl)
theorem dX3_isWord_42 : decode cX3_isWord 42 = .ok (.iconst 0, 1) := dk_3 (dk_at dksX3_isWord_1 18 rfl rfl)
theorem dX3_isWord_43 : decode cX3_isWord 43 = .ok (.ireturn, 1) := dk_172 (dk_at dksX3_isWord_1 19 rfl rfl)
abbrev cX3_run : ByteArray := prog_8_method_55_code
def yX3_run : MethodName := ⟨RX3, "run", "()I"⟩
def dkwX3_run_2 : List UInt8 := [167, 255, 237, 27, 172]
abbrev dktX3_run_2 : List UInt8 := dkwX3_run_2 ++ []
def dkwX3_run_1 : List UInt8 := [181, 0, 164, 3, 60, 27, 42, 180, 0, 185, 162, 0, 17, 42, 27, 182, 0, 200, 153, 0, 9, 132, 1, 1]
abbrev dktX3_run_1 : List UInt8 := dkwX3_run_1 ++ dktX3_run_2
def dkwX3_run_0 : List UInt8 := [42, 3, 181, 0, 44, 42, 182, 0, 197, 154, 0, 9, 42, 4, 182, 0, 63, 172, 42, 182, 0, 141, 42, 3]
abbrev dktX3_run_0 : List UInt8 := dkwX3_run_0 ++ dktX3_run_1
theorem dksX3_run_0 : cX3_run.data.toList.drop 0 = dktX3_run_0 := by decide +kernel
theorem dksX3_run_1 : cX3_run.data.toList.drop 24 = dktX3_run_1 := dk_seg dksX3_run_0 24 rfl rfl
theorem dksX3_run_2 : cX3_run.data.toList.drop 48 = dktX3_run_2 := dk_seg dksX3_run_1 24 rfl rfl
theorem dX3_run_0 : decode cX3_run 0 = .ok (.aload_n 0, 1) := dk_42 (dk_at dksX3_run_0 0 rfl rfl)
theorem dX3_run_1 : decode cX3_run 1 = .ok (.iconst 0, 1) := dk_3 (dk_at dksX3_run_0 1 rfl rfl)
theorem dX3_run_2 : decode cX3_run 2 = .ok (.putfield 44, 3) := dk_181 0 44 (dk_at dksX3_run_0 2 rfl rfl)
theorem dX3_run_5 : decode cX3_run 5 = .ok (.aload_n 0, 1) := dk_42 (dk_at dksX3_run_0 5 rfl rfl)
theorem dX3_run_6 : decode cX3_run 6 = .ok (.invokevirtual 197, 3) := dk_182 0 197 (dk_at dksX3_run_0 6 rfl rfl)
theorem dX3_run_9 : decode cX3_run 9 = .ok (.ifCond .ne 9, 3) := dk_154 0 9 (dk_at dksX3_run_0 9 rfl rfl)
theorem dX3_run_12 : decode cX3_run 12 = .ok (.aload_n 0, 1) := dk_42 (dk_at dksX3_run_0 12 rfl rfl)
theorem dX3_run_13 : decode cX3_run 13 = .ok (.iconst 1, 1) := dk_4 (dk_at dksX3_run_0 13 rfl rfl)
theorem dX3_run_14 : decode cX3_run 14 = .ok (.invokevirtual 63, 3) := dk_182 0 63 (dk_at dksX3_run_0 14 rfl rfl)
theorem dX3_run_17 : decode cX3_run 17 = .ok (.ireturn, 1) := dk_172 (dk_at dksX3_run_0 17 rfl rfl)
theorem dX3_run_18 : decode cX3_run 18 = .ok (.aload_n 0, 1) := dk_42 (dk_at dksX3_run_0 18 rfl rfl)
theorem dX3_run_19 : decode cX3_run 19 = .ok (.invokevirtual 141, 3) := dk_182 0 141 (dk_at dksX3_run_0 19 rfl rfl)
theorem dX3_run_22 : decode cX3_run 22 = .ok (.aload_n 0, 1) := dk_42 (dk_at dksX3_run_0 22 rfl rfl)
theorem dX3_run_23 : decode cX3_run 23 = .ok (.iconst 0, 1) := dk_3 (dk_at dksX3_run_0 23 rfl rfl)
theorem dX3_run_24 : decode cX3_run 24 = .ok (.putfield 164, 3) := dk_181 0 164 (dk_at dksX3_run_1 0 rfl rfl)
theorem dX3_run_27 : decode cX3_run 27 = .ok (.iconst 0, 1) := dk_3 (dk_at dksX3_run_1 3 rfl rfl)
theorem dX3_run_28 : decode cX3_run 28 = .ok (.istore_n 1, 1) := dk_60 (dk_at dksX3_run_1 4 rfl rfl)
theorem dX3_run_29 : decode cX3_run 29 = .ok (.iload_n 1, 1) := dk_27 (dk_at dksX3_run_1 5 rfl rfl)
theorem dX3_run_30 : decode cX3_run 30 = .ok (.aload_n 0, 1) := dk_42 (dk_at dksX3_run_1 6 rfl rfl)
theorem dX3_run_31 : decode cX3_run 31 = .ok (.getfield 185, 3) := dk_180 0 185 (dk_at dksX3_run_1 7 rfl rfl)
theorem dX3_run_34 : decode cX3_run 34 = .ok (.if_icmp .ge 17, 3) := dk_162 0 17 (dk_at dksX3_run_1 10 rfl rfl)
theorem dX3_run_37 : decode cX3_run 37 = .ok (.aload_n 0, 1) := dk_42 (dk_at dksX3_run_1 13 rfl rfl)
theorem dX3_run_38 : decode cX3_run 38 = .ok (.iload_n 1, 1) := dk_27 (dk_at dksX3_run_1 14 rfl rfl)
theorem dX3_run_39 : decode cX3_run 39 = .ok (.invokevirtual 200, 3) := dk_182 0 200 (dk_at dksX3_run_1 15 rfl rfl)
theorem dX3_run_42 : decode cX3_run 42 = .ok (.ifCond .eq 9, 3) := dk_153 0 9 (dk_at dksX3_run_1 18 rfl rfl)
theorem dX3_run_45 : decode cX3_run 45 = .ok (.iinc 1 1, 3) := dk_132 1 1 (dk_at dksX3_run_1 21 rfl rfl)
theorem dX3_run_48 : decode cX3_run 48 = .ok (.goto (-19), 3) := dk_167 255 237 (dk_at dksX3_run_2 0 rfl rfl)
theorem dX3_run_51 : decode cX3_run 51 = .ok (.iload_n 1, 1) := dk_27 (dk_at dksX3_run_2 3 rfl rfl)
theorem dX3_run_52 : decode cX3_run 52 = .ok (.ireturn, 1) := dk_172 (dk_at dksX3_run_2 4 rfl rfl)
abbrev cX3_does : ByteArray := prog_8_method_54_code
def yX3_does : MethodName := ⟨RX3, "does", "(I)Z"⟩
def dkwX3_does_3 : List UInt8 := [182, 0, 116, 54, 4, 21, 4, 153, 0, 12, 42, 42, 180, 0, 7, 182, 0, 119, 87, 21, 4, 172]
abbrev dktX3_does_3 : List UInt8 := dkwX3_does_3 ++ []
def dkwX3_does_2 : List UInt8 := [29, 42, 180, 0, 22, 6, 27, 104, 5, 96, 46, 182, 0, 151, 87, 4, 172, 42, 42, 180, 0, 7, 28, 29]
abbrev dktX3_does_2 : List UInt8 := dkwX3_does_2 ++ dktX3_does_3
def dkwX3_does_1 : List UInt8 := [182, 0, 147, 153, 0, 5, 3, 172, 42, 180, 0, 22, 6, 27, 104, 5, 96, 46, 2, 159, 0, 22, 42, 28]
abbrev dktX3_does_1 : List UInt8 := dkwX3_does_1 ++ dktX3_does_2
def dkwX3_does_0 : List UInt8 := [42, 180, 0, 22, 6, 27, 104, 46, 61, 42, 180, 0, 22, 6, 27, 104, 4, 96, 46, 62, 42, 28, 29, 4]
abbrev dktX3_does_0 : List UInt8 := dkwX3_does_0 ++ dktX3_does_1
theorem dksX3_does_0 : cX3_does.data.toList.drop 0 = dktX3_does_0 := by decide +kernel
theorem dksX3_does_1 : cX3_does.data.toList.drop 24 = dktX3_does_1 := dk_seg dksX3_does_0 24 rfl rfl
theorem dksX3_does_2 : cX3_does.data.toList.drop 48 = dktX3_does_2 := dk_seg dksX3_does_1 24 rfl rfl
theorem dksX3_does_3 : cX3_does.data.toList.drop 72 = dktX3_does_3 := dk_seg dksX3_does_2 24 rfl rfl
theorem dX3_does_0 : decode cX3_does 0 = .ok (.aload_n 0, 1) := dk_42 (dk_at dksX3_does_0 0 rfl rfl)
theorem dX3_does_1 : decode cX3_does 1 = .ok (.getfield 22, 3) := dk_180 0 22 (dk_at dksX3_does_0 1 rfl rfl)
theorem dX3_does_4 : decode cX3_does 4 = .ok (.iconst 3, 1) := dk_6 (dk_at dksX3_does_0 4 rfl rfl)
theorem dX3_does_5 : decode cX3_does 5 = .ok (.iload_n 1, 1) := dk_27 (dk_at dksX3_does_0 5 rfl rfl)
theorem dX3_does_6 : decode cX3_does 6 = .ok (.imul, 1) := dk_104 (dk_at dksX3_does_0 6 rfl rfl)
theorem dX3_does_7 : decode cX3_does 7 = .ok (.iaload, 1) := dk_46 (dk_at dksX3_does_0 7 rfl rfl)
theorem dX3_does_8 : decode cX3_does 8 = .ok (.istore_n 2, 1) := dk_61 (dk_at dksX3_does_0 8 rfl rfl)
theorem dX3_does_9 : decode cX3_does 9 = .ok (.aload_n 0, 1) := dk_42 (dk_at dksX3_does_0 9 rfl rfl)
theorem dX3_does_10 : decode cX3_does 10 = .ok (.getfield 22, 3) := dk_180 0 22 (dk_at dksX3_does_0 10 rfl rfl)
theorem dX3_does_13 : decode cX3_does 13 = .ok (.iconst 3, 1) := dk_6 (dk_at dksX3_does_0 13 rfl rfl)
theorem dX3_does_14 : decode cX3_does 14 = .ok (.iload_n 1, 1) := dk_27 (dk_at dksX3_does_0 14 rfl rfl)
theorem dX3_does_15 : decode cX3_does 15 = .ok (.imul, 1) := dk_104 (dk_at dksX3_does_0 15 rfl rfl)
theorem dX3_does_16 : decode cX3_does 16 = .ok (.iconst 1, 1) := dk_4 (dk_at dksX3_does_0 16 rfl rfl)
theorem dX3_does_17 : decode cX3_does 17 = .ok (.iadd, 1) := dk_96 (dk_at dksX3_does_0 17 rfl rfl)
theorem dX3_does_18 : decode cX3_does 18 = .ok (.iaload, 1) := dk_46 (dk_at dksX3_does_0 18 rfl rfl)
theorem dX3_does_19 : decode cX3_does 19 = .ok (.istore_n 3, 1) := dk_62 (dk_at dksX3_does_0 19 rfl rfl)
theorem dX3_does_20 : decode cX3_does 20 = .ok (.aload_n 0, 1) := dk_42 (dk_at dksX3_does_0 20 rfl rfl)
theorem dX3_does_21 : decode cX3_does 21 = .ok (.iload_n 2, 1) := dk_28 (dk_at dksX3_does_0 21 rfl rfl)
theorem dX3_does_22 : decode cX3_does 22 = .ok (.iload_n 3, 1) := dk_29 (dk_at dksX3_does_0 22 rfl rfl)
theorem dX3_does_23 : decode cX3_does 23 = .ok (.iconst 1, 1) := dk_4 (dk_at dksX3_does_0 23 rfl rfl)
theorem dX3_does_24 : decode cX3_does 24 = .ok (.invokevirtual 147, 3) := dk_182 0 147 (dk_at dksX3_does_1 0 rfl rfl)
theorem dX3_does_27 : decode cX3_does 27 = .ok (.ifCond .eq 5, 3) := dk_153 0 5 (dk_at dksX3_does_1 3 rfl rfl)
theorem dX3_does_30 : decode cX3_does 30 = .ok (.iconst 0, 1) := dk_3 (dk_at dksX3_does_1 6 rfl rfl)
theorem dX3_does_31 : decode cX3_does 31 = .ok (.ireturn, 1) := dk_172 (dk_at dksX3_does_1 7 rfl rfl)
theorem dX3_does_32 : decode cX3_does 32 = .ok (.aload_n 0, 1) := dk_42 (dk_at dksX3_does_1 8 rfl rfl)
theorem dX3_does_33 : decode cX3_does 33 = .ok (.getfield 22, 3) := dk_180 0 22 (dk_at dksX3_does_1 9 rfl rfl)
theorem dX3_does_36 : decode cX3_does 36 = .ok (.iconst 3, 1) := dk_6 (dk_at dksX3_does_1 12 rfl rfl)
theorem dX3_does_37 : decode cX3_does 37 = .ok (.iload_n 1, 1) := dk_27 (dk_at dksX3_does_1 13 rfl rfl)
theorem dX3_does_38 : decode cX3_does 38 = .ok (.imul, 1) := dk_104 (dk_at dksX3_does_1 14 rfl rfl)
theorem dX3_does_39 : decode cX3_does 39 = .ok (.iconst 2, 1) := dk_5 (dk_at dksX3_does_1 15 rfl rfl)
theorem dX3_does_40 : decode cX3_does 40 = .ok (.iadd, 1) := dk_96 (dk_at dksX3_does_1 16 rfl rfl)
theorem dX3_does_41 : decode cX3_does 41 = .ok (.iaload, 1) := dk_46 (dk_at dksX3_does_1 17 rfl rfl)
theorem dX3_does_42 : decode cX3_does 42 = .ok (.iconst (-1), 1) := dk_2 (dk_at dksX3_does_1 18 rfl rfl)
theorem dX3_does_43 : decode cX3_does 43 = .ok (.if_icmp .eq 22, 3) := dk_159 0 22 (dk_at dksX3_does_1 19 rfl rfl)
theorem dX3_does_46 : decode cX3_does 46 = .ok (.aload_n 0, 1) := dk_42 (dk_at dksX3_does_1 22 rfl rfl)
theorem dX3_does_47 : decode cX3_does 47 = .ok (.iload_n 2, 1) := dk_28 (dk_at dksX3_does_1 23 rfl rfl)
theorem dX3_does_48 : decode cX3_does 48 = .ok (.iload_n 3, 1) := dk_29 (dk_at dksX3_does_2 0 rfl rfl)
theorem dX3_does_49 : decode cX3_does 49 = .ok (.aload_n 0, 1) := dk_42 (dk_at dksX3_does_2 1 rfl rfl)
theorem dX3_does_50 : decode cX3_does 50 = .ok (.getfield 22, 3) := dk_180 0 22 (dk_at dksX3_does_2 2 rfl rfl)
theorem dX3_does_53 : decode cX3_does 53 = .ok (.iconst 3, 1) := dk_6 (dk_at dksX3_does_2 5 rfl rfl)
theorem dX3_does_54 : decode cX3_does 54 = .ok (.iload_n 1, 1) := dk_27 (dk_at dksX3_does_2 6 rfl rfl)
theorem dX3_does_55 : decode cX3_does 55 = .ok (.imul, 1) := dk_104 (dk_at dksX3_does_2 7 rfl rfl)
theorem dX3_does_56 : decode cX3_does 56 = .ok (.iconst 2, 1) := dk_5 (dk_at dksX3_does_2 8 rfl rfl)
theorem dX3_does_57 : decode cX3_does 57 = .ok (.iadd, 1) := dk_96 (dk_at dksX3_does_2 9 rfl rfl)
theorem dX3_does_58 : decode cX3_does 58 = .ok (.iaload, 1) := dk_46 (dk_at dksX3_does_2 10 rfl rfl)
theorem dX3_does_59 : decode cX3_does 59 = .ok (.invokevirtual 151, 3) := dk_182 0 151 (dk_at dksX3_does_2 11 rfl rfl)
theorem dX3_does_62 : decode cX3_does 62 = .ok (.pop, 1) := dk_87 (dk_at dksX3_does_2 14 rfl rfl)
theorem dX3_does_63 : decode cX3_does 63 = .ok (.iconst 1, 1) := dk_4 (dk_at dksX3_does_2 15 rfl rfl)
theorem dX3_does_64 : decode cX3_does 64 = .ok (.ireturn, 1) := dk_172 (dk_at dksX3_does_2 16 rfl rfl)
theorem dX3_does_65 : decode cX3_does 65 = .ok (.aload_n 0, 1) := dk_42 (dk_at dksX3_does_2 17 rfl rfl)
theorem dX3_does_66 : decode cX3_does 66 = .ok (.aload_n 0, 1) := dk_42 (dk_at dksX3_does_2 18 rfl rfl)
theorem dX3_does_67 : decode cX3_does 67 = .ok (.getfield 7, 3) := dk_180 0 7 (dk_at dksX3_does_2 19 rfl rfl)
theorem dX3_does_70 : decode cX3_does 70 = .ok (.iload_n 2, 1) := dk_28 (dk_at dksX3_does_2 22 rfl rfl)
theorem dX3_does_71 : decode cX3_does 71 = .ok (.iload_n 3, 1) := dk_29 (dk_at dksX3_does_2 23 rfl rfl)
theorem dX3_does_72 : decode cX3_does 72 = .ok (.invokevirtual 116, 3) := dk_182 0 116 (dk_at dksX3_does_3 0 rfl rfl)
theorem dX3_does_75 : decode cX3_does 75 = .ok (.istore 4, 2) := dk_54 4 (dk_at dksX3_does_3 3 rfl rfl)
theorem dX3_does_77 : decode cX3_does 77 = .ok (.iload 4, 2) := dk_21 4 (dk_at dksX3_does_3 5 rfl rfl)
theorem dX3_does_79 : decode cX3_does 79 = .ok (.ifCond .eq 12, 3) := dk_153 0 12 (dk_at dksX3_does_3 7 rfl rfl)
theorem dX3_does_82 : decode cX3_does 82 = .ok (.aload_n 0, 1) := dk_42 (dk_at dksX3_does_3 10 rfl rfl)
theorem dX3_does_83 : decode cX3_does 83 = .ok (.aload_n 0, 1) := dk_42 (dk_at dksX3_does_3 11 rfl rfl)
theorem dX3_does_84 : decode cX3_does 84 = .ok (.getfield 7, 3) := dk_180 0 7 (dk_at dksX3_does_3 12 rfl rfl)
theorem dX3_does_87 : decode cX3_does 87 = .ok (.invokevirtual 119, 3) := dk_182 0 119 (dk_at dksX3_does_3 15 rfl rfl)
theorem dX3_does_90 : decode cX3_does 90 = .ok (.pop, 1) := dk_87 (dk_at dksX3_does_3 18 rfl rfl)
theorem dX3_does_91 : decode cX3_does 91 = .ok (.iload 4, 2) := dk_21 4 (dk_at dksX3_does_3 19 rfl rfl)
theorem dX3_does_93 : decode cX3_does 93 = .ok (.ireturn, 1) := dk_172 (dk_at dksX3_does_3 21 rfl rfl)
abbrev cX3_square : ByteArray := prog_8_method_56_code
def yX3_square : MethodName := ⟨RX3, "square", "(III)I"⟩
def dkwX3_square_2 : List UInt8 := [27, 28, 184, 0, 203, 172]
abbrev dktX3_square_2 : List UInt8 := dkwX3_square_2 ++ []
def dkwX3_square_1 : List UInt8 := [182, 0, 63, 172, 29, 154, 0, 15, 42, 180, 0, 7, 27, 28, 184, 0, 74, 167, 0, 12, 42, 180, 0, 7]
abbrev dktX3_square_1 : List UInt8 := dkwX3_square_1 ++ dktX3_square_2
def dkwX3_square_0 : List UInt8 := [42, 3, 181, 0, 44, 27, 28, 184, 0, 67, 153, 0, 12, 29, 3, 4, 184, 0, 48, 154, 0, 9, 42, 4]
abbrev dktX3_square_0 : List UInt8 := dkwX3_square_0 ++ dktX3_square_1
theorem dksX3_square_0 : cX3_square.data.toList.drop 0 = dktX3_square_0 := by decide +kernel
theorem dksX3_square_1 : cX3_square.data.toList.drop 24 = dktX3_square_1 := dk_seg dksX3_square_0 24 rfl rfl
theorem dksX3_square_2 : cX3_square.data.toList.drop 48 = dktX3_square_2 := dk_seg dksX3_square_1 24 rfl rfl
theorem dX3_square_0 : decode cX3_square 0 = .ok (.aload_n 0, 1) := dk_42 (dk_at dksX3_square_0 0 rfl rfl)
theorem dX3_square_1 : decode cX3_square 1 = .ok (.iconst 0, 1) := dk_3 (dk_at dksX3_square_0 1 rfl rfl)
theorem dX3_square_2 : decode cX3_square 2 = .ok (.putfield 44, 3) := dk_181 0 44 (dk_at dksX3_square_0 2 rfl rfl)
theorem dX3_square_5 : decode cX3_square 5 = .ok (.iload_n 1, 1) := dk_27 (dk_at dksX3_square_0 5 rfl rfl)
theorem dX3_square_6 : decode cX3_square 6 = .ok (.iload_n 2, 1) := dk_28 (dk_at dksX3_square_0 6 rfl rfl)
theorem dX3_square_7 : decode cX3_square 7 = .ok (.invokestatic 67, 3) := dk_184 0 67 (dk_at dksX3_square_0 7 rfl rfl)
theorem dX3_square_10 : decode cX3_square 10 = .ok (.ifCond .eq 12, 3) := dk_153 0 12 (dk_at dksX3_square_0 10 rfl rfl)
theorem dX3_square_13 : decode cX3_square 13 = .ok (.iload_n 3, 1) := dk_29 (dk_at dksX3_square_0 13 rfl rfl)
theorem dX3_square_14 : decode cX3_square 14 = .ok (.iconst 0, 1) := dk_3 (dk_at dksX3_square_0 14 rfl rfl)
theorem dX3_square_15 : decode cX3_square 15 = .ok (.iconst 1, 1) := dk_4 (dk_at dksX3_square_0 15 rfl rfl)
theorem dX3_square_16 : decode cX3_square 16 = .ok (.invokestatic 48, 3) := dk_184 0 48 (dk_at dksX3_square_0 16 rfl rfl)
theorem dX3_square_19 : decode cX3_square 19 = .ok (.ifCond .ne 9, 3) := dk_154 0 9 (dk_at dksX3_square_0 19 rfl rfl)
theorem dX3_square_22 : decode cX3_square 22 = .ok (.aload_n 0, 1) := dk_42 (dk_at dksX3_square_0 22 rfl rfl)
theorem dX3_square_23 : decode cX3_square 23 = .ok (.iconst 1, 1) := dk_4 (dk_at dksX3_square_0 23 rfl rfl)
theorem dX3_square_24 : decode cX3_square 24 = .ok (.invokevirtual 63, 3) := dk_182 0 63 (dk_at dksX3_square_1 0 rfl rfl)
theorem dX3_square_27 : decode cX3_square 27 = .ok (.ireturn, 1) := dk_172 (dk_at dksX3_square_1 3 rfl rfl)
theorem dX3_square_28 : decode cX3_square 28 = .ok (.iload_n 3, 1) := dk_29 (dk_at dksX3_square_1 4 rfl rfl)
theorem dX3_square_29 : decode cX3_square 29 = .ok (.ifCond .ne 15, 3) := dk_154 0 15 (dk_at dksX3_square_1 5 rfl rfl)
theorem dX3_square_32 : decode cX3_square 32 = .ok (.aload_n 0, 1) := dk_42 (dk_at dksX3_square_1 8 rfl rfl)
theorem dX3_square_33 : decode cX3_square 33 = .ok (.getfield 7, 3) := dk_180 0 7 (dk_at dksX3_square_1 9 rfl rfl)
theorem dX3_square_36 : decode cX3_square 36 = .ok (.iload_n 1, 1) := dk_27 (dk_at dksX3_square_1 12 rfl rfl)
theorem dX3_square_37 : decode cX3_square 37 = .ok (.iload_n 2, 1) := dk_28 (dk_at dksX3_square_1 13 rfl rfl)
theorem dX3_square_38 : decode cX3_square 38 = .ok (.invokestatic 74, 3) := dk_184 0 74 (dk_at dksX3_square_1 14 rfl rfl)
theorem dX3_square_41 : decode cX3_square 41 = .ok (.goto 12, 3) := dk_167 0 12 (dk_at dksX3_square_1 17 rfl rfl)
theorem dX3_square_44 : decode cX3_square 44 = .ok (.aload_n 0, 1) := dk_42 (dk_at dksX3_square_1 20 rfl rfl)
theorem dX3_square_45 : decode cX3_square 45 = .ok (.getfield 7, 3) := dk_180 0 7 (dk_at dksX3_square_1 21 rfl rfl)
theorem dX3_square_48 : decode cX3_square 48 = .ok (.iload_n 1, 1) := dk_27 (dk_at dksX3_square_2 0 rfl rfl)
theorem dX3_square_49 : decode cX3_square 49 = .ok (.iload_n 2, 1) := dk_28 (dk_at dksX3_square_2 1 rfl rfl)
theorem dX3_square_50 : decode cX3_square 50 = .ok (.invokestatic 203, 3) := dk_184 0 203 (dk_at dksX3_square_2 2 rfl rfl)
theorem dX3_square_53 : decode cX3_square 53 = .ok (.ireturn, 1) := dk_172 (dk_at dksX3_square_2 5 rfl rfl)
abbrev cX3_sides : ByteArray := prog_8_method_26_code
def yX3_sides : MethodName := ⟨RX3, "sides", "([III)I"⟩
def dkwX3_sides_4 : List UInt8 := [184, 0, 48, 153, 0, 7, 4, 167, 0, 4, 3, 96, 62, 29, 172]
abbrev dktX3_sides_4 : List UInt8 := dkwX3_sides_4 ++ []
def dkwX3_sides_3 : List UInt8 := [184, 0, 48, 153, 0, 7, 4, 167, 0, 4, 3, 96, 62, 29, 42, 27, 28, 4, 96, 184, 0, 74, 3, 8]
abbrev dktX3_sides_3 : List UInt8 := dkwX3_sides_3 ++ dktX3_sides_4
def dkwX3_sides_2 : List UInt8 := [184, 0, 48, 153, 0, 7, 4, 167, 0, 4, 3, 96, 62, 29, 42, 27, 28, 4, 100, 184, 0, 74, 3, 8]
abbrev dktX3_sides_2 : List UInt8 := dkwX3_sides_2 ++ dktX3_sides_3
def dkwX3_sides_1 : List UInt8 := [184, 0, 48, 153, 0, 7, 4, 167, 0, 4, 3, 96, 62, 29, 42, 27, 4, 96, 28, 184, 0, 74, 3, 8]
abbrev dktX3_sides_1 : List UInt8 := dkwX3_sides_1 ++ dktX3_sides_2
def dkwX3_sides_0 : List UInt8 := [3, 62, 42, 27, 28, 184, 0, 74, 2, 160, 0, 99, 29, 42, 27, 4, 100, 28, 184, 0, 74, 3, 8]
abbrev dktX3_sides_0 : List UInt8 := dkwX3_sides_0 ++ dktX3_sides_1
theorem dksX3_sides_0 : cX3_sides.data.toList.drop 0 = dktX3_sides_0 := by decide +kernel
theorem dksX3_sides_1 : cX3_sides.data.toList.drop 23 = dktX3_sides_1 := dk_seg dksX3_sides_0 23 rfl rfl
theorem dksX3_sides_2 : cX3_sides.data.toList.drop 47 = dktX3_sides_2 := dk_seg dksX3_sides_1 24 rfl rfl
theorem dksX3_sides_3 : cX3_sides.data.toList.drop 71 = dktX3_sides_3 := dk_seg dksX3_sides_2 24 rfl rfl
theorem dksX3_sides_4 : cX3_sides.data.toList.drop 95 = dktX3_sides_4 := dk_seg dksX3_sides_3 24 rfl rfl
theorem dX3_sides_0 : decode cX3_sides 0 = .ok (.iconst 0, 1) := dk_3 (dk_at dksX3_sides_0 0 rfl rfl)
theorem dX3_sides_1 : decode cX3_sides 1 = .ok (.istore_n 3, 1) := dk_62 (dk_at dksX3_sides_0 1 rfl rfl)
theorem dX3_sides_2 : decode cX3_sides 2 = .ok (.aload_n 0, 1) := dk_42 (dk_at dksX3_sides_0 2 rfl rfl)
theorem dX3_sides_3 : decode cX3_sides 3 = .ok (.iload_n 1, 1) := dk_27 (dk_at dksX3_sides_0 3 rfl rfl)
theorem dX3_sides_4 : decode cX3_sides 4 = .ok (.iload_n 2, 1) := dk_28 (dk_at dksX3_sides_0 4 rfl rfl)
theorem dX3_sides_5 : decode cX3_sides 5 = .ok (.invokestatic 74, 3) := dk_184 0 74 (dk_at dksX3_sides_0 5 rfl rfl)
theorem dX3_sides_8 : decode cX3_sides 8 = .ok (.iconst (-1), 1) := dk_2 (dk_at dksX3_sides_0 8 rfl rfl)
theorem dX3_sides_9 : decode cX3_sides 9 = .ok (.if_icmp .ne 99, 3) := dk_160 0 99 (dk_at dksX3_sides_0 9 rfl rfl)
theorem dX3_sides_12 : decode cX3_sides 12 = .ok (.iload_n 3, 1) := dk_29 (dk_at dksX3_sides_0 12 rfl rfl)
theorem dX3_sides_13 : decode cX3_sides 13 = .ok (.aload_n 0, 1) := dk_42 (dk_at dksX3_sides_0 13 rfl rfl)
theorem dX3_sides_14 : decode cX3_sides 14 = .ok (.iload_n 1, 1) := dk_27 (dk_at dksX3_sides_0 14 rfl rfl)
theorem dX3_sides_15 : decode cX3_sides 15 = .ok (.iconst 1, 1) := dk_4 (dk_at dksX3_sides_0 15 rfl rfl)
theorem dX3_sides_16 : decode cX3_sides 16 = .ok (.isub, 1) := dk_100 (dk_at dksX3_sides_0 16 rfl rfl)
theorem dX3_sides_17 : decode cX3_sides 17 = .ok (.iload_n 2, 1) := dk_28 (dk_at dksX3_sides_0 17 rfl rfl)
theorem dX3_sides_18 : decode cX3_sides 18 = .ok (.invokestatic 74, 3) := dk_184 0 74 (dk_at dksX3_sides_0 18 rfl rfl)
theorem dX3_sides_21 : decode cX3_sides 21 = .ok (.iconst 0, 1) := dk_3 (dk_at dksX3_sides_0 21 rfl rfl)
theorem dX3_sides_22 : decode cX3_sides 22 = .ok (.iconst 5, 1) := dk_8 (dk_at dksX3_sides_0 22 rfl rfl)
theorem dX3_sides_23 : decode cX3_sides 23 = .ok (.invokestatic 48, 3) := dk_184 0 48 (dk_at dksX3_sides_1 0 rfl rfl)
theorem dX3_sides_26 : decode cX3_sides 26 = .ok (.ifCond .eq 7, 3) := dk_153 0 7 (dk_at dksX3_sides_1 3 rfl rfl)
theorem dX3_sides_29 : decode cX3_sides 29 = .ok (.iconst 1, 1) := dk_4 (dk_at dksX3_sides_1 6 rfl rfl)
theorem dX3_sides_30 : decode cX3_sides 30 = .ok (.goto 4, 3) := dk_167 0 4 (dk_at dksX3_sides_1 7 rfl rfl)
theorem dX3_sides_33 : decode cX3_sides 33 = .ok (.iconst 0, 1) := dk_3 (dk_at dksX3_sides_1 10 rfl rfl)
theorem dX3_sides_34 : decode cX3_sides 34 = .ok (.iadd, 1) := dk_96 (dk_at dksX3_sides_1 11 rfl rfl)
theorem dX3_sides_35 : decode cX3_sides 35 = .ok (.istore_n 3, 1) := dk_62 (dk_at dksX3_sides_1 12 rfl rfl)
theorem dX3_sides_36 : decode cX3_sides 36 = .ok (.iload_n 3, 1) := dk_29 (dk_at dksX3_sides_1 13 rfl rfl)
theorem dX3_sides_37 : decode cX3_sides 37 = .ok (.aload_n 0, 1) := dk_42 (dk_at dksX3_sides_1 14 rfl rfl)
theorem dX3_sides_38 : decode cX3_sides 38 = .ok (.iload_n 1, 1) := dk_27 (dk_at dksX3_sides_1 15 rfl rfl)
theorem dX3_sides_39 : decode cX3_sides 39 = .ok (.iconst 1, 1) := dk_4 (dk_at dksX3_sides_1 16 rfl rfl)
theorem dX3_sides_40 : decode cX3_sides 40 = .ok (.iadd, 1) := dk_96 (dk_at dksX3_sides_1 17 rfl rfl)
theorem dX3_sides_41 : decode cX3_sides 41 = .ok (.iload_n 2, 1) := dk_28 (dk_at dksX3_sides_1 18 rfl rfl)
theorem dX3_sides_42 : decode cX3_sides 42 = .ok (.invokestatic 74, 3) := dk_184 0 74 (dk_at dksX3_sides_1 19 rfl rfl)
theorem dX3_sides_45 : decode cX3_sides 45 = .ok (.iconst 0, 1) := dk_3 (dk_at dksX3_sides_1 22 rfl rfl)
theorem dX3_sides_46 : decode cX3_sides 46 = .ok (.iconst 5, 1) := dk_8 (dk_at dksX3_sides_1 23 rfl rfl)
theorem dX3_sides_47 : decode cX3_sides 47 = .ok (.invokestatic 48, 3) := dk_184 0 48 (dk_at dksX3_sides_2 0 rfl rfl)
theorem dX3_sides_50 : decode cX3_sides 50 = .ok (.ifCond .eq 7, 3) := dk_153 0 7 (dk_at dksX3_sides_2 3 rfl rfl)
theorem dX3_sides_53 : decode cX3_sides 53 = .ok (.iconst 1, 1) := dk_4 (dk_at dksX3_sides_2 6 rfl rfl)
theorem dX3_sides_54 : decode cX3_sides 54 = .ok (.goto 4, 3) := dk_167 0 4 (dk_at dksX3_sides_2 7 rfl rfl)
theorem dX3_sides_57 : decode cX3_sides 57 = .ok (.iconst 0, 1) := dk_3 (dk_at dksX3_sides_2 10 rfl rfl)
theorem dX3_sides_58 : decode cX3_sides 58 = .ok (.iadd, 1) := dk_96 (dk_at dksX3_sides_2 11 rfl rfl)
theorem dX3_sides_59 : decode cX3_sides 59 = .ok (.istore_n 3, 1) := dk_62 (dk_at dksX3_sides_2 12 rfl rfl)
theorem dX3_sides_60 : decode cX3_sides 60 = .ok (.iload_n 3, 1) := dk_29 (dk_at dksX3_sides_2 13 rfl rfl)
theorem dX3_sides_61 : decode cX3_sides 61 = .ok (.aload_n 0, 1) := dk_42 (dk_at dksX3_sides_2 14 rfl rfl)
theorem dX3_sides_62 : decode cX3_sides 62 = .ok (.iload_n 1, 1) := dk_27 (dk_at dksX3_sides_2 15 rfl rfl)
theorem dX3_sides_63 : decode cX3_sides 63 = .ok (.iload_n 2, 1) := dk_28 (dk_at dksX3_sides_2 16 rfl rfl)
theorem dX3_sides_64 : decode cX3_sides 64 = .ok (.iconst 1, 1) := dk_4 (dk_at dksX3_sides_2 17 rfl rfl)
theorem dX3_sides_65 : decode cX3_sides 65 = .ok (.isub, 1) := dk_100 (dk_at dksX3_sides_2 18 rfl rfl)
theorem dX3_sides_66 : decode cX3_sides 66 = .ok (.invokestatic 74, 3) := dk_184 0 74 (dk_at dksX3_sides_2 19 rfl rfl)
theorem dX3_sides_69 : decode cX3_sides 69 = .ok (.iconst 0, 1) := dk_3 (dk_at dksX3_sides_2 22 rfl rfl)
theorem dX3_sides_70 : decode cX3_sides 70 = .ok (.iconst 5, 1) := dk_8 (dk_at dksX3_sides_2 23 rfl rfl)
theorem dX3_sides_71 : decode cX3_sides 71 = .ok (.invokestatic 48, 3) := dk_184 0 48 (dk_at dksX3_sides_3 0 rfl rfl)
theorem dX3_sides_74 : decode cX3_sides 74 = .ok (.ifCond .eq 7, 3) := dk_153 0 7 (dk_at dksX3_sides_3 3 rfl rfl)
theorem dX3_sides_77 : decode cX3_sides 77 = .ok (.iconst 1, 1) := dk_4 (dk_at dksX3_sides_3 6 rfl rfl)
theorem dX3_sides_78 : decode cX3_sides 78 = .ok (.goto 4, 3) := dk_167 0 4 (dk_at dksX3_sides_3 7 rfl rfl)
theorem dX3_sides_81 : decode cX3_sides 81 = .ok (.iconst 0, 1) := dk_3 (dk_at dksX3_sides_3 10 rfl rfl)
theorem dX3_sides_82 : decode cX3_sides 82 = .ok (.iadd, 1) := dk_96 (dk_at dksX3_sides_3 11 rfl rfl)
theorem dX3_sides_83 : decode cX3_sides 83 = .ok (.istore_n 3, 1) := dk_62 (dk_at dksX3_sides_3 12 rfl rfl)
theorem dX3_sides_84 : decode cX3_sides 84 = .ok (.iload_n 3, 1) := dk_29 (dk_at dksX3_sides_3 13 rfl rfl)
theorem dX3_sides_85 : decode cX3_sides 85 = .ok (.aload_n 0, 1) := dk_42 (dk_at dksX3_sides_3 14 rfl rfl)
theorem dX3_sides_86 : decode cX3_sides 86 = .ok (.iload_n 1, 1) := dk_27 (dk_at dksX3_sides_3 15 rfl rfl)
theorem dX3_sides_87 : decode cX3_sides 87 = .ok (.iload_n 2, 1) := dk_28 (dk_at dksX3_sides_3 16 rfl rfl)
theorem dX3_sides_88 : decode cX3_sides 88 = .ok (.iconst 1, 1) := dk_4 (dk_at dksX3_sides_3 17 rfl rfl)
theorem dX3_sides_89 : decode cX3_sides 89 = .ok (.iadd, 1) := dk_96 (dk_at dksX3_sides_3 18 rfl rfl)
theorem dX3_sides_90 : decode cX3_sides 90 = .ok (.invokestatic 74, 3) := dk_184 0 74 (dk_at dksX3_sides_3 19 rfl rfl)
theorem dX3_sides_93 : decode cX3_sides 93 = .ok (.iconst 0, 1) := dk_3 (dk_at dksX3_sides_3 22 rfl rfl)
theorem dX3_sides_94 : decode cX3_sides 94 = .ok (.iconst 5, 1) := dk_8 (dk_at dksX3_sides_3 23 rfl rfl)
theorem dX3_sides_95 : decode cX3_sides 95 = .ok (.invokestatic 48, 3) := dk_184 0 48 (dk_at dksX3_sides_4 0 rfl rfl)
theorem dX3_sides_98 : decode cX3_sides 98 = .ok (.ifCond .eq 7, 3) := dk_153 0 7 (dk_at dksX3_sides_4 3 rfl rfl)
theorem dX3_sides_101 : decode cX3_sides 101 = .ok (.iconst 1, 1) := dk_4 (dk_at dksX3_sides_4 6 rfl rfl)
theorem dX3_sides_102 : decode cX3_sides 102 = .ok (.goto 4, 3) := dk_167 0 4 (dk_at dksX3_sides_4 7 rfl rfl)
theorem dX3_sides_105 : decode cX3_sides 105 = .ok (.iconst 0, 1) := dk_3 (dk_at dksX3_sides_4 10 rfl rfl)
theorem dX3_sides_106 : decode cX3_sides 106 = .ok (.iadd, 1) := dk_96 (dk_at dksX3_sides_4 11 rfl rfl)
theorem dX3_sides_107 : decode cX3_sides 107 = .ok (.istore_n 3, 1) := dk_62 (dk_at dksX3_sides_4 12 rfl rfl)
theorem dX3_sides_108 : decode cX3_sides 108 = .ok (.iload_n 3, 1) := dk_29 (dk_at dksX3_sides_4 13 rfl rfl)
theorem dX3_sides_109 : decode cX3_sides 109 = .ok (.ireturn, 1) := dk_172 (dk_at dksX3_sides_4 14 rfl rfl)
abbrev cX3_chamber : ByteArray := prog_8_method_59_code
def yX3_chamber : MethodName := ⟨RX3, "chamber", "(II)I"⟩
def dkwX3_chamber_1 : List UInt8 := [16, 7, 184, 0, 48, 153, 0, 12, 42, 27, 28, 182, 0, 210, 167, 0, 8, 42, 5, 182, 0, 63, 172]
abbrev dktX3_chamber_1 : List UInt8 := dkwX3_chamber_1 ++ []
def dkwX3_chamber_0 : List UInt8 := [42, 3, 181, 0, 44, 42, 180, 0, 7, 27, 184, 0, 126, 154, 0, 9, 42, 4, 182, 0, 63, 172, 28, 3]
abbrev dktX3_chamber_0 : List UInt8 := dkwX3_chamber_0 ++ dktX3_chamber_1
theorem dksX3_chamber_0 : cX3_chamber.data.toList.drop 0 = dktX3_chamber_0 := by decide +kernel
theorem dksX3_chamber_1 : cX3_chamber.data.toList.drop 24 = dktX3_chamber_1 := dk_seg dksX3_chamber_0 24 rfl rfl
theorem dX3_chamber_0 : decode cX3_chamber 0 = .ok (.aload_n 0, 1) := dk_42 (dk_at dksX3_chamber_0 0 rfl rfl)
theorem dX3_chamber_1 : decode cX3_chamber 1 = .ok (.iconst 0, 1) := dk_3 (dk_at dksX3_chamber_0 1 rfl rfl)
theorem dX3_chamber_2 : decode cX3_chamber 2 = .ok (.putfield 44, 3) := dk_181 0 44 (dk_at dksX3_chamber_0 2 rfl rfl)
theorem dX3_chamber_5 : decode cX3_chamber 5 = .ok (.aload_n 0, 1) := dk_42 (dk_at dksX3_chamber_0 5 rfl rfl)
theorem dX3_chamber_6 : decode cX3_chamber 6 = .ok (.getfield 7, 3) := dk_180 0 7 (dk_at dksX3_chamber_0 6 rfl rfl)
theorem dX3_chamber_9 : decode cX3_chamber 9 = .ok (.iload_n 1, 1) := dk_27 (dk_at dksX3_chamber_0 9 rfl rfl)
theorem dX3_chamber_10 : decode cX3_chamber 10 = .ok (.invokestatic 126, 3) := dk_184 0 126 (dk_at dksX3_chamber_0 10 rfl rfl)
theorem dX3_chamber_13 : decode cX3_chamber 13 = .ok (.ifCond .ne 9, 3) := dk_154 0 9 (dk_at dksX3_chamber_0 13 rfl rfl)
theorem dX3_chamber_16 : decode cX3_chamber 16 = .ok (.aload_n 0, 1) := dk_42 (dk_at dksX3_chamber_0 16 rfl rfl)
theorem dX3_chamber_17 : decode cX3_chamber 17 = .ok (.iconst 1, 1) := dk_4 (dk_at dksX3_chamber_0 17 rfl rfl)
theorem dX3_chamber_18 : decode cX3_chamber 18 = .ok (.invokevirtual 63, 3) := dk_182 0 63 (dk_at dksX3_chamber_0 18 rfl rfl)
theorem dX3_chamber_21 : decode cX3_chamber 21 = .ok (.ireturn, 1) := dk_172 (dk_at dksX3_chamber_0 21 rfl rfl)
theorem dX3_chamber_22 : decode cX3_chamber 22 = .ok (.iload_n 2, 1) := dk_28 (dk_at dksX3_chamber_0 22 rfl rfl)
theorem dX3_chamber_23 : decode cX3_chamber 23 = .ok (.iconst 0, 1) := dk_3 (dk_at dksX3_chamber_0 23 rfl rfl)
theorem dX3_chamber_24 : decode cX3_chamber 24 = .ok (.bipush 7, 2) := dk_16 7 (dk_at dksX3_chamber_1 0 rfl rfl)
theorem dX3_chamber_26 : decode cX3_chamber 26 = .ok (.invokestatic 48, 3) := dk_184 0 48 (dk_at dksX3_chamber_1 2 rfl rfl)
theorem dX3_chamber_29 : decode cX3_chamber 29 = .ok (.ifCond .eq 12, 3) := dk_153 0 12 (dk_at dksX3_chamber_1 5 rfl rfl)
theorem dX3_chamber_32 : decode cX3_chamber 32 = .ok (.aload_n 0, 1) := dk_42 (dk_at dksX3_chamber_1 8 rfl rfl)
theorem dX3_chamber_33 : decode cX3_chamber 33 = .ok (.iload_n 1, 1) := dk_27 (dk_at dksX3_chamber_1 9 rfl rfl)
theorem dX3_chamber_34 : decode cX3_chamber 34 = .ok (.iload_n 2, 1) := dk_28 (dk_at dksX3_chamber_1 10 rfl rfl)
theorem dX3_chamber_35 : decode cX3_chamber 35 = .ok (.invokevirtual 210, 3) := dk_182 0 210 (dk_at dksX3_chamber_1 11 rfl rfl)
theorem dX3_chamber_38 : decode cX3_chamber 38 = .ok (.goto 8, 3) := dk_167 0 8 (dk_at dksX3_chamber_1 14 rfl rfl)
theorem dX3_chamber_41 : decode cX3_chamber 41 = .ok (.aload_n 0, 1) := dk_42 (dk_at dksX3_chamber_1 17 rfl rfl)
theorem dX3_chamber_42 : decode cX3_chamber 42 = .ok (.iconst 2, 1) := dk_5 (dk_at dksX3_chamber_1 18 rfl rfl)
theorem dX3_chamber_43 : decode cX3_chamber 43 = .ok (.invokevirtual 63, 3) := dk_182 0 63 (dk_at dksX3_chamber_1 19 rfl rfl)
theorem dX3_chamber_46 : decode cX3_chamber 46 = .ok (.ireturn, 1) := dk_172 (dk_at dksX3_chamber_1 22 rfl rfl)
abbrev cX3_ofRoom : ByteArray := prog_8_method_58_code
def yX3_ofRoom : MethodName := ⟨RX3, "ofRoom", "(II)I"⟩
def dkwX3_ofRoom_2 : List UInt8 := [16, 7, 160, 0, 7, 4, 167, 0, 4, 3, 182, 0, 206, 172]
abbrev dktX3_ofRoom_2 : List UInt8 := dkwX3_ofRoom_2 ++ []
def dkwX3_ofRoom_1 : List UInt8 := [42, 180, 0, 7, 27, 28, 8, 160, 0, 7, 4, 167, 0, 4, 3, 182, 0, 130, 167, 0, 19, 42, 27, 28]
abbrev dktX3_ofRoom_1 : List UInt8 := dkwX3_ofRoom_1 ++ dktX3_ofRoom_2
def dkwX3_ofRoom_0 : List UInt8 := [28, 7, 162, 0, 15, 42, 180, 0, 7, 27, 28, 184, 0, 52, 167, 0, 47, 28, 16, 6, 162, 0, 25, 42]
abbrev dktX3_ofRoom_0 : List UInt8 := dkwX3_ofRoom_0 ++ dktX3_ofRoom_1
theorem dksX3_ofRoom_0 : cX3_ofRoom.data.toList.drop 0 = dktX3_ofRoom_0 := by decide +kernel
theorem dksX3_ofRoom_1 : cX3_ofRoom.data.toList.drop 24 = dktX3_ofRoom_1 := dk_seg dksX3_ofRoom_0 24 rfl rfl
theorem dksX3_ofRoom_2 : cX3_ofRoom.data.toList.drop 48 = dktX3_ofRoom_2 := dk_seg dksX3_ofRoom_1 24 rfl rfl
theorem dX3_ofRoom_0 : decode cX3_ofRoom 0 = .ok (.iload_n 2, 1) := dk_28 (dk_at dksX3_ofRoom_0 0 rfl rfl)
theorem dX3_ofRoom_1 : decode cX3_ofRoom 1 = .ok (.iconst 4, 1) := dk_7 (dk_at dksX3_ofRoom_0 1 rfl rfl)
theorem dX3_ofRoom_2 : decode cX3_ofRoom 2 = .ok (.if_icmp .ge 15, 3) := dk_162 0 15 (dk_at dksX3_ofRoom_0 2 rfl rfl)
theorem dX3_ofRoom_5 : decode cX3_ofRoom 5 = .ok (.aload_n 0, 1) := dk_42 (dk_at dksX3_ofRoom_0 5 rfl rfl)
theorem dX3_ofRoom_6 : decode cX3_ofRoom 6 = .ok (.getfield 7, 3) := dk_180 0 7 (dk_at dksX3_ofRoom_0 6 rfl rfl)
theorem dX3_ofRoom_9 : decode cX3_ofRoom 9 = .ok (.iload_n 1, 1) := dk_27 (dk_at dksX3_ofRoom_0 9 rfl rfl)
theorem dX3_ofRoom_10 : decode cX3_ofRoom 10 = .ok (.iload_n 2, 1) := dk_28 (dk_at dksX3_ofRoom_0 10 rfl rfl)
theorem dX3_ofRoom_11 : decode cX3_ofRoom 11 = .ok (.invokestatic 52, 3) := dk_184 0 52 (dk_at dksX3_ofRoom_0 11 rfl rfl)
theorem dX3_ofRoom_14 : decode cX3_ofRoom 14 = .ok (.goto 47, 3) := dk_167 0 47 (dk_at dksX3_ofRoom_0 14 rfl rfl)
theorem dX3_ofRoom_17 : decode cX3_ofRoom 17 = .ok (.iload_n 2, 1) := dk_28 (dk_at dksX3_ofRoom_0 17 rfl rfl)
theorem dX3_ofRoom_18 : decode cX3_ofRoom 18 = .ok (.bipush 6, 2) := dk_16 6 (dk_at dksX3_ofRoom_0 18 rfl rfl)
theorem dX3_ofRoom_20 : decode cX3_ofRoom 20 = .ok (.if_icmp .ge 25, 3) := dk_162 0 25 (dk_at dksX3_ofRoom_0 20 rfl rfl)
theorem dX3_ofRoom_23 : decode cX3_ofRoom 23 = .ok (.aload_n 0, 1) := dk_42 (dk_at dksX3_ofRoom_0 23 rfl rfl)
theorem dX3_ofRoom_24 : decode cX3_ofRoom 24 = .ok (.aload_n 0, 1) := dk_42 (dk_at dksX3_ofRoom_1 0 rfl rfl)
theorem dX3_ofRoom_25 : decode cX3_ofRoom 25 = .ok (.getfield 7, 3) := dk_180 0 7 (dk_at dksX3_ofRoom_1 1 rfl rfl)
theorem dX3_ofRoom_28 : decode cX3_ofRoom 28 = .ok (.iload_n 1, 1) := dk_27 (dk_at dksX3_ofRoom_1 4 rfl rfl)
theorem dX3_ofRoom_29 : decode cX3_ofRoom 29 = .ok (.iload_n 2, 1) := dk_28 (dk_at dksX3_ofRoom_1 5 rfl rfl)
theorem dX3_ofRoom_30 : decode cX3_ofRoom 30 = .ok (.iconst 5, 1) := dk_8 (dk_at dksX3_ofRoom_1 6 rfl rfl)
theorem dX3_ofRoom_31 : decode cX3_ofRoom 31 = .ok (.if_icmp .ne 7, 3) := dk_160 0 7 (dk_at dksX3_ofRoom_1 7 rfl rfl)
theorem dX3_ofRoom_34 : decode cX3_ofRoom 34 = .ok (.iconst 1, 1) := dk_4 (dk_at dksX3_ofRoom_1 10 rfl rfl)
theorem dX3_ofRoom_35 : decode cX3_ofRoom 35 = .ok (.goto 4, 3) := dk_167 0 4 (dk_at dksX3_ofRoom_1 11 rfl rfl)
theorem dX3_ofRoom_38 : decode cX3_ofRoom 38 = .ok (.iconst 0, 1) := dk_3 (dk_at dksX3_ofRoom_1 14 rfl rfl)
theorem dX3_ofRoom_39 : decode cX3_ofRoom 39 = .ok (.invokevirtual 130, 3) := dk_182 0 130 (dk_at dksX3_ofRoom_1 15 rfl rfl)
theorem dX3_ofRoom_42 : decode cX3_ofRoom 42 = .ok (.goto 19, 3) := dk_167 0 19 (dk_at dksX3_ofRoom_1 18 rfl rfl)
theorem dX3_ofRoom_45 : decode cX3_ofRoom 45 = .ok (.aload_n 0, 1) := dk_42 (dk_at dksX3_ofRoom_1 21 rfl rfl)
theorem dX3_ofRoom_46 : decode cX3_ofRoom 46 = .ok (.iload_n 1, 1) := dk_27 (dk_at dksX3_ofRoom_1 22 rfl rfl)
theorem dX3_ofRoom_47 : decode cX3_ofRoom 47 = .ok (.iload_n 2, 1) := dk_28 (dk_at dksX3_ofRoom_1 23 rfl rfl)
theorem dX3_ofRoom_48 : decode cX3_ofRoom 48 = .ok (.bipush 7, 2) := dk_16 7 (dk_at dksX3_ofRoom_2 0 rfl rfl)
theorem dX3_ofRoom_50 : decode cX3_ofRoom 50 = .ok (.if_icmp .ne 7, 3) := dk_160 0 7 (dk_at dksX3_ofRoom_2 2 rfl rfl)
theorem dX3_ofRoom_53 : decode cX3_ofRoom 53 = .ok (.iconst 1, 1) := dk_4 (dk_at dksX3_ofRoom_2 5 rfl rfl)
theorem dX3_ofRoom_54 : decode cX3_ofRoom 54 = .ok (.goto 4, 3) := dk_167 0 4 (dk_at dksX3_ofRoom_2 6 rfl rfl)
theorem dX3_ofRoom_57 : decode cX3_ofRoom 57 = .ok (.iconst 0, 1) := dk_3 (dk_at dksX3_ofRoom_2 9 rfl rfl)
theorem dX3_ofRoom_58 : decode cX3_ofRoom 58 = .ok (.invokevirtual 206, 3) := dk_182 0 206 (dk_at dksX3_ofRoom_2 10 rfl rfl)
theorem dX3_ofRoom_61 : decode cX3_ofRoom 61 = .ok (.ireturn, 1) := dk_172 (dk_at dksX3_ofRoom_2 13 rfl rfl)
abbrev cX3_doors : ByteArray := prog_8_method_28_code
def yX3_doors : MethodName := ⟨RX3, "doors", "([IIZ)I"⟩
def dkwX3_doors_5 : List UInt8 := [167, 255, 157, 132, 5, 1, 167, 255, 140, 21, 4, 172]
abbrev dktX3_doors_5 : List UInt8 := dkwX3_doors_5 ++ []
def dkwX3_doors_4 : List UInt8 := [21, 7, 21, 8, 21, 6, 182, 0, 123, 153, 0, 7, 4, 167, 0, 4, 3, 96, 54, 4, 132, 6, 1]
abbrev dktX3_doors_4 : List UInt8 := dkwX3_doors_4 ++ dktX3_doors_5
def dkwX3_doors_3 : List UInt8 := [160, 0, 7, 4, 167, 0, 4, 3, 54, 9, 21, 4, 21, 9, 153, 0, 25, 29, 153, 0, 17, 42, 43]
abbrev dktX3_doors_3 : List UInt8 := dkwX3_doors_3 ++ dktX3_doors_4
def dkwX3_doors_2 : List UInt8 := [21, 7, 42, 180, 0, 25, 21, 6, 46, 100, 21, 8, 42, 180, 0, 28, 21, 6, 46, 100, 184, 0, 74, 28]
abbrev dktX3_doors_2 : List UInt8 := dkwX3_doors_2 ++ dktX3_doors_3
def dkwX3_doors_1 : List UInt8 := [21, 5, 16, 16, 112, 54, 7, 21, 5, 16, 16, 108, 54, 8, 43, 21, 5, 46, 2, 160, 0, 35, 43]
abbrev dktX3_doors_1 : List UInt8 := dkwX3_doors_1 ++ dktX3_doors_2
def dkwX3_doors_0 : List UInt8 := [3, 54, 4, 3, 54, 5, 21, 5, 17, 0, 192, 162, 0, 114, 3, 54, 6, 21, 6, 7, 162, 0, 99]
abbrev dktX3_doors_0 : List UInt8 := dkwX3_doors_0 ++ dktX3_doors_1
theorem dksX3_doors_0 : cX3_doors.data.toList.drop 0 = dktX3_doors_0 := by decide +kernel
theorem dksX3_doors_1 : cX3_doors.data.toList.drop 23 = dktX3_doors_1 := dk_seg dksX3_doors_0 23 rfl rfl
theorem dksX3_doors_2 : cX3_doors.data.toList.drop 46 = dktX3_doors_2 := dk_seg dksX3_doors_1 23 rfl rfl
theorem dksX3_doors_3 : cX3_doors.data.toList.drop 70 = dktX3_doors_3 := dk_seg dksX3_doors_2 24 rfl rfl
theorem dksX3_doors_4 : cX3_doors.data.toList.drop 93 = dktX3_doors_4 := dk_seg dksX3_doors_3 23 rfl rfl
theorem dksX3_doors_5 : cX3_doors.data.toList.drop 116 = dktX3_doors_5 := dk_seg dksX3_doors_4 23 rfl rfl
theorem dX3_doors_0 : decode cX3_doors 0 = .ok (.iconst 0, 1) := dk_3 (dk_at dksX3_doors_0 0 rfl rfl)
theorem dX3_doors_1 : decode cX3_doors 1 = .ok (.istore 4, 2) := dk_54 4 (dk_at dksX3_doors_0 1 rfl rfl)
theorem dX3_doors_3 : decode cX3_doors 3 = .ok (.iconst 0, 1) := dk_3 (dk_at dksX3_doors_0 3 rfl rfl)
theorem dX3_doors_4 : decode cX3_doors 4 = .ok (.istore 5, 2) := dk_54 5 (dk_at dksX3_doors_0 4 rfl rfl)
theorem dX3_doors_6 : decode cX3_doors 6 = .ok (.iload 5, 2) := dk_21 5 (dk_at dksX3_doors_0 6 rfl rfl)
theorem dX3_doors_8 : decode cX3_doors 8 = .ok (.sipush 192, 3) := dk_17 0 192 (dk_at dksX3_doors_0 8 rfl rfl)
theorem dX3_doors_11 : decode cX3_doors 11 = .ok (.if_icmp .ge 114, 3) := dk_162 0 114 (dk_at dksX3_doors_0 11 rfl rfl)
theorem dX3_doors_14 : decode cX3_doors 14 = .ok (.iconst 0, 1) := dk_3 (dk_at dksX3_doors_0 14 rfl rfl)
theorem dX3_doors_15 : decode cX3_doors 15 = .ok (.istore 6, 2) := dk_54 6 (dk_at dksX3_doors_0 15 rfl rfl)
theorem dX3_doors_17 : decode cX3_doors 17 = .ok (.iload 6, 2) := dk_21 6 (dk_at dksX3_doors_0 17 rfl rfl)
theorem dX3_doors_19 : decode cX3_doors 19 = .ok (.iconst 4, 1) := dk_7 (dk_at dksX3_doors_0 19 rfl rfl)
theorem dX3_doors_20 : decode cX3_doors 20 = .ok (.if_icmp .ge 99, 3) := dk_162 0 99 (dk_at dksX3_doors_0 20 rfl rfl)
theorem dX3_doors_23 : decode cX3_doors 23 = .ok (.iload 5, 2) := dk_21 5 (dk_at dksX3_doors_1 0 rfl rfl)
theorem dX3_doors_25 : decode cX3_doors 25 = .ok (.bipush 16, 2) := dk_16 16 (dk_at dksX3_doors_1 2 rfl rfl)
theorem dX3_doors_27 : decode cX3_doors 27 = .ok (.irem, 1) := dk_112 (dk_at dksX3_doors_1 4 rfl rfl)
theorem dX3_doors_28 : decode cX3_doors 28 = .ok (.istore 7, 2) := dk_54 7 (dk_at dksX3_doors_1 5 rfl rfl)
theorem dX3_doors_30 : decode cX3_doors 30 = .ok (.iload 5, 2) := dk_21 5 (dk_at dksX3_doors_1 7 rfl rfl)
theorem dX3_doors_32 : decode cX3_doors 32 = .ok (.bipush 16, 2) := dk_16 16 (dk_at dksX3_doors_1 9 rfl rfl)
theorem dX3_doors_34 : decode cX3_doors 34 = .ok (.idiv, 1) := dk_108 (dk_at dksX3_doors_1 11 rfl rfl)
theorem dX3_doors_35 : decode cX3_doors 35 = .ok (.istore 8, 2) := dk_54 8 (dk_at dksX3_doors_1 12 rfl rfl)
theorem dX3_doors_37 : decode cX3_doors 37 = .ok (.aload_n 1, 1) := dk_43 (dk_at dksX3_doors_1 14 rfl rfl)
theorem dX3_doors_38 : decode cX3_doors 38 = .ok (.iload 5, 2) := dk_21 5 (dk_at dksX3_doors_1 15 rfl rfl)
theorem dX3_doors_40 : decode cX3_doors 40 = .ok (.iaload, 1) := dk_46 (dk_at dksX3_doors_1 17 rfl rfl)
theorem dX3_doors_41 : decode cX3_doors 41 = .ok (.iconst (-1), 1) := dk_2 (dk_at dksX3_doors_1 18 rfl rfl)
theorem dX3_doors_42 : decode cX3_doors 42 = .ok (.if_icmp .ne 35, 3) := dk_160 0 35 (dk_at dksX3_doors_1 19 rfl rfl)
theorem dX3_doors_45 : decode cX3_doors 45 = .ok (.aload_n 1, 1) := dk_43 (dk_at dksX3_doors_1 22 rfl rfl)
theorem dX3_doors_46 : decode cX3_doors 46 = .ok (.iload 7, 2) := dk_21 7 (dk_at dksX3_doors_2 0 rfl rfl)
theorem dX3_doors_48 : decode cX3_doors 48 = .ok (.aload_n 0, 1) := dk_42 (dk_at dksX3_doors_2 2 rfl rfl)
theorem dX3_doors_49 : decode cX3_doors 49 = .ok (.getfield 25, 3) := dk_180 0 25 (dk_at dksX3_doors_2 3 rfl rfl)
theorem dX3_doors_52 : decode cX3_doors 52 = .ok (.iload 6, 2) := dk_21 6 (dk_at dksX3_doors_2 6 rfl rfl)
theorem dX3_doors_54 : decode cX3_doors 54 = .ok (.iaload, 1) := dk_46 (dk_at dksX3_doors_2 8 rfl rfl)
theorem dX3_doors_55 : decode cX3_doors 55 = .ok (.isub, 1) := dk_100 (dk_at dksX3_doors_2 9 rfl rfl)
theorem dX3_doors_56 : decode cX3_doors 56 = .ok (.iload 8, 2) := dk_21 8 (dk_at dksX3_doors_2 10 rfl rfl)
theorem dX3_doors_58 : decode cX3_doors 58 = .ok (.aload_n 0, 1) := dk_42 (dk_at dksX3_doors_2 12 rfl rfl)
theorem dX3_doors_59 : decode cX3_doors 59 = .ok (.getfield 28, 3) := dk_180 0 28 (dk_at dksX3_doors_2 13 rfl rfl)
theorem dX3_doors_62 : decode cX3_doors 62 = .ok (.iload 6, 2) := dk_21 6 (dk_at dksX3_doors_2 16 rfl rfl)
theorem dX3_doors_64 : decode cX3_doors 64 = .ok (.iaload, 1) := dk_46 (dk_at dksX3_doors_2 18 rfl rfl)
theorem dX3_doors_65 : decode cX3_doors 65 = .ok (.isub, 1) := dk_100 (dk_at dksX3_doors_2 19 rfl rfl)
theorem dX3_doors_66 : decode cX3_doors 66 = .ok (.invokestatic 74, 3) := dk_184 0 74 (dk_at dksX3_doors_2 20 rfl rfl)
theorem dX3_doors_69 : decode cX3_doors 69 = .ok (.iload_n 2, 1) := dk_28 (dk_at dksX3_doors_2 23 rfl rfl)
theorem dX3_doors_70 : decode cX3_doors 70 = .ok (.if_icmp .ne 7, 3) := dk_160 0 7 (dk_at dksX3_doors_3 0 rfl rfl)
theorem dX3_doors_73 : decode cX3_doors 73 = .ok (.iconst 1, 1) := dk_4 (dk_at dksX3_doors_3 3 rfl rfl)
theorem dX3_doors_74 : decode cX3_doors 74 = .ok (.goto 4, 3) := dk_167 0 4 (dk_at dksX3_doors_3 4 rfl rfl)
theorem dX3_doors_77 : decode cX3_doors 77 = .ok (.iconst 0, 1) := dk_3 (dk_at dksX3_doors_3 7 rfl rfl)
theorem dX3_doors_78 : decode cX3_doors 78 = .ok (.istore 9, 2) := dk_54 9 (dk_at dksX3_doors_3 8 rfl rfl)
theorem dX3_doors_80 : decode cX3_doors 80 = .ok (.iload 4, 2) := dk_21 4 (dk_at dksX3_doors_3 10 rfl rfl)
theorem dX3_doors_82 : decode cX3_doors 82 = .ok (.iload 9, 2) := dk_21 9 (dk_at dksX3_doors_3 12 rfl rfl)
theorem dX3_doors_84 : decode cX3_doors 84 = .ok (.ifCond .eq 25, 3) := dk_153 0 25 (dk_at dksX3_doors_3 14 rfl rfl)
theorem dX3_doors_87 : decode cX3_doors 87 = .ok (.iload_n 3, 1) := dk_29 (dk_at dksX3_doors_3 17 rfl rfl)
theorem dX3_doors_88 : decode cX3_doors 88 = .ok (.ifCond .eq 17, 3) := dk_153 0 17 (dk_at dksX3_doors_3 18 rfl rfl)
theorem dX3_doors_91 : decode cX3_doors 91 = .ok (.aload_n 0, 1) := dk_42 (dk_at dksX3_doors_3 21 rfl rfl)
theorem dX3_doors_92 : decode cX3_doors 92 = .ok (.aload_n 1, 1) := dk_43 (dk_at dksX3_doors_3 22 rfl rfl)
theorem dX3_doors_93 : decode cX3_doors 93 = .ok (.iload 7, 2) := dk_21 7 (dk_at dksX3_doors_4 0 rfl rfl)
theorem dX3_doors_95 : decode cX3_doors 95 = .ok (.iload 8, 2) := dk_21 8 (dk_at dksX3_doors_4 2 rfl rfl)
theorem dX3_doors_97 : decode cX3_doors 97 = .ok (.iload 6, 2) := dk_21 6 (dk_at dksX3_doors_4 4 rfl rfl)
theorem dX3_doors_99 : decode cX3_doors 99 = .ok (.invokevirtual 123, 3) := dk_182 0 123 (dk_at dksX3_doors_4 6 rfl rfl)
theorem dX3_doors_102 : decode cX3_doors 102 = .ok (.ifCond .eq 7, 3) := dk_153 0 7 (dk_at dksX3_doors_4 9 rfl rfl)
theorem dX3_doors_105 : decode cX3_doors 105 = .ok (.iconst 1, 1) := dk_4 (dk_at dksX3_doors_4 12 rfl rfl)
theorem dX3_doors_106 : decode cX3_doors 106 = .ok (.goto 4, 3) := dk_167 0 4 (dk_at dksX3_doors_4 13 rfl rfl)
theorem dX3_doors_109 : decode cX3_doors 109 = .ok (.iconst 0, 1) := dk_3 (dk_at dksX3_doors_4 16 rfl rfl)
theorem dX3_doors_110 : decode cX3_doors 110 = .ok (.iadd, 1) := dk_96 (dk_at dksX3_doors_4 17 rfl rfl)
theorem dX3_doors_111 : decode cX3_doors 111 = .ok (.istore 4, 2) := dk_54 4 (dk_at dksX3_doors_4 18 rfl rfl)
theorem dX3_doors_113 : decode cX3_doors 113 = .ok (.iinc 6 1, 3) := dk_132 6 1 (dk_at dksX3_doors_4 20 rfl rfl)
theorem dX3_doors_116 : decode cX3_doors 116 = .ok (.goto (-99), 3) := dk_167 255 157 (dk_at dksX3_doors_5 0 rfl rfl)
theorem dX3_doors_119 : decode cX3_doors 119 = .ok (.iinc 5 1, 3) := dk_132 5 1 (dk_at dksX3_doors_5 3 rfl rfl)
theorem dX3_doors_122 : decode cX3_doors 122 = .ok (.goto (-116), 3) := dk_167 255 140 (dk_at dksX3_doors_5 6 rfl rfl)
theorem dX3_doors_125 : decode cX3_doors 125 = .ok (.iload 4, 2) := dk_21 4 (dk_at dksX3_doors_5 9 rfl rfl)
theorem dX3_doors_127 : decode cX3_doors 127 = .ok (.ireturn, 1) := dk_172 (dk_at dksX3_doors_5 11 rfl rfl)
abbrev cX3_faces : ByteArray := prog_8_method_27_code
def yX3_faces : MethodName := ⟨RX3, "faces", "([IIII)Z"⟩
def dkwX3_faces_3 : List UInt8 := [29, 21, 5, 4, 96, 42, 180, 0, 28, 21, 4, 46, 104, 96, 184, 0, 74, 3, 8, 184, 0, 48, 172]
abbrev dktX3_faces_3 : List UInt8 := dkwX3_faces_3 ++ []
def dkwX3_faces_2 : List UInt8 := [160, 0, 9, 132, 5, 1, 167, 255, 207, 43, 28, 21, 5, 4, 96, 42, 180, 0, 25, 21, 4, 46, 104, 96]
abbrev dktX3_faces_2 : List UInt8 := dkwX3_faces_2 ++ dktX3_faces_3
def dkwX3_faces_1 : List UInt8 := [21, 4, 46, 104, 96, 29, 21, 5, 4, 96, 42, 180, 0, 28, 21, 4, 46, 104, 96, 184, 0, 74, 2]
abbrev dktX3_faces_1 : List UInt8 := dkwX3_faces_1 ++ dktX3_faces_2
def dkwX3_faces_0 : List UInt8 := [3, 54, 5, 21, 5, 43, 17, 0, 252, 46, 162, 0, 45, 43, 28, 21, 5, 4, 96, 42, 180, 0, 25]
abbrev dktX3_faces_0 : List UInt8 := dkwX3_faces_0 ++ dktX3_faces_1
theorem dksX3_faces_0 : cX3_faces.data.toList.drop 0 = dktX3_faces_0 := by decide +kernel
theorem dksX3_faces_1 : cX3_faces.data.toList.drop 23 = dktX3_faces_1 := dk_seg dksX3_faces_0 23 rfl rfl
theorem dksX3_faces_2 : cX3_faces.data.toList.drop 46 = dktX3_faces_2 := dk_seg dksX3_faces_1 23 rfl rfl
theorem dksX3_faces_3 : cX3_faces.data.toList.drop 70 = dktX3_faces_3 := dk_seg dksX3_faces_2 24 rfl rfl
theorem dX3_faces_0 : decode cX3_faces 0 = .ok (.iconst 0, 1) := dk_3 (dk_at dksX3_faces_0 0 rfl rfl)
theorem dX3_faces_1 : decode cX3_faces 1 = .ok (.istore 5, 2) := dk_54 5 (dk_at dksX3_faces_0 1 rfl rfl)
theorem dX3_faces_3 : decode cX3_faces 3 = .ok (.iload 5, 2) := dk_21 5 (dk_at dksX3_faces_0 3 rfl rfl)
theorem dX3_faces_5 : decode cX3_faces 5 = .ok (.aload_n 1, 1) := dk_43 (dk_at dksX3_faces_0 5 rfl rfl)
theorem dX3_faces_6 : decode cX3_faces 6 = .ok (.sipush 252, 3) := dk_17 0 252 (dk_at dksX3_faces_0 6 rfl rfl)
theorem dX3_faces_9 : decode cX3_faces 9 = .ok (.iaload, 1) := dk_46 (dk_at dksX3_faces_0 9 rfl rfl)
theorem dX3_faces_10 : decode cX3_faces 10 = .ok (.if_icmp .ge 45, 3) := dk_162 0 45 (dk_at dksX3_faces_0 10 rfl rfl)
theorem dX3_faces_13 : decode cX3_faces 13 = .ok (.aload_n 1, 1) := dk_43 (dk_at dksX3_faces_0 13 rfl rfl)
theorem dX3_faces_14 : decode cX3_faces 14 = .ok (.iload_n 2, 1) := dk_28 (dk_at dksX3_faces_0 14 rfl rfl)
theorem dX3_faces_15 : decode cX3_faces 15 = .ok (.iload 5, 2) := dk_21 5 (dk_at dksX3_faces_0 15 rfl rfl)
theorem dX3_faces_17 : decode cX3_faces 17 = .ok (.iconst 1, 1) := dk_4 (dk_at dksX3_faces_0 17 rfl rfl)
theorem dX3_faces_18 : decode cX3_faces 18 = .ok (.iadd, 1) := dk_96 (dk_at dksX3_faces_0 18 rfl rfl)
theorem dX3_faces_19 : decode cX3_faces 19 = .ok (.aload_n 0, 1) := dk_42 (dk_at dksX3_faces_0 19 rfl rfl)
theorem dX3_faces_20 : decode cX3_faces 20 = .ok (.getfield 25, 3) := dk_180 0 25 (dk_at dksX3_faces_0 20 rfl rfl)
theorem dX3_faces_23 : decode cX3_faces 23 = .ok (.iload 4, 2) := dk_21 4 (dk_at dksX3_faces_1 0 rfl rfl)
theorem dX3_faces_25 : decode cX3_faces 25 = .ok (.iaload, 1) := dk_46 (dk_at dksX3_faces_1 2 rfl rfl)
theorem dX3_faces_26 : decode cX3_faces 26 = .ok (.imul, 1) := dk_104 (dk_at dksX3_faces_1 3 rfl rfl)
theorem dX3_faces_27 : decode cX3_faces 27 = .ok (.iadd, 1) := dk_96 (dk_at dksX3_faces_1 4 rfl rfl)
theorem dX3_faces_28 : decode cX3_faces 28 = .ok (.iload_n 3, 1) := dk_29 (dk_at dksX3_faces_1 5 rfl rfl)
theorem dX3_faces_29 : decode cX3_faces 29 = .ok (.iload 5, 2) := dk_21 5 (dk_at dksX3_faces_1 6 rfl rfl)
theorem dX3_faces_31 : decode cX3_faces 31 = .ok (.iconst 1, 1) := dk_4 (dk_at dksX3_faces_1 8 rfl rfl)
theorem dX3_faces_32 : decode cX3_faces 32 = .ok (.iadd, 1) := dk_96 (dk_at dksX3_faces_1 9 rfl rfl)
theorem dX3_faces_33 : decode cX3_faces 33 = .ok (.aload_n 0, 1) := dk_42 (dk_at dksX3_faces_1 10 rfl rfl)
theorem dX3_faces_34 : decode cX3_faces 34 = .ok (.getfield 28, 3) := dk_180 0 28 (dk_at dksX3_faces_1 11 rfl rfl)
theorem dX3_faces_37 : decode cX3_faces 37 = .ok (.iload 4, 2) := dk_21 4 (dk_at dksX3_faces_1 14 rfl rfl)
theorem dX3_faces_39 : decode cX3_faces 39 = .ok (.iaload, 1) := dk_46 (dk_at dksX3_faces_1 16 rfl rfl)
theorem dX3_faces_40 : decode cX3_faces 40 = .ok (.imul, 1) := dk_104 (dk_at dksX3_faces_1 17 rfl rfl)
theorem dX3_faces_41 : decode cX3_faces 41 = .ok (.iadd, 1) := dk_96 (dk_at dksX3_faces_1 18 rfl rfl)
theorem dX3_faces_42 : decode cX3_faces 42 = .ok (.invokestatic 74, 3) := dk_184 0 74 (dk_at dksX3_faces_1 19 rfl rfl)
theorem dX3_faces_45 : decode cX3_faces 45 = .ok (.iconst (-1), 1) := dk_2 (dk_at dksX3_faces_1 22 rfl rfl)
theorem dX3_faces_46 : decode cX3_faces 46 = .ok (.if_icmp .ne 9, 3) := dk_160 0 9 (dk_at dksX3_faces_2 0 rfl rfl)
theorem dX3_faces_49 : decode cX3_faces 49 = .ok (.iinc 5 1, 3) := dk_132 5 1 (dk_at dksX3_faces_2 3 rfl rfl)
theorem dX3_faces_52 : decode cX3_faces 52 = .ok (.goto (-49), 3) := dk_167 255 207 (dk_at dksX3_faces_2 6 rfl rfl)
theorem dX3_faces_55 : decode cX3_faces 55 = .ok (.aload_n 1, 1) := dk_43 (dk_at dksX3_faces_2 9 rfl rfl)
theorem dX3_faces_56 : decode cX3_faces 56 = .ok (.iload_n 2, 1) := dk_28 (dk_at dksX3_faces_2 10 rfl rfl)
theorem dX3_faces_57 : decode cX3_faces 57 = .ok (.iload 5, 2) := dk_21 5 (dk_at dksX3_faces_2 11 rfl rfl)
theorem dX3_faces_59 : decode cX3_faces 59 = .ok (.iconst 1, 1) := dk_4 (dk_at dksX3_faces_2 13 rfl rfl)
theorem dX3_faces_60 : decode cX3_faces 60 = .ok (.iadd, 1) := dk_96 (dk_at dksX3_faces_2 14 rfl rfl)
theorem dX3_faces_61 : decode cX3_faces 61 = .ok (.aload_n 0, 1) := dk_42 (dk_at dksX3_faces_2 15 rfl rfl)
theorem dX3_faces_62 : decode cX3_faces 62 = .ok (.getfield 25, 3) := dk_180 0 25 (dk_at dksX3_faces_2 16 rfl rfl)
theorem dX3_faces_65 : decode cX3_faces 65 = .ok (.iload 4, 2) := dk_21 4 (dk_at dksX3_faces_2 19 rfl rfl)
theorem dX3_faces_67 : decode cX3_faces 67 = .ok (.iaload, 1) := dk_46 (dk_at dksX3_faces_2 21 rfl rfl)
theorem dX3_faces_68 : decode cX3_faces 68 = .ok (.imul, 1) := dk_104 (dk_at dksX3_faces_2 22 rfl rfl)
theorem dX3_faces_69 : decode cX3_faces 69 = .ok (.iadd, 1) := dk_96 (dk_at dksX3_faces_2 23 rfl rfl)
theorem dX3_faces_70 : decode cX3_faces 70 = .ok (.iload_n 3, 1) := dk_29 (dk_at dksX3_faces_3 0 rfl rfl)
theorem dX3_faces_71 : decode cX3_faces 71 = .ok (.iload 5, 2) := dk_21 5 (dk_at dksX3_faces_3 1 rfl rfl)
theorem dX3_faces_73 : decode cX3_faces 73 = .ok (.iconst 1, 1) := dk_4 (dk_at dksX3_faces_3 3 rfl rfl)
theorem dX3_faces_74 : decode cX3_faces 74 = .ok (.iadd, 1) := dk_96 (dk_at dksX3_faces_3 4 rfl rfl)
theorem dX3_faces_75 : decode cX3_faces 75 = .ok (.aload_n 0, 1) := dk_42 (dk_at dksX3_faces_3 5 rfl rfl)
theorem dX3_faces_76 : decode cX3_faces 76 = .ok (.getfield 28, 3) := dk_180 0 28 (dk_at dksX3_faces_3 6 rfl rfl)
theorem dX3_faces_79 : decode cX3_faces 79 = .ok (.iload 4, 2) := dk_21 4 (dk_at dksX3_faces_3 9 rfl rfl)
theorem dX3_faces_81 : decode cX3_faces 81 = .ok (.iaload, 1) := dk_46 (dk_at dksX3_faces_3 11 rfl rfl)
theorem dX3_faces_82 : decode cX3_faces 82 = .ok (.imul, 1) := dk_104 (dk_at dksX3_faces_3 12 rfl rfl)
theorem dX3_faces_83 : decode cX3_faces 83 = .ok (.iadd, 1) := dk_96 (dk_at dksX3_faces_3 13 rfl rfl)
theorem dX3_faces_84 : decode cX3_faces 84 = .ok (.invokestatic 74, 3) := dk_184 0 74 (dk_at dksX3_faces_3 14 rfl rfl)
theorem dX3_faces_87 : decode cX3_faces 87 = .ok (.iconst 0, 1) := dk_3 (dk_at dksX3_faces_3 17 rfl rfl)
theorem dX3_faces_88 : decode cX3_faces 88 = .ok (.iconst 5, 1) := dk_8 (dk_at dksX3_faces_3 18 rfl rfl)
theorem dX3_faces_89 : decode cX3_faces 89 = .ok (.invokestatic 48, 3) := dk_184 0 48 (dk_at dksX3_faces_3 19 rfl rfl)
theorem dX3_faces_92 : decode cX3_faces 92 = .ok (.ireturn, 1) := dk_172 (dk_at dksX3_faces_3 22 rfl rfl)
abbrev cX3_walked : ByteArray := prog_8_method_57_code
def yX3_walked : MethodName := ⟨RX3, "walked", "(IZ)I"⟩
def dkwX3_walked_2 : List UInt8 := [154, 0, 7, 4, 167, 0, 4, 3, 96, 62, 132, 4, 1, 167, 255, 201, 29, 172]
abbrev dktX3_walked_2 : List UInt8 := dkwX3_walked_2 ++ []
def dkwX3_walked_1 : List UInt8 := [21, 4, 184, 0, 99, 158, 0, 25, 28, 153, 0, 17, 42, 42, 180, 0, 7, 27, 21, 4, 182, 0, 161]
abbrev dktX3_walked_1 : List UInt8 := dkwX3_walked_1 ++ dktX3_walked_2
def dkwX3_walked_0 : List UInt8 := [3, 62, 3, 54, 4, 21, 4, 16, 6, 162, 0, 54, 29, 21, 4, 27, 159, 0, 38, 42, 180, 0, 7, 27]
abbrev dktX3_walked_0 : List UInt8 := dkwX3_walked_0 ++ dktX3_walked_1
theorem dksX3_walked_0 : cX3_walked.data.toList.drop 0 = dktX3_walked_0 := by decide +kernel
theorem dksX3_walked_1 : cX3_walked.data.toList.drop 24 = dktX3_walked_1 := dk_seg dksX3_walked_0 24 rfl rfl
theorem dksX3_walked_2 : cX3_walked.data.toList.drop 47 = dktX3_walked_2 := dk_seg dksX3_walked_1 23 rfl rfl
theorem dX3_walked_0 : decode cX3_walked 0 = .ok (.iconst 0, 1) := dk_3 (dk_at dksX3_walked_0 0 rfl rfl)
theorem dX3_walked_1 : decode cX3_walked 1 = .ok (.istore_n 3, 1) := dk_62 (dk_at dksX3_walked_0 1 rfl rfl)
theorem dX3_walked_2 : decode cX3_walked 2 = .ok (.iconst 0, 1) := dk_3 (dk_at dksX3_walked_0 2 rfl rfl)
theorem dX3_walked_3 : decode cX3_walked 3 = .ok (.istore 4, 2) := dk_54 4 (dk_at dksX3_walked_0 3 rfl rfl)
theorem dX3_walked_5 : decode cX3_walked 5 = .ok (.iload 4, 2) := dk_21 4 (dk_at dksX3_walked_0 5 rfl rfl)
theorem dX3_walked_7 : decode cX3_walked 7 = .ok (.bipush 6, 2) := dk_16 6 (dk_at dksX3_walked_0 7 rfl rfl)
theorem dX3_walked_9 : decode cX3_walked 9 = .ok (.if_icmp .ge 54, 3) := dk_162 0 54 (dk_at dksX3_walked_0 9 rfl rfl)
theorem dX3_walked_12 : decode cX3_walked 12 = .ok (.iload_n 3, 1) := dk_29 (dk_at dksX3_walked_0 12 rfl rfl)
theorem dX3_walked_13 : decode cX3_walked 13 = .ok (.iload 4, 2) := dk_21 4 (dk_at dksX3_walked_0 13 rfl rfl)
theorem dX3_walked_15 : decode cX3_walked 15 = .ok (.iload_n 1, 1) := dk_27 (dk_at dksX3_walked_0 15 rfl rfl)
theorem dX3_walked_16 : decode cX3_walked 16 = .ok (.if_icmp .eq 38, 3) := dk_159 0 38 (dk_at dksX3_walked_0 16 rfl rfl)
theorem dX3_walked_19 : decode cX3_walked 19 = .ok (.aload_n 0, 1) := dk_42 (dk_at dksX3_walked_0 19 rfl rfl)
theorem dX3_walked_20 : decode cX3_walked 20 = .ok (.getfield 7, 3) := dk_180 0 7 (dk_at dksX3_walked_0 20 rfl rfl)
theorem dX3_walked_23 : decode cX3_walked 23 = .ok (.iload_n 1, 1) := dk_27 (dk_at dksX3_walked_0 23 rfl rfl)
theorem dX3_walked_24 : decode cX3_walked 24 = .ok (.iload 4, 2) := dk_21 4 (dk_at dksX3_walked_1 0 rfl rfl)
theorem dX3_walked_26 : decode cX3_walked 26 = .ok (.invokestatic 99, 3) := dk_184 0 99 (dk_at dksX3_walked_1 2 rfl rfl)
theorem dX3_walked_29 : decode cX3_walked 29 = .ok (.ifCond .le 25, 3) := dk_158 0 25 (dk_at dksX3_walked_1 5 rfl rfl)
theorem dX3_walked_32 : decode cX3_walked 32 = .ok (.iload_n 2, 1) := dk_28 (dk_at dksX3_walked_1 8 rfl rfl)
theorem dX3_walked_33 : decode cX3_walked 33 = .ok (.ifCond .eq 17, 3) := dk_153 0 17 (dk_at dksX3_walked_1 9 rfl rfl)
theorem dX3_walked_36 : decode cX3_walked 36 = .ok (.aload_n 0, 1) := dk_42 (dk_at dksX3_walked_1 12 rfl rfl)
theorem dX3_walked_37 : decode cX3_walked 37 = .ok (.aload_n 0, 1) := dk_42 (dk_at dksX3_walked_1 13 rfl rfl)
theorem dX3_walked_38 : decode cX3_walked 38 = .ok (.getfield 7, 3) := dk_180 0 7 (dk_at dksX3_walked_1 14 rfl rfl)
theorem dX3_walked_41 : decode cX3_walked 41 = .ok (.iload_n 1, 1) := dk_27 (dk_at dksX3_walked_1 17 rfl rfl)
theorem dX3_walked_42 : decode cX3_walked 42 = .ok (.iload 4, 2) := dk_21 4 (dk_at dksX3_walked_1 18 rfl rfl)
theorem dX3_walked_44 : decode cX3_walked 44 = .ok (.invokevirtual 161, 3) := dk_182 0 161 (dk_at dksX3_walked_1 20 rfl rfl)
theorem dX3_walked_47 : decode cX3_walked 47 = .ok (.ifCond .ne 7, 3) := dk_154 0 7 (dk_at dksX3_walked_2 0 rfl rfl)
theorem dX3_walked_50 : decode cX3_walked 50 = .ok (.iconst 1, 1) := dk_4 (dk_at dksX3_walked_2 3 rfl rfl)
theorem dX3_walked_51 : decode cX3_walked 51 = .ok (.goto 4, 3) := dk_167 0 4 (dk_at dksX3_walked_2 4 rfl rfl)
theorem dX3_walked_54 : decode cX3_walked 54 = .ok (.iconst 0, 1) := dk_3 (dk_at dksX3_walked_2 7 rfl rfl)
theorem dX3_walked_55 : decode cX3_walked 55 = .ok (.iadd, 1) := dk_96 (dk_at dksX3_walked_2 8 rfl rfl)
theorem dX3_walked_56 : decode cX3_walked 56 = .ok (.istore_n 3, 1) := dk_62 (dk_at dksX3_walked_2 9 rfl rfl)
theorem dX3_walked_57 : decode cX3_walked 57 = .ok (.iinc 4 1, 3) := dk_132 4 1 (dk_at dksX3_walked_2 10 rfl rfl)
theorem dX3_walked_60 : decode cX3_walked 60 = .ok (.goto (-55), 3) := dk_167 255 201 (dk_at dksX3_walked_2 13 rfl rfl)
theorem dX3_walked_63 : decode cX3_walked 63 = .ok (.iload_n 3, 1) := dk_29 (dk_at dksX3_walked_2 16 rfl rfl)
theorem dX3_walked_64 : decode cX3_walked 64 = .ok (.ireturn, 1) := dk_172 (dk_at dksX3_walked_2 17 rfl rfl)
abbrev cX3_way : ByteArray := prog_8_method_61_code
def yX3_way : MethodName := ⟨RX3, "way", "(III)I"⟩
def dkwX3_way_1 : List UInt8 := [27, 28, 29, 182, 0, 214, 167, 0, 4, 3, 172]
abbrev dktX3_way_1 : List UInt8 := dkwX3_way_1 ++ []
def dkwX3_way_0 : List UInt8 := [42, 42, 27, 28, 29, 3, 7, 184, 0, 48, 182, 0, 147, 181, 0, 44, 42, 180, 0, 44, 154, 0, 13, 42]
abbrev dktX3_way_0 : List UInt8 := dkwX3_way_0 ++ dktX3_way_1
theorem dksX3_way_0 : cX3_way.data.toList.drop 0 = dktX3_way_0 := by decide +kernel
theorem dksX3_way_1 : cX3_way.data.toList.drop 24 = dktX3_way_1 := dk_seg dksX3_way_0 24 rfl rfl
theorem dX3_way_0 : decode cX3_way 0 = .ok (.aload_n 0, 1) := dk_42 (dk_at dksX3_way_0 0 rfl rfl)
theorem dX3_way_1 : decode cX3_way 1 = .ok (.aload_n 0, 1) := dk_42 (dk_at dksX3_way_0 1 rfl rfl)
theorem dX3_way_2 : decode cX3_way 2 = .ok (.iload_n 1, 1) := dk_27 (dk_at dksX3_way_0 2 rfl rfl)
theorem dX3_way_3 : decode cX3_way 3 = .ok (.iload_n 2, 1) := dk_28 (dk_at dksX3_way_0 3 rfl rfl)
theorem dX3_way_4 : decode cX3_way 4 = .ok (.iload_n 3, 1) := dk_29 (dk_at dksX3_way_0 4 rfl rfl)
theorem dX3_way_5 : decode cX3_way 5 = .ok (.iconst 0, 1) := dk_3 (dk_at dksX3_way_0 5 rfl rfl)
theorem dX3_way_6 : decode cX3_way 6 = .ok (.iconst 4, 1) := dk_7 (dk_at dksX3_way_0 6 rfl rfl)
theorem dX3_way_7 : decode cX3_way 7 = .ok (.invokestatic 48, 3) := dk_184 0 48 (dk_at dksX3_way_0 7 rfl rfl)
theorem dX3_way_10 : decode cX3_way 10 = .ok (.invokevirtual 147, 3) := dk_182 0 147 (dk_at dksX3_way_0 10 rfl rfl)
theorem dX3_way_13 : decode cX3_way 13 = .ok (.putfield 44, 3) := dk_181 0 44 (dk_at dksX3_way_0 13 rfl rfl)
theorem dX3_way_16 : decode cX3_way 16 = .ok (.aload_n 0, 1) := dk_42 (dk_at dksX3_way_0 16 rfl rfl)
theorem dX3_way_17 : decode cX3_way 17 = .ok (.getfield 44, 3) := dk_180 0 44 (dk_at dksX3_way_0 17 rfl rfl)
theorem dX3_way_20 : decode cX3_way 20 = .ok (.ifCond .ne 13, 3) := dk_154 0 13 (dk_at dksX3_way_0 20 rfl rfl)
theorem dX3_way_23 : decode cX3_way 23 = .ok (.aload_n 0, 1) := dk_42 (dk_at dksX3_way_0 23 rfl rfl)
theorem dX3_way_24 : decode cX3_way 24 = .ok (.iload_n 1, 1) := dk_27 (dk_at dksX3_way_1 0 rfl rfl)
theorem dX3_way_25 : decode cX3_way 25 = .ok (.iload_n 2, 1) := dk_28 (dk_at dksX3_way_1 1 rfl rfl)
theorem dX3_way_26 : decode cX3_way 26 = .ok (.iload_n 3, 1) := dk_29 (dk_at dksX3_way_1 2 rfl rfl)
theorem dX3_way_27 : decode cX3_way 27 = .ok (.invokevirtual 214, 3) := dk_182 0 214 (dk_at dksX3_way_1 3 rfl rfl)
theorem dX3_way_30 : decode cX3_way 30 = .ok (.goto 4, 3) := dk_167 0 4 (dk_at dksX3_way_1 6 rfl rfl)
theorem dX3_way_33 : decode cX3_way 33 = .ok (.iconst 0, 1) := dk_3 (dk_at dksX3_way_1 9 rfl rfl)
theorem dX3_way_34 : decode cX3_way 34 = .ok (.ireturn, 1) := dk_172 (dk_at dksX3_way_1 10 rfl rfl)
abbrev cX3_ofWay : ByteArray := prog_8_method_60_code
def yX3_ofWay : MethodName := ⟨RX3, "ofWay", "(III)I"⟩
def dkwX3_ofWay_3 : List UInt8 := [4, 100, 46, 172]
abbrev dktX3_ofWay_3 : List UInt8 := dkwX3_ofWay_3 ++ []
def dkwX3_ofWay_2 : List UInt8 := [42, 180, 0, 106, 167, 0, 23, 42, 180, 0, 38, 29, 5, 160, 0, 7, 3, 167, 0, 9, 42, 180, 0, 106]
abbrev dktX3_ofWay_2 : List UInt8 := dkwX3_ofWay_2 ++ dktX3_ofWay_3
def dkwX3_ofWay_1 : List UInt8 := [182, 0, 116, 154, 0, 5, 2, 172, 29, 154, 0, 10, 42, 180, 0, 109, 167, 0, 35, 29, 4, 160, 0, 10]
abbrev dktX3_ofWay_1 : List UInt8 := dkwX3_ofWay_1 ++ dktX3_ofWay_2
def dkwX3_ofWay_0 : List UInt8 := [29, 7, 160, 0, 13, 42, 180, 0, 7, 27, 28, 184, 0, 99, 172, 42, 42, 180, 0, 7, 27, 28]
abbrev dktX3_ofWay_0 : List UInt8 := dkwX3_ofWay_0 ++ dktX3_ofWay_1
theorem dksX3_ofWay_0 : cX3_ofWay.data.toList.drop 0 = dktX3_ofWay_0 := by decide +kernel
theorem dksX3_ofWay_1 : cX3_ofWay.data.toList.drop 22 = dktX3_ofWay_1 := dk_seg dksX3_ofWay_0 22 rfl rfl
theorem dksX3_ofWay_2 : cX3_ofWay.data.toList.drop 46 = dktX3_ofWay_2 := dk_seg dksX3_ofWay_1 24 rfl rfl
theorem dksX3_ofWay_3 : cX3_ofWay.data.toList.drop 70 = dktX3_ofWay_3 := dk_seg dksX3_ofWay_2 24 rfl rfl
theorem dX3_ofWay_0 : decode cX3_ofWay 0 = .ok (.iload_n 3, 1) := dk_29 (dk_at dksX3_ofWay_0 0 rfl rfl)
theorem dX3_ofWay_1 : decode cX3_ofWay 1 = .ok (.iconst 4, 1) := dk_7 (dk_at dksX3_ofWay_0 1 rfl rfl)
theorem dX3_ofWay_2 : decode cX3_ofWay 2 = .ok (.if_icmp .ne 13, 3) := dk_160 0 13 (dk_at dksX3_ofWay_0 2 rfl rfl)
theorem dX3_ofWay_5 : decode cX3_ofWay 5 = .ok (.aload_n 0, 1) := dk_42 (dk_at dksX3_ofWay_0 5 rfl rfl)
theorem dX3_ofWay_6 : decode cX3_ofWay 6 = .ok (.getfield 7, 3) := dk_180 0 7 (dk_at dksX3_ofWay_0 6 rfl rfl)
theorem dX3_ofWay_9 : decode cX3_ofWay 9 = .ok (.iload_n 1, 1) := dk_27 (dk_at dksX3_ofWay_0 9 rfl rfl)
theorem dX3_ofWay_10 : decode cX3_ofWay 10 = .ok (.iload_n 2, 1) := dk_28 (dk_at dksX3_ofWay_0 10 rfl rfl)
theorem dX3_ofWay_11 : decode cX3_ofWay 11 = .ok (.invokestatic 99, 3) := dk_184 0 99 (dk_at dksX3_ofWay_0 11 rfl rfl)
theorem dX3_ofWay_14 : decode cX3_ofWay 14 = .ok (.ireturn, 1) := dk_172 (dk_at dksX3_ofWay_0 14 rfl rfl)
theorem dX3_ofWay_15 : decode cX3_ofWay 15 = .ok (.aload_n 0, 1) := dk_42 (dk_at dksX3_ofWay_0 15 rfl rfl)
theorem dX3_ofWay_16 : decode cX3_ofWay 16 = .ok (.aload_n 0, 1) := dk_42 (dk_at dksX3_ofWay_0 16 rfl rfl)
theorem dX3_ofWay_17 : decode cX3_ofWay 17 = .ok (.getfield 7, 3) := dk_180 0 7 (dk_at dksX3_ofWay_0 17 rfl rfl)
theorem dX3_ofWay_20 : decode cX3_ofWay 20 = .ok (.iload_n 1, 1) := dk_27 (dk_at dksX3_ofWay_0 20 rfl rfl)
theorem dX3_ofWay_21 : decode cX3_ofWay 21 = .ok (.iload_n 2, 1) := dk_28 (dk_at dksX3_ofWay_0 21 rfl rfl)
theorem dX3_ofWay_22 : decode cX3_ofWay 22 = .ok (.invokevirtual 116, 3) := dk_182 0 116 (dk_at dksX3_ofWay_1 0 rfl rfl)
theorem dX3_ofWay_25 : decode cX3_ofWay 25 = .ok (.ifCond .ne 5, 3) := dk_154 0 5 (dk_at dksX3_ofWay_1 3 rfl rfl)
theorem dX3_ofWay_28 : decode cX3_ofWay 28 = .ok (.iconst (-1), 1) := dk_2 (dk_at dksX3_ofWay_1 6 rfl rfl)
theorem dX3_ofWay_29 : decode cX3_ofWay 29 = .ok (.ireturn, 1) := dk_172 (dk_at dksX3_ofWay_1 7 rfl rfl)
theorem dX3_ofWay_30 : decode cX3_ofWay 30 = .ok (.iload_n 3, 1) := dk_29 (dk_at dksX3_ofWay_1 8 rfl rfl)
theorem dX3_ofWay_31 : decode cX3_ofWay 31 = .ok (.ifCond .ne 10, 3) := dk_154 0 10 (dk_at dksX3_ofWay_1 9 rfl rfl)
theorem dX3_ofWay_34 : decode cX3_ofWay 34 = .ok (.aload_n 0, 1) := dk_42 (dk_at dksX3_ofWay_1 12 rfl rfl)
theorem dX3_ofWay_35 : decode cX3_ofWay 35 = .ok (.getfield 109, 3) := dk_180 0 109 (dk_at dksX3_ofWay_1 13 rfl rfl)
theorem dX3_ofWay_38 : decode cX3_ofWay 38 = .ok (.goto 35, 3) := dk_167 0 35 (dk_at dksX3_ofWay_1 16 rfl rfl)
theorem dX3_ofWay_41 : decode cX3_ofWay 41 = .ok (.iload_n 3, 1) := dk_29 (dk_at dksX3_ofWay_1 19 rfl rfl)
theorem dX3_ofWay_42 : decode cX3_ofWay 42 = .ok (.iconst 1, 1) := dk_4 (dk_at dksX3_ofWay_1 20 rfl rfl)
theorem dX3_ofWay_43 : decode cX3_ofWay 43 = .ok (.if_icmp .ne 10, 3) := dk_160 0 10 (dk_at dksX3_ofWay_1 21 rfl rfl)
theorem dX3_ofWay_46 : decode cX3_ofWay 46 = .ok (.aload_n 0, 1) := dk_42 (dk_at dksX3_ofWay_2 0 rfl rfl)
theorem dX3_ofWay_47 : decode cX3_ofWay 47 = .ok (.getfield 106, 3) := dk_180 0 106 (dk_at dksX3_ofWay_2 1 rfl rfl)
theorem dX3_ofWay_50 : decode cX3_ofWay 50 = .ok (.goto 23, 3) := dk_167 0 23 (dk_at dksX3_ofWay_2 4 rfl rfl)
theorem dX3_ofWay_53 : decode cX3_ofWay 53 = .ok (.aload_n 0, 1) := dk_42 (dk_at dksX3_ofWay_2 7 rfl rfl)
theorem dX3_ofWay_54 : decode cX3_ofWay 54 = .ok (.getfield 38, 3) := dk_180 0 38 (dk_at dksX3_ofWay_2 8 rfl rfl)
theorem dX3_ofWay_57 : decode cX3_ofWay 57 = .ok (.iload_n 3, 1) := dk_29 (dk_at dksX3_ofWay_2 11 rfl rfl)
theorem dX3_ofWay_58 : decode cX3_ofWay 58 = .ok (.iconst 2, 1) := dk_5 (dk_at dksX3_ofWay_2 12 rfl rfl)
theorem dX3_ofWay_59 : decode cX3_ofWay 59 = .ok (.if_icmp .ne 7, 3) := dk_160 0 7 (dk_at dksX3_ofWay_2 13 rfl rfl)
theorem dX3_ofWay_62 : decode cX3_ofWay 62 = .ok (.iconst 0, 1) := dk_3 (dk_at dksX3_ofWay_2 16 rfl rfl)
theorem dX3_ofWay_63 : decode cX3_ofWay 63 = .ok (.goto 9, 3) := dk_167 0 9 (dk_at dksX3_ofWay_2 17 rfl rfl)
theorem dX3_ofWay_66 : decode cX3_ofWay 66 = .ok (.aload_n 0, 1) := dk_42 (dk_at dksX3_ofWay_2 20 rfl rfl)
theorem dX3_ofWay_67 : decode cX3_ofWay 67 = .ok (.getfield 106, 3) := dk_180 0 106 (dk_at dksX3_ofWay_2 21 rfl rfl)
theorem dX3_ofWay_70 : decode cX3_ofWay 70 = .ok (.iconst 1, 1) := dk_4 (dk_at dksX3_ofWay_3 0 rfl rfl)
theorem dX3_ofWay_71 : decode cX3_ofWay 71 = .ok (.isub, 1) := dk_100 (dk_at dksX3_ofWay_3 1 rfl rfl)
theorem dX3_ofWay_72 : decode cX3_ofWay 72 = .ok (.iaload, 1) := dk_46 (dk_at dksX3_ofWay_3 2 rfl rfl)
theorem dX3_ofWay_73 : decode cX3_ofWay 73 = .ok (.ireturn, 1) := dk_172 (dk_at dksX3_ofWay_3 3 rfl rfl)
abbrev cX3_count : ByteArray := prog_8_method_66_code
def yX3_count : MethodName := ⟨RX3, "count", "(I)I"⟩
def dkwX3_count_1 : List UInt8 := [4, 182, 0, 63, 172]
abbrev dktX3_count_1 : List UInt8 := dkwX3_count_1 ++ []
def dkwX3_count_0 : List UInt8 := [42, 3, 181, 0, 44, 27, 3, 16, 8, 184, 0, 48, 153, 0, 11, 42, 27, 182, 0, 230, 167, 0, 8, 42]
abbrev dktX3_count_0 : List UInt8 := dkwX3_count_0 ++ dktX3_count_1
theorem dksX3_count_0 : cX3_count.data.toList.drop 0 = dktX3_count_0 := by decide +kernel
theorem dksX3_count_1 : cX3_count.data.toList.drop 24 = dktX3_count_1 := dk_seg dksX3_count_0 24 rfl rfl
theorem dX3_count_0 : decode cX3_count 0 = .ok (.aload_n 0, 1) := dk_42 (dk_at dksX3_count_0 0 rfl rfl)
theorem dX3_count_1 : decode cX3_count 1 = .ok (.iconst 0, 1) := dk_3 (dk_at dksX3_count_0 1 rfl rfl)
theorem dX3_count_2 : decode cX3_count 2 = .ok (.putfield 44, 3) := dk_181 0 44 (dk_at dksX3_count_0 2 rfl rfl)
theorem dX3_count_5 : decode cX3_count 5 = .ok (.iload_n 1, 1) := dk_27 (dk_at dksX3_count_0 5 rfl rfl)
theorem dX3_count_6 : decode cX3_count 6 = .ok (.iconst 0, 1) := dk_3 (dk_at dksX3_count_0 6 rfl rfl)
theorem dX3_count_7 : decode cX3_count 7 = .ok (.bipush 8, 2) := dk_16 8 (dk_at dksX3_count_0 7 rfl rfl)
theorem dX3_count_9 : decode cX3_count 9 = .ok (.invokestatic 48, 3) := dk_184 0 48 (dk_at dksX3_count_0 9 rfl rfl)
theorem dX3_count_12 : decode cX3_count 12 = .ok (.ifCond .eq 11, 3) := dk_153 0 11 (dk_at dksX3_count_0 12 rfl rfl)
theorem dX3_count_15 : decode cX3_count 15 = .ok (.aload_n 0, 1) := dk_42 (dk_at dksX3_count_0 15 rfl rfl)
theorem dX3_count_16 : decode cX3_count 16 = .ok (.iload_n 1, 1) := dk_27 (dk_at dksX3_count_0 16 rfl rfl)
theorem dX3_count_17 : decode cX3_count 17 = .ok (.invokevirtual 230, 3) := dk_182 0 230 (dk_at dksX3_count_0 17 rfl rfl)
theorem dX3_count_20 : decode cX3_count 20 = .ok (.goto 8, 3) := dk_167 0 8 (dk_at dksX3_count_0 20 rfl rfl)
theorem dX3_count_23 : decode cX3_count 23 = .ok (.aload_n 0, 1) := dk_42 (dk_at dksX3_count_0 23 rfl rfl)
theorem dX3_count_24 : decode cX3_count 24 = .ok (.iconst 1, 1) := dk_4 (dk_at dksX3_count_1 0 rfl rfl)
theorem dX3_count_25 : decode cX3_count 25 = .ok (.invokevirtual 63, 3) := dk_182 0 63 (dk_at dksX3_count_1 1 rfl rfl)
theorem dX3_count_28 : decode cX3_count 28 = .ok (.ireturn, 1) := dk_172 (dk_at dksX3_count_1 4 rfl rfl)
abbrev cX3_counted : ByteArray := prog_8_method_65_code
def yX3_counted : MethodName := ⟨RX3, "counted", "(I)I"⟩
def dkwX3_counted_4 : List UInt8 := [167, 0, 6, 27, 6, 100, 182, 0, 227, 172]
abbrev dktX3_counted_4 : List UInt8 := dkwX3_counted_4 ++ []
def dkwX3_counted_3 : List UInt8 := [160, 0, 10, 42, 180, 0, 56, 167, 0, 24, 42, 42, 180, 0, 7, 27, 16, 7, 160, 0, 7, 5]
abbrev dktX3_counted_3 : List UInt8 := dkwX3_counted_3 ++ dktX3_counted_4
def dkwX3_counted_2 : List UInt8 := [42, 42, 180, 0, 7, 27, 16, 6, 160, 0, 7, 4, 167, 0, 4, 3, 182, 0, 223, 172, 27, 16, 8]
abbrev dktX3_counted_2 : List UInt8 := dkwX3_counted_2 ++ dktX3_counted_3
def dkwX3_counted_1 : List UInt8 := [160, 0, 7, 2, 167, 0, 5, 16, 254, 184, 0, 220, 172, 27, 8, 159, 0, 9, 27, 16, 6, 160, 0, 23]
abbrev dktX3_counted_1 : List UInt8 := dkwX3_counted_1 ++ dktX3_counted_2
def dkwX3_counted_0 : List UInt8 := [27, 6, 162, 0, 33, 27, 154, 0, 10, 42, 182, 0, 217, 167, 0, 21, 42, 180, 0, 7, 27, 4]
abbrev dktX3_counted_0 : List UInt8 := dkwX3_counted_0 ++ dktX3_counted_1
theorem dksX3_counted_0 : cX3_counted.data.toList.drop 0 = dktX3_counted_0 := by decide +kernel
theorem dksX3_counted_1 : cX3_counted.data.toList.drop 22 = dktX3_counted_1 := dk_seg dksX3_counted_0 22 rfl rfl
theorem dksX3_counted_2 : cX3_counted.data.toList.drop 46 = dktX3_counted_2 := dk_seg dksX3_counted_1 24 rfl rfl
theorem dksX3_counted_3 : cX3_counted.data.toList.drop 69 = dktX3_counted_3 := dk_seg dksX3_counted_2 23 rfl rfl
theorem dksX3_counted_4 : cX3_counted.data.toList.drop 91 = dktX3_counted_4 := dk_seg dksX3_counted_3 22 rfl rfl
theorem dX3_counted_0 : decode cX3_counted 0 = .ok (.iload_n 1, 1) := dk_27 (dk_at dksX3_counted_0 0 rfl rfl)
theorem dX3_counted_1 : decode cX3_counted 1 = .ok (.iconst 3, 1) := dk_6 (dk_at dksX3_counted_0 1 rfl rfl)
theorem dX3_counted_2 : decode cX3_counted 2 = .ok (.if_icmp .ge 33, 3) := dk_162 0 33 (dk_at dksX3_counted_0 2 rfl rfl)
theorem dX3_counted_5 : decode cX3_counted 5 = .ok (.iload_n 1, 1) := dk_27 (dk_at dksX3_counted_0 5 rfl rfl)
theorem dX3_counted_6 : decode cX3_counted 6 = .ok (.ifCond .ne 10, 3) := dk_154 0 10 (dk_at dksX3_counted_0 6 rfl rfl)
theorem dX3_counted_9 : decode cX3_counted 9 = .ok (.aload_n 0, 1) := dk_42 (dk_at dksX3_counted_0 9 rfl rfl)
theorem dX3_counted_10 : decode cX3_counted 10 = .ok (.invokevirtual 217, 3) := dk_182 0 217 (dk_at dksX3_counted_0 10 rfl rfl)
theorem dX3_counted_13 : decode cX3_counted 13 = .ok (.goto 21, 3) := dk_167 0 21 (dk_at dksX3_counted_0 13 rfl rfl)
theorem dX3_counted_16 : decode cX3_counted 16 = .ok (.aload_n 0, 1) := dk_42 (dk_at dksX3_counted_0 16 rfl rfl)
theorem dX3_counted_17 : decode cX3_counted 17 = .ok (.getfield 7, 3) := dk_180 0 7 (dk_at dksX3_counted_0 17 rfl rfl)
theorem dX3_counted_20 : decode cX3_counted 20 = .ok (.iload_n 1, 1) := dk_27 (dk_at dksX3_counted_0 20 rfl rfl)
theorem dX3_counted_21 : decode cX3_counted 21 = .ok (.iconst 1, 1) := dk_4 (dk_at dksX3_counted_0 21 rfl rfl)
theorem dX3_counted_22 : decode cX3_counted 22 = .ok (.if_icmp .ne 7, 3) := dk_160 0 7 (dk_at dksX3_counted_1 0 rfl rfl)
theorem dX3_counted_25 : decode cX3_counted 25 = .ok (.iconst (-1), 1) := dk_2 (dk_at dksX3_counted_1 3 rfl rfl)
theorem dX3_counted_26 : decode cX3_counted 26 = .ok (.goto 5, 3) := dk_167 0 5 (dk_at dksX3_counted_1 4 rfl rfl)
theorem dX3_counted_29 : decode cX3_counted 29 = .ok (.bipush (-2), 2) := dk_16 254 (dk_at dksX3_counted_1 7 rfl rfl)
theorem dX3_counted_31 : decode cX3_counted 31 = .ok (.invokestatic 220, 3) := dk_184 0 220 (dk_at dksX3_counted_1 9 rfl rfl)
theorem dX3_counted_34 : decode cX3_counted 34 = .ok (.ireturn, 1) := dk_172 (dk_at dksX3_counted_1 12 rfl rfl)
theorem dX3_counted_35 : decode cX3_counted 35 = .ok (.iload_n 1, 1) := dk_27 (dk_at dksX3_counted_1 13 rfl rfl)
theorem dX3_counted_36 : decode cX3_counted 36 = .ok (.iconst 5, 1) := dk_8 (dk_at dksX3_counted_1 14 rfl rfl)
theorem dX3_counted_37 : decode cX3_counted 37 = .ok (.if_icmp .eq 9, 3) := dk_159 0 9 (dk_at dksX3_counted_1 15 rfl rfl)
theorem dX3_counted_40 : decode cX3_counted 40 = .ok (.iload_n 1, 1) := dk_27 (dk_at dksX3_counted_1 18 rfl rfl)
theorem dX3_counted_41 : decode cX3_counted 41 = .ok (.bipush 6, 2) := dk_16 6 (dk_at dksX3_counted_1 19 rfl rfl)
theorem dX3_counted_43 : decode cX3_counted 43 = .ok (.if_icmp .ne 23, 3) := dk_160 0 23 (dk_at dksX3_counted_1 21 rfl rfl)
theorem dX3_counted_46 : decode cX3_counted 46 = .ok (.aload_n 0, 1) := dk_42 (dk_at dksX3_counted_2 0 rfl rfl)
theorem dX3_counted_47 : decode cX3_counted 47 = .ok (.aload_n 0, 1) := dk_42 (dk_at dksX3_counted_2 1 rfl rfl)
theorem dX3_counted_48 : decode cX3_counted 48 = .ok (.getfield 7, 3) := dk_180 0 7 (dk_at dksX3_counted_2 2 rfl rfl)
theorem dX3_counted_51 : decode cX3_counted 51 = .ok (.iload_n 1, 1) := dk_27 (dk_at dksX3_counted_2 5 rfl rfl)
theorem dX3_counted_52 : decode cX3_counted 52 = .ok (.bipush 6, 2) := dk_16 6 (dk_at dksX3_counted_2 6 rfl rfl)
theorem dX3_counted_54 : decode cX3_counted 54 = .ok (.if_icmp .ne 7, 3) := dk_160 0 7 (dk_at dksX3_counted_2 8 rfl rfl)
theorem dX3_counted_57 : decode cX3_counted 57 = .ok (.iconst 1, 1) := dk_4 (dk_at dksX3_counted_2 11 rfl rfl)
theorem dX3_counted_58 : decode cX3_counted 58 = .ok (.goto 4, 3) := dk_167 0 4 (dk_at dksX3_counted_2 12 rfl rfl)
theorem dX3_counted_61 : decode cX3_counted 61 = .ok (.iconst 0, 1) := dk_3 (dk_at dksX3_counted_2 15 rfl rfl)
theorem dX3_counted_62 : decode cX3_counted 62 = .ok (.invokevirtual 223, 3) := dk_182 0 223 (dk_at dksX3_counted_2 16 rfl rfl)
theorem dX3_counted_65 : decode cX3_counted 65 = .ok (.ireturn, 1) := dk_172 (dk_at dksX3_counted_2 19 rfl rfl)
theorem dX3_counted_66 : decode cX3_counted 66 = .ok (.iload_n 1, 1) := dk_27 (dk_at dksX3_counted_2 20 rfl rfl)
theorem dX3_counted_67 : decode cX3_counted 67 = .ok (.bipush 8, 2) := dk_16 8 (dk_at dksX3_counted_2 21 rfl rfl)
theorem dX3_counted_69 : decode cX3_counted 69 = .ok (.if_icmp .ne 10, 3) := dk_160 0 10 (dk_at dksX3_counted_3 0 rfl rfl)
theorem dX3_counted_72 : decode cX3_counted 72 = .ok (.aload_n 0, 1) := dk_42 (dk_at dksX3_counted_3 3 rfl rfl)
theorem dX3_counted_73 : decode cX3_counted 73 = .ok (.getfield 56, 3) := dk_180 0 56 (dk_at dksX3_counted_3 4 rfl rfl)
theorem dX3_counted_76 : decode cX3_counted 76 = .ok (.goto 24, 3) := dk_167 0 24 (dk_at dksX3_counted_3 7 rfl rfl)
theorem dX3_counted_79 : decode cX3_counted 79 = .ok (.aload_n 0, 1) := dk_42 (dk_at dksX3_counted_3 10 rfl rfl)
theorem dX3_counted_80 : decode cX3_counted 80 = .ok (.aload_n 0, 1) := dk_42 (dk_at dksX3_counted_3 11 rfl rfl)
theorem dX3_counted_81 : decode cX3_counted 81 = .ok (.getfield 7, 3) := dk_180 0 7 (dk_at dksX3_counted_3 12 rfl rfl)
theorem dX3_counted_84 : decode cX3_counted 84 = .ok (.iload_n 1, 1) := dk_27 (dk_at dksX3_counted_3 15 rfl rfl)
theorem dX3_counted_85 : decode cX3_counted 85 = .ok (.bipush 7, 2) := dk_16 7 (dk_at dksX3_counted_3 16 rfl rfl)
theorem dX3_counted_87 : decode cX3_counted 87 = .ok (.if_icmp .ne 7, 3) := dk_160 0 7 (dk_at dksX3_counted_3 18 rfl rfl)
theorem dX3_counted_90 : decode cX3_counted 90 = .ok (.iconst 2, 1) := dk_5 (dk_at dksX3_counted_3 21 rfl rfl)
theorem dX3_counted_91 : decode cX3_counted 91 = .ok (.goto 6, 3) := dk_167 0 6 (dk_at dksX3_counted_4 0 rfl rfl)
theorem dX3_counted_94 : decode cX3_counted 94 = .ok (.iload_n 1, 1) := dk_27 (dk_at dksX3_counted_4 3 rfl rfl)
theorem dX3_counted_95 : decode cX3_counted 95 = .ok (.iconst 3, 1) := dk_6 (dk_at dksX3_counted_4 4 rfl rfl)
theorem dX3_counted_96 : decode cX3_counted 96 = .ok (.isub, 1) := dk_100 (dk_at dksX3_counted_4 5 rfl rfl)
theorem dX3_counted_97 : decode cX3_counted 97 = .ok (.invokevirtual 227, 3) := dk_182 0 227 (dk_at dksX3_counted_4 6 rfl rfl)
theorem dX3_counted_100 : decode cX3_counted 100 = .ok (.ireturn, 1) := dk_172 (dk_at dksX3_counted_4 9 rfl rfl)
abbrev cX3_rooms : ByteArray := prog_8_method_64_code
def yX3_rooms : MethodName := ⟨RX3, "rooms", "()I"⟩
def dkwX3_rooms_1 : List UInt8 := [167, 0, 4, 3, 96, 60, 132, 2, 1, 167, 255, 228, 27, 172]
abbrev dktX3_rooms_1 : List UInt8 := dkwX3_rooms_1 ++ []
def dkwX3_rooms_0 : List UInt8 := [3, 60, 3, 61, 28, 16, 6, 162, 0, 28, 27, 42, 180, 0, 7, 28, 184, 0, 126, 153, 0, 7, 4]
abbrev dktX3_rooms_0 : List UInt8 := dkwX3_rooms_0 ++ dktX3_rooms_1
theorem dksX3_rooms_0 : cX3_rooms.data.toList.drop 0 = dktX3_rooms_0 := by decide +kernel
theorem dksX3_rooms_1 : cX3_rooms.data.toList.drop 23 = dktX3_rooms_1 := dk_seg dksX3_rooms_0 23 rfl rfl
theorem dX3_rooms_0 : decode cX3_rooms 0 = .ok (.iconst 0, 1) := dk_3 (dk_at dksX3_rooms_0 0 rfl rfl)
theorem dX3_rooms_1 : decode cX3_rooms 1 = .ok (.istore_n 1, 1) := dk_60 (dk_at dksX3_rooms_0 1 rfl rfl)
theorem dX3_rooms_2 : decode cX3_rooms 2 = .ok (.iconst 0, 1) := dk_3 (dk_at dksX3_rooms_0 2 rfl rfl)
theorem dX3_rooms_3 : decode cX3_rooms 3 = .ok (.istore_n 2, 1) := dk_61 (dk_at dksX3_rooms_0 3 rfl rfl)
theorem dX3_rooms_4 : decode cX3_rooms 4 = .ok (.iload_n 2, 1) := dk_28 (dk_at dksX3_rooms_0 4 rfl rfl)
theorem dX3_rooms_5 : decode cX3_rooms 5 = .ok (.bipush 6, 2) := dk_16 6 (dk_at dksX3_rooms_0 5 rfl rfl)
theorem dX3_rooms_7 : decode cX3_rooms 7 = .ok (.if_icmp .ge 28, 3) := dk_162 0 28 (dk_at dksX3_rooms_0 7 rfl rfl)
theorem dX3_rooms_10 : decode cX3_rooms 10 = .ok (.iload_n 1, 1) := dk_27 (dk_at dksX3_rooms_0 10 rfl rfl)
theorem dX3_rooms_11 : decode cX3_rooms 11 = .ok (.aload_n 0, 1) := dk_42 (dk_at dksX3_rooms_0 11 rfl rfl)
theorem dX3_rooms_12 : decode cX3_rooms 12 = .ok (.getfield 7, 3) := dk_180 0 7 (dk_at dksX3_rooms_0 12 rfl rfl)
theorem dX3_rooms_15 : decode cX3_rooms 15 = .ok (.iload_n 2, 1) := dk_28 (dk_at dksX3_rooms_0 15 rfl rfl)
theorem dX3_rooms_16 : decode cX3_rooms 16 = .ok (.invokestatic 126, 3) := dk_184 0 126 (dk_at dksX3_rooms_0 16 rfl rfl)
theorem dX3_rooms_19 : decode cX3_rooms 19 = .ok (.ifCond .eq 7, 3) := dk_153 0 7 (dk_at dksX3_rooms_0 19 rfl rfl)
theorem dX3_rooms_22 : decode cX3_rooms 22 = .ok (.iconst 1, 1) := dk_4 (dk_at dksX3_rooms_0 22 rfl rfl)
theorem dX3_rooms_23 : decode cX3_rooms 23 = .ok (.goto 4, 3) := dk_167 0 4 (dk_at dksX3_rooms_1 0 rfl rfl)
theorem dX3_rooms_26 : decode cX3_rooms 26 = .ok (.iconst 0, 1) := dk_3 (dk_at dksX3_rooms_1 3 rfl rfl)
theorem dX3_rooms_27 : decode cX3_rooms 27 = .ok (.iadd, 1) := dk_96 (dk_at dksX3_rooms_1 4 rfl rfl)
theorem dX3_rooms_28 : decode cX3_rooms 28 = .ok (.istore_n 1, 1) := dk_60 (dk_at dksX3_rooms_1 5 rfl rfl)
theorem dX3_rooms_29 : decode cX3_rooms 29 = .ok (.iinc 2 1, 3) := dk_132 2 1 (dk_at dksX3_rooms_1 6 rfl rfl)
theorem dX3_rooms_32 : decode cX3_rooms 32 = .ok (.goto (-28), 3) := dk_167 255 228 (dk_at dksX3_rooms_1 9 rfl rfl)
theorem dX3_rooms_35 : decode cX3_rooms 35 = .ok (.iload_n 1, 1) := dk_27 (dk_at dksX3_rooms_1 12 rfl rfl)
theorem dX3_rooms_36 : decode cX3_rooms 36 = .ok (.ireturn, 1) := dk_172 (dk_at dksX3_rooms_1 13 rfl rfl)
abbrev cX3_squares : ByteArray := prog_8_method_63_code
def yX3_squares : MethodName := ⟨RX3, "squares", "([II)I"⟩
def dkwX3_squares_1 : List UInt8 := [96, 61, 132, 3, 1, 167, 255, 231, 28, 172]
abbrev dktX3_squares_1 : List UInt8 := dkwX3_squares_1 ++ []
def dkwX3_squares_0 : List UInt8 := [3, 61, 3, 62, 29, 17, 0, 192, 162, 0, 24, 28, 42, 29, 46, 27, 160, 0, 7, 4, 167, 0, 4, 3]
abbrev dktX3_squares_0 : List UInt8 := dkwX3_squares_0 ++ dktX3_squares_1
theorem dksX3_squares_0 : cX3_squares.data.toList.drop 0 = dktX3_squares_0 := by decide +kernel
theorem dksX3_squares_1 : cX3_squares.data.toList.drop 24 = dktX3_squares_1 := dk_seg dksX3_squares_0 24 rfl rfl
theorem dX3_squares_0 : decode cX3_squares 0 = .ok (.iconst 0, 1) := dk_3 (dk_at dksX3_squares_0 0 rfl rfl)
theorem dX3_squares_1 : decode cX3_squares 1 = .ok (.istore_n 2, 1) := dk_61 (dk_at dksX3_squares_0 1 rfl rfl)
theorem dX3_squares_2 : decode cX3_squares 2 = .ok (.iconst 0, 1) := dk_3 (dk_at dksX3_squares_0 2 rfl rfl)
theorem dX3_squares_3 : decode cX3_squares 3 = .ok (.istore_n 3, 1) := dk_62 (dk_at dksX3_squares_0 3 rfl rfl)
theorem dX3_squares_4 : decode cX3_squares 4 = .ok (.iload_n 3, 1) := dk_29 (dk_at dksX3_squares_0 4 rfl rfl)
theorem dX3_squares_5 : decode cX3_squares 5 = .ok (.sipush 192, 3) := dk_17 0 192 (dk_at dksX3_squares_0 5 rfl rfl)
theorem dX3_squares_8 : decode cX3_squares 8 = .ok (.if_icmp .ge 24, 3) := dk_162 0 24 (dk_at dksX3_squares_0 8 rfl rfl)
theorem dX3_squares_11 : decode cX3_squares 11 = .ok (.iload_n 2, 1) := dk_28 (dk_at dksX3_squares_0 11 rfl rfl)
theorem dX3_squares_12 : decode cX3_squares 12 = .ok (.aload_n 0, 1) := dk_42 (dk_at dksX3_squares_0 12 rfl rfl)
theorem dX3_squares_13 : decode cX3_squares 13 = .ok (.iload_n 3, 1) := dk_29 (dk_at dksX3_squares_0 13 rfl rfl)
theorem dX3_squares_14 : decode cX3_squares 14 = .ok (.iaload, 1) := dk_46 (dk_at dksX3_squares_0 14 rfl rfl)
theorem dX3_squares_15 : decode cX3_squares 15 = .ok (.iload_n 1, 1) := dk_27 (dk_at dksX3_squares_0 15 rfl rfl)
theorem dX3_squares_16 : decode cX3_squares 16 = .ok (.if_icmp .ne 7, 3) := dk_160 0 7 (dk_at dksX3_squares_0 16 rfl rfl)
theorem dX3_squares_19 : decode cX3_squares 19 = .ok (.iconst 1, 1) := dk_4 (dk_at dksX3_squares_0 19 rfl rfl)
theorem dX3_squares_20 : decode cX3_squares 20 = .ok (.goto 4, 3) := dk_167 0 4 (dk_at dksX3_squares_0 20 rfl rfl)
theorem dX3_squares_23 : decode cX3_squares 23 = .ok (.iconst 0, 1) := dk_3 (dk_at dksX3_squares_0 23 rfl rfl)
theorem dX3_squares_24 : decode cX3_squares 24 = .ok (.iadd, 1) := dk_96 (dk_at dksX3_squares_1 0 rfl rfl)
theorem dX3_squares_25 : decode cX3_squares 25 = .ok (.istore_n 2, 1) := dk_61 (dk_at dksX3_squares_1 1 rfl rfl)
theorem dX3_squares_26 : decode cX3_squares 26 = .ok (.iinc 3 1, 3) := dk_132 3 1 (dk_at dksX3_squares_1 2 rfl rfl)
theorem dX3_squares_29 : decode cX3_squares 29 = .ok (.goto (-25), 3) := dk_167 255 231 (dk_at dksX3_squares_1 5 rfl rfl)
theorem dX3_squares_32 : decode cX3_squares 32 = .ok (.iload_n 2, 1) := dk_28 (dk_at dksX3_squares_1 8 rfl rfl)
theorem dX3_squares_33 : decode cX3_squares 33 = .ok (.ireturn, 1) := dk_172 (dk_at dksX3_squares_1 9 rfl rfl)
abbrev cX3_allDoors : ByteArray := prog_8_method_29_code
def yX3_allDoors : MethodName := ⟨RX3, "allDoors", "([IZ)I"⟩
def dkwX3_allDoors_2 : List UInt8 := [108, 167, 0, 4, 29, 172]
abbrev dktX3_allDoors_2 : List UInt8 := dkwX3_allDoors_2 ++ []
def dkwX3_allDoors_1 : List UInt8 := [21, 4, 28, 182, 0, 130, 167, 0, 4, 3, 96, 62, 132, 4, 1, 167, 255, 222, 28, 153, 0, 9, 29, 5]
abbrev dktX3_allDoors_1 : List UInt8 := dkwX3_allDoors_1 ++ dktX3_allDoors_2
def dkwX3_allDoors_0 : List UInt8 := [3, 62, 3, 54, 4, 21, 4, 16, 6, 162, 0, 33, 29, 43, 21, 4, 184, 0, 126, 153, 0, 14, 42, 43]
abbrev dktX3_allDoors_0 : List UInt8 := dkwX3_allDoors_0 ++ dktX3_allDoors_1
theorem dksX3_allDoors_0 : cX3_allDoors.data.toList.drop 0 = dktX3_allDoors_0 := by decide +kernel
theorem dksX3_allDoors_1 : cX3_allDoors.data.toList.drop 24 = dktX3_allDoors_1 := dk_seg dksX3_allDoors_0 24 rfl rfl
theorem dksX3_allDoors_2 : cX3_allDoors.data.toList.drop 48 = dktX3_allDoors_2 := dk_seg dksX3_allDoors_1 24 rfl rfl
theorem dX3_allDoors_0 : decode cX3_allDoors 0 = .ok (.iconst 0, 1) := dk_3 (dk_at dksX3_allDoors_0 0 rfl rfl)
theorem dX3_allDoors_1 : decode cX3_allDoors 1 = .ok (.istore_n 3, 1) := dk_62 (dk_at dksX3_allDoors_0 1 rfl rfl)
theorem dX3_allDoors_2 : decode cX3_allDoors 2 = .ok (.iconst 0, 1) := dk_3 (dk_at dksX3_allDoors_0 2 rfl rfl)
theorem dX3_allDoors_3 : decode cX3_allDoors 3 = .ok (.istore 4, 2) := dk_54 4 (dk_at dksX3_allDoors_0 3 rfl rfl)
theorem dX3_allDoors_5 : decode cX3_allDoors 5 = .ok (.iload 4, 2) := dk_21 4 (dk_at dksX3_allDoors_0 5 rfl rfl)
theorem dX3_allDoors_7 : decode cX3_allDoors 7 = .ok (.bipush 6, 2) := dk_16 6 (dk_at dksX3_allDoors_0 7 rfl rfl)
theorem dX3_allDoors_9 : decode cX3_allDoors 9 = .ok (.if_icmp .ge 33, 3) := dk_162 0 33 (dk_at dksX3_allDoors_0 9 rfl rfl)
theorem dX3_allDoors_12 : decode cX3_allDoors 12 = .ok (.iload_n 3, 1) := dk_29 (dk_at dksX3_allDoors_0 12 rfl rfl)
theorem dX3_allDoors_13 : decode cX3_allDoors 13 = .ok (.aload_n 1, 1) := dk_43 (dk_at dksX3_allDoors_0 13 rfl rfl)
theorem dX3_allDoors_14 : decode cX3_allDoors 14 = .ok (.iload 4, 2) := dk_21 4 (dk_at dksX3_allDoors_0 14 rfl rfl)
theorem dX3_allDoors_16 : decode cX3_allDoors 16 = .ok (.invokestatic 126, 3) := dk_184 0 126 (dk_at dksX3_allDoors_0 16 rfl rfl)
theorem dX3_allDoors_19 : decode cX3_allDoors 19 = .ok (.ifCond .eq 14, 3) := dk_153 0 14 (dk_at dksX3_allDoors_0 19 rfl rfl)
theorem dX3_allDoors_22 : decode cX3_allDoors 22 = .ok (.aload_n 0, 1) := dk_42 (dk_at dksX3_allDoors_0 22 rfl rfl)
theorem dX3_allDoors_23 : decode cX3_allDoors 23 = .ok (.aload_n 1, 1) := dk_43 (dk_at dksX3_allDoors_0 23 rfl rfl)
theorem dX3_allDoors_24 : decode cX3_allDoors 24 = .ok (.iload 4, 2) := dk_21 4 (dk_at dksX3_allDoors_1 0 rfl rfl)
theorem dX3_allDoors_26 : decode cX3_allDoors 26 = .ok (.iload_n 2, 1) := dk_28 (dk_at dksX3_allDoors_1 2 rfl rfl)
theorem dX3_allDoors_27 : decode cX3_allDoors 27 = .ok (.invokevirtual 130, 3) := dk_182 0 130 (dk_at dksX3_allDoors_1 3 rfl rfl)
theorem dX3_allDoors_30 : decode cX3_allDoors 30 = .ok (.goto 4, 3) := dk_167 0 4 (dk_at dksX3_allDoors_1 6 rfl rfl)
theorem dX3_allDoors_33 : decode cX3_allDoors 33 = .ok (.iconst 0, 1) := dk_3 (dk_at dksX3_allDoors_1 9 rfl rfl)
theorem dX3_allDoors_34 : decode cX3_allDoors 34 = .ok (.iadd, 1) := dk_96 (dk_at dksX3_allDoors_1 10 rfl rfl)
theorem dX3_allDoors_35 : decode cX3_allDoors 35 = .ok (.istore_n 3, 1) := dk_62 (dk_at dksX3_allDoors_1 11 rfl rfl)
theorem dX3_allDoors_36 : decode cX3_allDoors 36 = .ok (.iinc 4 1, 3) := dk_132 4 1 (dk_at dksX3_allDoors_1 12 rfl rfl)
theorem dX3_allDoors_39 : decode cX3_allDoors 39 = .ok (.goto (-34), 3) := dk_167 255 222 (dk_at dksX3_allDoors_1 15 rfl rfl)
theorem dX3_allDoors_42 : decode cX3_allDoors 42 = .ok (.iload_n 2, 1) := dk_28 (dk_at dksX3_allDoors_1 18 rfl rfl)
theorem dX3_allDoors_43 : decode cX3_allDoors 43 = .ok (.ifCond .eq 9, 3) := dk_153 0 9 (dk_at dksX3_allDoors_1 19 rfl rfl)
theorem dX3_allDoors_46 : decode cX3_allDoors 46 = .ok (.iload_n 3, 1) := dk_29 (dk_at dksX3_allDoors_1 22 rfl rfl)
theorem dX3_allDoors_47 : decode cX3_allDoors 47 = .ok (.iconst 2, 1) := dk_5 (dk_at dksX3_allDoors_1 23 rfl rfl)
theorem dX3_allDoors_48 : decode cX3_allDoors 48 = .ok (.idiv, 1) := dk_108 (dk_at dksX3_allDoors_2 0 rfl rfl)
theorem dX3_allDoors_49 : decode cX3_allDoors 49 = .ok (.goto 4, 3) := dk_167 0 4 (dk_at dksX3_allDoors_2 1 rfl rfl)
theorem dX3_allDoors_52 : decode cX3_allDoors 52 = .ok (.iload_n 3, 1) := dk_29 (dk_at dksX3_allDoors_2 4 rfl rfl)
theorem dX3_allDoors_53 : decode cX3_allDoors 53 = .ok (.ireturn, 1) := dk_172 (dk_at dksX3_allDoors_2 5 rfl rfl)
abbrev cX3_pairs : ByteArray := prog_8_method_62_code
def yX3_pairs : MethodName := ⟨RX3, "pairs", "([II)I"⟩
def dkwX3_pairs_5 : List UInt8 := [167, 0, 4, 3, 96, 62, 132, 4, 1, 167, 255, 138, 29, 172]
abbrev dktX3_pairs_5 : List UInt8 := dkwX3_pairs_5 ++ []
def dkwX3_pairs_4 : List UInt8 := [180, 0, 109, 154, 0, 7, 3, 167, 0, 20, 4, 167, 0, 16, 21, 5, 153, 0, 10, 42, 180, 0, 109]
abbrev dktX3_pairs_4 : List UInt8 := dkwX3_pairs_4 ++ dktX3_pairs_5
def dkwX3_pairs_3 : List UInt8 := [54, 5, 29, 28, 154, 0, 7, 4, 167, 0, 41, 28, 4, 160, 0, 23, 21, 5, 153, 0, 14, 42]
abbrev dktX3_pairs_3 : List UInt8 := dkwX3_pairs_3 ++ dktX3_pairs_4
def dkwX3_pairs_2 : List UInt8 := [42, 43, 21, 4, 16, 6, 108, 21, 4, 16, 6, 112, 182, 0, 116, 153, 0, 7, 4, 167, 0, 4, 3]
abbrev dktX3_pairs_2 : List UInt8 := dkwX3_pairs_2 ++ dktX3_pairs_3
def dkwX3_pairs_1 : List UInt8 := [162, 0, 98, 43, 21, 4, 16, 6, 108, 21, 4, 16, 6, 112, 184, 0, 99, 158, 0, 81, 28, 158, 0, 25]
abbrev dktX3_pairs_1 : List UInt8 := dkwX3_pairs_1 ++ dktX3_pairs_2
def dkwX3_pairs_0 : List UInt8 := [3, 62, 3, 54, 4, 21, 4, 16, 36, 162, 0, 117, 21, 4, 16, 6, 108, 21, 4, 16, 6, 112]
abbrev dktX3_pairs_0 : List UInt8 := dkwX3_pairs_0 ++ dktX3_pairs_1
theorem dksX3_pairs_0 : cX3_pairs.data.toList.drop 0 = dktX3_pairs_0 := by decide +kernel
theorem dksX3_pairs_1 : cX3_pairs.data.toList.drop 22 = dktX3_pairs_1 := dk_seg dksX3_pairs_0 22 rfl rfl
theorem dksX3_pairs_2 : cX3_pairs.data.toList.drop 46 = dktX3_pairs_2 := dk_seg dksX3_pairs_1 24 rfl rfl
theorem dksX3_pairs_3 : cX3_pairs.data.toList.drop 69 = dktX3_pairs_3 := dk_seg dksX3_pairs_2 23 rfl rfl
theorem dksX3_pairs_4 : cX3_pairs.data.toList.drop 91 = dktX3_pairs_4 := dk_seg dksX3_pairs_3 22 rfl rfl
theorem dksX3_pairs_5 : cX3_pairs.data.toList.drop 114 = dktX3_pairs_5 := dk_seg dksX3_pairs_4 23 rfl rfl
theorem dX3_pairs_0 : decode cX3_pairs 0 = .ok (.iconst 0, 1) := dk_3 (dk_at dksX3_pairs_0 0 rfl rfl)
theorem dX3_pairs_1 : decode cX3_pairs 1 = .ok (.istore_n 3, 1) := dk_62 (dk_at dksX3_pairs_0 1 rfl rfl)
theorem dX3_pairs_2 : decode cX3_pairs 2 = .ok (.iconst 0, 1) := dk_3 (dk_at dksX3_pairs_0 2 rfl rfl)
theorem dX3_pairs_3 : decode cX3_pairs 3 = .ok (.istore 4, 2) := dk_54 4 (dk_at dksX3_pairs_0 3 rfl rfl)
theorem dX3_pairs_5 : decode cX3_pairs 5 = .ok (.iload 4, 2) := dk_21 4 (dk_at dksX3_pairs_0 5 rfl rfl)
theorem dX3_pairs_7 : decode cX3_pairs 7 = .ok (.bipush 36, 2) := dk_16 36 (dk_at dksX3_pairs_0 7 rfl rfl)
theorem dX3_pairs_9 : decode cX3_pairs 9 = .ok (.if_icmp .ge 117, 3) := dk_162 0 117 (dk_at dksX3_pairs_0 9 rfl rfl)
theorem dX3_pairs_12 : decode cX3_pairs 12 = .ok (.iload 4, 2) := dk_21 4 (dk_at dksX3_pairs_0 12 rfl rfl)
theorem dX3_pairs_14 : decode cX3_pairs 14 = .ok (.bipush 6, 2) := dk_16 6 (dk_at dksX3_pairs_0 14 rfl rfl)
theorem dX3_pairs_16 : decode cX3_pairs 16 = .ok (.idiv, 1) := dk_108 (dk_at dksX3_pairs_0 16 rfl rfl)
theorem dX3_pairs_17 : decode cX3_pairs 17 = .ok (.iload 4, 2) := dk_21 4 (dk_at dksX3_pairs_0 17 rfl rfl)
theorem dX3_pairs_19 : decode cX3_pairs 19 = .ok (.bipush 6, 2) := dk_16 6 (dk_at dksX3_pairs_0 19 rfl rfl)
theorem dX3_pairs_21 : decode cX3_pairs 21 = .ok (.irem, 1) := dk_112 (dk_at dksX3_pairs_0 21 rfl rfl)
theorem dX3_pairs_22 : decode cX3_pairs 22 = .ok (.if_icmp .ge 98, 3) := dk_162 0 98 (dk_at dksX3_pairs_1 0 rfl rfl)
theorem dX3_pairs_25 : decode cX3_pairs 25 = .ok (.aload_n 1, 1) := dk_43 (dk_at dksX3_pairs_1 3 rfl rfl)
theorem dX3_pairs_26 : decode cX3_pairs 26 = .ok (.iload 4, 2) := dk_21 4 (dk_at dksX3_pairs_1 4 rfl rfl)
theorem dX3_pairs_28 : decode cX3_pairs 28 = .ok (.bipush 6, 2) := dk_16 6 (dk_at dksX3_pairs_1 6 rfl rfl)
theorem dX3_pairs_30 : decode cX3_pairs 30 = .ok (.idiv, 1) := dk_108 (dk_at dksX3_pairs_1 8 rfl rfl)
theorem dX3_pairs_31 : decode cX3_pairs 31 = .ok (.iload 4, 2) := dk_21 4 (dk_at dksX3_pairs_1 9 rfl rfl)
theorem dX3_pairs_33 : decode cX3_pairs 33 = .ok (.bipush 6, 2) := dk_16 6 (dk_at dksX3_pairs_1 11 rfl rfl)
theorem dX3_pairs_35 : decode cX3_pairs 35 = .ok (.irem, 1) := dk_112 (dk_at dksX3_pairs_1 13 rfl rfl)
theorem dX3_pairs_36 : decode cX3_pairs 36 = .ok (.invokestatic 99, 3) := dk_184 0 99 (dk_at dksX3_pairs_1 14 rfl rfl)
theorem dX3_pairs_39 : decode cX3_pairs 39 = .ok (.ifCond .le 81, 3) := dk_158 0 81 (dk_at dksX3_pairs_1 17 rfl rfl)
theorem dX3_pairs_42 : decode cX3_pairs 42 = .ok (.iload_n 2, 1) := dk_28 (dk_at dksX3_pairs_1 20 rfl rfl)
theorem dX3_pairs_43 : decode cX3_pairs 43 = .ok (.ifCond .le 25, 3) := dk_158 0 25 (dk_at dksX3_pairs_1 21 rfl rfl)
theorem dX3_pairs_46 : decode cX3_pairs 46 = .ok (.aload_n 0, 1) := dk_42 (dk_at dksX3_pairs_2 0 rfl rfl)
theorem dX3_pairs_47 : decode cX3_pairs 47 = .ok (.aload_n 1, 1) := dk_43 (dk_at dksX3_pairs_2 1 rfl rfl)
theorem dX3_pairs_48 : decode cX3_pairs 48 = .ok (.iload 4, 2) := dk_21 4 (dk_at dksX3_pairs_2 2 rfl rfl)
theorem dX3_pairs_50 : decode cX3_pairs 50 = .ok (.bipush 6, 2) := dk_16 6 (dk_at dksX3_pairs_2 4 rfl rfl)
theorem dX3_pairs_52 : decode cX3_pairs 52 = .ok (.idiv, 1) := dk_108 (dk_at dksX3_pairs_2 6 rfl rfl)
theorem dX3_pairs_53 : decode cX3_pairs 53 = .ok (.iload 4, 2) := dk_21 4 (dk_at dksX3_pairs_2 7 rfl rfl)
theorem dX3_pairs_55 : decode cX3_pairs 55 = .ok (.bipush 6, 2) := dk_16 6 (dk_at dksX3_pairs_2 9 rfl rfl)
theorem dX3_pairs_57 : decode cX3_pairs 57 = .ok (.irem, 1) := dk_112 (dk_at dksX3_pairs_2 11 rfl rfl)
theorem dX3_pairs_58 : decode cX3_pairs 58 = .ok (.invokevirtual 116, 3) := dk_182 0 116 (dk_at dksX3_pairs_2 12 rfl rfl)
theorem dX3_pairs_61 : decode cX3_pairs 61 = .ok (.ifCond .eq 7, 3) := dk_153 0 7 (dk_at dksX3_pairs_2 15 rfl rfl)
theorem dX3_pairs_64 : decode cX3_pairs 64 = .ok (.iconst 1, 1) := dk_4 (dk_at dksX3_pairs_2 18 rfl rfl)
theorem dX3_pairs_65 : decode cX3_pairs 65 = .ok (.goto 4, 3) := dk_167 0 4 (dk_at dksX3_pairs_2 19 rfl rfl)
theorem dX3_pairs_68 : decode cX3_pairs 68 = .ok (.iconst 0, 1) := dk_3 (dk_at dksX3_pairs_2 22 rfl rfl)
theorem dX3_pairs_69 : decode cX3_pairs 69 = .ok (.istore 5, 2) := dk_54 5 (dk_at dksX3_pairs_3 0 rfl rfl)
theorem dX3_pairs_71 : decode cX3_pairs 71 = .ok (.iload_n 3, 1) := dk_29 (dk_at dksX3_pairs_3 2 rfl rfl)
theorem dX3_pairs_72 : decode cX3_pairs 72 = .ok (.iload_n 2, 1) := dk_28 (dk_at dksX3_pairs_3 3 rfl rfl)
theorem dX3_pairs_73 : decode cX3_pairs 73 = .ok (.ifCond .ne 7, 3) := dk_154 0 7 (dk_at dksX3_pairs_3 4 rfl rfl)
theorem dX3_pairs_76 : decode cX3_pairs 76 = .ok (.iconst 1, 1) := dk_4 (dk_at dksX3_pairs_3 7 rfl rfl)
theorem dX3_pairs_77 : decode cX3_pairs 77 = .ok (.goto 41, 3) := dk_167 0 41 (dk_at dksX3_pairs_3 8 rfl rfl)
theorem dX3_pairs_80 : decode cX3_pairs 80 = .ok (.iload_n 2, 1) := dk_28 (dk_at dksX3_pairs_3 11 rfl rfl)
theorem dX3_pairs_81 : decode cX3_pairs 81 = .ok (.iconst 1, 1) := dk_4 (dk_at dksX3_pairs_3 12 rfl rfl)
theorem dX3_pairs_82 : decode cX3_pairs 82 = .ok (.if_icmp .ne 23, 3) := dk_160 0 23 (dk_at dksX3_pairs_3 13 rfl rfl)
theorem dX3_pairs_85 : decode cX3_pairs 85 = .ok (.iload 5, 2) := dk_21 5 (dk_at dksX3_pairs_3 16 rfl rfl)
theorem dX3_pairs_87 : decode cX3_pairs 87 = .ok (.ifCond .eq 14, 3) := dk_153 0 14 (dk_at dksX3_pairs_3 18 rfl rfl)
theorem dX3_pairs_90 : decode cX3_pairs 90 = .ok (.aload_n 0, 1) := dk_42 (dk_at dksX3_pairs_3 21 rfl rfl)
theorem dX3_pairs_91 : decode cX3_pairs 91 = .ok (.getfield 109, 3) := dk_180 0 109 (dk_at dksX3_pairs_4 0 rfl rfl)
theorem dX3_pairs_94 : decode cX3_pairs 94 = .ok (.ifCond .ne 7, 3) := dk_154 0 7 (dk_at dksX3_pairs_4 3 rfl rfl)
theorem dX3_pairs_97 : decode cX3_pairs 97 = .ok (.iconst 0, 1) := dk_3 (dk_at dksX3_pairs_4 6 rfl rfl)
theorem dX3_pairs_98 : decode cX3_pairs 98 = .ok (.goto 20, 3) := dk_167 0 20 (dk_at dksX3_pairs_4 7 rfl rfl)
theorem dX3_pairs_101 : decode cX3_pairs 101 = .ok (.iconst 1, 1) := dk_4 (dk_at dksX3_pairs_4 10 rfl rfl)
theorem dX3_pairs_102 : decode cX3_pairs 102 = .ok (.goto 16, 3) := dk_167 0 16 (dk_at dksX3_pairs_4 11 rfl rfl)
theorem dX3_pairs_105 : decode cX3_pairs 105 = .ok (.iload 5, 2) := dk_21 5 (dk_at dksX3_pairs_4 14 rfl rfl)
theorem dX3_pairs_107 : decode cX3_pairs 107 = .ok (.ifCond .eq 10, 3) := dk_153 0 10 (dk_at dksX3_pairs_4 16 rfl rfl)
theorem dX3_pairs_110 : decode cX3_pairs 110 = .ok (.aload_n 0, 1) := dk_42 (dk_at dksX3_pairs_4 19 rfl rfl)
theorem dX3_pairs_111 : decode cX3_pairs 111 = .ok (.getfield 109, 3) := dk_180 0 109 (dk_at dksX3_pairs_4 20 rfl rfl)
theorem dX3_pairs_114 : decode cX3_pairs 114 = .ok (.goto 4, 3) := dk_167 0 4 (dk_at dksX3_pairs_5 0 rfl rfl)
theorem dX3_pairs_117 : decode cX3_pairs 117 = .ok (.iconst 0, 1) := dk_3 (dk_at dksX3_pairs_5 3 rfl rfl)
theorem dX3_pairs_118 : decode cX3_pairs 118 = .ok (.iadd, 1) := dk_96 (dk_at dksX3_pairs_5 4 rfl rfl)
theorem dX3_pairs_119 : decode cX3_pairs 119 = .ok (.istore_n 3, 1) := dk_62 (dk_at dksX3_pairs_5 5 rfl rfl)
theorem dX3_pairs_120 : decode cX3_pairs 120 = .ok (.iinc 4 1, 3) := dk_132 4 1 (dk_at dksX3_pairs_5 6 rfl rfl)
theorem dX3_pairs_123 : decode cX3_pairs 123 = .ok (.goto (-118), 3) := dk_167 255 138 (dk_at dksX3_pairs_5 9 rfl rfl)
theorem dX3_pairs_126 : decode cX3_pairs 126 = .ok (.iload_n 3, 1) := dk_29 (dk_at dksX3_pairs_5 12 rfl rfl)
theorem dX3_pairs_127 : decode cX3_pairs 127 = .ok (.ireturn, 1) := dk_172 (dk_at dksX3_pairs_5 13 rfl rfl)
abbrev cX3_ifDug : ByteArray := prog_8_method_68_code
def yX3_ifDug : MethodName := ⟨RX3, "ifDug", "(III)I"⟩
def dkwX3_ifDug_1 : List UInt8 := [28, 29, 182, 0, 236, 167, 0, 8, 42, 4, 182, 0, 63, 172]
abbrev dktX3_ifDug_1 : List UInt8 := dkwX3_ifDug_1 ++ []
def dkwX3_ifDug_0 : List UInt8 := [42, 3, 181, 0, 44, 27, 28, 184, 0, 67, 153, 0, 22, 29, 3, 5, 184, 0, 48, 153, 0, 13, 42, 27]
abbrev dktX3_ifDug_0 : List UInt8 := dkwX3_ifDug_0 ++ dktX3_ifDug_1
theorem dksX3_ifDug_0 : cX3_ifDug.data.toList.drop 0 = dktX3_ifDug_0 := by decide +kernel
theorem dksX3_ifDug_1 : cX3_ifDug.data.toList.drop 24 = dktX3_ifDug_1 := dk_seg dksX3_ifDug_0 24 rfl rfl
theorem dX3_ifDug_0 : decode cX3_ifDug 0 = .ok (.aload_n 0, 1) := dk_42 (dk_at dksX3_ifDug_0 0 rfl rfl)
theorem dX3_ifDug_1 : decode cX3_ifDug 1 = .ok (.iconst 0, 1) := dk_3 (dk_at dksX3_ifDug_0 1 rfl rfl)
theorem dX3_ifDug_2 : decode cX3_ifDug 2 = .ok (.putfield 44, 3) := dk_181 0 44 (dk_at dksX3_ifDug_0 2 rfl rfl)
theorem dX3_ifDug_5 : decode cX3_ifDug 5 = .ok (.iload_n 1, 1) := dk_27 (dk_at dksX3_ifDug_0 5 rfl rfl)
theorem dX3_ifDug_6 : decode cX3_ifDug 6 = .ok (.iload_n 2, 1) := dk_28 (dk_at dksX3_ifDug_0 6 rfl rfl)
theorem dX3_ifDug_7 : decode cX3_ifDug 7 = .ok (.invokestatic 67, 3) := dk_184 0 67 (dk_at dksX3_ifDug_0 7 rfl rfl)
theorem dX3_ifDug_10 : decode cX3_ifDug 10 = .ok (.ifCond .eq 22, 3) := dk_153 0 22 (dk_at dksX3_ifDug_0 10 rfl rfl)
theorem dX3_ifDug_13 : decode cX3_ifDug 13 = .ok (.iload_n 3, 1) := dk_29 (dk_at dksX3_ifDug_0 13 rfl rfl)
theorem dX3_ifDug_14 : decode cX3_ifDug 14 = .ok (.iconst 0, 1) := dk_3 (dk_at dksX3_ifDug_0 14 rfl rfl)
theorem dX3_ifDug_15 : decode cX3_ifDug 15 = .ok (.iconst 2, 1) := dk_5 (dk_at dksX3_ifDug_0 15 rfl rfl)
theorem dX3_ifDug_16 : decode cX3_ifDug 16 = .ok (.invokestatic 48, 3) := dk_184 0 48 (dk_at dksX3_ifDug_0 16 rfl rfl)
theorem dX3_ifDug_19 : decode cX3_ifDug 19 = .ok (.ifCond .eq 13, 3) := dk_153 0 13 (dk_at dksX3_ifDug_0 19 rfl rfl)
theorem dX3_ifDug_22 : decode cX3_ifDug 22 = .ok (.aload_n 0, 1) := dk_42 (dk_at dksX3_ifDug_0 22 rfl rfl)
theorem dX3_ifDug_23 : decode cX3_ifDug 23 = .ok (.iload_n 1, 1) := dk_27 (dk_at dksX3_ifDug_0 23 rfl rfl)
theorem dX3_ifDug_24 : decode cX3_ifDug 24 = .ok (.iload_n 2, 1) := dk_28 (dk_at dksX3_ifDug_1 0 rfl rfl)
theorem dX3_ifDug_25 : decode cX3_ifDug 25 = .ok (.iload_n 3, 1) := dk_29 (dk_at dksX3_ifDug_1 1 rfl rfl)
theorem dX3_ifDug_26 : decode cX3_ifDug 26 = .ok (.invokevirtual 236, 3) := dk_182 0 236 (dk_at dksX3_ifDug_1 2 rfl rfl)
theorem dX3_ifDug_29 : decode cX3_ifDug 29 = .ok (.goto 8, 3) := dk_167 0 8 (dk_at dksX3_ifDug_1 5 rfl rfl)
theorem dX3_ifDug_32 : decode cX3_ifDug 32 = .ok (.aload_n 0, 1) := dk_42 (dk_at dksX3_ifDug_1 8 rfl rfl)
theorem dX3_ifDug_33 : decode cX3_ifDug 33 = .ok (.iconst 1, 1) := dk_4 (dk_at dksX3_ifDug_1 9 rfl rfl)
theorem dX3_ifDug_34 : decode cX3_ifDug 34 = .ok (.invokevirtual 63, 3) := dk_182 0 63 (dk_at dksX3_ifDug_1 10 rfl rfl)
theorem dX3_ifDug_37 : decode cX3_ifDug 37 = .ok (.ireturn, 1) := dk_172 (dk_at dksX3_ifDug_1 13 rfl rfl)
abbrev cX3_byDigging : ByteArray := prog_8_method_67_code
def yX3_byDigging : MethodName := ⟨RX3, "byDigging", "(III)I"⟩
def dkwX3_byDigging_2 : List UInt8 := [42, 42, 180, 0, 13, 29, 154, 0, 7, 4, 167, 0, 4, 5, 182, 0, 227, 172]
abbrev dktX3_byDigging_2 : List UInt8 := dkwX3_byDigging_2 ++ []
def dkwX3_byDigging_1 : List UInt8 := [28, 104, 27, 96, 184, 0, 155, 29, 4, 160, 0, 15, 42, 42, 180, 0, 13, 4, 182, 0, 223, 167, 0, 20]
abbrev dktX3_byDigging_1 : List UInt8 := dkwX3_byDigging_1 ++ dktX3_byDigging_2
def dkwX3_byDigging_0 : List UInt8 := [42, 180, 0, 7, 27, 28, 184, 0, 74, 155, 0, 5, 2, 172, 42, 182, 0, 233, 42, 180, 0, 13, 16, 16]
abbrev dktX3_byDigging_0 : List UInt8 := dkwX3_byDigging_0 ++ dktX3_byDigging_1
theorem dksX3_byDigging_0 : cX3_byDigging.data.toList.drop 0 = dktX3_byDigging_0 := by decide +kernel
theorem dksX3_byDigging_1 : cX3_byDigging.data.toList.drop 24 = dktX3_byDigging_1 := dk_seg dksX3_byDigging_0 24 rfl rfl
theorem dksX3_byDigging_2 : cX3_byDigging.data.toList.drop 48 = dktX3_byDigging_2 := dk_seg dksX3_byDigging_1 24 rfl rfl
theorem dX3_byDigging_0 : decode cX3_byDigging 0 = .ok (.aload_n 0, 1) := dk_42 (dk_at dksX3_byDigging_0 0 rfl rfl)
theorem dX3_byDigging_1 : decode cX3_byDigging 1 = .ok (.getfield 7, 3) := dk_180 0 7 (dk_at dksX3_byDigging_0 1 rfl rfl)
theorem dX3_byDigging_4 : decode cX3_byDigging 4 = .ok (.iload_n 1, 1) := dk_27 (dk_at dksX3_byDigging_0 4 rfl rfl)
theorem dX3_byDigging_5 : decode cX3_byDigging 5 = .ok (.iload_n 2, 1) := dk_28 (dk_at dksX3_byDigging_0 5 rfl rfl)
theorem dX3_byDigging_6 : decode cX3_byDigging 6 = .ok (.invokestatic 74, 3) := dk_184 0 74 (dk_at dksX3_byDigging_0 6 rfl rfl)
theorem dX3_byDigging_9 : decode cX3_byDigging 9 = .ok (.ifCond .lt 5, 3) := dk_155 0 5 (dk_at dksX3_byDigging_0 9 rfl rfl)
theorem dX3_byDigging_12 : decode cX3_byDigging 12 = .ok (.iconst (-1), 1) := dk_2 (dk_at dksX3_byDigging_0 12 rfl rfl)
theorem dX3_byDigging_13 : decode cX3_byDigging 13 = .ok (.ireturn, 1) := dk_172 (dk_at dksX3_byDigging_0 13 rfl rfl)
theorem dX3_byDigging_14 : decode cX3_byDigging 14 = .ok (.aload_n 0, 1) := dk_42 (dk_at dksX3_byDigging_0 14 rfl rfl)
theorem dX3_byDigging_15 : decode cX3_byDigging 15 = .ok (.invokevirtual 233, 3) := dk_182 0 233 (dk_at dksX3_byDigging_0 15 rfl rfl)
theorem dX3_byDigging_18 : decode cX3_byDigging 18 = .ok (.aload_n 0, 1) := dk_42 (dk_at dksX3_byDigging_0 18 rfl rfl)
theorem dX3_byDigging_19 : decode cX3_byDigging 19 = .ok (.getfield 13, 3) := dk_180 0 13 (dk_at dksX3_byDigging_0 19 rfl rfl)
theorem dX3_byDigging_22 : decode cX3_byDigging 22 = .ok (.bipush 16, 2) := dk_16 16 (dk_at dksX3_byDigging_0 22 rfl rfl)
theorem dX3_byDigging_24 : decode cX3_byDigging 24 = .ok (.iload_n 2, 1) := dk_28 (dk_at dksX3_byDigging_1 0 rfl rfl)
theorem dX3_byDigging_25 : decode cX3_byDigging 25 = .ok (.imul, 1) := dk_104 (dk_at dksX3_byDigging_1 1 rfl rfl)
theorem dX3_byDigging_26 : decode cX3_byDigging 26 = .ok (.iload_n 1, 1) := dk_27 (dk_at dksX3_byDigging_1 2 rfl rfl)
theorem dX3_byDigging_27 : decode cX3_byDigging 27 = .ok (.iadd, 1) := dk_96 (dk_at dksX3_byDigging_1 3 rfl rfl)
theorem dX3_byDigging_28 : decode cX3_byDigging 28 = .ok (.invokestatic 155, 3) := dk_184 0 155 (dk_at dksX3_byDigging_1 4 rfl rfl)
theorem dX3_byDigging_31 : decode cX3_byDigging 31 = .ok (.iload_n 3, 1) := dk_29 (dk_at dksX3_byDigging_1 7 rfl rfl)
theorem dX3_byDigging_32 : decode cX3_byDigging 32 = .ok (.iconst 1, 1) := dk_4 (dk_at dksX3_byDigging_1 8 rfl rfl)
theorem dX3_byDigging_33 : decode cX3_byDigging 33 = .ok (.if_icmp .ne 15, 3) := dk_160 0 15 (dk_at dksX3_byDigging_1 9 rfl rfl)
theorem dX3_byDigging_36 : decode cX3_byDigging 36 = .ok (.aload_n 0, 1) := dk_42 (dk_at dksX3_byDigging_1 12 rfl rfl)
theorem dX3_byDigging_37 : decode cX3_byDigging 37 = .ok (.aload_n 0, 1) := dk_42 (dk_at dksX3_byDigging_1 13 rfl rfl)
theorem dX3_byDigging_38 : decode cX3_byDigging 38 = .ok (.getfield 13, 3) := dk_180 0 13 (dk_at dksX3_byDigging_1 14 rfl rfl)
theorem dX3_byDigging_41 : decode cX3_byDigging 41 = .ok (.iconst 1, 1) := dk_4 (dk_at dksX3_byDigging_1 17 rfl rfl)
theorem dX3_byDigging_42 : decode cX3_byDigging 42 = .ok (.invokevirtual 223, 3) := dk_182 0 223 (dk_at dksX3_byDigging_1 18 rfl rfl)
theorem dX3_byDigging_45 : decode cX3_byDigging 45 = .ok (.goto 20, 3) := dk_167 0 20 (dk_at dksX3_byDigging_1 21 rfl rfl)
theorem dX3_byDigging_48 : decode cX3_byDigging 48 = .ok (.aload_n 0, 1) := dk_42 (dk_at dksX3_byDigging_2 0 rfl rfl)
theorem dX3_byDigging_49 : decode cX3_byDigging 49 = .ok (.aload_n 0, 1) := dk_42 (dk_at dksX3_byDigging_2 1 rfl rfl)
theorem dX3_byDigging_50 : decode cX3_byDigging 50 = .ok (.getfield 13, 3) := dk_180 0 13 (dk_at dksX3_byDigging_2 2 rfl rfl)
theorem dX3_byDigging_53 : decode cX3_byDigging 53 = .ok (.iload_n 3, 1) := dk_29 (dk_at dksX3_byDigging_2 5 rfl rfl)
theorem dX3_byDigging_54 : decode cX3_byDigging 54 = .ok (.ifCond .ne 7, 3) := dk_154 0 7 (dk_at dksX3_byDigging_2 6 rfl rfl)
theorem dX3_byDigging_57 : decode cX3_byDigging 57 = .ok (.iconst 1, 1) := dk_4 (dk_at dksX3_byDigging_2 9 rfl rfl)
theorem dX3_byDigging_58 : decode cX3_byDigging 58 = .ok (.goto 4, 3) := dk_167 0 4 (dk_at dksX3_byDigging_2 10 rfl rfl)
theorem dX3_byDigging_61 : decode cX3_byDigging 61 = .ok (.iconst 2, 1) := dk_5 (dk_at dksX3_byDigging_2 13 rfl rfl)
theorem dX3_byDigging_62 : decode cX3_byDigging 62 = .ok (.invokevirtual 227, 3) := dk_182 0 227 (dk_at dksX3_byDigging_2 14 rfl rfl)
theorem dX3_byDigging_65 : decode cX3_byDigging 65 = .ok (.ireturn, 1) := dk_172 (dk_at dksX3_byDigging_2 17 rfl rfl)
abbrev cX3_tries : ByteArray := prog_8_method_12_code
def yX3_tries : MethodName := ⟨RX3, "tries", "()V"⟩
def dkwX3_tries_0 : List UInt8 := [42, 180, 0, 7, 3, 42, 180, 0, 13, 3, 184, 0, 59, 177]
abbrev dktX3_tries_0 : List UInt8 := dkwX3_tries_0 ++ []
theorem dksX3_tries_0 : cX3_tries.data.toList.drop 0 = dktX3_tries_0 := by decide +kernel
theorem dX3_tries_0 : decode cX3_tries 0 = .ok (.aload_n 0, 1) := dk_42 (dk_at dksX3_tries_0 0 rfl rfl)
theorem dX3_tries_1 : decode cX3_tries 1 = .ok (.getfield 7, 3) := dk_180 0 7 (dk_at dksX3_tries_0 1 rfl rfl)
theorem dX3_tries_4 : decode cX3_tries 4 = .ok (.iconst 0, 1) := dk_3 (dk_at dksX3_tries_0 4 rfl rfl)
theorem dX3_tries_5 : decode cX3_tries 5 = .ok (.aload_n 0, 1) := dk_42 (dk_at dksX3_tries_0 5 rfl rfl)
theorem dX3_tries_6 : decode cX3_tries 6 = .ok (.getfield 13, 3) := dk_180 0 13 (dk_at dksX3_tries_0 6 rfl rfl)
theorem dX3_tries_9 : decode cX3_tries 9 = .ok (.iconst 0, 1) := dk_3 (dk_at dksX3_tries_0 9 rfl rfl)
theorem dX3_tries_10 : decode cX3_tries 10 = .ok (.invokestatic 59, 3) := dk_184 0 59 (dk_at dksX3_tries_0 10 rfl rfl)
theorem dX3_tries_13 : decode cX3_tries 13 = .ok (.return_, 1) := dk_177 (dk_at dksX3_tries_0 13 rfl rfl)
abbrev cX3_ifGiven : ByteArray := prog_8_method_70_code
def yX3_ifGiven : MethodName := ⟨RX3, "ifGiven", "(I)I"⟩
def dkwX3_ifGiven_1 : List UInt8 := [42, 4, 182, 0, 63, 172]
abbrev dktX3_ifGiven_1 : List UInt8 := dkwX3_ifGiven_1 ++ []
def dkwX3_ifGiven_0 : List UInt8 := [42, 3, 181, 0, 44, 42, 180, 0, 7, 27, 184, 0, 126, 153, 0, 11, 42, 27, 182, 0, 239, 167, 0, 8]
abbrev dktX3_ifGiven_0 : List UInt8 := dkwX3_ifGiven_0 ++ dktX3_ifGiven_1
theorem dksX3_ifGiven_0 : cX3_ifGiven.data.toList.drop 0 = dktX3_ifGiven_0 := by decide +kernel
theorem dksX3_ifGiven_1 : cX3_ifGiven.data.toList.drop 24 = dktX3_ifGiven_1 := dk_seg dksX3_ifGiven_0 24 rfl rfl
theorem dX3_ifGiven_0 : decode cX3_ifGiven 0 = .ok (.aload_n 0, 1) := dk_42 (dk_at dksX3_ifGiven_0 0 rfl rfl)
theorem dX3_ifGiven_1 : decode cX3_ifGiven 1 = .ok (.iconst 0, 1) := dk_3 (dk_at dksX3_ifGiven_0 1 rfl rfl)
theorem dX3_ifGiven_2 : decode cX3_ifGiven 2 = .ok (.putfield 44, 3) := dk_181 0 44 (dk_at dksX3_ifGiven_0 2 rfl rfl)
theorem dX3_ifGiven_5 : decode cX3_ifGiven 5 = .ok (.aload_n 0, 1) := dk_42 (dk_at dksX3_ifGiven_0 5 rfl rfl)
theorem dX3_ifGiven_6 : decode cX3_ifGiven 6 = .ok (.getfield 7, 3) := dk_180 0 7 (dk_at dksX3_ifGiven_0 6 rfl rfl)
theorem dX3_ifGiven_9 : decode cX3_ifGiven 9 = .ok (.iload_n 1, 1) := dk_27 (dk_at dksX3_ifGiven_0 9 rfl rfl)
theorem dX3_ifGiven_10 : decode cX3_ifGiven 10 = .ok (.invokestatic 126, 3) := dk_184 0 126 (dk_at dksX3_ifGiven_0 10 rfl rfl)
theorem dX3_ifGiven_13 : decode cX3_ifGiven 13 = .ok (.ifCond .eq 11, 3) := dk_153 0 11 (dk_at dksX3_ifGiven_0 13 rfl rfl)
theorem dX3_ifGiven_16 : decode cX3_ifGiven 16 = .ok (.aload_n 0, 1) := dk_42 (dk_at dksX3_ifGiven_0 16 rfl rfl)
theorem dX3_ifGiven_17 : decode cX3_ifGiven 17 = .ok (.iload_n 1, 1) := dk_27 (dk_at dksX3_ifGiven_0 17 rfl rfl)
theorem dX3_ifGiven_18 : decode cX3_ifGiven 18 = .ok (.invokevirtual 239, 3) := dk_182 0 239 (dk_at dksX3_ifGiven_0 18 rfl rfl)
theorem dX3_ifGiven_21 : decode cX3_ifGiven 21 = .ok (.goto 8, 3) := dk_167 0 8 (dk_at dksX3_ifGiven_0 21 rfl rfl)
theorem dX3_ifGiven_24 : decode cX3_ifGiven 24 = .ok (.aload_n 0, 1) := dk_42 (dk_at dksX3_ifGiven_1 0 rfl rfl)
theorem dX3_ifGiven_25 : decode cX3_ifGiven 25 = .ok (.iconst 1, 1) := dk_4 (dk_at dksX3_ifGiven_1 1 rfl rfl)
theorem dX3_ifGiven_26 : decode cX3_ifGiven 26 = .ok (.invokevirtual 63, 3) := dk_182 0 63 (dk_at dksX3_ifGiven_1 2 rfl rfl)
theorem dX3_ifGiven_29 : decode cX3_ifGiven 29 = .ok (.ireturn, 1) := dk_172 (dk_at dksX3_ifGiven_1 5 rfl rfl)
abbrev cX3_without : ByteArray := prog_8_method_69_code
def yX3_without : MethodName := ⟨RX3, "without", "(I)I"⟩
def dkwX3_without_0 : List UInt8 := [42, 182, 0, 233, 42, 180, 0, 13, 27, 184, 0, 144, 87, 42, 42, 180, 0, 13, 5, 182, 0, 227, 172]
abbrev dktX3_without_0 : List UInt8 := dkwX3_without_0 ++ []
theorem dksX3_without_0 : cX3_without.data.toList.drop 0 = dktX3_without_0 := by decide +kernel
theorem dX3_without_0 : decode cX3_without 0 = .ok (.aload_n 0, 1) := dk_42 (dk_at dksX3_without_0 0 rfl rfl)
theorem dX3_without_1 : decode cX3_without 1 = .ok (.invokevirtual 233, 3) := dk_182 0 233 (dk_at dksX3_without_0 1 rfl rfl)
theorem dX3_without_4 : decode cX3_without 4 = .ok (.aload_n 0, 1) := dk_42 (dk_at dksX3_without_0 4 rfl rfl)
theorem dX3_without_5 : decode cX3_without 5 = .ok (.getfield 13, 3) := dk_180 0 13 (dk_at dksX3_without_0 5 rfl rfl)
theorem dX3_without_8 : decode cX3_without 8 = .ok (.iload_n 1, 1) := dk_27 (dk_at dksX3_without_0 8 rfl rfl)
theorem dX3_without_9 : decode cX3_without 9 = .ok (.invokestatic 144, 3) := dk_184 0 144 (dk_at dksX3_without_0 9 rfl rfl)
theorem dX3_without_12 : decode cX3_without 12 = .ok (.pop, 1) := dk_87 (dk_at dksX3_without_0 12 rfl rfl)
theorem dX3_without_13 : decode cX3_without 13 = .ok (.aload_n 0, 1) := dk_42 (dk_at dksX3_without_0 13 rfl rfl)
theorem dX3_without_14 : decode cX3_without 14 = .ok (.aload_n 0, 1) := dk_42 (dk_at dksX3_without_0 14 rfl rfl)
theorem dX3_without_15 : decode cX3_without 15 = .ok (.getfield 13, 3) := dk_180 0 13 (dk_at dksX3_without_0 15 rfl rfl)
theorem dX3_without_18 : decode cX3_without 18 = .ok (.iconst 2, 1) := dk_5 (dk_at dksX3_without_0 18 rfl rfl)
theorem dX3_without_19 : decode cX3_without 19 = .ok (.invokevirtual 227, 3) := dk_182 0 227 (dk_at dksX3_without_0 19 rfl rfl)
theorem dX3_without_22 : decode cX3_without 22 = .ok (.ireturn, 1) := dk_172 (dk_at dksX3_without_0 22 rfl rfl)
abbrev cX3_allCost : ByteArray := prog_8_method_72_code
def yX3_allCost : MethodName := ⟨RX3, "allCost", "()I"⟩
def dkwX3_allCost_0 : List UInt8 := [42, 3, 181, 0, 44, 42, 182, 0, 242, 172]
abbrev dktX3_allCost_0 : List UInt8 := dkwX3_allCost_0 ++ []
theorem dksX3_allCost_0 : cX3_allCost.data.toList.drop 0 = dktX3_allCost_0 := by decide +kernel
theorem dX3_allCost_0 : decode cX3_allCost 0 = .ok (.aload_n 0, 1) := dk_42 (dk_at dksX3_allCost_0 0 rfl rfl)
theorem dX3_allCost_1 : decode cX3_allCost 1 = .ok (.iconst 0, 1) := dk_3 (dk_at dksX3_allCost_0 1 rfl rfl)
theorem dX3_allCost_2 : decode cX3_allCost 2 = .ok (.putfield 44, 3) := dk_181 0 44 (dk_at dksX3_allCost_0 2 rfl rfl)
theorem dX3_allCost_5 : decode cX3_allCost 5 = .ok (.aload_n 0, 1) := dk_42 (dk_at dksX3_allCost_0 5 rfl rfl)
theorem dX3_allCost_6 : decode cX3_allCost 6 = .ok (.invokevirtual 242, 3) := dk_182 0 242 (dk_at dksX3_allCost_0 6 rfl rfl)
theorem dX3_allCost_9 : decode cX3_allCost 9 = .ok (.ireturn, 1) := dk_172 (dk_at dksX3_allCost_0 9 rfl rfl)
abbrev cX3_forAll : ByteArray := prog_8_method_71_code
def yX3_forAll : MethodName := ⟨RX3, "forAll", "()I"⟩
def dkwX3_forAll_1 : List UInt8 := [42, 42, 180, 0, 13, 182, 0, 158, 61, 167, 255, 238, 27, 172]
abbrev dktX3_forAll_1 : List UInt8 := dkwX3_forAll_1 ++ []
def dkwX3_forAll_0 : List UInt8 := [42, 182, 0, 233, 3, 60, 42, 42, 180, 0, 13, 182, 0, 158, 61, 28, 2, 159, 0, 19, 27, 28, 96, 60]
abbrev dktX3_forAll_0 : List UInt8 := dkwX3_forAll_0 ++ dktX3_forAll_1
theorem dksX3_forAll_0 : cX3_forAll.data.toList.drop 0 = dktX3_forAll_0 := by decide +kernel
theorem dksX3_forAll_1 : cX3_forAll.data.toList.drop 24 = dktX3_forAll_1 := dk_seg dksX3_forAll_0 24 rfl rfl
theorem dX3_forAll_0 : decode cX3_forAll 0 = .ok (.aload_n 0, 1) := dk_42 (dk_at dksX3_forAll_0 0 rfl rfl)
theorem dX3_forAll_1 : decode cX3_forAll 1 = .ok (.invokevirtual 233, 3) := dk_182 0 233 (dk_at dksX3_forAll_0 1 rfl rfl)
theorem dX3_forAll_4 : decode cX3_forAll 4 = .ok (.iconst 0, 1) := dk_3 (dk_at dksX3_forAll_0 4 rfl rfl)
theorem dX3_forAll_5 : decode cX3_forAll 5 = .ok (.istore_n 1, 1) := dk_60 (dk_at dksX3_forAll_0 5 rfl rfl)
theorem dX3_forAll_6 : decode cX3_forAll 6 = .ok (.aload_n 0, 1) := dk_42 (dk_at dksX3_forAll_0 6 rfl rfl)
theorem dX3_forAll_7 : decode cX3_forAll 7 = .ok (.aload_n 0, 1) := dk_42 (dk_at dksX3_forAll_0 7 rfl rfl)
theorem dX3_forAll_8 : decode cX3_forAll 8 = .ok (.getfield 13, 3) := dk_180 0 13 (dk_at dksX3_forAll_0 8 rfl rfl)
theorem dX3_forAll_11 : decode cX3_forAll 11 = .ok (.invokevirtual 158, 3) := dk_182 0 158 (dk_at dksX3_forAll_0 11 rfl rfl)
theorem dX3_forAll_14 : decode cX3_forAll 14 = .ok (.istore_n 2, 1) := dk_61 (dk_at dksX3_forAll_0 14 rfl rfl)
theorem dX3_forAll_15 : decode cX3_forAll 15 = .ok (.iload_n 2, 1) := dk_28 (dk_at dksX3_forAll_0 15 rfl rfl)
theorem dX3_forAll_16 : decode cX3_forAll 16 = .ok (.iconst (-1), 1) := dk_2 (dk_at dksX3_forAll_0 16 rfl rfl)
theorem dX3_forAll_17 : decode cX3_forAll 17 = .ok (.if_icmp .eq 19, 3) := dk_159 0 19 (dk_at dksX3_forAll_0 17 rfl rfl)
theorem dX3_forAll_20 : decode cX3_forAll 20 = .ok (.iload_n 1, 1) := dk_27 (dk_at dksX3_forAll_0 20 rfl rfl)
theorem dX3_forAll_21 : decode cX3_forAll 21 = .ok (.iload_n 2, 1) := dk_28 (dk_at dksX3_forAll_0 21 rfl rfl)
theorem dX3_forAll_22 : decode cX3_forAll 22 = .ok (.iadd, 1) := dk_96 (dk_at dksX3_forAll_0 22 rfl rfl)
theorem dX3_forAll_23 : decode cX3_forAll 23 = .ok (.istore_n 1, 1) := dk_60 (dk_at dksX3_forAll_0 23 rfl rfl)
theorem dX3_forAll_24 : decode cX3_forAll 24 = .ok (.aload_n 0, 1) := dk_42 (dk_at dksX3_forAll_1 0 rfl rfl)
theorem dX3_forAll_25 : decode cX3_forAll 25 = .ok (.aload_n 0, 1) := dk_42 (dk_at dksX3_forAll_1 1 rfl rfl)
theorem dX3_forAll_26 : decode cX3_forAll 26 = .ok (.getfield 13, 3) := dk_180 0 13 (dk_at dksX3_forAll_1 2 rfl rfl)
theorem dX3_forAll_29 : decode cX3_forAll 29 = .ok (.invokevirtual 158, 3) := dk_182 0 158 (dk_at dksX3_forAll_1 5 rfl rfl)
theorem dX3_forAll_32 : decode cX3_forAll 32 = .ok (.istore_n 2, 1) := dk_61 (dk_at dksX3_forAll_1 8 rfl rfl)
theorem dX3_forAll_33 : decode cX3_forAll 33 = .ok (.goto (-18), 3) := dk_167 255 238 (dk_at dksX3_forAll_1 9 rfl rfl)
theorem dX3_forAll_36 : decode cX3_forAll 36 = .ok (.iload_n 1, 1) := dk_27 (dk_at dksX3_forAll_1 12 rfl rfl)
theorem dX3_forAll_37 : decode cX3_forAll 37 = .ok (.ireturn, 1) := dk_172 (dk_at dksX3_forAll_1 13 rfl rfl)
abbrev cX3_openShare : ByteArray := prog_8_method_74_code
def yX3_openShare : MethodName := ⟨RX3, "openShare", "()D"⟩
def dkwX3_openShare_0 : List UInt8 := [42, 3, 181, 0, 44, 42, 182, 0, 245, 175]
abbrev dktX3_openShare_0 : List UInt8 := dkwX3_openShare_0 ++ []
theorem dksX3_openShare_0 : cX3_openShare.data.toList.drop 0 = dktX3_openShare_0 := by decide +kernel
theorem dX3_openShare_0 : decode cX3_openShare 0 = .ok (.aload_n 0, 1) := dk_42 (dk_at dksX3_openShare_0 0 rfl rfl)
theorem dX3_openShare_1 : decode cX3_openShare 1 = .ok (.iconst 0, 1) := dk_3 (dk_at dksX3_openShare_0 1 rfl rfl)
theorem dX3_openShare_2 : decode cX3_openShare 2 = .ok (.putfield 44, 3) := dk_181 0 44 (dk_at dksX3_openShare_0 2 rfl rfl)
theorem dX3_openShare_5 : decode cX3_openShare 5 = .ok (.aload_n 0, 1) := dk_42 (dk_at dksX3_openShare_0 5 rfl rfl)
theorem dX3_openShare_6 : decode cX3_openShare 6 = .ok (.invokevirtual 245, 3) := dk_182 0 245 (dk_at dksX3_openShare_0 6 rfl rfl)
theorem dX3_openShare_9 : decode cX3_openShare 9 = .ok (.dreturn, 1) := dk_175 (dk_at dksX3_openShare_0 9 rfl rfl)
abbrev cX3_share : ByteArray := prog_8_method_73_code
def yX3_share : MethodName := ⟨RX3, "share", "()D"⟩
def dkwX3_share_1 : List UInt8 := [4, 182, 0, 227, 100, 135, 27, 135, 111, 175]
abbrev dktX3_share_1 : List UInt8 := dkwX3_share_1 ++ []
def dkwX3_share_0 : List UInt8 := [42, 42, 180, 0, 7, 3, 182, 0, 227, 60, 27, 154, 0, 7, 15, 167, 0, 18, 27, 42, 42, 180, 0, 7]
abbrev dktX3_share_0 : List UInt8 := dkwX3_share_0 ++ dktX3_share_1
theorem dksX3_share_0 : cX3_share.data.toList.drop 0 = dktX3_share_0 := by decide +kernel
theorem dksX3_share_1 : cX3_share.data.toList.drop 24 = dktX3_share_1 := dk_seg dksX3_share_0 24 rfl rfl
theorem dX3_share_0 : decode cX3_share 0 = .ok (.aload_n 0, 1) := dk_42 (dk_at dksX3_share_0 0 rfl rfl)
theorem dX3_share_1 : decode cX3_share 1 = .ok (.aload_n 0, 1) := dk_42 (dk_at dksX3_share_0 1 rfl rfl)
theorem dX3_share_2 : decode cX3_share 2 = .ok (.getfield 7, 3) := dk_180 0 7 (dk_at dksX3_share_0 2 rfl rfl)
theorem dX3_share_5 : decode cX3_share 5 = .ok (.iconst 0, 1) := dk_3 (dk_at dksX3_share_0 5 rfl rfl)
theorem dX3_share_6 : decode cX3_share 6 = .ok (.invokevirtual 227, 3) := dk_182 0 227 (dk_at dksX3_share_0 6 rfl rfl)
theorem dX3_share_9 : decode cX3_share 9 = .ok (.istore_n 1, 1) := dk_60 (dk_at dksX3_share_0 9 rfl rfl)
theorem dX3_share_10 : decode cX3_share 10 = .ok (.iload_n 1, 1) := dk_27 (dk_at dksX3_share_0 10 rfl rfl)
theorem dX3_share_11 : decode cX3_share 11 = .ok (.ifCond .ne 7, 3) := dk_154 0 7 (dk_at dksX3_share_0 11 rfl rfl)
theorem dX3_share_14 : decode cX3_share 14 = .ok (.dconst 1, 1) := dk_15 (dk_at dksX3_share_0 14 rfl rfl)
theorem dX3_share_15 : decode cX3_share 15 = .ok (.goto 18, 3) := dk_167 0 18 (dk_at dksX3_share_0 15 rfl rfl)
theorem dX3_share_18 : decode cX3_share 18 = .ok (.iload_n 1, 1) := dk_27 (dk_at dksX3_share_0 18 rfl rfl)
theorem dX3_share_19 : decode cX3_share 19 = .ok (.aload_n 0, 1) := dk_42 (dk_at dksX3_share_0 19 rfl rfl)
theorem dX3_share_20 : decode cX3_share 20 = .ok (.aload_n 0, 1) := dk_42 (dk_at dksX3_share_0 20 rfl rfl)
theorem dX3_share_21 : decode cX3_share 21 = .ok (.getfield 7, 3) := dk_180 0 7 (dk_at dksX3_share_0 21 rfl rfl)
theorem dX3_share_24 : decode cX3_share 24 = .ok (.iconst 1, 1) := dk_4 (dk_at dksX3_share_1 0 rfl rfl)
theorem dX3_share_25 : decode cX3_share 25 = .ok (.invokevirtual 227, 3) := dk_182 0 227 (dk_at dksX3_share_1 1 rfl rfl)
theorem dX3_share_28 : decode cX3_share 28 = .ok (.isub, 1) := dk_100 (dk_at dksX3_share_1 4 rfl rfl)
theorem dX3_share_29 : decode cX3_share 29 = .ok (.i2d, 1) := dk_135 (dk_at dksX3_share_1 5 rfl rfl)
theorem dX3_share_30 : decode cX3_share 30 = .ok (.iload_n 1, 1) := dk_27 (dk_at dksX3_share_1 6 rfl rfl)
theorem dX3_share_31 : decode cX3_share 31 = .ok (.i2d, 1) := dk_135 (dk_at dksX3_share_1 7 rfl rfl)
theorem dX3_share_32 : decode cX3_share 32 = .ok (.ddiv, 1) := dk_111 (dk_at dksX3_share_1 8 rfl rfl)
theorem dX3_share_33 : decode cX3_share 33 = .ok (.dreturn, 1) := dk_175 (dk_at dksX3_share_1 9 rfl rfl)
abbrev cX3_digest : ByteArray := prog_8_method_75_code
def yX3_digest : MethodName := ⟨RX3, "digest", "()J"⟩
def dkwX3_digest_19 : List UInt8 := [105, 42, 180, 0, 19, 21, 4, 46, 133, 97, 64, 132, 4, 1, 167, 255, 229, 31, 173]
abbrev dktX3_digest_19 : List UInt8 := dkwX3_digest_19 ++ []
def dkwX3_digest_18 : List UInt8 := [105, 42, 180, 0, 164, 133, 97, 64, 3, 54, 4, 21, 4, 42, 180, 0, 164, 162, 0, 24, 20, 0, 251, 31]
abbrev dktX3_digest_18 : List UInt8 := dkwX3_digest_18 ++ dktX3_digest_19
def dkwX3_digest_17 : List UInt8 := [105, 42, 182, 0, 242, 133, 97, 64, 20, 0, 251, 20, 0, 251, 31, 105, 42, 182, 0, 245, 184, 0, 253, 97]
abbrev dktX3_digest_17 : List UInt8 := dkwX3_digest_17 ++ dktX3_digest_18
def dkwX3_digest_16 : List UInt8 := [160, 0, 7, 31, 167, 0, 15, 20, 0, 251, 31, 105, 42, 29, 182, 0, 239, 133, 97, 64, 20, 0, 251, 31]
abbrev dktX3_digest_16 : List UInt8 := dkwX3_digest_16 ++ dktX3_digest_17
def dkwX3_digest_15 : List UInt8 := [31, 105, 42, 16, 8, 16, 6, 21, 4, 182, 0, 236, 133, 97, 64, 132, 4, 1, 167, 255, 229, 29, 2]
abbrev dktX3_digest_15 : List UInt8 := dkwX3_digest_15 ++ dktX3_digest_16
def dkwX3_digest_14 : List UInt8 := [132, 5, 1, 167, 255, 180, 132, 4, 1, 167, 255, 164, 3, 54, 4, 21, 4, 6, 162, 0, 27, 20, 0, 251]
abbrev dktX3_digest_14 : List UInt8 := dkwX3_digest_14 ++ dktX3_digest_15
def dkwX3_digest_13 : List UInt8 := [20, 0, 251, 31, 105, 42, 21, 4, 16, 6, 108, 21, 4, 16, 6, 112, 21, 5, 182, 0, 214, 133, 97, 64]
abbrev dktX3_digest_13 : List UInt8 := dkwX3_digest_13 ++ dktX3_digest_14
def dkwX3_digest_12 : List UInt8 := [108, 184, 0, 126, 153, 0, 48, 42, 180, 0, 7, 21, 4, 16, 6, 112, 184, 0, 126, 153, 0, 33]
abbrev dktX3_digest_12 : List UInt8 := dkwX3_digest_12 ++ dktX3_digest_13
def dkwX3_digest_11 : List UInt8 := [162, 0, 76, 21, 4, 16, 6, 108, 21, 4, 16, 6, 112, 162, 0, 63, 42, 180, 0, 7, 21, 4, 16, 6]
abbrev dktX3_digest_11 : List UInt8 := dkwX3_digest_11 ++ dktX3_digest_12
def dkwX3_digest_10 : List UInt8 := [132, 4, 1, 167, 255, 176, 3, 54, 4, 21, 4, 16, 36, 162, 0, 91, 3, 54, 5, 21, 5, 8]
abbrev dktX3_digest_10 : List UInt8 := dkwX3_digest_10 ++ dktX3_digest_11
def dkwX3_digest_9 : List UInt8 := [20, 0, 251, 31, 105, 42, 21, 4, 21, 5, 182, 0, 210, 133, 97, 64, 132, 5, 1, 167, 255, 218]
abbrev dktX3_digest_9 : List UInt8 := dkwX3_digest_9 ++ dktX3_digest_10
def dkwX3_digest_8 : List UInt8 := [64, 3, 54, 5, 21, 5, 16, 8, 162, 0, 37, 42, 180, 0, 7, 21, 4, 184, 0, 126, 153, 0, 25]
abbrev dktX3_digest_8 : List UInt8 := dkwX3_digest_8 ++ dktX3_digest_9
def dkwX3_digest_7 : List UInt8 := [180, 0, 7, 21, 4, 184, 0, 126, 153, 0, 15, 20, 0, 251, 31, 105, 21, 4, 133, 97, 167, 0, 4, 31]
abbrev dktX3_digest_7 : List UInt8 := dkwX3_digest_7 ++ dktX3_digest_8
def dkwX3_digest_6 : List UInt8 := [167, 0, 4, 29, 62, 132, 4, 255, 167, 255, 229, 3, 54, 4, 21, 4, 16, 6, 162, 0, 79, 42]
abbrev dktX3_digest_6 : List UInt8 := dkwX3_digest_6 ++ dktX3_digest_7
def dkwX3_digest_5 : List UInt8 := [62, 8, 54, 4, 21, 4, 155, 0, 28, 42, 180, 0, 7, 21, 4, 184, 0, 126, 153, 0, 8, 21, 4]
abbrev dktX3_digest_5 : List UInt8 := dkwX3_digest_5 ++ dktX3_digest_6
def dkwX3_digest_4 : List UInt8 := [16, 16, 112, 29, 16, 16, 108, 184, 0, 203, 133, 97, 167, 0, 4, 31, 64, 132, 3, 1, 167, 255, 195, 2]
abbrev dktX3_digest_4 : List UInt8 := dkwX3_digest_4 ++ dktX3_digest_5
def dkwX3_digest_3 : List UInt8 := [133, 97, 64, 42, 180, 0, 7, 29, 46, 2, 160, 0, 28, 20, 0, 251, 31, 105, 42, 180, 0, 7, 29]
abbrev dktX3_digest_3 : List UInt8 := dkwX3_digest_3 ++ dktX3_digest_4
def dkwX3_digest_2 : List UInt8 := [46, 133, 97, 64, 3, 62, 29, 17, 0, 192, 162, 0, 60, 20, 0, 251, 31, 105, 42, 180, 0, 7, 29, 46]
abbrev dktX3_digest_2 : List UInt8 := dkwX3_digest_2 ++ dktX3_digest_3
def dkwX3_digest_1 : List UInt8 := [182, 0, 230, 133, 97, 64, 132, 3, 1, 167, 255, 234, 20, 0, 251, 31, 105, 42, 180, 0, 7, 17, 0, 252]
abbrev dktX3_digest_1 : List UInt8 := dkwX3_digest_1 ++ dktX3_digest_2
def dkwX3_digest_0 : List UInt8 := [42, 3, 181, 0, 44, 20, 0, 249, 64, 3, 62, 29, 16, 9, 162, 0, 22, 20, 0, 251, 31, 105, 42, 29]
abbrev dktX3_digest_0 : List UInt8 := dkwX3_digest_0 ++ dktX3_digest_1
theorem dksX3_digest_0 : cX3_digest.data.toList.drop 0 = dktX3_digest_0 := by decide +kernel
theorem dksX3_digest_1 : cX3_digest.data.toList.drop 24 = dktX3_digest_1 := dk_seg dksX3_digest_0 24 rfl rfl
theorem dksX3_digest_2 : cX3_digest.data.toList.drop 48 = dktX3_digest_2 := dk_seg dksX3_digest_1 24 rfl rfl
theorem dksX3_digest_3 : cX3_digest.data.toList.drop 72 = dktX3_digest_3 := dk_seg dksX3_digest_2 24 rfl rfl
theorem dksX3_digest_4 : cX3_digest.data.toList.drop 95 = dktX3_digest_4 := dk_seg dksX3_digest_3 23 rfl rfl
theorem dksX3_digest_5 : cX3_digest.data.toList.drop 119 = dktX3_digest_5 := dk_seg dksX3_digest_4 24 rfl rfl
theorem dksX3_digest_6 : cX3_digest.data.toList.drop 142 = dktX3_digest_6 := dk_seg dksX3_digest_5 23 rfl rfl
theorem dksX3_digest_7 : cX3_digest.data.toList.drop 164 = dktX3_digest_7 := dk_seg dksX3_digest_6 22 rfl rfl
theorem dksX3_digest_8 : cX3_digest.data.toList.drop 188 = dktX3_digest_8 := dk_seg dksX3_digest_7 24 rfl rfl
theorem dksX3_digest_9 : cX3_digest.data.toList.drop 211 = dktX3_digest_9 := dk_seg dksX3_digest_8 23 rfl rfl
theorem dksX3_digest_10 : cX3_digest.data.toList.drop 233 = dktX3_digest_10 := dk_seg dksX3_digest_9 22 rfl rfl
theorem dksX3_digest_11 : cX3_digest.data.toList.drop 255 = dktX3_digest_11 := dk_seg dksX3_digest_10 22 rfl rfl
theorem dksX3_digest_12 : cX3_digest.data.toList.drop 279 = dktX3_digest_12 := dk_seg dksX3_digest_11 24 rfl rfl
theorem dksX3_digest_13 : cX3_digest.data.toList.drop 301 = dktX3_digest_13 := dk_seg dksX3_digest_12 22 rfl rfl
theorem dksX3_digest_14 : cX3_digest.data.toList.drop 325 = dktX3_digest_14 := dk_seg dksX3_digest_13 24 rfl rfl
theorem dksX3_digest_15 : cX3_digest.data.toList.drop 349 = dktX3_digest_15 := dk_seg dksX3_digest_14 24 rfl rfl
theorem dksX3_digest_16 : cX3_digest.data.toList.drop 372 = dktX3_digest_16 := dk_seg dksX3_digest_15 23 rfl rfl
theorem dksX3_digest_17 : cX3_digest.data.toList.drop 396 = dktX3_digest_17 := dk_seg dksX3_digest_16 24 rfl rfl
theorem dksX3_digest_18 : cX3_digest.data.toList.drop 420 = dktX3_digest_18 := dk_seg dksX3_digest_17 24 rfl rfl
theorem dksX3_digest_19 : cX3_digest.data.toList.drop 444 = dktX3_digest_19 := dk_seg dksX3_digest_18 24 rfl rfl
theorem dX3_digest_0 : decode cX3_digest 0 = .ok (.aload_n 0, 1) := dk_42 (dk_at dksX3_digest_0 0 rfl rfl)
theorem dX3_digest_1 : decode cX3_digest 1 = .ok (.iconst 0, 1) := dk_3 (dk_at dksX3_digest_0 1 rfl rfl)
theorem dX3_digest_2 : decode cX3_digest 2 = .ok (.putfield 44, 3) := dk_181 0 44 (dk_at dksX3_digest_0 2 rfl rfl)
theorem dX3_digest_5 : decode cX3_digest 5 = .ok (.ldc2_w 249, 3) := dk_20 0 249 (dk_at dksX3_digest_0 5 rfl rfl)
theorem dX3_digest_8 : decode cX3_digest 8 = .ok (.lstore_n 1, 1) := dk_64 (dk_at dksX3_digest_0 8 rfl rfl)
theorem dX3_digest_9 : decode cX3_digest 9 = .ok (.iconst 0, 1) := dk_3 (dk_at dksX3_digest_0 9 rfl rfl)
theorem dX3_digest_10 : decode cX3_digest 10 = .ok (.istore_n 3, 1) := dk_62 (dk_at dksX3_digest_0 10 rfl rfl)
theorem dX3_digest_11 : decode cX3_digest 11 = .ok (.iload_n 3, 1) := dk_29 (dk_at dksX3_digest_0 11 rfl rfl)
theorem dX3_digest_12 : decode cX3_digest 12 = .ok (.bipush 9, 2) := dk_16 9 (dk_at dksX3_digest_0 12 rfl rfl)
theorem dX3_digest_14 : decode cX3_digest 14 = .ok (.if_icmp .ge 22, 3) := dk_162 0 22 (dk_at dksX3_digest_0 14 rfl rfl)
theorem dX3_digest_17 : decode cX3_digest 17 = .ok (.ldc2_w 251, 3) := dk_20 0 251 (dk_at dksX3_digest_0 17 rfl rfl)
theorem dX3_digest_20 : decode cX3_digest 20 = .ok (.lload_n 1, 1) := dk_31 (dk_at dksX3_digest_0 20 rfl rfl)
theorem dX3_digest_21 : decode cX3_digest 21 = .ok (.lmul, 1) := dk_105 (dk_at dksX3_digest_0 21 rfl rfl)
theorem dX3_digest_22 : decode cX3_digest 22 = .ok (.aload_n 0, 1) := dk_42 (dk_at dksX3_digest_0 22 rfl rfl)
theorem dX3_digest_23 : decode cX3_digest 23 = .ok (.iload_n 3, 1) := dk_29 (dk_at dksX3_digest_0 23 rfl rfl)
theorem dX3_digest_24 : decode cX3_digest 24 = .ok (.invokevirtual 230, 3) := dk_182 0 230 (dk_at dksX3_digest_1 0 rfl rfl)
theorem dX3_digest_27 : decode cX3_digest 27 = .ok (.i2l, 1) := dk_133 (dk_at dksX3_digest_1 3 rfl rfl)
theorem dX3_digest_28 : decode cX3_digest 28 = .ok (.ladd, 1) := dk_97 (dk_at dksX3_digest_1 4 rfl rfl)
theorem dX3_digest_29 : decode cX3_digest 29 = .ok (.lstore_n 1, 1) := dk_64 (dk_at dksX3_digest_1 5 rfl rfl)
theorem dX3_digest_30 : decode cX3_digest 30 = .ok (.iinc 3 1, 3) := dk_132 3 1 (dk_at dksX3_digest_1 6 rfl rfl)
theorem dX3_digest_33 : decode cX3_digest 33 = .ok (.goto (-22), 3) := dk_167 255 234 (dk_at dksX3_digest_1 9 rfl rfl)
theorem dX3_digest_36 : decode cX3_digest 36 = .ok (.ldc2_w 251, 3) := dk_20 0 251 (dk_at dksX3_digest_1 12 rfl rfl)
theorem dX3_digest_39 : decode cX3_digest 39 = .ok (.lload_n 1, 1) := dk_31 (dk_at dksX3_digest_1 15 rfl rfl)
theorem dX3_digest_40 : decode cX3_digest 40 = .ok (.lmul, 1) := dk_105 (dk_at dksX3_digest_1 16 rfl rfl)
theorem dX3_digest_41 : decode cX3_digest 41 = .ok (.aload_n 0, 1) := dk_42 (dk_at dksX3_digest_1 17 rfl rfl)
theorem dX3_digest_42 : decode cX3_digest 42 = .ok (.getfield 7, 3) := dk_180 0 7 (dk_at dksX3_digest_1 18 rfl rfl)
theorem dX3_digest_45 : decode cX3_digest 45 = .ok (.sipush 252, 3) := dk_17 0 252 (dk_at dksX3_digest_1 21 rfl rfl)
theorem dX3_digest_48 : decode cX3_digest 48 = .ok (.iaload, 1) := dk_46 (dk_at dksX3_digest_2 0 rfl rfl)
theorem dX3_digest_49 : decode cX3_digest 49 = .ok (.i2l, 1) := dk_133 (dk_at dksX3_digest_2 1 rfl rfl)
theorem dX3_digest_50 : decode cX3_digest 50 = .ok (.ladd, 1) := dk_97 (dk_at dksX3_digest_2 2 rfl rfl)
theorem dX3_digest_51 : decode cX3_digest 51 = .ok (.lstore_n 1, 1) := dk_64 (dk_at dksX3_digest_2 3 rfl rfl)
theorem dX3_digest_52 : decode cX3_digest 52 = .ok (.iconst 0, 1) := dk_3 (dk_at dksX3_digest_2 4 rfl rfl)
theorem dX3_digest_53 : decode cX3_digest 53 = .ok (.istore_n 3, 1) := dk_62 (dk_at dksX3_digest_2 5 rfl rfl)
theorem dX3_digest_54 : decode cX3_digest 54 = .ok (.iload_n 3, 1) := dk_29 (dk_at dksX3_digest_2 6 rfl rfl)
theorem dX3_digest_55 : decode cX3_digest 55 = .ok (.sipush 192, 3) := dk_17 0 192 (dk_at dksX3_digest_2 7 rfl rfl)
theorem dX3_digest_58 : decode cX3_digest 58 = .ok (.if_icmp .ge 60, 3) := dk_162 0 60 (dk_at dksX3_digest_2 10 rfl rfl)
theorem dX3_digest_61 : decode cX3_digest 61 = .ok (.ldc2_w 251, 3) := dk_20 0 251 (dk_at dksX3_digest_2 13 rfl rfl)
theorem dX3_digest_64 : decode cX3_digest 64 = .ok (.lload_n 1, 1) := dk_31 (dk_at dksX3_digest_2 16 rfl rfl)
theorem dX3_digest_65 : decode cX3_digest 65 = .ok (.lmul, 1) := dk_105 (dk_at dksX3_digest_2 17 rfl rfl)
theorem dX3_digest_66 : decode cX3_digest 66 = .ok (.aload_n 0, 1) := dk_42 (dk_at dksX3_digest_2 18 rfl rfl)
theorem dX3_digest_67 : decode cX3_digest 67 = .ok (.getfield 7, 3) := dk_180 0 7 (dk_at dksX3_digest_2 19 rfl rfl)
theorem dX3_digest_70 : decode cX3_digest 70 = .ok (.iload_n 3, 1) := dk_29 (dk_at dksX3_digest_2 22 rfl rfl)
theorem dX3_digest_71 : decode cX3_digest 71 = .ok (.iaload, 1) := dk_46 (dk_at dksX3_digest_2 23 rfl rfl)
theorem dX3_digest_72 : decode cX3_digest 72 = .ok (.i2l, 1) := dk_133 (dk_at dksX3_digest_3 0 rfl rfl)
theorem dX3_digest_73 : decode cX3_digest 73 = .ok (.ladd, 1) := dk_97 (dk_at dksX3_digest_3 1 rfl rfl)
theorem dX3_digest_74 : decode cX3_digest 74 = .ok (.lstore_n 1, 1) := dk_64 (dk_at dksX3_digest_3 2 rfl rfl)
theorem dX3_digest_75 : decode cX3_digest 75 = .ok (.aload_n 0, 1) := dk_42 (dk_at dksX3_digest_3 3 rfl rfl)
theorem dX3_digest_76 : decode cX3_digest 76 = .ok (.getfield 7, 3) := dk_180 0 7 (dk_at dksX3_digest_3 4 rfl rfl)
theorem dX3_digest_79 : decode cX3_digest 79 = .ok (.iload_n 3, 1) := dk_29 (dk_at dksX3_digest_3 7 rfl rfl)
theorem dX3_digest_80 : decode cX3_digest 80 = .ok (.iaload, 1) := dk_46 (dk_at dksX3_digest_3 8 rfl rfl)
theorem dX3_digest_81 : decode cX3_digest 81 = .ok (.iconst (-1), 1) := dk_2 (dk_at dksX3_digest_3 9 rfl rfl)
theorem dX3_digest_82 : decode cX3_digest 82 = .ok (.if_icmp .ne 28, 3) := dk_160 0 28 (dk_at dksX3_digest_3 10 rfl rfl)
theorem dX3_digest_85 : decode cX3_digest 85 = .ok (.ldc2_w 251, 3) := dk_20 0 251 (dk_at dksX3_digest_3 13 rfl rfl)
theorem dX3_digest_88 : decode cX3_digest 88 = .ok (.lload_n 1, 1) := dk_31 (dk_at dksX3_digest_3 16 rfl rfl)
theorem dX3_digest_89 : decode cX3_digest 89 = .ok (.lmul, 1) := dk_105 (dk_at dksX3_digest_3 17 rfl rfl)
theorem dX3_digest_90 : decode cX3_digest 90 = .ok (.aload_n 0, 1) := dk_42 (dk_at dksX3_digest_3 18 rfl rfl)
theorem dX3_digest_91 : decode cX3_digest 91 = .ok (.getfield 7, 3) := dk_180 0 7 (dk_at dksX3_digest_3 19 rfl rfl)
theorem dX3_digest_94 : decode cX3_digest 94 = .ok (.iload_n 3, 1) := dk_29 (dk_at dksX3_digest_3 22 rfl rfl)
theorem dX3_digest_95 : decode cX3_digest 95 = .ok (.bipush 16, 2) := dk_16 16 (dk_at dksX3_digest_4 0 rfl rfl)
theorem dX3_digest_97 : decode cX3_digest 97 = .ok (.irem, 1) := dk_112 (dk_at dksX3_digest_4 2 rfl rfl)
theorem dX3_digest_98 : decode cX3_digest 98 = .ok (.iload_n 3, 1) := dk_29 (dk_at dksX3_digest_4 3 rfl rfl)
theorem dX3_digest_99 : decode cX3_digest 99 = .ok (.bipush 16, 2) := dk_16 16 (dk_at dksX3_digest_4 4 rfl rfl)
theorem dX3_digest_101 : decode cX3_digest 101 = .ok (.idiv, 1) := dk_108 (dk_at dksX3_digest_4 6 rfl rfl)
theorem dX3_digest_102 : decode cX3_digest 102 = .ok (.invokestatic 203, 3) := dk_184 0 203 (dk_at dksX3_digest_4 7 rfl rfl)
theorem dX3_digest_105 : decode cX3_digest 105 = .ok (.i2l, 1) := dk_133 (dk_at dksX3_digest_4 10 rfl rfl)
theorem dX3_digest_106 : decode cX3_digest 106 = .ok (.ladd, 1) := dk_97 (dk_at dksX3_digest_4 11 rfl rfl)
theorem dX3_digest_107 : decode cX3_digest 107 = .ok (.goto 4, 3) := dk_167 0 4 (dk_at dksX3_digest_4 12 rfl rfl)
theorem dX3_digest_110 : decode cX3_digest 110 = .ok (.lload_n 1, 1) := dk_31 (dk_at dksX3_digest_4 15 rfl rfl)
theorem dX3_digest_111 : decode cX3_digest 111 = .ok (.lstore_n 1, 1) := dk_64 (dk_at dksX3_digest_4 16 rfl rfl)
theorem dX3_digest_112 : decode cX3_digest 112 = .ok (.iinc 3 1, 3) := dk_132 3 1 (dk_at dksX3_digest_4 17 rfl rfl)
theorem dX3_digest_115 : decode cX3_digest 115 = .ok (.goto (-61), 3) := dk_167 255 195 (dk_at dksX3_digest_4 20 rfl rfl)
theorem dX3_digest_118 : decode cX3_digest 118 = .ok (.iconst (-1), 1) := dk_2 (dk_at dksX3_digest_4 23 rfl rfl)
theorem dX3_digest_119 : decode cX3_digest 119 = .ok (.istore_n 3, 1) := dk_62 (dk_at dksX3_digest_5 0 rfl rfl)
theorem dX3_digest_120 : decode cX3_digest 120 = .ok (.iconst 5, 1) := dk_8 (dk_at dksX3_digest_5 1 rfl rfl)
theorem dX3_digest_121 : decode cX3_digest 121 = .ok (.istore 4, 2) := dk_54 4 (dk_at dksX3_digest_5 2 rfl rfl)
theorem dX3_digest_123 : decode cX3_digest 123 = .ok (.iload 4, 2) := dk_21 4 (dk_at dksX3_digest_5 4 rfl rfl)
theorem dX3_digest_125 : decode cX3_digest 125 = .ok (.ifCond .lt 28, 3) := dk_155 0 28 (dk_at dksX3_digest_5 6 rfl rfl)
theorem dX3_digest_128 : decode cX3_digest 128 = .ok (.aload_n 0, 1) := dk_42 (dk_at dksX3_digest_5 9 rfl rfl)
theorem dX3_digest_129 : decode cX3_digest 129 = .ok (.getfield 7, 3) := dk_180 0 7 (dk_at dksX3_digest_5 10 rfl rfl)
theorem dX3_digest_132 : decode cX3_digest 132 = .ok (.iload 4, 2) := dk_21 4 (dk_at dksX3_digest_5 13 rfl rfl)
theorem dX3_digest_134 : decode cX3_digest 134 = .ok (.invokestatic 126, 3) := dk_184 0 126 (dk_at dksX3_digest_5 15 rfl rfl)
theorem dX3_digest_137 : decode cX3_digest 137 = .ok (.ifCond .eq 8, 3) := dk_153 0 8 (dk_at dksX3_digest_5 18 rfl rfl)
theorem dX3_digest_140 : decode cX3_digest 140 = .ok (.iload 4, 2) := dk_21 4 (dk_at dksX3_digest_5 21 rfl rfl)
theorem dX3_digest_142 : decode cX3_digest 142 = .ok (.goto 4, 3) := dk_167 0 4 (dk_at dksX3_digest_6 0 rfl rfl)
theorem dX3_digest_145 : decode cX3_digest 145 = .ok (.iload_n 3, 1) := dk_29 (dk_at dksX3_digest_6 3 rfl rfl)
theorem dX3_digest_146 : decode cX3_digest 146 = .ok (.istore_n 3, 1) := dk_62 (dk_at dksX3_digest_6 4 rfl rfl)
theorem dX3_digest_147 : decode cX3_digest 147 = .ok (.iinc 4 (-1), 3) := dk_132 4 255 (dk_at dksX3_digest_6 5 rfl rfl)
theorem dX3_digest_150 : decode cX3_digest 150 = .ok (.goto (-27), 3) := dk_167 255 229 (dk_at dksX3_digest_6 8 rfl rfl)
theorem dX3_digest_153 : decode cX3_digest 153 = .ok (.iconst 0, 1) := dk_3 (dk_at dksX3_digest_6 11 rfl rfl)
theorem dX3_digest_154 : decode cX3_digest 154 = .ok (.istore 4, 2) := dk_54 4 (dk_at dksX3_digest_6 12 rfl rfl)
theorem dX3_digest_156 : decode cX3_digest 156 = .ok (.iload 4, 2) := dk_21 4 (dk_at dksX3_digest_6 14 rfl rfl)
theorem dX3_digest_158 : decode cX3_digest 158 = .ok (.bipush 6, 2) := dk_16 6 (dk_at dksX3_digest_6 16 rfl rfl)
theorem dX3_digest_160 : decode cX3_digest 160 = .ok (.if_icmp .ge 79, 3) := dk_162 0 79 (dk_at dksX3_digest_6 18 rfl rfl)
theorem dX3_digest_163 : decode cX3_digest 163 = .ok (.aload_n 0, 1) := dk_42 (dk_at dksX3_digest_6 21 rfl rfl)
theorem dX3_digest_164 : decode cX3_digest 164 = .ok (.getfield 7, 3) := dk_180 0 7 (dk_at dksX3_digest_7 0 rfl rfl)
theorem dX3_digest_167 : decode cX3_digest 167 = .ok (.iload 4, 2) := dk_21 4 (dk_at dksX3_digest_7 3 rfl rfl)
theorem dX3_digest_169 : decode cX3_digest 169 = .ok (.invokestatic 126, 3) := dk_184 0 126 (dk_at dksX3_digest_7 5 rfl rfl)
theorem dX3_digest_172 : decode cX3_digest 172 = .ok (.ifCond .eq 15, 3) := dk_153 0 15 (dk_at dksX3_digest_7 8 rfl rfl)
theorem dX3_digest_175 : decode cX3_digest 175 = .ok (.ldc2_w 251, 3) := dk_20 0 251 (dk_at dksX3_digest_7 11 rfl rfl)
theorem dX3_digest_178 : decode cX3_digest 178 = .ok (.lload_n 1, 1) := dk_31 (dk_at dksX3_digest_7 14 rfl rfl)
theorem dX3_digest_179 : decode cX3_digest 179 = .ok (.lmul, 1) := dk_105 (dk_at dksX3_digest_7 15 rfl rfl)
theorem dX3_digest_180 : decode cX3_digest 180 = .ok (.iload 4, 2) := dk_21 4 (dk_at dksX3_digest_7 16 rfl rfl)
theorem dX3_digest_182 : decode cX3_digest 182 = .ok (.i2l, 1) := dk_133 (dk_at dksX3_digest_7 18 rfl rfl)
theorem dX3_digest_183 : decode cX3_digest 183 = .ok (.ladd, 1) := dk_97 (dk_at dksX3_digest_7 19 rfl rfl)
theorem dX3_digest_184 : decode cX3_digest 184 = .ok (.goto 4, 3) := dk_167 0 4 (dk_at dksX3_digest_7 20 rfl rfl)
theorem dX3_digest_187 : decode cX3_digest 187 = .ok (.lload_n 1, 1) := dk_31 (dk_at dksX3_digest_7 23 rfl rfl)
theorem dX3_digest_188 : decode cX3_digest 188 = .ok (.lstore_n 1, 1) := dk_64 (dk_at dksX3_digest_8 0 rfl rfl)
theorem dX3_digest_189 : decode cX3_digest 189 = .ok (.iconst 0, 1) := dk_3 (dk_at dksX3_digest_8 1 rfl rfl)
theorem dX3_digest_190 : decode cX3_digest 190 = .ok (.istore 5, 2) := dk_54 5 (dk_at dksX3_digest_8 2 rfl rfl)
theorem dX3_digest_192 : decode cX3_digest 192 = .ok (.iload 5, 2) := dk_21 5 (dk_at dksX3_digest_8 4 rfl rfl)
theorem dX3_digest_194 : decode cX3_digest 194 = .ok (.bipush 8, 2) := dk_16 8 (dk_at dksX3_digest_8 6 rfl rfl)
theorem dX3_digest_196 : decode cX3_digest 196 = .ok (.if_icmp .ge 37, 3) := dk_162 0 37 (dk_at dksX3_digest_8 8 rfl rfl)
theorem dX3_digest_199 : decode cX3_digest 199 = .ok (.aload_n 0, 1) := dk_42 (dk_at dksX3_digest_8 11 rfl rfl)
theorem dX3_digest_200 : decode cX3_digest 200 = .ok (.getfield 7, 3) := dk_180 0 7 (dk_at dksX3_digest_8 12 rfl rfl)
theorem dX3_digest_203 : decode cX3_digest 203 = .ok (.iload 4, 2) := dk_21 4 (dk_at dksX3_digest_8 15 rfl rfl)
theorem dX3_digest_205 : decode cX3_digest 205 = .ok (.invokestatic 126, 3) := dk_184 0 126 (dk_at dksX3_digest_8 17 rfl rfl)
theorem dX3_digest_208 : decode cX3_digest 208 = .ok (.ifCond .eq 25, 3) := dk_153 0 25 (dk_at dksX3_digest_8 20 rfl rfl)
theorem dX3_digest_211 : decode cX3_digest 211 = .ok (.ldc2_w 251, 3) := dk_20 0 251 (dk_at dksX3_digest_9 0 rfl rfl)
theorem dX3_digest_214 : decode cX3_digest 214 = .ok (.lload_n 1, 1) := dk_31 (dk_at dksX3_digest_9 3 rfl rfl)
theorem dX3_digest_215 : decode cX3_digest 215 = .ok (.lmul, 1) := dk_105 (dk_at dksX3_digest_9 4 rfl rfl)
theorem dX3_digest_216 : decode cX3_digest 216 = .ok (.aload_n 0, 1) := dk_42 (dk_at dksX3_digest_9 5 rfl rfl)
theorem dX3_digest_217 : decode cX3_digest 217 = .ok (.iload 4, 2) := dk_21 4 (dk_at dksX3_digest_9 6 rfl rfl)
theorem dX3_digest_219 : decode cX3_digest 219 = .ok (.iload 5, 2) := dk_21 5 (dk_at dksX3_digest_9 8 rfl rfl)
theorem dX3_digest_221 : decode cX3_digest 221 = .ok (.invokevirtual 210, 3) := dk_182 0 210 (dk_at dksX3_digest_9 10 rfl rfl)
theorem dX3_digest_224 : decode cX3_digest 224 = .ok (.i2l, 1) := dk_133 (dk_at dksX3_digest_9 13 rfl rfl)
theorem dX3_digest_225 : decode cX3_digest 225 = .ok (.ladd, 1) := dk_97 (dk_at dksX3_digest_9 14 rfl rfl)
theorem dX3_digest_226 : decode cX3_digest 226 = .ok (.lstore_n 1, 1) := dk_64 (dk_at dksX3_digest_9 15 rfl rfl)
theorem dX3_digest_227 : decode cX3_digest 227 = .ok (.iinc 5 1, 3) := dk_132 5 1 (dk_at dksX3_digest_9 16 rfl rfl)
theorem dX3_digest_230 : decode cX3_digest 230 = .ok (.goto (-38), 3) := dk_167 255 218 (dk_at dksX3_digest_9 19 rfl rfl)
theorem dX3_digest_233 : decode cX3_digest 233 = .ok (.iinc 4 1, 3) := dk_132 4 1 (dk_at dksX3_digest_10 0 rfl rfl)
theorem dX3_digest_236 : decode cX3_digest 236 = .ok (.goto (-80), 3) := dk_167 255 176 (dk_at dksX3_digest_10 3 rfl rfl)
theorem dX3_digest_239 : decode cX3_digest 239 = .ok (.iconst 0, 1) := dk_3 (dk_at dksX3_digest_10 6 rfl rfl)
theorem dX3_digest_240 : decode cX3_digest 240 = .ok (.istore 4, 2) := dk_54 4 (dk_at dksX3_digest_10 7 rfl rfl)
theorem dX3_digest_242 : decode cX3_digest 242 = .ok (.iload 4, 2) := dk_21 4 (dk_at dksX3_digest_10 9 rfl rfl)
theorem dX3_digest_244 : decode cX3_digest 244 = .ok (.bipush 36, 2) := dk_16 36 (dk_at dksX3_digest_10 11 rfl rfl)
theorem dX3_digest_246 : decode cX3_digest 246 = .ok (.if_icmp .ge 91, 3) := dk_162 0 91 (dk_at dksX3_digest_10 13 rfl rfl)
theorem dX3_digest_249 : decode cX3_digest 249 = .ok (.iconst 0, 1) := dk_3 (dk_at dksX3_digest_10 16 rfl rfl)
theorem dX3_digest_250 : decode cX3_digest 250 = .ok (.istore 5, 2) := dk_54 5 (dk_at dksX3_digest_10 17 rfl rfl)
theorem dX3_digest_252 : decode cX3_digest 252 = .ok (.iload 5, 2) := dk_21 5 (dk_at dksX3_digest_10 19 rfl rfl)
theorem dX3_digest_254 : decode cX3_digest 254 = .ok (.iconst 5, 1) := dk_8 (dk_at dksX3_digest_10 21 rfl rfl)
theorem dX3_digest_255 : decode cX3_digest 255 = .ok (.if_icmp .ge 76, 3) := dk_162 0 76 (dk_at dksX3_digest_11 0 rfl rfl)
theorem dX3_digest_258 : decode cX3_digest 258 = .ok (.iload 4, 2) := dk_21 4 (dk_at dksX3_digest_11 3 rfl rfl)
theorem dX3_digest_260 : decode cX3_digest 260 = .ok (.bipush 6, 2) := dk_16 6 (dk_at dksX3_digest_11 5 rfl rfl)
theorem dX3_digest_262 : decode cX3_digest 262 = .ok (.idiv, 1) := dk_108 (dk_at dksX3_digest_11 7 rfl rfl)
theorem dX3_digest_263 : decode cX3_digest 263 = .ok (.iload 4, 2) := dk_21 4 (dk_at dksX3_digest_11 8 rfl rfl)
theorem dX3_digest_265 : decode cX3_digest 265 = .ok (.bipush 6, 2) := dk_16 6 (dk_at dksX3_digest_11 10 rfl rfl)
theorem dX3_digest_267 : decode cX3_digest 267 = .ok (.irem, 1) := dk_112 (dk_at dksX3_digest_11 12 rfl rfl)
theorem dX3_digest_268 : decode cX3_digest 268 = .ok (.if_icmp .ge 63, 3) := dk_162 0 63 (dk_at dksX3_digest_11 13 rfl rfl)
theorem dX3_digest_271 : decode cX3_digest 271 = .ok (.aload_n 0, 1) := dk_42 (dk_at dksX3_digest_11 16 rfl rfl)
theorem dX3_digest_272 : decode cX3_digest 272 = .ok (.getfield 7, 3) := dk_180 0 7 (dk_at dksX3_digest_11 17 rfl rfl)
theorem dX3_digest_275 : decode cX3_digest 275 = .ok (.iload 4, 2) := dk_21 4 (dk_at dksX3_digest_11 20 rfl rfl)
theorem dX3_digest_277 : decode cX3_digest 277 = .ok (.bipush 6, 2) := dk_16 6 (dk_at dksX3_digest_11 22 rfl rfl)
theorem dX3_digest_279 : decode cX3_digest 279 = .ok (.idiv, 1) := dk_108 (dk_at dksX3_digest_12 0 rfl rfl)
theorem dX3_digest_280 : decode cX3_digest 280 = .ok (.invokestatic 126, 3) := dk_184 0 126 (dk_at dksX3_digest_12 1 rfl rfl)
theorem dX3_digest_283 : decode cX3_digest 283 = .ok (.ifCond .eq 48, 3) := dk_153 0 48 (dk_at dksX3_digest_12 4 rfl rfl)
theorem dX3_digest_286 : decode cX3_digest 286 = .ok (.aload_n 0, 1) := dk_42 (dk_at dksX3_digest_12 7 rfl rfl)
theorem dX3_digest_287 : decode cX3_digest 287 = .ok (.getfield 7, 3) := dk_180 0 7 (dk_at dksX3_digest_12 8 rfl rfl)
theorem dX3_digest_290 : decode cX3_digest 290 = .ok (.iload 4, 2) := dk_21 4 (dk_at dksX3_digest_12 11 rfl rfl)
theorem dX3_digest_292 : decode cX3_digest 292 = .ok (.bipush 6, 2) := dk_16 6 (dk_at dksX3_digest_12 13 rfl rfl)
theorem dX3_digest_294 : decode cX3_digest 294 = .ok (.irem, 1) := dk_112 (dk_at dksX3_digest_12 15 rfl rfl)
theorem dX3_digest_295 : decode cX3_digest 295 = .ok (.invokestatic 126, 3) := dk_184 0 126 (dk_at dksX3_digest_12 16 rfl rfl)
theorem dX3_digest_298 : decode cX3_digest 298 = .ok (.ifCond .eq 33, 3) := dk_153 0 33 (dk_at dksX3_digest_12 19 rfl rfl)
theorem dX3_digest_301 : decode cX3_digest 301 = .ok (.ldc2_w 251, 3) := dk_20 0 251 (dk_at dksX3_digest_13 0 rfl rfl)
theorem dX3_digest_304 : decode cX3_digest 304 = .ok (.lload_n 1, 1) := dk_31 (dk_at dksX3_digest_13 3 rfl rfl)
theorem dX3_digest_305 : decode cX3_digest 305 = .ok (.lmul, 1) := dk_105 (dk_at dksX3_digest_13 4 rfl rfl)
theorem dX3_digest_306 : decode cX3_digest 306 = .ok (.aload_n 0, 1) := dk_42 (dk_at dksX3_digest_13 5 rfl rfl)
theorem dX3_digest_307 : decode cX3_digest 307 = .ok (.iload 4, 2) := dk_21 4 (dk_at dksX3_digest_13 6 rfl rfl)
theorem dX3_digest_309 : decode cX3_digest 309 = .ok (.bipush 6, 2) := dk_16 6 (dk_at dksX3_digest_13 8 rfl rfl)
theorem dX3_digest_311 : decode cX3_digest 311 = .ok (.idiv, 1) := dk_108 (dk_at dksX3_digest_13 10 rfl rfl)
theorem dX3_digest_312 : decode cX3_digest 312 = .ok (.iload 4, 2) := dk_21 4 (dk_at dksX3_digest_13 11 rfl rfl)
theorem dX3_digest_314 : decode cX3_digest 314 = .ok (.bipush 6, 2) := dk_16 6 (dk_at dksX3_digest_13 13 rfl rfl)
theorem dX3_digest_316 : decode cX3_digest 316 = .ok (.irem, 1) := dk_112 (dk_at dksX3_digest_13 15 rfl rfl)
theorem dX3_digest_317 : decode cX3_digest 317 = .ok (.iload 5, 2) := dk_21 5 (dk_at dksX3_digest_13 16 rfl rfl)
theorem dX3_digest_319 : decode cX3_digest 319 = .ok (.invokevirtual 214, 3) := dk_182 0 214 (dk_at dksX3_digest_13 18 rfl rfl)
theorem dX3_digest_322 : decode cX3_digest 322 = .ok (.i2l, 1) := dk_133 (dk_at dksX3_digest_13 21 rfl rfl)
theorem dX3_digest_323 : decode cX3_digest 323 = .ok (.ladd, 1) := dk_97 (dk_at dksX3_digest_13 22 rfl rfl)
theorem dX3_digest_324 : decode cX3_digest 324 = .ok (.lstore_n 1, 1) := dk_64 (dk_at dksX3_digest_13 23 rfl rfl)
theorem dX3_digest_325 : decode cX3_digest 325 = .ok (.iinc 5 1, 3) := dk_132 5 1 (dk_at dksX3_digest_14 0 rfl rfl)
theorem dX3_digest_328 : decode cX3_digest 328 = .ok (.goto (-76), 3) := dk_167 255 180 (dk_at dksX3_digest_14 3 rfl rfl)
theorem dX3_digest_331 : decode cX3_digest 331 = .ok (.iinc 4 1, 3) := dk_132 4 1 (dk_at dksX3_digest_14 6 rfl rfl)
theorem dX3_digest_334 : decode cX3_digest 334 = .ok (.goto (-92), 3) := dk_167 255 164 (dk_at dksX3_digest_14 9 rfl rfl)
theorem dX3_digest_337 : decode cX3_digest 337 = .ok (.iconst 0, 1) := dk_3 (dk_at dksX3_digest_14 12 rfl rfl)
theorem dX3_digest_338 : decode cX3_digest 338 = .ok (.istore 4, 2) := dk_54 4 (dk_at dksX3_digest_14 13 rfl rfl)
theorem dX3_digest_340 : decode cX3_digest 340 = .ok (.iload 4, 2) := dk_21 4 (dk_at dksX3_digest_14 15 rfl rfl)
theorem dX3_digest_342 : decode cX3_digest 342 = .ok (.iconst 3, 1) := dk_6 (dk_at dksX3_digest_14 17 rfl rfl)
theorem dX3_digest_343 : decode cX3_digest 343 = .ok (.if_icmp .ge 27, 3) := dk_162 0 27 (dk_at dksX3_digest_14 18 rfl rfl)
theorem dX3_digest_346 : decode cX3_digest 346 = .ok (.ldc2_w 251, 3) := dk_20 0 251 (dk_at dksX3_digest_14 21 rfl rfl)
theorem dX3_digest_349 : decode cX3_digest 349 = .ok (.lload_n 1, 1) := dk_31 (dk_at dksX3_digest_15 0 rfl rfl)
theorem dX3_digest_350 : decode cX3_digest 350 = .ok (.lmul, 1) := dk_105 (dk_at dksX3_digest_15 1 rfl rfl)
theorem dX3_digest_351 : decode cX3_digest 351 = .ok (.aload_n 0, 1) := dk_42 (dk_at dksX3_digest_15 2 rfl rfl)
theorem dX3_digest_352 : decode cX3_digest 352 = .ok (.bipush 8, 2) := dk_16 8 (dk_at dksX3_digest_15 3 rfl rfl)
theorem dX3_digest_354 : decode cX3_digest 354 = .ok (.bipush 6, 2) := dk_16 6 (dk_at dksX3_digest_15 5 rfl rfl)
theorem dX3_digest_356 : decode cX3_digest 356 = .ok (.iload 4, 2) := dk_21 4 (dk_at dksX3_digest_15 7 rfl rfl)
theorem dX3_digest_358 : decode cX3_digest 358 = .ok (.invokevirtual 236, 3) := dk_182 0 236 (dk_at dksX3_digest_15 9 rfl rfl)
theorem dX3_digest_361 : decode cX3_digest 361 = .ok (.i2l, 1) := dk_133 (dk_at dksX3_digest_15 12 rfl rfl)
theorem dX3_digest_362 : decode cX3_digest 362 = .ok (.ladd, 1) := dk_97 (dk_at dksX3_digest_15 13 rfl rfl)
theorem dX3_digest_363 : decode cX3_digest 363 = .ok (.lstore_n 1, 1) := dk_64 (dk_at dksX3_digest_15 14 rfl rfl)
theorem dX3_digest_364 : decode cX3_digest 364 = .ok (.iinc 4 1, 3) := dk_132 4 1 (dk_at dksX3_digest_15 15 rfl rfl)
theorem dX3_digest_367 : decode cX3_digest 367 = .ok (.goto (-27), 3) := dk_167 255 229 (dk_at dksX3_digest_15 18 rfl rfl)
theorem dX3_digest_370 : decode cX3_digest 370 = .ok (.iload_n 3, 1) := dk_29 (dk_at dksX3_digest_15 21 rfl rfl)
theorem dX3_digest_371 : decode cX3_digest 371 = .ok (.iconst (-1), 1) := dk_2 (dk_at dksX3_digest_15 22 rfl rfl)
theorem dX3_digest_372 : decode cX3_digest 372 = .ok (.if_icmp .ne 7, 3) := dk_160 0 7 (dk_at dksX3_digest_16 0 rfl rfl)
theorem dX3_digest_375 : decode cX3_digest 375 = .ok (.lload_n 1, 1) := dk_31 (dk_at dksX3_digest_16 3 rfl rfl)
theorem dX3_digest_376 : decode cX3_digest 376 = .ok (.goto 15, 3) := dk_167 0 15 (dk_at dksX3_digest_16 4 rfl rfl)
theorem dX3_digest_379 : decode cX3_digest 379 = .ok (.ldc2_w 251, 3) := dk_20 0 251 (dk_at dksX3_digest_16 7 rfl rfl)
theorem dX3_digest_382 : decode cX3_digest 382 = .ok (.lload_n 1, 1) := dk_31 (dk_at dksX3_digest_16 10 rfl rfl)
theorem dX3_digest_383 : decode cX3_digest 383 = .ok (.lmul, 1) := dk_105 (dk_at dksX3_digest_16 11 rfl rfl)
theorem dX3_digest_384 : decode cX3_digest 384 = .ok (.aload_n 0, 1) := dk_42 (dk_at dksX3_digest_16 12 rfl rfl)
theorem dX3_digest_385 : decode cX3_digest 385 = .ok (.iload_n 3, 1) := dk_29 (dk_at dksX3_digest_16 13 rfl rfl)
theorem dX3_digest_386 : decode cX3_digest 386 = .ok (.invokevirtual 239, 3) := dk_182 0 239 (dk_at dksX3_digest_16 14 rfl rfl)
theorem dX3_digest_389 : decode cX3_digest 389 = .ok (.i2l, 1) := dk_133 (dk_at dksX3_digest_16 17 rfl rfl)
theorem dX3_digest_390 : decode cX3_digest 390 = .ok (.ladd, 1) := dk_97 (dk_at dksX3_digest_16 18 rfl rfl)
theorem dX3_digest_391 : decode cX3_digest 391 = .ok (.lstore_n 1, 1) := dk_64 (dk_at dksX3_digest_16 19 rfl rfl)
theorem dX3_digest_392 : decode cX3_digest 392 = .ok (.ldc2_w 251, 3) := dk_20 0 251 (dk_at dksX3_digest_16 20 rfl rfl)
theorem dX3_digest_395 : decode cX3_digest 395 = .ok (.lload_n 1, 1) := dk_31 (dk_at dksX3_digest_16 23 rfl rfl)
theorem dX3_digest_396 : decode cX3_digest 396 = .ok (.lmul, 1) := dk_105 (dk_at dksX3_digest_17 0 rfl rfl)
theorem dX3_digest_397 : decode cX3_digest 397 = .ok (.aload_n 0, 1) := dk_42 (dk_at dksX3_digest_17 1 rfl rfl)
theorem dX3_digest_398 : decode cX3_digest 398 = .ok (.invokevirtual 242, 3) := dk_182 0 242 (dk_at dksX3_digest_17 2 rfl rfl)
theorem dX3_digest_401 : decode cX3_digest 401 = .ok (.i2l, 1) := dk_133 (dk_at dksX3_digest_17 5 rfl rfl)
theorem dX3_digest_402 : decode cX3_digest 402 = .ok (.ladd, 1) := dk_97 (dk_at dksX3_digest_17 6 rfl rfl)
theorem dX3_digest_403 : decode cX3_digest 403 = .ok (.lstore_n 1, 1) := dk_64 (dk_at dksX3_digest_17 7 rfl rfl)
theorem dX3_digest_404 : decode cX3_digest 404 = .ok (.ldc2_w 251, 3) := dk_20 0 251 (dk_at dksX3_digest_17 8 rfl rfl)
theorem dX3_digest_407 : decode cX3_digest 407 = .ok (.ldc2_w 251, 3) := dk_20 0 251 (dk_at dksX3_digest_17 11 rfl rfl)
theorem dX3_digest_410 : decode cX3_digest 410 = .ok (.lload_n 1, 1) := dk_31 (dk_at dksX3_digest_17 14 rfl rfl)
theorem dX3_digest_411 : decode cX3_digest 411 = .ok (.lmul, 1) := dk_105 (dk_at dksX3_digest_17 15 rfl rfl)
theorem dX3_digest_412 : decode cX3_digest 412 = .ok (.aload_n 0, 1) := dk_42 (dk_at dksX3_digest_17 16 rfl rfl)
theorem dX3_digest_413 : decode cX3_digest 413 = .ok (.invokevirtual 245, 3) := dk_182 0 245 (dk_at dksX3_digest_17 17 rfl rfl)
theorem dX3_digest_416 : decode cX3_digest 416 = .ok (.invokestatic 253, 3) := dk_184 0 253 (dk_at dksX3_digest_17 20 rfl rfl)
theorem dX3_digest_419 : decode cX3_digest 419 = .ok (.ladd, 1) := dk_97 (dk_at dksX3_digest_17 23 rfl rfl)
theorem dX3_digest_420 : decode cX3_digest 420 = .ok (.lmul, 1) := dk_105 (dk_at dksX3_digest_18 0 rfl rfl)
theorem dX3_digest_421 : decode cX3_digest 421 = .ok (.aload_n 0, 1) := dk_42 (dk_at dksX3_digest_18 1 rfl rfl)
theorem dX3_digest_422 : decode cX3_digest 422 = .ok (.getfield 164, 3) := dk_180 0 164 (dk_at dksX3_digest_18 2 rfl rfl)
theorem dX3_digest_425 : decode cX3_digest 425 = .ok (.i2l, 1) := dk_133 (dk_at dksX3_digest_18 5 rfl rfl)
theorem dX3_digest_426 : decode cX3_digest 426 = .ok (.ladd, 1) := dk_97 (dk_at dksX3_digest_18 6 rfl rfl)
theorem dX3_digest_427 : decode cX3_digest 427 = .ok (.lstore_n 1, 1) := dk_64 (dk_at dksX3_digest_18 7 rfl rfl)
theorem dX3_digest_428 : decode cX3_digest 428 = .ok (.iconst 0, 1) := dk_3 (dk_at dksX3_digest_18 8 rfl rfl)
theorem dX3_digest_429 : decode cX3_digest 429 = .ok (.istore 4, 2) := dk_54 4 (dk_at dksX3_digest_18 9 rfl rfl)
theorem dX3_digest_431 : decode cX3_digest 431 = .ok (.iload 4, 2) := dk_21 4 (dk_at dksX3_digest_18 11 rfl rfl)
theorem dX3_digest_433 : decode cX3_digest 433 = .ok (.aload_n 0, 1) := dk_42 (dk_at dksX3_digest_18 13 rfl rfl)
theorem dX3_digest_434 : decode cX3_digest 434 = .ok (.getfield 164, 3) := dk_180 0 164 (dk_at dksX3_digest_18 14 rfl rfl)
theorem dX3_digest_437 : decode cX3_digest 437 = .ok (.if_icmp .ge 24, 3) := dk_162 0 24 (dk_at dksX3_digest_18 17 rfl rfl)
theorem dX3_digest_440 : decode cX3_digest 440 = .ok (.ldc2_w 251, 3) := dk_20 0 251 (dk_at dksX3_digest_18 20 rfl rfl)
theorem dX3_digest_443 : decode cX3_digest 443 = .ok (.lload_n 1, 1) := dk_31 (dk_at dksX3_digest_18 23 rfl rfl)
theorem dX3_digest_444 : decode cX3_digest 444 = .ok (.lmul, 1) := dk_105 (dk_at dksX3_digest_19 0 rfl rfl)
theorem dX3_digest_445 : decode cX3_digest 445 = .ok (.aload_n 0, 1) := dk_42 (dk_at dksX3_digest_19 1 rfl rfl)
theorem dX3_digest_446 : decode cX3_digest 446 = .ok (.getfield 19, 3) := dk_180 0 19 (dk_at dksX3_digest_19 2 rfl rfl)
theorem dX3_digest_449 : decode cX3_digest 449 = .ok (.iload 4, 2) := dk_21 4 (dk_at dksX3_digest_19 5 rfl rfl)
theorem dX3_digest_451 : decode cX3_digest 451 = .ok (.iaload, 1) := dk_46 (dk_at dksX3_digest_19 7 rfl rfl)
theorem dX3_digest_452 : decode cX3_digest 452 = .ok (.i2l, 1) := dk_133 (dk_at dksX3_digest_19 8 rfl rfl)
theorem dX3_digest_453 : decode cX3_digest 453 = .ok (.ladd, 1) := dk_97 (dk_at dksX3_digest_19 9 rfl rfl)
theorem dX3_digest_454 : decode cX3_digest 454 = .ok (.lstore_n 1, 1) := dk_64 (dk_at dksX3_digest_19 10 rfl rfl)
theorem dX3_digest_455 : decode cX3_digest 455 = .ok (.iinc 4 1, 3) := dk_132 4 1 (dk_at dksX3_digest_19 11 rfl rfl)
theorem dX3_digest_458 : decode cX3_digest 458 = .ok (.goto (-27), 3) := dk_167 255 229 (dk_at dksX3_digest_19 14 rfl rfl)
theorem dX3_digest_461 : decode cX3_digest 461 = .ok (.lload_n 1, 1) := dk_31 (dk_at dksX3_digest_19 17 rfl rfl)
theorem dX3_digest_462 : decode cX3_digest 462 = .ok (.lreturn, 1) := dk_173 (dk_at dksX3_digest_19 18 rfl rfl)
theorem q102 : (Jvm.Cond.initialized "CorridorPlanModel") ∈ lw_all := lw_g (lw_at lw_m1 9 rfl) rfl
theorem q432 : (Jvm.Cond.selects "CorridorPlanModel" ({ cls := "java/lang/Object", name := "getClass", desc := "()Ljava/lang/Class;" } : Jvm.MethodName) ({ cls := "java/lang/Object", name := "getClass", desc := "()Ljava/lang/Class;" } : Jvm.MethodName)) ∈ lw_all := lw_g (lw_at lw_m2 99 rfl) rfl
theorem q1433 : (Jvm.Cond.instantiable "CorridorPlanModel" (20 : Nat)) ∈ lw_all := lw_g (lw_at lw_m6 140 rfl) rfl
theorem q1435 : (Jvm.Cond.instanceMethod ({ cls := "CorridorPlanModel", name := "<init>", desc := "()V" } : Jvm.MethodName)) ∈ lw_all := lw_g (lw_at lw_m6 142 rfl) rfl
theorem q1436 : (Jvm.Cond.code ({ cls := "CorridorPlanModel", name := "<init>", desc := "()V" } : Jvm.MethodName) prog_8_method_1_code (2 : Nat) (Option.none : Option Jvm.ClassFile.FieldType)) ∈ lw_all := lw_g (lw_at lw_m6 143 rfl) rfl
theorem q1437 : (Jvm.Cond.methodLink "CorridorPlanModel" (1 : Nat) ({ cls := "java/lang/Object", name := "<init>", desc := "()V" } : Jvm.MethodName)) ∈ lw_all := lw_g (lw_at lw_m6 144 rfl) rfl
theorem q1438 : (Jvm.Cond.fieldLink "CorridorPlanModel" (7 : Nat) "CorridorPlanModel" "now" "[I") ∈ lw_all := lw_g (lw_at lw_m6 145 rfl) rfl
theorem q1439 : (Jvm.Cond.fieldLink "CorridorPlanModel" (13 : Nat) "CorridorPlanModel" "then" "[I") ∈ lw_all := lw_g (lw_at lw_m6 146 rfl) rfl
theorem q1440 : (Jvm.Cond.fieldLink "CorridorPlanModel" (16 : Nat) "CorridorPlanModel" "past" "[I") ∈ lw_all := lw_g (lw_at lw_m6 147 rfl) rfl
theorem q1441 : (Jvm.Cond.fieldLink "CorridorPlanModel" (56 : Nat) "CorridorPlanModel" "kept" "I") ∈ lw_all := lw_g (lw_at lw_m6 148 rfl) rfl
theorem q1442 : (Jvm.Cond.fieldLink "CorridorPlanModel" (19 : Nat) "CorridorPlanModel" "text" "[I") ∈ lw_all := lw_g (lw_at lw_m6 149 rfl) rfl
theorem q1443 : (Jvm.Cond.fieldLink "CorridorPlanModel" (164 : Nat) "CorridorPlanModel" "typed" "I") ∈ lw_all := lw_g (lw_at lw_m6 150 rfl) rfl
theorem q1444 : (Jvm.Cond.fieldLink "CorridorPlanModel" (44 : Nat) "CorridorPlanModel" "thrown" "I") ∈ lw_all := lw_g (lw_at lw_m6 151 rfl) rfl
theorem q1445 : (Jvm.Cond.fieldLink "CorridorPlanModel" (167 : Nat) "CorridorPlanModel" "at" "I") ∈ lw_all := lw_g (lw_at lw_m6 152 rfl) rfl
theorem q1446 : (Jvm.Cond.fieldLink "CorridorPlanModel" (170 : Nat) "CorridorPlanModel" "isFault" "Z") ∈ lw_all := lw_g (lw_at lw_m6 153 rfl) rfl
theorem q1447 : (Jvm.Cond.fieldLink "CorridorPlanModel" (22 : Nat) "CorridorPlanModel" "told" "[I") ∈ lw_all := lw_g (lw_at lw_m6 154 rfl) rfl
theorem q1448 : (Jvm.Cond.fieldLink "CorridorPlanModel" (185 : Nat) "CorridorPlanModel" "tolds" "I") ∈ lw_all := lw_g (lw_at lw_m6 155 rfl) rfl
theorem q1449 : (Jvm.Cond.fieldLink "CorridorPlanModel" (25 : Nat) "CorridorPlanModel" "across" "[I") ∈ lw_all := lw_g (lw_at lw_m6 156 rfl) rfl
theorem q1450 : (Jvm.Cond.fieldLink "CorridorPlanModel" (28 : Nat) "CorridorPlanModel" "along" "[I") ∈ lw_all := lw_g (lw_at lw_m6 157 rfl) rfl
theorem q1451 : (Jvm.Cond.fieldLink "CorridorPlanModel" (31 : Nat) "CorridorPlanModel" "rest" "[I") ∈ lw_all := lw_g (lw_at lw_m6 158 rfl) rfl
theorem q1452 : (Jvm.Cond.fieldLink "CorridorPlanModel" (34 : Nat) "CorridorPlanModel" "isSettled" "[Z") ∈ lw_all := lw_g (lw_at lw_m6 159 rfl) rfl
theorem q1453 : (Jvm.Cond.fieldLink "CorridorPlanModel" (38 : Nat) "CorridorPlanModel" "places" "[I") ∈ lw_all := lw_g (lw_at lw_m6 160 rfl) rfl
theorem q1454 : (Jvm.Cond.fieldLink "CorridorPlanModel" (106 : Nat) "CorridorPlanModel" "many" "I") ∈ lw_all := lw_g (lw_at lw_m6 161 rfl) rfl
theorem q1455 : (Jvm.Cond.fieldLink "CorridorPlanModel" (109 : Nat) "CorridorPlanModel" "cost" "I") ∈ lw_all := lw_g (lw_at lw_m6 162 rfl) rfl
theorem q1456 : (Jvm.Cond.fieldLink "CorridorPlanModel" (71 : Nat) "CorridorPlanModel" "breadth" "I") ∈ lw_all := lw_g (lw_at lw_m6 163 rfl) rfl
theorem q1457 : (Jvm.Cond.fieldLink "CorridorPlanModel" (41 : Nat) "CorridorPlanModel" "stays" "[Z") ∈ lw_all := lw_g (lw_at lw_m6 164 rfl) rfl
theorem q1458 : (Jvm.Cond.laysFinal "CorridorPlanModel" "CorridorPlanModel" "now" "[I") ∈ lw_all := lw_g (lw_at lw_m6 165 rfl) rfl
theorem q1459 : (Jvm.Cond.soleField "CorridorPlanModel" "now") ∈ lw_all := lw_g (lw_at lw_m6 166 rfl) rfl
theorem q1460 : (Jvm.Cond.laysFinal "CorridorPlanModel" "CorridorPlanModel" "then" "[I") ∈ lw_all := lw_g (lw_at lw_m6 167 rfl) rfl
theorem q1461 : (Jvm.Cond.soleField "CorridorPlanModel" "then") ∈ lw_all := lw_g (lw_at lw_m6 168 rfl) rfl
theorem q1462 : (Jvm.Cond.laysFinal "CorridorPlanModel" "CorridorPlanModel" "past" "[I") ∈ lw_all := lw_g (lw_at lw_m6 169 rfl) rfl
theorem q1463 : (Jvm.Cond.soleField "CorridorPlanModel" "past") ∈ lw_all := lw_g (lw_at lw_m6 170 rfl) rfl
theorem q1464 : (Jvm.Cond.lays "CorridorPlanModel" "CorridorPlanModel" "kept" "I") ∈ lw_all := lw_g (lw_at lw_m6 171 rfl) rfl
theorem q1465 : (Jvm.Cond.soleField "CorridorPlanModel" "kept") ∈ lw_all := lw_g (lw_at lw_m6 172 rfl) rfl
theorem q1466 : (Jvm.Cond.laysFinal "CorridorPlanModel" "CorridorPlanModel" "text" "[I") ∈ lw_all := lw_g (lw_at lw_m6 173 rfl) rfl
theorem q1467 : (Jvm.Cond.soleField "CorridorPlanModel" "text") ∈ lw_all := lw_g (lw_at lw_m6 174 rfl) rfl
theorem q1468 : (Jvm.Cond.lays "CorridorPlanModel" "CorridorPlanModel" "typed" "I") ∈ lw_all := lw_g (lw_at lw_m6 175 rfl) rfl
theorem q1469 : (Jvm.Cond.soleField "CorridorPlanModel" "typed") ∈ lw_all := lw_g (lw_at lw_m6 176 rfl) rfl
theorem q1470 : (Jvm.Cond.lays "CorridorPlanModel" "CorridorPlanModel" "thrown" "I") ∈ lw_all := lw_g (lw_at lw_m6 177 rfl) rfl
theorem q1471 : (Jvm.Cond.soleField "CorridorPlanModel" "thrown") ∈ lw_all := lw_g (lw_at lw_m6 178 rfl) rfl
theorem q1472 : (Jvm.Cond.lays "CorridorPlanModel" "CorridorPlanModel" "at" "I") ∈ lw_all := lw_g (lw_at lw_m6 179 rfl) rfl
theorem q1473 : (Jvm.Cond.soleField "CorridorPlanModel" "at") ∈ lw_all := lw_g (lw_at lw_m6 180 rfl) rfl
theorem q1474 : (Jvm.Cond.lays "CorridorPlanModel" "CorridorPlanModel" "isFault" "Z") ∈ lw_all := lw_g (lw_at lw_m6 181 rfl) rfl
theorem q1475 : (Jvm.Cond.soleField "CorridorPlanModel" "isFault") ∈ lw_all := lw_g (lw_at lw_m6 182 rfl) rfl
theorem q1476 : (Jvm.Cond.laysFinal "CorridorPlanModel" "CorridorPlanModel" "told" "[I") ∈ lw_all := lw_g (lw_at lw_m6 183 rfl) rfl
theorem q1477 : (Jvm.Cond.soleField "CorridorPlanModel" "told") ∈ lw_all := lw_g (lw_at lw_m6 184 rfl) rfl
theorem q1478 : (Jvm.Cond.lays "CorridorPlanModel" "CorridorPlanModel" "tolds" "I") ∈ lw_all := lw_g (lw_at lw_m6 185 rfl) rfl
theorem q1479 : (Jvm.Cond.soleField "CorridorPlanModel" "tolds") ∈ lw_all := lw_g (lw_at lw_m6 186 rfl) rfl
theorem q1480 : (Jvm.Cond.laysFinal "CorridorPlanModel" "CorridorPlanModel" "across" "[I") ∈ lw_all := lw_g (lw_at lw_m6 187 rfl) rfl
theorem q1481 : (Jvm.Cond.soleField "CorridorPlanModel" "across") ∈ lw_all := lw_g (lw_at lw_m6 188 rfl) rfl
theorem q1482 : (Jvm.Cond.laysFinal "CorridorPlanModel" "CorridorPlanModel" "along" "[I") ∈ lw_all := lw_g (lw_at lw_m6 189 rfl) rfl
theorem q1483 : (Jvm.Cond.soleField "CorridorPlanModel" "along") ∈ lw_all := lw_g (lw_at lw_m6 190 rfl) rfl
theorem q1484 : (Jvm.Cond.laysFinal "CorridorPlanModel" "CorridorPlanModel" "rest" "[I") ∈ lw_all := lw_g (lw_at lw_m6 191 rfl) rfl
theorem q1485 : (Jvm.Cond.soleField "CorridorPlanModel" "rest") ∈ lw_all := lw_g (lw_at lw_m6 192 rfl) rfl
theorem q1486 : (Jvm.Cond.laysFinal "CorridorPlanModel" "CorridorPlanModel" "isSettled" "[Z") ∈ lw_all := lw_g (lw_at lw_m6 193 rfl) rfl
theorem q1487 : (Jvm.Cond.soleField "CorridorPlanModel" "isSettled") ∈ lw_all := lw_g (lw_at lw_m6 194 rfl) rfl
theorem q1488 : (Jvm.Cond.laysFinal "CorridorPlanModel" "CorridorPlanModel" "places" "[I") ∈ lw_all := lw_g (lw_at lw_m6 195 rfl) rfl
theorem q1489 : (Jvm.Cond.soleField "CorridorPlanModel" "places") ∈ lw_all := lw_g (lw_at lw_m6 196 rfl) rfl
theorem q1490 : (Jvm.Cond.lays "CorridorPlanModel" "CorridorPlanModel" "many" "I") ∈ lw_all := lw_g (lw_at lw_m6 197 rfl) rfl
theorem q1491 : (Jvm.Cond.soleField "CorridorPlanModel" "many") ∈ lw_all := lw_g (lw_at lw_m6 198 rfl) rfl
theorem q1492 : (Jvm.Cond.lays "CorridorPlanModel" "CorridorPlanModel" "cost" "I") ∈ lw_all := lw_g (lw_at lw_m6 199 rfl) rfl
theorem q1493 : (Jvm.Cond.soleField "CorridorPlanModel" "cost") ∈ lw_all := lw_g (lw_at lw_m6 200 rfl) rfl
theorem q1494 : (Jvm.Cond.lays "CorridorPlanModel" "CorridorPlanModel" "breadth" "I") ∈ lw_all := lw_g (lw_at lw_m6 201 rfl) rfl
theorem q1495 : (Jvm.Cond.soleField "CorridorPlanModel" "breadth") ∈ lw_all := lw_g (lw_at lw_m6 202 rfl) rfl
theorem q1496 : (Jvm.Cond.laysFinal "CorridorPlanModel" "CorridorPlanModel" "stays" "[Z") ∈ lw_all := lw_g (lw_at lw_m6 203 rfl) rfl
theorem q1497 : (Jvm.Cond.soleField "CorridorPlanModel" "stays") ∈ lw_all := lw_g (lw_at lw_m6 204 rfl) rfl
theorem q1498 : (Jvm.Cond.superclass "CorridorPlanModel" "java/lang/Object") ∈ lw_all := lw_g (lw_at lw_m6 205 rfl) rfl
theorem q1500 : (Jvm.Cond.instanceMethod ({ cls := "CorridorPlanModel", name := "thrown", desc := "()I" } : Jvm.MethodName)) ∈ lw_all := lw_g (lw_at lw_m6 207 rfl) rfl
theorem q1501 : (Jvm.Cond.selects "CorridorPlanModel" ({ cls := "CorridorPlanModel", name := "thrown", desc := "()I" } : Jvm.MethodName) ({ cls := "CorridorPlanModel", name := "thrown", desc := "()I" } : Jvm.MethodName)) ∈ lw_all := lw_g (lw_at lw_m6 208 rfl) rfl
theorem q1502 : (Jvm.Cond.code ({ cls := "CorridorPlanModel", name := "thrown", desc := "()I" } : Jvm.MethodName) prog_8_method_2_code (1 : Nat) (Option.some Jvm.ClassFile.FieldType.int)) ∈ lw_all := lw_g (lw_at lw_m6 209 rfl) rfl
theorem q1504 : (Jvm.Cond.instanceMethod ({ cls := "CorridorPlanModel", name := "undo", desc := "()I" } : Jvm.MethodName)) ∈ lw_all := lw_g (lw_at lw_m6 211 rfl) rfl
theorem q1505 : (Jvm.Cond.selects "CorridorPlanModel" ({ cls := "CorridorPlanModel", name := "undo", desc := "()I" } : Jvm.MethodName) ({ cls := "CorridorPlanModel", name := "undo", desc := "()I" } : Jvm.MethodName)) ∈ lw_all := lw_g (lw_at lw_m6 212 rfl) rfl
theorem q1506 : (Jvm.Cond.code ({ cls := "CorridorPlanModel", name := "undo", desc := "()I" } : Jvm.MethodName) prog_8_method_11_code (1 : Nat) (Option.some Jvm.ClassFile.FieldType.int)) ∈ lw_all := lw_g (lw_at lw_m6 213 rfl) rfl
theorem q1507 : (Jvm.Cond.methodLink "CorridorPlanModel" (63 : Nat) ({ cls := "CorridorPlanModel", name := "fails", desc := "(I)I" } : Jvm.MethodName)) ∈ lw_all := lw_g (lw_at lw_m6 214 rfl) rfl
theorem q1508 : (Jvm.Cond.privateMethod ({ cls := "CorridorPlanModel", name := "fails", desc := "(I)I" } : Jvm.MethodName)) ∈ lw_tbl := lw_at lw_m6 215 rfl
theorem q1509 : (Jvm.Cond.instanceMethod ({ cls := "CorridorPlanModel", name := "fails", desc := "(I)I" } : Jvm.MethodName)) ∈ lw_all := lw_g (lw_at lw_m6 216 rfl) rfl
theorem q1510 : (Jvm.Cond.code ({ cls := "CorridorPlanModel", name := "fails", desc := "(I)I" } : Jvm.MethodName) prog_8_method_3_code (2 : Nat) (Option.some Jvm.ClassFile.FieldType.int)) ∈ lw_all := lw_g (lw_at lw_m6 217 rfl) rfl
theorem q1511 : (Jvm.Cond.methodLink "CorridorPlanModel" (59 : Nat) ({ cls := "CorridorPlanModel", name := "copies", desc := "([II[II)V" } : Jvm.MethodName)) ∈ lw_all := lw_g (lw_at lw_m6 218 rfl) rfl
theorem q1512 : (Jvm.Cond.static ({ cls := "CorridorPlanModel", name := "copies", desc := "([II[II)V" } : Jvm.MethodName)) ∈ lw_all := lw_g (lw_at lw_m6 219 rfl) rfl
theorem q1513 : (Jvm.Cond.code ({ cls := "CorridorPlanModel", name := "copies", desc := "([II[II)V" } : Jvm.MethodName) prog_8_method_9_code (5 : Nat) (Option.none : Option Jvm.ClassFile.FieldType)) ∈ lw_all := lw_g (lw_at lw_m6 220 rfl) rfl
theorem q1515 : (Jvm.Cond.instanceMethod ({ cls := "CorridorPlanModel", name := "room", desc := "(IIII)I" } : Jvm.MethodName)) ∈ lw_all := lw_g (lw_at lw_m6 222 rfl) rfl
theorem q1516 : (Jvm.Cond.selects "CorridorPlanModel" ({ cls := "CorridorPlanModel", name := "room", desc := "(IIII)I" } : Jvm.MethodName) ({ cls := "CorridorPlanModel", name := "room", desc := "(IIII)I" } : Jvm.MethodName)) ∈ lw_all := lw_g (lw_at lw_m6 223 rfl) rfl
theorem q1517 : (Jvm.Cond.code ({ cls := "CorridorPlanModel", name := "room", desc := "(IIII)I" } : Jvm.MethodName) prog_8_method_32_code (7 : Nat) (Option.some Jvm.ClassFile.FieldType.int)) ∈ lw_all := lw_g (lw_at lw_m6 224 rfl) rfl
theorem q1518 : (Jvm.Cond.methodLink "CorridorPlanModel" (48 : Nat) ({ cls := "CorridorPlanModel", name := "in", desc := "(III)Z" } : Jvm.MethodName)) ∈ lw_all := lw_g (lw_at lw_m6 225 rfl) rfl
theorem q1519 : (Jvm.Cond.static ({ cls := "CorridorPlanModel", name := "in", desc := "(III)Z" } : Jvm.MethodName)) ∈ lw_all := lw_g (lw_at lw_m6 226 rfl) rfl
theorem q1520 : (Jvm.Cond.code ({ cls := "CorridorPlanModel", name := "in", desc := "(III)Z" } : Jvm.MethodName) prog_8_method_4_code (3 : Nat) (Option.some Jvm.ClassFile.FieldType.boolean)) ∈ lw_all := lw_g (lw_at lw_m6 227 rfl) rfl
theorem q1521 : (Jvm.Cond.methodLink "CorridorPlanModel" (134 : Nat) ({ cls := "CorridorPlanModel", name := "free", desc := "()I" } : Jvm.MethodName)) ∈ lw_all := lw_g (lw_at lw_m6 228 rfl) rfl
theorem q1522 : (Jvm.Cond.privateMethod ({ cls := "CorridorPlanModel", name := "free", desc := "()I" } : Jvm.MethodName)) ∈ lw_tbl := lw_at lw_m6 229 rfl
theorem q1523 : (Jvm.Cond.instanceMethod ({ cls := "CorridorPlanModel", name := "free", desc := "()I" } : Jvm.MethodName)) ∈ lw_all := lw_g (lw_at lw_m6 230 rfl) rfl
theorem q1524 : (Jvm.Cond.code ({ cls := "CorridorPlanModel", name := "free", desc := "()I" } : Jvm.MethodName) prog_8_method_31_code (2 : Nat) (Option.some Jvm.ClassFile.FieldType.int)) ∈ lw_all := lw_g (lw_at lw_m6 231 rfl) rfl
theorem q1525 : (Jvm.Cond.methodLink "CorridorPlanModel" (126 : Nat) ({ cls := "CorridorPlanModel", name := "isThere", desc := "([II)Z" } : Jvm.MethodName)) ∈ lw_all := lw_g (lw_at lw_m6 232 rfl) rfl
theorem q1526 : (Jvm.Cond.static ({ cls := "CorridorPlanModel", name := "isThere", desc := "([II)Z" } : Jvm.MethodName)) ∈ lw_all := lw_g (lw_at lw_m6 233 rfl) rfl
theorem q1527 : (Jvm.Cond.code ({ cls := "CorridorPlanModel", name := "isThere", desc := "([II)Z" } : Jvm.MethodName) prog_8_method_7_code (2 : Nat) (Option.some Jvm.ClassFile.FieldType.boolean)) ∈ lw_all := lw_g (lw_at lw_m6 234 rfl) rfl
theorem q1528 : (Jvm.Cond.methodLink "CorridorPlanModel" (52 : Nat) ({ cls := "CorridorPlanModel", name := "of", desc := "([III)I" } : Jvm.MethodName)) ∈ lw_all := lw_g (lw_at lw_m6 235 rfl) rfl
theorem q1529 : (Jvm.Cond.static ({ cls := "CorridorPlanModel", name := "of", desc := "([III)I" } : Jvm.MethodName)) ∈ lw_all := lw_g (lw_at lw_m6 236 rfl) rfl
theorem q1530 : (Jvm.Cond.code ({ cls := "CorridorPlanModel", name := "of", desc := "([III)I" } : Jvm.MethodName) prog_8_method_6_code (3 : Nat) (Option.some Jvm.ClassFile.FieldType.int)) ∈ lw_all := lw_g (lw_at lw_m6 237 rfl) rfl
theorem q1531 : (Jvm.Cond.methodLink "CorridorPlanModel" (137 : Nat) ({ cls := "CorridorPlanModel", name := "canBe", desc := "(IIII)Z" } : Jvm.MethodName)) ∈ lw_all := lw_g (lw_at lw_m6 238 rfl) rfl
theorem q1532 : (Jvm.Cond.privateMethod ({ cls := "CorridorPlanModel", name := "canBe", desc := "(IIII)Z" } : Jvm.MethodName)) ∈ lw_tbl := lw_at lw_m6 239 rfl
theorem q1533 : (Jvm.Cond.instanceMethod ({ cls := "CorridorPlanModel", name := "canBe", desc := "(IIII)Z" } : Jvm.MethodName)) ∈ lw_all := lw_g (lw_at lw_m7 0 rfl) rfl
theorem q1534 : (Jvm.Cond.code ({ cls := "CorridorPlanModel", name := "canBe", desc := "(IIII)Z" } : Jvm.MethodName) prog_8_method_30_code (8 : Nat) (Option.some Jvm.ClassFile.FieldType.boolean)) ∈ lw_all := lw_g (lw_at lw_m7 1 rfl) rfl
theorem q1535 : (Jvm.Cond.methodLink "CorridorPlanModel" (74 : Nat) ({ cls := "CorridorPlanModel", name := "what", desc := "([III)I" } : Jvm.MethodName)) ∈ lw_all := lw_g (lw_at lw_m7 2 rfl) rfl
theorem q1536 : (Jvm.Cond.static ({ cls := "CorridorPlanModel", name := "what", desc := "([III)I" } : Jvm.MethodName)) ∈ lw_all := lw_g (lw_at lw_m7 3 rfl) rfl
theorem q1537 : (Jvm.Cond.code ({ cls := "CorridorPlanModel", name := "what", desc := "([III)I" } : Jvm.MethodName) prog_8_method_13_code (3 : Nat) (Option.some Jvm.ClassFile.FieldType.int)) ∈ lw_all := lw_g (lw_at lw_m7 4 rfl) rfl
theorem q1538 : (Jvm.Cond.methodLink "CorridorPlanModel" (67 : Nat) ({ cls := "CorridorPlanModel", name := "isSquare", desc := "(II)Z" } : Jvm.MethodName)) ∈ lw_all := lw_g (lw_at lw_m7 5 rfl) rfl
theorem q1539 : (Jvm.Cond.static ({ cls := "CorridorPlanModel", name := "isSquare", desc := "(II)Z" } : Jvm.MethodName)) ∈ lw_all := lw_g (lw_at lw_m7 6 rfl) rfl
theorem q1540 : (Jvm.Cond.code ({ cls := "CorridorPlanModel", name := "isSquare", desc := "(II)Z" } : Jvm.MethodName) prog_8_method_5_code (2 : Nat) (Option.some Jvm.ClassFile.FieldType.boolean)) ∈ lw_all := lw_g (lw_at lw_m7 7 rfl) rfl
theorem q1541 : (Jvm.Cond.methodLink "CorridorPlanModel" (141 : Nat) ({ cls := "CorridorPlanModel", name := "saves", desc := "()V" } : Jvm.MethodName)) ∈ lw_all := lw_g (lw_at lw_m7 8 rfl) rfl
theorem q1542 : (Jvm.Cond.privateMethod ({ cls := "CorridorPlanModel", name := "saves", desc := "()V" } : Jvm.MethodName)) ∈ lw_tbl := lw_at lw_m7 9 rfl
theorem q1543 : (Jvm.Cond.instanceMethod ({ cls := "CorridorPlanModel", name := "saves", desc := "()V" } : Jvm.MethodName)) ∈ lw_all := lw_g (lw_at lw_m7 10 rfl) rfl
theorem q1544 : (Jvm.Cond.code ({ cls := "CorridorPlanModel", name := "saves", desc := "()V" } : Jvm.MethodName) prog_8_method_10_code (2 : Nat) (Option.none : Option Jvm.ClassFile.FieldType)) ∈ lw_all := lw_g (lw_at lw_m7 11 rfl) rfl
theorem q1546 : (Jvm.Cond.instanceMethod ({ cls := "CorridorPlanModel", name := "give", desc := "(I)I" } : Jvm.MethodName)) ∈ lw_all := lw_g (lw_at lw_m7 13 rfl) rfl
theorem q1547 : (Jvm.Cond.selects "CorridorPlanModel" ({ cls := "CorridorPlanModel", name := "give", desc := "(I)I" } : Jvm.MethodName) ({ cls := "CorridorPlanModel", name := "give", desc := "(I)I" } : Jvm.MethodName)) ∈ lw_all := lw_g (lw_at lw_m7 14 rfl) rfl
theorem q1548 : (Jvm.Cond.code ({ cls := "CorridorPlanModel", name := "give", desc := "(I)I" } : Jvm.MethodName) prog_8_method_34_code (2 : Nat) (Option.some Jvm.ClassFile.FieldType.int)) ∈ lw_all := lw_g (lw_at lw_m7 15 rfl) rfl
theorem q1549 : (Jvm.Cond.methodLink "CorridorPlanModel" (144 : Nat) ({ cls := "CorridorPlanModel", name := "gives", desc := "([II)I" } : Jvm.MethodName)) ∈ lw_all := lw_g (lw_at lw_m7 16 rfl) rfl
theorem q1550 : (Jvm.Cond.static ({ cls := "CorridorPlanModel", name := "gives", desc := "([II)I" } : Jvm.MethodName)) ∈ lw_all := lw_g (lw_at lw_m7 17 rfl) rfl
theorem q1551 : (Jvm.Cond.code ({ cls := "CorridorPlanModel", name := "gives", desc := "([II)I" } : Jvm.MethodName) prog_8_method_33_code (4 : Nat) (Option.some Jvm.ClassFile.FieldType.int)) ∈ lw_all := lw_g (lw_at lw_m7 18 rfl) rfl
theorem q1553 : (Jvm.Cond.instanceMethod ({ cls := "CorridorPlanModel", name := "walk", desc := "(III)I" } : Jvm.MethodName)) ∈ lw_all := lw_g (lw_at lw_m7 20 rfl) rfl
theorem q1554 : (Jvm.Cond.selects "CorridorPlanModel" ({ cls := "CorridorPlanModel", name := "walk", desc := "(III)I" } : Jvm.MethodName) ({ cls := "CorridorPlanModel", name := "walk", desc := "(III)I" } : Jvm.MethodName)) ∈ lw_all := lw_g (lw_at lw_m7 21 rfl) rfl
theorem q1555 : (Jvm.Cond.code ({ cls := "CorridorPlanModel", name := "walk", desc := "(III)I" } : Jvm.MethodName) prog_8_method_37_code (4 : Nat) (Option.some Jvm.ClassFile.FieldType.int)) ∈ lw_all := lw_g (lw_at lw_m7 22 rfl) rfl
theorem q1556 : (Jvm.Cond.methodLink "CorridorPlanModel" (147 : Nat) ({ cls := "CorridorPlanModel", name := "may", desc := "(IIZ)I" } : Jvm.MethodName)) ∈ lw_all := lw_g (lw_at lw_m7 23 rfl) rfl
theorem q1557 : (Jvm.Cond.privateMethod ({ cls := "CorridorPlanModel", name := "may", desc := "(IIZ)I" } : Jvm.MethodName)) ∈ lw_tbl := lw_at lw_m7 24 rfl
theorem q1558 : (Jvm.Cond.instanceMethod ({ cls := "CorridorPlanModel", name := "may", desc := "(IIZ)I" } : Jvm.MethodName)) ∈ lw_all := lw_g (lw_at lw_m7 25 rfl) rfl
theorem q1559 : (Jvm.Cond.code ({ cls := "CorridorPlanModel", name := "may", desc := "(IIZ)I" } : Jvm.MethodName) prog_8_method_35_code (4 : Nat) (Option.some Jvm.ClassFile.FieldType.int)) ∈ lw_all := lw_g (lw_at lw_m7 26 rfl) rfl
theorem q1560 : (Jvm.Cond.methodLink "CorridorPlanModel" (151 : Nat) ({ cls := "CorridorPlanModel", name := "walking", desc := "(III)I" } : Jvm.MethodName)) ∈ lw_all := lw_g (lw_at lw_m7 27 rfl) rfl
theorem q1561 : (Jvm.Cond.privateMethod ({ cls := "CorridorPlanModel", name := "walking", desc := "(III)I" } : Jvm.MethodName)) ∈ lw_tbl := lw_at lw_m7 28 rfl
theorem q1562 : (Jvm.Cond.instanceMethod ({ cls := "CorridorPlanModel", name := "walking", desc := "(III)I" } : Jvm.MethodName)) ∈ lw_all := lw_g (lw_at lw_m7 29 rfl) rfl
theorem q1563 : (Jvm.Cond.code ({ cls := "CorridorPlanModel", name := "walking", desc := "(III)I" } : Jvm.MethodName) prog_8_method_36_code (5 : Nat) (Option.some Jvm.ClassFile.FieldType.int)) ∈ lw_all := lw_g (lw_at lw_m7 30 rfl) rfl
theorem q1564 : (Jvm.Cond.methodLink "CorridorPlanModel" (99 : Nat) ({ cls := "CorridorPlanModel", name := "walks", desc := "([III)I" } : Jvm.MethodName)) ∈ lw_all := lw_g (lw_at lw_m7 31 rfl) rfl
theorem q1565 : (Jvm.Cond.static ({ cls := "CorridorPlanModel", name := "walks", desc := "([III)I" } : Jvm.MethodName)) ∈ lw_all := lw_g (lw_at lw_m7 32 rfl) rfl
theorem q1566 : (Jvm.Cond.code ({ cls := "CorridorPlanModel", name := "walks", desc := "([III)I" } : Jvm.MethodName) prog_8_method_8_code (3 : Nat) (Option.some Jvm.ClassFile.FieldType.int)) ∈ lw_all := lw_g (lw_at lw_m7 33 rfl) rfl
theorem q1568 : (Jvm.Cond.instanceMethod ({ cls := "CorridorPlanModel", name := "dig", desc := "(II)I" } : Jvm.MethodName)) ∈ lw_all := lw_g (lw_at lw_m7 35 rfl) rfl
theorem q1569 : (Jvm.Cond.selects "CorridorPlanModel" ({ cls := "CorridorPlanModel", name := "dig", desc := "(II)I" } : Jvm.MethodName) ({ cls := "CorridorPlanModel", name := "dig", desc := "(II)I" } : Jvm.MethodName)) ∈ lw_all := lw_g (lw_at lw_m7 36 rfl) rfl
theorem q1570 : (Jvm.Cond.code ({ cls := "CorridorPlanModel", name := "dig", desc := "(II)I" } : Jvm.MethodName) prog_8_method_39_code (3 : Nat) (Option.some Jvm.ClassFile.FieldType.int)) ∈ lw_all := lw_g (lw_at lw_m7 37 rfl) rfl
theorem q1571 : (Jvm.Cond.methodLink "CorridorPlanModel" (155 : Nat) ({ cls := "CorridorPlanModel", name := "toggles", desc := "([II)V" } : Jvm.MethodName)) ∈ lw_all := lw_g (lw_at lw_m7 38 rfl) rfl
theorem q1572 : (Jvm.Cond.static ({ cls := "CorridorPlanModel", name := "toggles", desc := "([II)V" } : Jvm.MethodName)) ∈ lw_all := lw_g (lw_at lw_m7 39 rfl) rfl
theorem q1573 : (Jvm.Cond.code ({ cls := "CorridorPlanModel", name := "toggles", desc := "([II)V" } : Jvm.MethodName) prog_8_method_38_code (2 : Nat) (Option.none : Option Jvm.ClassFile.FieldType)) ∈ lw_all := lw_g (lw_at lw_m7 40 rfl) rfl
theorem q1575 : (Jvm.Cond.instanceMethod ({ cls := "CorridorPlanModel", name := "carve", desc := "(II)I" } : Jvm.MethodName)) ∈ lw_all := lw_g (lw_at lw_m7 42 rfl) rfl
theorem q1576 : (Jvm.Cond.selects "CorridorPlanModel" ({ cls := "CorridorPlanModel", name := "carve", desc := "(II)I" } : Jvm.MethodName) ({ cls := "CorridorPlanModel", name := "carve", desc := "(II)I" } : Jvm.MethodName)) ∈ lw_all := lw_g (lw_at lw_m7 43 rfl) rfl
theorem q1577 : (Jvm.Cond.code ({ cls := "CorridorPlanModel", name := "carve", desc := "(II)I" } : Jvm.MethodName) prog_8_method_40_code (3 : Nat) (Option.some Jvm.ClassFile.FieldType.int)) ∈ lw_all := lw_g (lw_at lw_m7 44 rfl) rfl
theorem q1578 : (Jvm.Cond.methodLink "CorridorPlanModel" (116 : Nat) ({ cls := "CorridorPlanModel", name := "isWay", desc := "([III)Z" } : Jvm.MethodName)) ∈ lw_all := lw_g (lw_at lw_m7 45 rfl) rfl
theorem q1579 : (Jvm.Cond.privateMethod ({ cls := "CorridorPlanModel", name := "isWay", desc := "([III)Z" } : Jvm.MethodName)) ∈ lw_tbl := lw_at lw_m7 46 rfl
theorem q1580 : (Jvm.Cond.instanceMethod ({ cls := "CorridorPlanModel", name := "isWay", desc := "([III)Z" } : Jvm.MethodName)) ∈ lw_all := lw_g (lw_at lw_m7 47 rfl) rfl
theorem q1581 : (Jvm.Cond.code ({ cls := "CorridorPlanModel", name := "isWay", desc := "([III)Z" } : Jvm.MethodName) prog_8_method_21_code (8 : Nat) (Option.some Jvm.ClassFile.FieldType.boolean)) ∈ lw_all := lw_g (lw_at lw_m7 48 rfl) rfl
theorem q1582 : (Jvm.Cond.methodLink "CorridorPlanModel" (102 : Nat) ({ cls := "CorridorPlanModel", name := "laysRests", desc := "([II)V" } : Jvm.MethodName)) ∈ lw_all := lw_g (lw_at lw_m7 49 rfl) rfl
theorem q1583 : (Jvm.Cond.privateMethod ({ cls := "CorridorPlanModel", name := "laysRests", desc := "([II)V" } : Jvm.MethodName)) ∈ lw_tbl := lw_at lw_m7 50 rfl
theorem q1584 : (Jvm.Cond.instanceMethod ({ cls := "CorridorPlanModel", name := "laysRests", desc := "([II)V" } : Jvm.MethodName)) ∈ lw_all := lw_g (lw_at lw_m7 51 rfl) rfl
theorem q1585 : (Jvm.Cond.code ({ cls := "CorridorPlanModel", name := "laysRests", desc := "([II)V" } : Jvm.MethodName) prog_8_method_20_code (7 : Nat) (Option.none : Option Jvm.ClassFile.FieldType)) ∈ lw_all := lw_g (lw_at lw_m7 52 rfl) rfl
theorem q1586 : (Jvm.Cond.methodLink "CorridorPlanModel" (81 : Nat) ({ cls := "CorridorPlanModel", name := "isPlace", desc := "([III)Z" } : Jvm.MethodName)) ∈ lw_all := lw_g (lw_at lw_m7 53 rfl) rfl
theorem q1587 : (Jvm.Cond.privateMethod ({ cls := "CorridorPlanModel", name := "isPlace", desc := "([III)Z" } : Jvm.MethodName)) ∈ lw_tbl := lw_at lw_m7 54 rfl
theorem q1588 : (Jvm.Cond.instanceMethod ({ cls := "CorridorPlanModel", name := "isPlace", desc := "([III)Z" } : Jvm.MethodName)) ∈ lw_all := lw_g (lw_at lw_m7 55 rfl) rfl
theorem q1589 : (Jvm.Cond.code ({ cls := "CorridorPlanModel", name := "isPlace", desc := "([III)Z" } : Jvm.MethodName) prog_8_method_14_code (5 : Nat) (Option.some Jvm.ClassFile.FieldType.boolean)) ∈ lw_all := lw_g (lw_at lw_m7 56 rfl) rfl
theorem q1590 : (Jvm.Cond.methodLink "CorridorPlanModel" (86 : Nat) ({ cls := "CorridorPlanModel", name := "isAtRoom", desc := "([III)Z" } : Jvm.MethodName)) ∈ lw_all := lw_g (lw_at lw_m7 57 rfl) rfl
theorem q1591 : (Jvm.Cond.privateMethod ({ cls := "CorridorPlanModel", name := "isAtRoom", desc := "([III)Z" } : Jvm.MethodName)) ∈ lw_tbl := lw_at lw_m7 58 rfl
theorem q1592 : (Jvm.Cond.instanceMethod ({ cls := "CorridorPlanModel", name := "isAtRoom", desc := "([III)Z" } : Jvm.MethodName)) ∈ lw_all := lw_g (lw_at lw_m7 59 rfl) rfl
theorem q1593 : (Jvm.Cond.code ({ cls := "CorridorPlanModel", name := "isAtRoom", desc := "([III)Z" } : Jvm.MethodName) prog_8_method_17_code (6 : Nat) (Option.some Jvm.ClassFile.FieldType.boolean)) ∈ lw_all := lw_g (lw_at lw_m7 60 rfl) rfl
theorem q1594 : (Jvm.Cond.methodLink "CorridorPlanModel" (77 : Nat) ({ cls := "CorridorPlanModel", name := "isBeside", desc := "([IIII)Z" } : Jvm.MethodName)) ∈ lw_all := lw_g (lw_at lw_m7 61 rfl) rfl
theorem q1595 : (Jvm.Cond.static ({ cls := "CorridorPlanModel", name := "isBeside", desc := "([IIII)Z" } : Jvm.MethodName)) ∈ lw_all := lw_g (lw_at lw_m7 62 rfl) rfl
theorem q1596 : (Jvm.Cond.code ({ cls := "CorridorPlanModel", name := "isBeside", desc := "([IIII)Z" } : Jvm.MethodName) prog_8_method_16_code (4 : Nat) (Option.some Jvm.ClassFile.FieldType.boolean)) ∈ lw_all := lw_g (lw_at lw_m7 63 rfl) rfl
theorem q1597 : (Jvm.Cond.constant "CorridorPlanModel" (85 : Nat) (1000000 : Int32)) ∈ lw_all := lw_g (lw_at lw_m7 64 rfl) rfl
theorem q1598 : (Jvm.Cond.methodLink "CorridorPlanModel" (89 : Nat) ({ cls := "CorridorPlanModel", name := "nearest", desc := "()I" } : Jvm.MethodName)) ∈ lw_all := lw_g (lw_at lw_m7 65 rfl) rfl
theorem q1599 : (Jvm.Cond.privateMethod ({ cls := "CorridorPlanModel", name := "nearest", desc := "()I" } : Jvm.MethodName)) ∈ lw_tbl := lw_at lw_m7 66 rfl
theorem q1600 : (Jvm.Cond.instanceMethod ({ cls := "CorridorPlanModel", name := "nearest", desc := "()I" } : Jvm.MethodName)) ∈ lw_all := lw_g (lw_at lw_m7 67 rfl) rfl
theorem q1601 : (Jvm.Cond.code ({ cls := "CorridorPlanModel", name := "nearest", desc := "()I" } : Jvm.MethodName) prog_8_method_19_code (3 : Nat) (Option.some Jvm.ClassFile.FieldType.int)) ∈ lw_all := lw_g (lw_at lw_m7 68 rfl) rfl
theorem q1602 : (Jvm.Cond.methodLink "CorridorPlanModel" (93 : Nat) ({ cls := "CorridorPlanModel", name := "next", desc := "([III)I" } : Jvm.MethodName)) ∈ lw_all := lw_g (lw_at lw_m7 69 rfl) rfl
theorem q1603 : (Jvm.Cond.privateMethod ({ cls := "CorridorPlanModel", name := "next", desc := "([III)I" } : Jvm.MethodName)) ∈ lw_tbl := lw_at lw_m7 70 rfl
theorem q1604 : (Jvm.Cond.instanceMethod ({ cls := "CorridorPlanModel", name := "next", desc := "([III)I" } : Jvm.MethodName)) ∈ lw_all := lw_g (lw_at lw_m7 71 rfl) rfl
theorem q1605 : (Jvm.Cond.code ({ cls := "CorridorPlanModel", name := "next", desc := "([III)I" } : Jvm.MethodName) prog_8_method_18_code (6 : Nat) (Option.some Jvm.ClassFile.FieldType.int)) ∈ lw_all := lw_g (lw_at lw_m7 72 rfl) rfl
theorem q1606 : (Jvm.Cond.methodLink "CorridorPlanModel" (96 : Nat) ({ cls := "CorridorPlanModel", name := "rock", desc := "([III)I" } : Jvm.MethodName)) ∈ lw_all := lw_g (lw_at lw_m7 73 rfl) rfl
theorem q1607 : (Jvm.Cond.privateMethod ({ cls := "CorridorPlanModel", name := "rock", desc := "([III)I" } : Jvm.MethodName)) ∈ lw_tbl := lw_at lw_m7 74 rfl
theorem q1608 : (Jvm.Cond.instanceMethod ({ cls := "CorridorPlanModel", name := "rock", desc := "([III)I" } : Jvm.MethodName)) ∈ lw_all := lw_g (lw_at lw_m7 75 rfl) rfl
theorem q1609 : (Jvm.Cond.code ({ cls := "CorridorPlanModel", name := "rock", desc := "([III)I" } : Jvm.MethodName) prog_8_method_15_code (9 : Nat) (Option.some Jvm.ClassFile.FieldType.int)) ∈ lw_all := lw_g (lw_at lw_m7 76 rfl) rfl
theorem q1610 : (Jvm.Cond.methodLink "CorridorPlanModel" (112 : Nat) ({ cls := "CorridorPlanModel", name := "follower", desc := "([II)I" } : Jvm.MethodName)) ∈ lw_all := lw_g (lw_at lw_m7 77 rfl) rfl
theorem q1611 : (Jvm.Cond.privateMethod ({ cls := "CorridorPlanModel", name := "follower", desc := "([II)I" } : Jvm.MethodName)) ∈ lw_tbl := lw_at lw_m7 78 rfl
theorem q1612 : (Jvm.Cond.instanceMethod ({ cls := "CorridorPlanModel", name := "follower", desc := "([II)I" } : Jvm.MethodName)) ∈ lw_all := lw_g (lw_at lw_m7 79 rfl) rfl
theorem q1613 : (Jvm.Cond.code ({ cls := "CorridorPlanModel", name := "follower", desc := "([II)I" } : Jvm.MethodName) prog_8_method_22_code (6 : Nat) (Option.some Jvm.ClassFile.FieldType.int)) ∈ lw_all := lw_g (lw_at lw_m7 80 rfl) rfl
theorem q1614 : (Jvm.Cond.methodLink "CorridorPlanModel" (119 : Nat) ({ cls := "CorridorPlanModel", name := "digs", desc := "([I)I" } : Jvm.MethodName)) ∈ lw_all := lw_g (lw_at lw_m7 81 rfl) rfl
theorem q1615 : (Jvm.Cond.privateMethod ({ cls := "CorridorPlanModel", name := "digs", desc := "([I)I" } : Jvm.MethodName)) ∈ lw_tbl := lw_at lw_m7 82 rfl
theorem q1616 : (Jvm.Cond.instanceMethod ({ cls := "CorridorPlanModel", name := "digs", desc := "([I)I" } : Jvm.MethodName)) ∈ lw_all := lw_g (lw_at lw_m7 83 rfl) rfl
theorem q1617 : (Jvm.Cond.code ({ cls := "CorridorPlanModel", name := "digs", desc := "([I)I" } : Jvm.MethodName) prog_8_method_24_code (6 : Nat) (Option.some Jvm.ClassFile.FieldType.int)) ∈ lw_all := lw_g (lw_at lw_m7 84 rfl) rfl
theorem q1619 : (Jvm.Cond.instanceMethod ({ cls := "CorridorPlanModel", name := "carveAll", desc := "()I" } : Jvm.MethodName)) ∈ lw_all := lw_g (lw_at lw_m7 86 rfl) rfl
theorem q1620 : (Jvm.Cond.selects "CorridorPlanModel" ({ cls := "CorridorPlanModel", name := "carveAll", desc := "()I" } : Jvm.MethodName) ({ cls := "CorridorPlanModel", name := "carveAll", desc := "()I" } : Jvm.MethodName)) ∈ lw_all := lw_g (lw_at lw_m7 87 rfl) rfl
theorem q1621 : (Jvm.Cond.code ({ cls := "CorridorPlanModel", name := "carveAll", desc := "()I" } : Jvm.MethodName) prog_8_method_41_code (2 : Nat) (Option.some Jvm.ClassFile.FieldType.int)) ∈ lw_all := lw_g (lw_at lw_m7 88 rfl) rfl
theorem q1622 : (Jvm.Cond.methodLink "CorridorPlanModel" (158 : Nat) ({ cls := "CorridorPlanModel", name := "digsNext", desc := "([I)I" } : Jvm.MethodName)) ∈ lw_all := lw_g (lw_at lw_m7 89 rfl) rfl
theorem q1623 : (Jvm.Cond.privateMethod ({ cls := "CorridorPlanModel", name := "digsNext", desc := "([I)I" } : Jvm.MethodName)) ∈ lw_tbl := lw_at lw_m7 90 rfl
theorem q1624 : (Jvm.Cond.instanceMethod ({ cls := "CorridorPlanModel", name := "digsNext", desc := "([I)I" } : Jvm.MethodName)) ∈ lw_all := lw_g (lw_at lw_m7 91 rfl) rfl
theorem q1625 : (Jvm.Cond.code ({ cls := "CorridorPlanModel", name := "digsNext", desc := "([I)I" } : Jvm.MethodName) prog_8_method_25_code (8 : Nat) (Option.some Jvm.ClassFile.FieldType.int)) ∈ lw_all := lw_g (lw_at lw_m7 92 rfl) rfl
theorem q1627 : (Jvm.Cond.instanceMethod ({ cls := "CorridorPlanModel", name := "fillUp", desc := "()I" } : Jvm.MethodName)) ∈ lw_all := lw_g (lw_at lw_m7 94 rfl) rfl
theorem q1628 : (Jvm.Cond.selects "CorridorPlanModel" ({ cls := "CorridorPlanModel", name := "fillUp", desc := "()I" } : Jvm.MethodName) ({ cls := "CorridorPlanModel", name := "fillUp", desc := "()I" } : Jvm.MethodName)) ∈ lw_all := lw_g (lw_at lw_m7 95 rfl) rfl
theorem q1629 : (Jvm.Cond.code ({ cls := "CorridorPlanModel", name := "fillUp", desc := "()I" } : Jvm.MethodName) prog_8_method_42_code (4 : Nat) (Option.some Jvm.ClassFile.FieldType.int)) ∈ lw_all := lw_g (lw_at lw_m7 96 rfl) rfl
theorem q1630 : (Jvm.Cond.methodLink "CorridorPlanModel" (161 : Nat) ({ cls := "CorridorPlanModel", name := "isOpen", desc := "([III)Z" } : Jvm.MethodName)) ∈ lw_all := lw_g (lw_at lw_m7 97 rfl) rfl
theorem q1631 : (Jvm.Cond.privateMethod ({ cls := "CorridorPlanModel", name := "isOpen", desc := "([III)Z" } : Jvm.MethodName)) ∈ lw_tbl := lw_at lw_m7 98 rfl
theorem q1632 : (Jvm.Cond.instanceMethod ({ cls := "CorridorPlanModel", name := "isOpen", desc := "([III)Z" } : Jvm.MethodName)) ∈ lw_all := lw_g (lw_at lw_m7 99 rfl) rfl
theorem q1633 : (Jvm.Cond.code ({ cls := "CorridorPlanModel", name := "isOpen", desc := "([III)Z" } : Jvm.MethodName) prog_8_method_23_code (4 : Nat) (Option.some Jvm.ClassFile.FieldType.boolean)) ∈ lw_all := lw_g (lw_at lw_m7 100 rfl) rfl
theorem q1635 : (Jvm.Cond.instanceMethod ({ cls := "CorridorPlanModel", name := "set", desc := "(I)I" } : Jvm.MethodName)) ∈ lw_all := lw_g (lw_at lw_m7 102 rfl) rfl
theorem q1636 : (Jvm.Cond.selects "CorridorPlanModel" ({ cls := "CorridorPlanModel", name := "set", desc := "(I)I" } : Jvm.MethodName) ({ cls := "CorridorPlanModel", name := "set", desc := "(I)I" } : Jvm.MethodName)) ∈ lw_all := lw_g (lw_at lw_m7 103 rfl) rfl
theorem q1637 : (Jvm.Cond.code ({ cls := "CorridorPlanModel", name := "set", desc := "(I)I" } : Jvm.MethodName) prog_8_method_43_code (3 : Nat) (Option.some Jvm.ClassFile.FieldType.int)) ∈ lw_all := lw_g (lw_at lw_m7 104 rfl) rfl
theorem q1639 : (Jvm.Cond.instanceMethod ({ cls := "CorridorPlanModel", name := "append", desc := "(I)I" } : Jvm.MethodName)) ∈ lw_all := lw_g (lw_at lw_m7 106 rfl) rfl
theorem q1640 : (Jvm.Cond.selects "CorridorPlanModel" ({ cls := "CorridorPlanModel", name := "append", desc := "(I)I" } : Jvm.MethodName) ({ cls := "CorridorPlanModel", name := "append", desc := "(I)I" } : Jvm.MethodName)) ∈ lw_all := lw_g (lw_at lw_m7 107 rfl) rfl
theorem q1641 : (Jvm.Cond.code ({ cls := "CorridorPlanModel", name := "append", desc := "(I)I" } : Jvm.MethodName) prog_8_method_44_code (2 : Nat) (Option.some Jvm.ClassFile.FieldType.int)) ∈ lw_all := lw_g (lw_at lw_m7 108 rfl) rfl
theorem q1643 : (Jvm.Cond.instanceMethod ({ cls := "CorridorPlanModel", name := "clearBuffer", desc := "()I" } : Jvm.MethodName)) ∈ lw_all := lw_g (lw_at lw_m7 110 rfl) rfl
theorem q1644 : (Jvm.Cond.selects "CorridorPlanModel" ({ cls := "CorridorPlanModel", name := "clearBuffer", desc := "()I" } : Jvm.MethodName) ({ cls := "CorridorPlanModel", name := "clearBuffer", desc := "()I" } : Jvm.MethodName)) ∈ lw_all := lw_g (lw_at lw_m7 111 rfl) rfl
theorem q1645 : (Jvm.Cond.code ({ cls := "CorridorPlanModel", name := "clearBuffer", desc := "()I" } : Jvm.MethodName) prog_8_method_45_code (2 : Nat) (Option.some Jvm.ClassFile.FieldType.int)) ∈ lw_all := lw_g (lw_at lw_m7 112 rfl) rfl
theorem q1647 : (Jvm.Cond.instanceMethod ({ cls := "CorridorPlanModel", name := "firstError", desc := "()I" } : Jvm.MethodName)) ∈ lw_all := lw_g (lw_at lw_m7 114 rfl) rfl
theorem q1648 : (Jvm.Cond.selects "CorridorPlanModel" ({ cls := "CorridorPlanModel", name := "firstError", desc := "()I" } : Jvm.MethodName) ({ cls := "CorridorPlanModel", name := "firstError", desc := "()I" } : Jvm.MethodName)) ∈ lw_all := lw_g (lw_at lw_m7 115 rfl) rfl
theorem q1649 : (Jvm.Cond.code ({ cls := "CorridorPlanModel", name := "firstError", desc := "()I" } : Jvm.MethodName) prog_8_method_53_code (2 : Nat) (Option.some Jvm.ClassFile.FieldType.int)) ∈ lw_all := lw_g (lw_at lw_m7 116 rfl) rfl
theorem q1650 : (Jvm.Cond.methodLink "CorridorPlanModel" (197 : Nat) ({ cls := "CorridorPlanModel", name := "isText", desc := "()Z" } : Jvm.MethodName)) ∈ lw_all := lw_g (lw_at lw_m7 117 rfl) rfl
theorem q1651 : (Jvm.Cond.privateMethod ({ cls := "CorridorPlanModel", name := "isText", desc := "()Z" } : Jvm.MethodName)) ∈ lw_tbl := lw_at lw_m7 118 rfl
theorem q1652 : (Jvm.Cond.instanceMethod ({ cls := "CorridorPlanModel", name := "isText", desc := "()Z" } : Jvm.MethodName)) ∈ lw_all := lw_g (lw_at lw_m7 119 rfl) rfl
theorem q1653 : (Jvm.Cond.code ({ cls := "CorridorPlanModel", name := "isText", desc := "()Z" } : Jvm.MethodName) prog_8_method_52_code (2 : Nat) (Option.some Jvm.ClassFile.FieldType.boolean)) ∈ lw_all := lw_g (lw_at lw_m7 120 rfl) rfl
theorem q1654 : (Jvm.Cond.methodLink "CorridorPlanModel" (194 : Nat) ({ cls := "CorridorPlanModel", name := "isOrder", desc := "()Z" } : Jvm.MethodName)) ∈ lw_all := lw_g (lw_at lw_m7 121 rfl) rfl
theorem q1655 : (Jvm.Cond.privateMethod ({ cls := "CorridorPlanModel", name := "isOrder", desc := "()Z" } : Jvm.MethodName)) ∈ lw_tbl := lw_at lw_m7 122 rfl
theorem q1656 : (Jvm.Cond.instanceMethod ({ cls := "CorridorPlanModel", name := "isOrder", desc := "()Z" } : Jvm.MethodName)) ∈ lw_all := lw_g (lw_at lw_m7 123 rfl) rfl
theorem q1657 : (Jvm.Cond.code ({ cls := "CorridorPlanModel", name := "isOrder", desc := "()Z" } : Jvm.MethodName) prog_8_method_51_code (2 : Nat) (Option.some Jvm.ClassFile.FieldType.boolean)) ∈ lw_all := lw_g (lw_at lw_m7 124 rfl) rfl
theorem q1658 : (Jvm.Cond.methodLink "CorridorPlanModel" (188 : Nat) ({ cls := "CorridorPlanModel", name := "isLetter", desc := "(II)Z" } : Jvm.MethodName)) ∈ lw_all := lw_g (lw_at lw_m7 125 rfl) rfl
theorem q1659 : (Jvm.Cond.privateMethod ({ cls := "CorridorPlanModel", name := "isLetter", desc := "(II)Z" } : Jvm.MethodName)) ∈ lw_tbl := lw_at lw_m7 126 rfl
theorem q1660 : (Jvm.Cond.instanceMethod ({ cls := "CorridorPlanModel", name := "isLetter", desc := "(II)Z" } : Jvm.MethodName)) ∈ lw_all := lw_g (lw_at lw_m7 127 rfl) rfl
theorem q1661 : (Jvm.Cond.code ({ cls := "CorridorPlanModel", name := "isLetter", desc := "(II)Z" } : Jvm.MethodName) prog_8_method_50_code (3 : Nat) (Option.some Jvm.ClassFile.FieldType.boolean)) ∈ lw_all := lw_g (lw_at lw_m7 128 rfl) rfl
theorem q1662 : (Jvm.Cond.methodLink "CorridorPlanModel" (178 : Nat) ({ cls := "CorridorPlanModel", name := "stops", desc := "()Z" } : Jvm.MethodName)) ∈ lw_all := lw_g (lw_at lw_m7 129 rfl) rfl
theorem q1663 : (Jvm.Cond.privateMethod ({ cls := "CorridorPlanModel", name := "stops", desc := "()Z" } : Jvm.MethodName)) ∈ lw_tbl := lw_at lw_m7 130 rfl
theorem q1664 : (Jvm.Cond.instanceMethod ({ cls := "CorridorPlanModel", name := "stops", desc := "()Z" } : Jvm.MethodName)) ∈ lw_all := lw_g (lw_at lw_m7 131 rfl) rfl
theorem q1665 : (Jvm.Cond.code ({ cls := "CorridorPlanModel", name := "stops", desc := "()Z" } : Jvm.MethodName) prog_8_method_47_code (1 : Nat) (Option.some Jvm.ClassFile.FieldType.boolean)) ∈ lw_all := lw_g (lw_at lw_m7 132 rfl) rfl
theorem q1666 : (Jvm.Cond.methodLink "CorridorPlanModel" (182 : Nat) ({ cls := "CorridorPlanModel", name := "isSign", desc := "(I)Z" } : Jvm.MethodName)) ∈ lw_all := lw_g (lw_at lw_m7 133 rfl) rfl
theorem q1667 : (Jvm.Cond.privateMethod ({ cls := "CorridorPlanModel", name := "isSign", desc := "(I)Z" } : Jvm.MethodName)) ∈ lw_tbl := lw_at lw_m7 134 rfl
theorem q1668 : (Jvm.Cond.instanceMethod ({ cls := "CorridorPlanModel", name := "isSign", desc := "(I)Z" } : Jvm.MethodName)) ∈ lw_all := lw_g (lw_at lw_m7 135 rfl) rfl
theorem q1669 : (Jvm.Cond.code ({ cls := "CorridorPlanModel", name := "isSign", desc := "(I)Z" } : Jvm.MethodName) prog_8_method_48_code (2 : Nat) (Option.some Jvm.ClassFile.FieldType.boolean)) ∈ lw_all := lw_g (lw_at lw_m7 136 rfl) rfl
theorem q1670 : (Jvm.Cond.methodLink "CorridorPlanModel" (174 : Nat) ({ cls := "CorridorPlanModel", name := "isAt", desc := "(I)Z" } : Jvm.MethodName)) ∈ lw_all := lw_g (lw_at lw_m7 137 rfl) rfl
theorem q1671 : (Jvm.Cond.privateMethod ({ cls := "CorridorPlanModel", name := "isAt", desc := "(I)Z" } : Jvm.MethodName)) ∈ lw_tbl := lw_at lw_m7 138 rfl
theorem q1672 : (Jvm.Cond.instanceMethod ({ cls := "CorridorPlanModel", name := "isAt", desc := "(I)Z" } : Jvm.MethodName)) ∈ lw_all := lw_g (lw_at lw_m7 139 rfl) rfl
theorem q1673 : (Jvm.Cond.code ({ cls := "CorridorPlanModel", name := "isAt", desc := "(I)Z" } : Jvm.MethodName) prog_8_method_46_code (2 : Nat) (Option.some Jvm.ClassFile.FieldType.boolean)) ∈ lw_all := lw_g (lw_at lw_m7 140 rfl) rfl
theorem q1674 : (Jvm.Cond.methodLink "CorridorPlanModel" (191 : Nat) ({ cls := "CorridorPlanModel", name := "isWord", desc := "(IIII)Z" } : Jvm.MethodName)) ∈ lw_all := lw_g (lw_at lw_m7 141 rfl) rfl
theorem q1675 : (Jvm.Cond.privateMethod ({ cls := "CorridorPlanModel", name := "isWord", desc := "(IIII)Z" } : Jvm.MethodName)) ∈ lw_tbl := lw_at lw_m7 142 rfl
theorem q1676 : (Jvm.Cond.instanceMethod ({ cls := "CorridorPlanModel", name := "isWord", desc := "(IIII)Z" } : Jvm.MethodName)) ∈ lw_all := lw_g (lw_at lw_m7 143 rfl) rfl
theorem q1677 : (Jvm.Cond.code ({ cls := "CorridorPlanModel", name := "isWord", desc := "(IIII)Z" } : Jvm.MethodName) prog_8_method_49_code (5 : Nat) (Option.some Jvm.ClassFile.FieldType.boolean)) ∈ lw_all := lw_g (lw_at lw_m7 144 rfl) rfl
theorem q1679 : (Jvm.Cond.instanceMethod ({ cls := "CorridorPlanModel", name := "run", desc := "()I" } : Jvm.MethodName)) ∈ lw_all := lw_g (lw_at lw_m7 146 rfl) rfl
theorem q1680 : (Jvm.Cond.selects "CorridorPlanModel" ({ cls := "CorridorPlanModel", name := "run", desc := "()I" } : Jvm.MethodName) ({ cls := "CorridorPlanModel", name := "run", desc := "()I" } : Jvm.MethodName)) ∈ lw_all := lw_g (lw_at lw_m7 147 rfl) rfl
theorem q1681 : (Jvm.Cond.code ({ cls := "CorridorPlanModel", name := "run", desc := "()I" } : Jvm.MethodName) prog_8_method_55_code (2 : Nat) (Option.some Jvm.ClassFile.FieldType.int)) ∈ lw_all := lw_g (lw_at lw_m7 148 rfl) rfl
theorem q1682 : (Jvm.Cond.methodLink "CorridorPlanModel" (200 : Nat) ({ cls := "CorridorPlanModel", name := "does", desc := "(I)Z" } : Jvm.MethodName)) ∈ lw_all := lw_g (lw_at lw_m7 149 rfl) rfl
theorem q1683 : (Jvm.Cond.privateMethod ({ cls := "CorridorPlanModel", name := "does", desc := "(I)Z" } : Jvm.MethodName)) ∈ lw_tbl := lw_at lw_m7 150 rfl
theorem q1684 : (Jvm.Cond.instanceMethod ({ cls := "CorridorPlanModel", name := "does", desc := "(I)Z" } : Jvm.MethodName)) ∈ lw_all := lw_g (lw_at lw_m7 151 rfl) rfl
theorem q1685 : (Jvm.Cond.code ({ cls := "CorridorPlanModel", name := "does", desc := "(I)Z" } : Jvm.MethodName) prog_8_method_54_code (5 : Nat) (Option.some Jvm.ClassFile.FieldType.boolean)) ∈ lw_all := lw_g (lw_at lw_m7 152 rfl) rfl
theorem q1687 : (Jvm.Cond.instanceMethod ({ cls := "CorridorPlanModel", name := "square", desc := "(III)I" } : Jvm.MethodName)) ∈ lw_all := lw_g (lw_at lw_m7 154 rfl) rfl
theorem q1688 : (Jvm.Cond.selects "CorridorPlanModel" ({ cls := "CorridorPlanModel", name := "square", desc := "(III)I" } : Jvm.MethodName) ({ cls := "CorridorPlanModel", name := "square", desc := "(III)I" } : Jvm.MethodName)) ∈ lw_all := lw_g (lw_at lw_m7 155 rfl) rfl
theorem q1689 : (Jvm.Cond.code ({ cls := "CorridorPlanModel", name := "square", desc := "(III)I" } : Jvm.MethodName) prog_8_method_56_code (4 : Nat) (Option.some Jvm.ClassFile.FieldType.int)) ∈ lw_all := lw_g (lw_at lw_m7 156 rfl) rfl
theorem q1690 : (Jvm.Cond.methodLink "CorridorPlanModel" (203 : Nat) ({ cls := "CorridorPlanModel", name := "sides", desc := "([III)I" } : Jvm.MethodName)) ∈ lw_all := lw_g (lw_at lw_m7 157 rfl) rfl
theorem q1691 : (Jvm.Cond.static ({ cls := "CorridorPlanModel", name := "sides", desc := "([III)I" } : Jvm.MethodName)) ∈ lw_all := lw_g (lw_at lw_m7 158 rfl) rfl
theorem q1692 : (Jvm.Cond.code ({ cls := "CorridorPlanModel", name := "sides", desc := "([III)I" } : Jvm.MethodName) prog_8_method_26_code (4 : Nat) (Option.some Jvm.ClassFile.FieldType.int)) ∈ lw_all := lw_g (lw_at lw_m7 159 rfl) rfl
theorem q1694 : (Jvm.Cond.instanceMethod ({ cls := "CorridorPlanModel", name := "chamber", desc := "(II)I" } : Jvm.MethodName)) ∈ lw_all := lw_g (lw_at lw_m7 161 rfl) rfl
theorem q1695 : (Jvm.Cond.selects "CorridorPlanModel" ({ cls := "CorridorPlanModel", name := "chamber", desc := "(II)I" } : Jvm.MethodName) ({ cls := "CorridorPlanModel", name := "chamber", desc := "(II)I" } : Jvm.MethodName)) ∈ lw_all := lw_g (lw_at lw_m7 162 rfl) rfl
theorem q1696 : (Jvm.Cond.code ({ cls := "CorridorPlanModel", name := "chamber", desc := "(II)I" } : Jvm.MethodName) prog_8_method_59_code (3 : Nat) (Option.some Jvm.ClassFile.FieldType.int)) ∈ lw_all := lw_g (lw_at lw_m7 163 rfl) rfl
theorem q1697 : (Jvm.Cond.methodLink "CorridorPlanModel" (210 : Nat) ({ cls := "CorridorPlanModel", name := "ofRoom", desc := "(II)I" } : Jvm.MethodName)) ∈ lw_all := lw_g (lw_at lw_m7 164 rfl) rfl
theorem q1698 : (Jvm.Cond.privateMethod ({ cls := "CorridorPlanModel", name := "ofRoom", desc := "(II)I" } : Jvm.MethodName)) ∈ lw_tbl := lw_at lw_m7 165 rfl
theorem q1699 : (Jvm.Cond.instanceMethod ({ cls := "CorridorPlanModel", name := "ofRoom", desc := "(II)I" } : Jvm.MethodName)) ∈ lw_all := lw_g (lw_at lw_m7 166 rfl) rfl
theorem q1700 : (Jvm.Cond.code ({ cls := "CorridorPlanModel", name := "ofRoom", desc := "(II)I" } : Jvm.MethodName) prog_8_method_58_code (3 : Nat) (Option.some Jvm.ClassFile.FieldType.int)) ∈ lw_all := lw_g (lw_at lw_m7 167 rfl) rfl
theorem q1701 : (Jvm.Cond.methodLink "CorridorPlanModel" (130 : Nat) ({ cls := "CorridorPlanModel", name := "doors", desc := "([IIZ)I" } : Jvm.MethodName)) ∈ lw_all := lw_g (lw_at lw_m7 168 rfl) rfl
theorem q1702 : (Jvm.Cond.privateMethod ({ cls := "CorridorPlanModel", name := "doors", desc := "([IIZ)I" } : Jvm.MethodName)) ∈ lw_tbl := lw_at lw_m7 169 rfl
theorem q1703 : (Jvm.Cond.instanceMethod ({ cls := "CorridorPlanModel", name := "doors", desc := "([IIZ)I" } : Jvm.MethodName)) ∈ lw_all := lw_g (lw_at lw_m7 170 rfl) rfl
theorem q1704 : (Jvm.Cond.code ({ cls := "CorridorPlanModel", name := "doors", desc := "([IIZ)I" } : Jvm.MethodName) prog_8_method_28_code (10 : Nat) (Option.some Jvm.ClassFile.FieldType.int)) ∈ lw_all := lw_g (lw_at lw_m7 171 rfl) rfl
theorem q1705 : (Jvm.Cond.methodLink "CorridorPlanModel" (123 : Nat) ({ cls := "CorridorPlanModel", name := "faces", desc := "([IIII)Z" } : Jvm.MethodName)) ∈ lw_all := lw_g (lw_at lw_m7 172 rfl) rfl
theorem q1706 : (Jvm.Cond.privateMethod ({ cls := "CorridorPlanModel", name := "faces", desc := "([IIII)Z" } : Jvm.MethodName)) ∈ lw_tbl := lw_at lw_m7 173 rfl
theorem q1707 : (Jvm.Cond.instanceMethod ({ cls := "CorridorPlanModel", name := "faces", desc := "([IIII)Z" } : Jvm.MethodName)) ∈ lw_all := lw_g (lw_at lw_m7 174 rfl) rfl
theorem q1708 : (Jvm.Cond.code ({ cls := "CorridorPlanModel", name := "faces", desc := "([IIII)Z" } : Jvm.MethodName) prog_8_method_27_code (6 : Nat) (Option.some Jvm.ClassFile.FieldType.boolean)) ∈ lw_all := lw_g (lw_at lw_m7 175 rfl) rfl
theorem q1709 : (Jvm.Cond.methodLink "CorridorPlanModel" (206 : Nat) ({ cls := "CorridorPlanModel", name := "walked", desc := "(IZ)I" } : Jvm.MethodName)) ∈ lw_all := lw_g (lw_at lw_m7 176 rfl) rfl
theorem q1710 : (Jvm.Cond.privateMethod ({ cls := "CorridorPlanModel", name := "walked", desc := "(IZ)I" } : Jvm.MethodName)) ∈ lw_tbl := lw_at lw_m7 177 rfl
theorem q1711 : (Jvm.Cond.instanceMethod ({ cls := "CorridorPlanModel", name := "walked", desc := "(IZ)I" } : Jvm.MethodName)) ∈ lw_all := lw_g (lw_at lw_m7 178 rfl) rfl
theorem q1712 : (Jvm.Cond.code ({ cls := "CorridorPlanModel", name := "walked", desc := "(IZ)I" } : Jvm.MethodName) prog_8_method_57_code (5 : Nat) (Option.some Jvm.ClassFile.FieldType.int)) ∈ lw_all := lw_g (lw_at lw_m7 179 rfl) rfl
theorem q1714 : (Jvm.Cond.instanceMethod ({ cls := "CorridorPlanModel", name := "way", desc := "(III)I" } : Jvm.MethodName)) ∈ lw_all := lw_g (lw_at lw_m7 181 rfl) rfl
theorem q1715 : (Jvm.Cond.selects "CorridorPlanModel" ({ cls := "CorridorPlanModel", name := "way", desc := "(III)I" } : Jvm.MethodName) ({ cls := "CorridorPlanModel", name := "way", desc := "(III)I" } : Jvm.MethodName)) ∈ lw_all := lw_g (lw_at lw_m7 182 rfl) rfl
theorem q1716 : (Jvm.Cond.code ({ cls := "CorridorPlanModel", name := "way", desc := "(III)I" } : Jvm.MethodName) prog_8_method_61_code (4 : Nat) (Option.some Jvm.ClassFile.FieldType.int)) ∈ lw_all := lw_g (lw_at lw_m7 183 rfl) rfl
theorem q1717 : (Jvm.Cond.methodLink "CorridorPlanModel" (214 : Nat) ({ cls := "CorridorPlanModel", name := "ofWay", desc := "(III)I" } : Jvm.MethodName)) ∈ lw_all := lw_g (lw_at lw_m7 184 rfl) rfl
theorem q1718 : (Jvm.Cond.privateMethod ({ cls := "CorridorPlanModel", name := "ofWay", desc := "(III)I" } : Jvm.MethodName)) ∈ lw_tbl := lw_at lw_m7 185 rfl
theorem q1719 : (Jvm.Cond.instanceMethod ({ cls := "CorridorPlanModel", name := "ofWay", desc := "(III)I" } : Jvm.MethodName)) ∈ lw_all := lw_g (lw_at lw_m7 186 rfl) rfl
theorem q1720 : (Jvm.Cond.code ({ cls := "CorridorPlanModel", name := "ofWay", desc := "(III)I" } : Jvm.MethodName) prog_8_method_60_code (4 : Nat) (Option.some Jvm.ClassFile.FieldType.int)) ∈ lw_all := lw_g (lw_at lw_m7 187 rfl) rfl
theorem q1722 : (Jvm.Cond.instanceMethod ({ cls := "CorridorPlanModel", name := "count", desc := "(I)I" } : Jvm.MethodName)) ∈ lw_all := lw_g (lw_at lw_m7 189 rfl) rfl
theorem q1723 : (Jvm.Cond.selects "CorridorPlanModel" ({ cls := "CorridorPlanModel", name := "count", desc := "(I)I" } : Jvm.MethodName) ({ cls := "CorridorPlanModel", name := "count", desc := "(I)I" } : Jvm.MethodName)) ∈ lw_all := lw_g (lw_at lw_m7 190 rfl) rfl
theorem q1724 : (Jvm.Cond.code ({ cls := "CorridorPlanModel", name := "count", desc := "(I)I" } : Jvm.MethodName) prog_8_method_66_code (2 : Nat) (Option.some Jvm.ClassFile.FieldType.int)) ∈ lw_all := lw_g (lw_at lw_m7 191 rfl) rfl
theorem q1725 : (Jvm.Cond.methodLink "CorridorPlanModel" (230 : Nat) ({ cls := "CorridorPlanModel", name := "counted", desc := "(I)I" } : Jvm.MethodName)) ∈ lw_all := lw_g (lw_at lw_m7 192 rfl) rfl
theorem q1726 : (Jvm.Cond.privateMethod ({ cls := "CorridorPlanModel", name := "counted", desc := "(I)I" } : Jvm.MethodName)) ∈ lw_tbl := lw_at lw_m7 193 rfl
theorem q1727 : (Jvm.Cond.instanceMethod ({ cls := "CorridorPlanModel", name := "counted", desc := "(I)I" } : Jvm.MethodName)) ∈ lw_all := lw_g (lw_at lw_m7 194 rfl) rfl
theorem q1728 : (Jvm.Cond.code ({ cls := "CorridorPlanModel", name := "counted", desc := "(I)I" } : Jvm.MethodName) prog_8_method_65_code (2 : Nat) (Option.some Jvm.ClassFile.FieldType.int)) ∈ lw_all := lw_g (lw_at lw_m7 195 rfl) rfl
theorem q1729 : (Jvm.Cond.methodLink "CorridorPlanModel" (217 : Nat) ({ cls := "CorridorPlanModel", name := "rooms", desc := "()I" } : Jvm.MethodName)) ∈ lw_all := lw_g (lw_at lw_m7 196 rfl) rfl
theorem q1730 : (Jvm.Cond.privateMethod ({ cls := "CorridorPlanModel", name := "rooms", desc := "()I" } : Jvm.MethodName)) ∈ lw_tbl := lw_at lw_m7 197 rfl
theorem q1731 : (Jvm.Cond.instanceMethod ({ cls := "CorridorPlanModel", name := "rooms", desc := "()I" } : Jvm.MethodName)) ∈ lw_all := lw_g (lw_at lw_m7 198 rfl) rfl
theorem q1732 : (Jvm.Cond.code ({ cls := "CorridorPlanModel", name := "rooms", desc := "()I" } : Jvm.MethodName) prog_8_method_64_code (3 : Nat) (Option.some Jvm.ClassFile.FieldType.int)) ∈ lw_all := lw_g (lw_at lw_m7 199 rfl) rfl
theorem q1733 : (Jvm.Cond.methodLink "CorridorPlanModel" (220 : Nat) ({ cls := "CorridorPlanModel", name := "squares", desc := "([II)I" } : Jvm.MethodName)) ∈ lw_all := lw_g (lw_at lw_m7 200 rfl) rfl
theorem q1734 : (Jvm.Cond.static ({ cls := "CorridorPlanModel", name := "squares", desc := "([II)I" } : Jvm.MethodName)) ∈ lw_all := lw_g (lw_at lw_m7 201 rfl) rfl
theorem q1735 : (Jvm.Cond.code ({ cls := "CorridorPlanModel", name := "squares", desc := "([II)I" } : Jvm.MethodName) prog_8_method_63_code (4 : Nat) (Option.some Jvm.ClassFile.FieldType.int)) ∈ lw_all := lw_g (lw_at lw_m7 202 rfl) rfl
theorem q1736 : (Jvm.Cond.methodLink "CorridorPlanModel" (223 : Nat) ({ cls := "CorridorPlanModel", name := "allDoors", desc := "([IZ)I" } : Jvm.MethodName)) ∈ lw_all := lw_g (lw_at lw_m7 203 rfl) rfl
theorem q1737 : (Jvm.Cond.privateMethod ({ cls := "CorridorPlanModel", name := "allDoors", desc := "([IZ)I" } : Jvm.MethodName)) ∈ lw_tbl := lw_at lw_m7 204 rfl
theorem q1738 : (Jvm.Cond.instanceMethod ({ cls := "CorridorPlanModel", name := "allDoors", desc := "([IZ)I" } : Jvm.MethodName)) ∈ lw_all := lw_g (lw_at lw_m7 205 rfl) rfl
theorem q1739 : (Jvm.Cond.code ({ cls := "CorridorPlanModel", name := "allDoors", desc := "([IZ)I" } : Jvm.MethodName) prog_8_method_29_code (5 : Nat) (Option.some Jvm.ClassFile.FieldType.int)) ∈ lw_all := lw_g (lw_at lw_m7 206 rfl) rfl
theorem q1740 : (Jvm.Cond.methodLink "CorridorPlanModel" (227 : Nat) ({ cls := "CorridorPlanModel", name := "pairs", desc := "([II)I" } : Jvm.MethodName)) ∈ lw_all := lw_g (lw_at lw_m7 207 rfl) rfl
theorem q1741 : (Jvm.Cond.privateMethod ({ cls := "CorridorPlanModel", name := "pairs", desc := "([II)I" } : Jvm.MethodName)) ∈ lw_tbl := lw_at lw_m7 208 rfl
theorem q1742 : (Jvm.Cond.instanceMethod ({ cls := "CorridorPlanModel", name := "pairs", desc := "([II)I" } : Jvm.MethodName)) ∈ lw_all := lw_g (lw_at lw_m7 209 rfl) rfl
theorem q1743 : (Jvm.Cond.code ({ cls := "CorridorPlanModel", name := "pairs", desc := "([II)I" } : Jvm.MethodName) prog_8_method_62_code (6 : Nat) (Option.some Jvm.ClassFile.FieldType.int)) ∈ lw_all := lw_g (lw_at lw_m7 210 rfl) rfl
theorem q1745 : (Jvm.Cond.instanceMethod ({ cls := "CorridorPlanModel", name := "ifDug", desc := "(III)I" } : Jvm.MethodName)) ∈ lw_all := lw_g (lw_at lw_m7 212 rfl) rfl
theorem q1746 : (Jvm.Cond.selects "CorridorPlanModel" ({ cls := "CorridorPlanModel", name := "ifDug", desc := "(III)I" } : Jvm.MethodName) ({ cls := "CorridorPlanModel", name := "ifDug", desc := "(III)I" } : Jvm.MethodName)) ∈ lw_all := lw_g (lw_at lw_m7 213 rfl) rfl
theorem q1747 : (Jvm.Cond.code ({ cls := "CorridorPlanModel", name := "ifDug", desc := "(III)I" } : Jvm.MethodName) prog_8_method_68_code (4 : Nat) (Option.some Jvm.ClassFile.FieldType.int)) ∈ lw_all := lw_g (lw_at lw_m7 214 rfl) rfl
theorem q1748 : (Jvm.Cond.methodLink "CorridorPlanModel" (236 : Nat) ({ cls := "CorridorPlanModel", name := "byDigging", desc := "(III)I" } : Jvm.MethodName)) ∈ lw_all := lw_g (lw_at lw_m7 215 rfl) rfl
theorem q1749 : (Jvm.Cond.privateMethod ({ cls := "CorridorPlanModel", name := "byDigging", desc := "(III)I" } : Jvm.MethodName)) ∈ lw_tbl := lw_at lw_m7 216 rfl
theorem q1750 : (Jvm.Cond.instanceMethod ({ cls := "CorridorPlanModel", name := "byDigging", desc := "(III)I" } : Jvm.MethodName)) ∈ lw_all := lw_g (lw_at lw_m7 217 rfl) rfl
theorem q1751 : (Jvm.Cond.code ({ cls := "CorridorPlanModel", name := "byDigging", desc := "(III)I" } : Jvm.MethodName) prog_8_method_67_code (4 : Nat) (Option.some Jvm.ClassFile.FieldType.int)) ∈ lw_all := lw_g (lw_at lw_m7 218 rfl) rfl
theorem q1752 : (Jvm.Cond.methodLink "CorridorPlanModel" (233 : Nat) ({ cls := "CorridorPlanModel", name := "tries", desc := "()V" } : Jvm.MethodName)) ∈ lw_all := lw_g (lw_at lw_m7 219 rfl) rfl
theorem q1753 : (Jvm.Cond.privateMethod ({ cls := "CorridorPlanModel", name := "tries", desc := "()V" } : Jvm.MethodName)) ∈ lw_tbl := lw_at lw_m7 220 rfl
theorem q1754 : (Jvm.Cond.instanceMethod ({ cls := "CorridorPlanModel", name := "tries", desc := "()V" } : Jvm.MethodName)) ∈ lw_all := lw_g (lw_at lw_m7 221 rfl) rfl
theorem q1755 : (Jvm.Cond.code ({ cls := "CorridorPlanModel", name := "tries", desc := "()V" } : Jvm.MethodName) prog_8_method_12_code (1 : Nat) (Option.none : Option Jvm.ClassFile.FieldType)) ∈ lw_all := lw_g (lw_at lw_m7 222 rfl) rfl
theorem q1757 : (Jvm.Cond.instanceMethod ({ cls := "CorridorPlanModel", name := "ifGiven", desc := "(I)I" } : Jvm.MethodName)) ∈ lw_all := lw_g (lw_at lw_m7 224 rfl) rfl
theorem q1758 : (Jvm.Cond.selects "CorridorPlanModel" ({ cls := "CorridorPlanModel", name := "ifGiven", desc := "(I)I" } : Jvm.MethodName) ({ cls := "CorridorPlanModel", name := "ifGiven", desc := "(I)I" } : Jvm.MethodName)) ∈ lw_all := lw_g (lw_at lw_m7 225 rfl) rfl
theorem q1759 : (Jvm.Cond.code ({ cls := "CorridorPlanModel", name := "ifGiven", desc := "(I)I" } : Jvm.MethodName) prog_8_method_70_code (2 : Nat) (Option.some Jvm.ClassFile.FieldType.int)) ∈ lw_all := lw_g (lw_at lw_m7 226 rfl) rfl
theorem q1760 : (Jvm.Cond.methodLink "CorridorPlanModel" (239 : Nat) ({ cls := "CorridorPlanModel", name := "without", desc := "(I)I" } : Jvm.MethodName)) ∈ lw_all := lw_g (lw_at lw_m7 227 rfl) rfl
theorem q1761 : (Jvm.Cond.privateMethod ({ cls := "CorridorPlanModel", name := "without", desc := "(I)I" } : Jvm.MethodName)) ∈ lw_tbl := lw_at lw_m7 228 rfl
theorem q1762 : (Jvm.Cond.instanceMethod ({ cls := "CorridorPlanModel", name := "without", desc := "(I)I" } : Jvm.MethodName)) ∈ lw_all := lw_g (lw_at lw_m7 229 rfl) rfl
theorem q1763 : (Jvm.Cond.code ({ cls := "CorridorPlanModel", name := "without", desc := "(I)I" } : Jvm.MethodName) prog_8_method_69_code (2 : Nat) (Option.some Jvm.ClassFile.FieldType.int)) ∈ lw_all := lw_g (lw_at lw_m7 230 rfl) rfl
theorem q1765 : (Jvm.Cond.instanceMethod ({ cls := "CorridorPlanModel", name := "allCost", desc := "()I" } : Jvm.MethodName)) ∈ lw_all := lw_g (lw_at lw_m7 232 rfl) rfl
theorem q1766 : (Jvm.Cond.selects "CorridorPlanModel" ({ cls := "CorridorPlanModel", name := "allCost", desc := "()I" } : Jvm.MethodName) ({ cls := "CorridorPlanModel", name := "allCost", desc := "()I" } : Jvm.MethodName)) ∈ lw_all := lw_g (lw_at lw_m7 233 rfl) rfl
theorem q1767 : (Jvm.Cond.code ({ cls := "CorridorPlanModel", name := "allCost", desc := "()I" } : Jvm.MethodName) prog_8_method_72_code (1 : Nat) (Option.some Jvm.ClassFile.FieldType.int)) ∈ lw_all := lw_g (lw_at lw_m7 234 rfl) rfl
theorem q1768 : (Jvm.Cond.methodLink "CorridorPlanModel" (242 : Nat) ({ cls := "CorridorPlanModel", name := "forAll", desc := "()I" } : Jvm.MethodName)) ∈ lw_all := lw_g (lw_at lw_m7 235 rfl) rfl
theorem q1769 : (Jvm.Cond.privateMethod ({ cls := "CorridorPlanModel", name := "forAll", desc := "()I" } : Jvm.MethodName)) ∈ lw_tbl := lw_at lw_m7 236 rfl
theorem q1770 : (Jvm.Cond.instanceMethod ({ cls := "CorridorPlanModel", name := "forAll", desc := "()I" } : Jvm.MethodName)) ∈ lw_all := lw_g (lw_at lw_m7 237 rfl) rfl
theorem q1771 : (Jvm.Cond.code ({ cls := "CorridorPlanModel", name := "forAll", desc := "()I" } : Jvm.MethodName) prog_8_method_71_code (3 : Nat) (Option.some Jvm.ClassFile.FieldType.int)) ∈ lw_all := lw_g (lw_at lw_m7 238 rfl) rfl
theorem q1773 : (Jvm.Cond.instanceMethod ({ cls := "CorridorPlanModel", name := "openShare", desc := "()D" } : Jvm.MethodName)) ∈ lw_all := lw_g (lw_at lw_m8 0 rfl) rfl
theorem q1774 : (Jvm.Cond.selects "CorridorPlanModel" ({ cls := "CorridorPlanModel", name := "openShare", desc := "()D" } : Jvm.MethodName) ({ cls := "CorridorPlanModel", name := "openShare", desc := "()D" } : Jvm.MethodName)) ∈ lw_all := lw_g (lw_at lw_m8 1 rfl) rfl
theorem q1775 : (Jvm.Cond.code ({ cls := "CorridorPlanModel", name := "openShare", desc := "()D" } : Jvm.MethodName) prog_8_method_74_code (1 : Nat) (Option.some Jvm.ClassFile.FieldType.double)) ∈ lw_all := lw_g (lw_at lw_m8 2 rfl) rfl
theorem q1776 : (Jvm.Cond.methodLink "CorridorPlanModel" (245 : Nat) ({ cls := "CorridorPlanModel", name := "share", desc := "()D" } : Jvm.MethodName)) ∈ lw_all := lw_g (lw_at lw_m8 3 rfl) rfl
theorem q1777 : (Jvm.Cond.privateMethod ({ cls := "CorridorPlanModel", name := "share", desc := "()D" } : Jvm.MethodName)) ∈ lw_tbl := lw_at lw_m8 4 rfl
theorem q1778 : (Jvm.Cond.instanceMethod ({ cls := "CorridorPlanModel", name := "share", desc := "()D" } : Jvm.MethodName)) ∈ lw_all := lw_g (lw_at lw_m8 5 rfl) rfl
theorem q1779 : (Jvm.Cond.code ({ cls := "CorridorPlanModel", name := "share", desc := "()D" } : Jvm.MethodName) prog_8_method_73_code (2 : Nat) (Option.some Jvm.ClassFile.FieldType.double)) ∈ lw_all := lw_g (lw_at lw_m8 6 rfl) rfl
theorem q1781 : (Jvm.Cond.instanceMethod ({ cls := "CorridorPlanModel", name := "digest", desc := "()J" } : Jvm.MethodName)) ∈ lw_all := lw_g (lw_at lw_m8 8 rfl) rfl
theorem q1782 : (Jvm.Cond.selects "CorridorPlanModel" ({ cls := "CorridorPlanModel", name := "digest", desc := "()J" } : Jvm.MethodName) ({ cls := "CorridorPlanModel", name := "digest", desc := "()J" } : Jvm.MethodName)) ∈ lw_all := lw_g (lw_at lw_m8 9 rfl) rfl
theorem q1783 : (Jvm.Cond.code ({ cls := "CorridorPlanModel", name := "digest", desc := "()J" } : Jvm.MethodName) prog_8_method_75_code (6 : Nat) (Option.some Jvm.ClassFile.FieldType.long)) ∈ lw_all := lw_g (lw_at lw_m8 10 rfl) rfl
theorem q1784 : (Jvm.Cond.constantLong "CorridorPlanModel" (249 : Nat) (2857 : Int64)) ∈ lw_all := lw_g (lw_at lw_m8 11 rfl) rfl
theorem q1785 : (Jvm.Cond.constantLong "CorridorPlanModel" (251 : Nat) (31 : Int64)) ∈ lw_all := lw_g (lw_at lw_m8 12 rfl) rfl
theorem q1786 : (Jvm.Cond.methodLink "CorridorPlanModel" (253 : Nat) ({ cls := "java/lang/Double", name := "doubleToLongBits", desc := "(D)J" } : Jvm.MethodName)) ∈ lw_all := lw_g (lw_at lw_m8 13 rfl) rfl
theorem q1810 : (Jvm.Cond.castable "CorridorPlanModel" "java/lang/Object") ∈ lw_tbl := lw_at lw_m8 37 rfl
theorem in_X3 : ∀ w ∈ wsX30, w ∈ lw_all := lw_in wsX30 [1458, 1460, 1462, 1464, 1466, 1468, 1470, 1472, 1474, 1476, 1478, 1480, 1482, 1484, 1486, 1488, 1490, 1492, 1494, 1496] (by decide +kernel) (by decide +kernel)
