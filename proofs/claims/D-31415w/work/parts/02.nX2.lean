/-! ConditionWiseModel -/
set_option maxRecDepth 100000
def RX2 : String := "ConditionWiseModel"
def TX2 : u_T := fun k => match k with
  | 0 => ("ConditionWiseModel", "thrown", "I", false)
  | 1 => ("ConditionWiseModel", "text", "[I", true)
  | 2 => ("ConditionWiseModel", "textMany", "I", false)
  | 3 => ("ConditionWiseModel", "decisions", "I", false)
  | 4 => ("ConditionWiseModel", "kind", "[I", true)
  | 5 => ("ConditionWiseModel", "one", "[I", true)
  | 6 => ("ConditionWiseModel", "other", "[I", true)
  | 7 => ("ConditionWiseModel", "partMany", "[I", true)
  | 8 => ("ConditionWiseModel", "letter", "[I", true)
  | 9 => ("ConditionWiseModel", "conditionMany", "[I", true)
  | 10 => ("ConditionWiseModel", "test", "[I", true)
  | 11 => ("ConditionWiseModel", "firstLetter", "[I", true)
  | 12 => ("ConditionWiseModel", "firstValue", "[I", true)
  | 13 => ("ConditionWiseModel", "secondLetter", "[I", true)
  | 14 => ("ConditionWiseModel", "secondValue", "[I", true)
  | 15 => ("ConditionWiseModel", "forbidden", "I", false)
  | 16 => ("ConditionWiseModel", "at", "I", false)
  | 17 => ("ConditionWiseModel", "faults", "Z", false)
  | 18 => ("ConditionWiseModel", "deep", "[I", true)
  | 19 => ("ConditionWiseModel", "truth", "[Z", true)
  | 20 => ("ConditionWiseModel", "asked", "I", false)
  | 21 => ("ConditionWiseModel", "valuesIn", "[I", true)
  | 22 => ("ConditionWiseModel", "askedIn", "[I", true)
  | 23 => ("ConditionWiseModel", "decidingIn", "[I", true)
  | 24 => ("ConditionWiseModel", "outcomeIn", "[Z", true)
  | _ => ("ConditionWiseModel", "pairSet", "[I", true)
def tyX2 : Nat → FieldType := fun k => match k with
  | 0 => .int
  | 1 => .array .int
  | 2 => .int
  | 3 => .int
  | 4 => .array .int
  | 5 => .array .int
  | 6 => .array .int
  | 7 => .array .int
  | 8 => .array .int
  | 9 => .array .int
  | 10 => .array .int
  | 11 => .array .int
  | 12 => .array .int
  | 13 => .array .int
  | 14 => .array .int
  | 15 => .int
  | 16 => .int
  | 17 => .boolean
  | 18 => .array .int
  | 19 => .array .boolean
  | 20 => .int
  | 21 => .array .int
  | 22 => .array .int
  | 23 => .array .int
  | 24 => .array .boolean
  | _ => .array .int
abbrev wsX20 : List Cond := u_ws RX2 TX2 26
set_option maxRecDepth 100000 in
theorem nmX2 : ∀ a, a < 26 → ∀ b, b < 26 → a ≠ b → (TX2 a).2.1 ≠ (TX2 b).2.1 := by decide +kernel
set_option maxRecDepth 100000 in
theorem tyX2_ok : ∀ k, k < 26 → parseFieldDescriptor (TX2 k).2.2.1 = some (tyX2 k) := by decide +kernel
abbrev cX2_init : ByteArray := prog_15_method_1_code
def yX2_init : MethodName := ⟨RX2, "<init>", "()V"⟩
def dkwX2_init_6 : List UInt8 := [181, 0, 59, 42, 16, 16, 188, 4, 181, 0, 62, 42, 17, 0, 128, 188, 10, 181, 0, 65, 177]
abbrev dktX2_init_6 : List UInt8 := dkwX2_init_6 ++ []
def dkwX2_init_5 : List UInt8 := [181, 0, 49, 42, 16, 16, 188, 10, 181, 0, 53, 42, 16, 16, 188, 10, 181, 0, 56, 42, 16, 16, 188, 10]
abbrev dktX2_init_5 : List UInt8 := dkwX2_init_5 ++ dktX2_init_6
def dkwX2_init_4 : List UInt8 := [181, 0, 40, 42, 16, 6, 188, 10, 181, 0, 43, 42, 16, 40, 188, 10, 181, 0, 46, 42, 16, 40, 188, 4]
abbrev dktX2_init_4 : List UInt8 := dkwX2_init_4 ++ dktX2_init_5
def dkwX2_init_3 : List UInt8 := [181, 0, 31, 42, 16, 6, 188, 10, 181, 0, 34, 42, 16, 6, 188, 10, 181, 0, 37, 42, 16, 6, 188, 10]
abbrev dktX2_init_3 : List UInt8 := dkwX2_init_3 ++ dktX2_init_4
def dkwX2_init_2 : List UInt8 := [181, 0, 22, 42, 16, 48, 188, 10, 181, 0, 25, 42, 16, 6, 188, 10, 181, 0, 28, 42, 16, 6, 188, 10]
abbrev dktX2_init_2 : List UInt8 := dkwX2_init_2 ++ dktX2_init_3
def dkwX2_init_1 : List UInt8 := [17, 0, 240, 188, 10, 181, 0, 16, 42, 17, 0, 240, 188, 10, 181, 0, 19, 42, 16, 6, 188, 10]
abbrev dktX2_init_1 : List UInt8 := dkwX2_init_1 ++ dktX2_init_2
def dkwX2_init_0 : List UInt8 := [42, 183, 0, 1, 42, 16, 40, 188, 10, 181, 0, 9, 42, 17, 0, 240, 188, 10, 181, 0, 13, 42]
abbrev dktX2_init_0 : List UInt8 := dkwX2_init_0 ++ dktX2_init_1
theorem dksX2_init_0 : cX2_init.data.toList.drop 0 = dktX2_init_0 := by decide +kernel
theorem dksX2_init_1 : cX2_init.data.toList.drop 22 = dktX2_init_1 := dk_seg dksX2_init_0 22 rfl rfl
theorem dksX2_init_2 : cX2_init.data.toList.drop 44 = dktX2_init_2 := dk_seg dksX2_init_1 22 rfl rfl
theorem dksX2_init_3 : cX2_init.data.toList.drop 68 = dktX2_init_3 := dk_seg dksX2_init_2 24 rfl rfl
theorem dksX2_init_4 : cX2_init.data.toList.drop 92 = dktX2_init_4 := dk_seg dksX2_init_3 24 rfl rfl
theorem dksX2_init_5 : cX2_init.data.toList.drop 116 = dktX2_init_5 := dk_seg dksX2_init_4 24 rfl rfl
theorem dksX2_init_6 : cX2_init.data.toList.drop 140 = dktX2_init_6 := dk_seg dksX2_init_5 24 rfl rfl
theorem dX2_init_0 : decode cX2_init 0 = .ok (.aload_n 0, 1) := dk_42 (dk_at dksX2_init_0 0 rfl rfl)
theorem dX2_init_1 : decode cX2_init 1 = .ok (.invokespecial 1, 3) := dk_183 0 1 (dk_at dksX2_init_0 1 rfl rfl)
theorem dX2_init_4 : decode cX2_init 4 = .ok (.aload_n 0, 1) := dk_42 (dk_at dksX2_init_0 4 rfl rfl)
theorem dX2_init_5 : decode cX2_init 5 = .ok (.bipush 40, 2) := dk_16 40 (dk_at dksX2_init_0 5 rfl rfl)
theorem dX2_init_7 : decode cX2_init 7 = .ok (.newarray .int, 2) := dk_188_10 (dk_at dksX2_init_0 7 rfl rfl)
theorem dX2_init_9 : decode cX2_init 9 = .ok (.putfield 9, 3) := dk_181 0 9 (dk_at dksX2_init_0 9 rfl rfl)
theorem dX2_init_12 : decode cX2_init 12 = .ok (.aload_n 0, 1) := dk_42 (dk_at dksX2_init_0 12 rfl rfl)
theorem dX2_init_13 : decode cX2_init 13 = .ok (.sipush 240, 3) := dk_17 0 240 (dk_at dksX2_init_0 13 rfl rfl)
theorem dX2_init_16 : decode cX2_init 16 = .ok (.newarray .int, 2) := dk_188_10 (dk_at dksX2_init_0 16 rfl rfl)
theorem dX2_init_18 : decode cX2_init 18 = .ok (.putfield 13, 3) := dk_181 0 13 (dk_at dksX2_init_0 18 rfl rfl)
theorem dX2_init_21 : decode cX2_init 21 = .ok (.aload_n 0, 1) := dk_42 (dk_at dksX2_init_0 21 rfl rfl)
theorem dX2_init_22 : decode cX2_init 22 = .ok (.sipush 240, 3) := dk_17 0 240 (dk_at dksX2_init_1 0 rfl rfl)
theorem dX2_init_25 : decode cX2_init 25 = .ok (.newarray .int, 2) := dk_188_10 (dk_at dksX2_init_1 3 rfl rfl)
theorem dX2_init_27 : decode cX2_init 27 = .ok (.putfield 16, 3) := dk_181 0 16 (dk_at dksX2_init_1 5 rfl rfl)
theorem dX2_init_30 : decode cX2_init 30 = .ok (.aload_n 0, 1) := dk_42 (dk_at dksX2_init_1 8 rfl rfl)
theorem dX2_init_31 : decode cX2_init 31 = .ok (.sipush 240, 3) := dk_17 0 240 (dk_at dksX2_init_1 9 rfl rfl)
theorem dX2_init_34 : decode cX2_init 34 = .ok (.newarray .int, 2) := dk_188_10 (dk_at dksX2_init_1 12 rfl rfl)
theorem dX2_init_36 : decode cX2_init 36 = .ok (.putfield 19, 3) := dk_181 0 19 (dk_at dksX2_init_1 14 rfl rfl)
theorem dX2_init_39 : decode cX2_init 39 = .ok (.aload_n 0, 1) := dk_42 (dk_at dksX2_init_1 17 rfl rfl)
theorem dX2_init_40 : decode cX2_init 40 = .ok (.bipush 6, 2) := dk_16 6 (dk_at dksX2_init_1 18 rfl rfl)
theorem dX2_init_42 : decode cX2_init 42 = .ok (.newarray .int, 2) := dk_188_10 (dk_at dksX2_init_1 20 rfl rfl)
theorem dX2_init_44 : decode cX2_init 44 = .ok (.putfield 22, 3) := dk_181 0 22 (dk_at dksX2_init_2 0 rfl rfl)
theorem dX2_init_47 : decode cX2_init 47 = .ok (.aload_n 0, 1) := dk_42 (dk_at dksX2_init_2 3 rfl rfl)
theorem dX2_init_48 : decode cX2_init 48 = .ok (.bipush 48, 2) := dk_16 48 (dk_at dksX2_init_2 4 rfl rfl)
theorem dX2_init_50 : decode cX2_init 50 = .ok (.newarray .int, 2) := dk_188_10 (dk_at dksX2_init_2 6 rfl rfl)
theorem dX2_init_52 : decode cX2_init 52 = .ok (.putfield 25, 3) := dk_181 0 25 (dk_at dksX2_init_2 8 rfl rfl)
theorem dX2_init_55 : decode cX2_init 55 = .ok (.aload_n 0, 1) := dk_42 (dk_at dksX2_init_2 11 rfl rfl)
theorem dX2_init_56 : decode cX2_init 56 = .ok (.bipush 6, 2) := dk_16 6 (dk_at dksX2_init_2 12 rfl rfl)
theorem dX2_init_58 : decode cX2_init 58 = .ok (.newarray .int, 2) := dk_188_10 (dk_at dksX2_init_2 14 rfl rfl)
theorem dX2_init_60 : decode cX2_init 60 = .ok (.putfield 28, 3) := dk_181 0 28 (dk_at dksX2_init_2 16 rfl rfl)
theorem dX2_init_63 : decode cX2_init 63 = .ok (.aload_n 0, 1) := dk_42 (dk_at dksX2_init_2 19 rfl rfl)
theorem dX2_init_64 : decode cX2_init 64 = .ok (.bipush 6, 2) := dk_16 6 (dk_at dksX2_init_2 20 rfl rfl)
theorem dX2_init_66 : decode cX2_init 66 = .ok (.newarray .int, 2) := dk_188_10 (dk_at dksX2_init_2 22 rfl rfl)
theorem dX2_init_68 : decode cX2_init 68 = .ok (.putfield 31, 3) := dk_181 0 31 (dk_at dksX2_init_3 0 rfl rfl)
theorem dX2_init_71 : decode cX2_init 71 = .ok (.aload_n 0, 1) := dk_42 (dk_at dksX2_init_3 3 rfl rfl)
theorem dX2_init_72 : decode cX2_init 72 = .ok (.bipush 6, 2) := dk_16 6 (dk_at dksX2_init_3 4 rfl rfl)
theorem dX2_init_74 : decode cX2_init 74 = .ok (.newarray .int, 2) := dk_188_10 (dk_at dksX2_init_3 6 rfl rfl)
theorem dX2_init_76 : decode cX2_init 76 = .ok (.putfield 34, 3) := dk_181 0 34 (dk_at dksX2_init_3 8 rfl rfl)
theorem dX2_init_79 : decode cX2_init 79 = .ok (.aload_n 0, 1) := dk_42 (dk_at dksX2_init_3 11 rfl rfl)
theorem dX2_init_80 : decode cX2_init 80 = .ok (.bipush 6, 2) := dk_16 6 (dk_at dksX2_init_3 12 rfl rfl)
theorem dX2_init_82 : decode cX2_init 82 = .ok (.newarray .int, 2) := dk_188_10 (dk_at dksX2_init_3 14 rfl rfl)
theorem dX2_init_84 : decode cX2_init 84 = .ok (.putfield 37, 3) := dk_181 0 37 (dk_at dksX2_init_3 16 rfl rfl)
theorem dX2_init_87 : decode cX2_init 87 = .ok (.aload_n 0, 1) := dk_42 (dk_at dksX2_init_3 19 rfl rfl)
theorem dX2_init_88 : decode cX2_init 88 = .ok (.bipush 6, 2) := dk_16 6 (dk_at dksX2_init_3 20 rfl rfl)
theorem dX2_init_90 : decode cX2_init 90 = .ok (.newarray .int, 2) := dk_188_10 (dk_at dksX2_init_3 22 rfl rfl)
theorem dX2_init_92 : decode cX2_init 92 = .ok (.putfield 40, 3) := dk_181 0 40 (dk_at dksX2_init_4 0 rfl rfl)
theorem dX2_init_95 : decode cX2_init 95 = .ok (.aload_n 0, 1) := dk_42 (dk_at dksX2_init_4 3 rfl rfl)
theorem dX2_init_96 : decode cX2_init 96 = .ok (.bipush 6, 2) := dk_16 6 (dk_at dksX2_init_4 4 rfl rfl)
theorem dX2_init_98 : decode cX2_init 98 = .ok (.newarray .int, 2) := dk_188_10 (dk_at dksX2_init_4 6 rfl rfl)
theorem dX2_init_100 : decode cX2_init 100 = .ok (.putfield 43, 3) := dk_181 0 43 (dk_at dksX2_init_4 8 rfl rfl)
theorem dX2_init_103 : decode cX2_init 103 = .ok (.aload_n 0, 1) := dk_42 (dk_at dksX2_init_4 11 rfl rfl)
theorem dX2_init_104 : decode cX2_init 104 = .ok (.bipush 40, 2) := dk_16 40 (dk_at dksX2_init_4 12 rfl rfl)
theorem dX2_init_106 : decode cX2_init 106 = .ok (.newarray .int, 2) := dk_188_10 (dk_at dksX2_init_4 14 rfl rfl)
theorem dX2_init_108 : decode cX2_init 108 = .ok (.putfield 46, 3) := dk_181 0 46 (dk_at dksX2_init_4 16 rfl rfl)
theorem dX2_init_111 : decode cX2_init 111 = .ok (.aload_n 0, 1) := dk_42 (dk_at dksX2_init_4 19 rfl rfl)
theorem dX2_init_112 : decode cX2_init 112 = .ok (.bipush 40, 2) := dk_16 40 (dk_at dksX2_init_4 20 rfl rfl)
theorem dX2_init_114 : decode cX2_init 114 = .ok (.newarray .boolean, 2) := dk_188_4 (dk_at dksX2_init_4 22 rfl rfl)
theorem dX2_init_116 : decode cX2_init 116 = .ok (.putfield 49, 3) := dk_181 0 49 (dk_at dksX2_init_5 0 rfl rfl)
theorem dX2_init_119 : decode cX2_init 119 = .ok (.aload_n 0, 1) := dk_42 (dk_at dksX2_init_5 3 rfl rfl)
theorem dX2_init_120 : decode cX2_init 120 = .ok (.bipush 16, 2) := dk_16 16 (dk_at dksX2_init_5 4 rfl rfl)
theorem dX2_init_122 : decode cX2_init 122 = .ok (.newarray .int, 2) := dk_188_10 (dk_at dksX2_init_5 6 rfl rfl)
theorem dX2_init_124 : decode cX2_init 124 = .ok (.putfield 53, 3) := dk_181 0 53 (dk_at dksX2_init_5 8 rfl rfl)
theorem dX2_init_127 : decode cX2_init 127 = .ok (.aload_n 0, 1) := dk_42 (dk_at dksX2_init_5 11 rfl rfl)
theorem dX2_init_128 : decode cX2_init 128 = .ok (.bipush 16, 2) := dk_16 16 (dk_at dksX2_init_5 12 rfl rfl)
theorem dX2_init_130 : decode cX2_init 130 = .ok (.newarray .int, 2) := dk_188_10 (dk_at dksX2_init_5 14 rfl rfl)
theorem dX2_init_132 : decode cX2_init 132 = .ok (.putfield 56, 3) := dk_181 0 56 (dk_at dksX2_init_5 16 rfl rfl)
theorem dX2_init_135 : decode cX2_init 135 = .ok (.aload_n 0, 1) := dk_42 (dk_at dksX2_init_5 19 rfl rfl)
theorem dX2_init_136 : decode cX2_init 136 = .ok (.bipush 16, 2) := dk_16 16 (dk_at dksX2_init_5 20 rfl rfl)
theorem dX2_init_138 : decode cX2_init 138 = .ok (.newarray .int, 2) := dk_188_10 (dk_at dksX2_init_5 22 rfl rfl)
theorem dX2_init_140 : decode cX2_init 140 = .ok (.putfield 59, 3) := dk_181 0 59 (dk_at dksX2_init_6 0 rfl rfl)
theorem dX2_init_143 : decode cX2_init 143 = .ok (.aload_n 0, 1) := dk_42 (dk_at dksX2_init_6 3 rfl rfl)
theorem dX2_init_144 : decode cX2_init 144 = .ok (.bipush 16, 2) := dk_16 16 (dk_at dksX2_init_6 4 rfl rfl)
theorem dX2_init_146 : decode cX2_init 146 = .ok (.newarray .boolean, 2) := dk_188_4 (dk_at dksX2_init_6 6 rfl rfl)
theorem dX2_init_148 : decode cX2_init 148 = .ok (.putfield 62, 3) := dk_181 0 62 (dk_at dksX2_init_6 8 rfl rfl)
theorem dX2_init_151 : decode cX2_init 151 = .ok (.aload_n 0, 1) := dk_42 (dk_at dksX2_init_6 11 rfl rfl)
theorem dX2_init_152 : decode cX2_init 152 = .ok (.sipush 128, 3) := dk_17 0 128 (dk_at dksX2_init_6 12 rfl rfl)
theorem dX2_init_155 : decode cX2_init 155 = .ok (.newarray .int, 2) := dk_188_10 (dk_at dksX2_init_6 15 rfl rfl)
theorem dX2_init_157 : decode cX2_init 157 = .ok (.putfield 65, 3) := dk_181 0 65 (dk_at dksX2_init_6 17 rfl rfl)
theorem dX2_init_160 : decode cX2_init 160 = .ok (.return_, 1) := dk_177 (dk_at dksX2_init_6 20 rfl rfl)
abbrev cX2_thrown : ByteArray := prog_15_method_2_code
def yX2_thrown : MethodName := ⟨RX2, "thrown", "()I"⟩
theorem dX2_thrown_0 : decode cX2_thrown 0 = .ok (.aload_n 0, 1) := by decide +kernel
theorem dX2_thrown_1 : decode cX2_thrown 1 = .ok (.getfield 68, 3) := by decide +kernel
theorem dX2_thrown_4 : decode cX2_thrown 4 = .ok (.ireturn, 1) := by decide +kernel
abbrev cX2_put : ByteArray := prog_15_method_9_code
def yX2_put : MethodName := ⟨RX2, "put", "(III)I"⟩
def dkwX2_put_6 : List UInt8 := [180, 0, 80, 4, 96, 181, 0, 80, 132, 6, 1, 167, 255, 210, 42, 180, 0, 80, 172]
abbrev dktX2_put_6 : List UInt8 := dkwX2_put_6 ++ []
def dkwX2_put_5 : List UInt8 := [184, 0, 72, 54, 7, 21, 7, 153, 0, 24, 42, 180, 0, 9, 42, 180, 0, 80, 21, 7, 79, 42, 89]
abbrev dktX2_put_5 : List UInt8 := dkwX2_put_5 ++ dktX2_put_6
def dkwX2_put_4 : List UInt8 := [182, 0, 83, 153, 0, 5, 3, 172, 3, 54, 6, 21, 6, 16, 12, 162, 0, 45, 27, 28, 29, 21, 6]
abbrev dktX2_put_4 : List UInt8 := dkwX2_put_4 ++ dktX2_put_5
def dkwX2_put_3 : List UInt8 := [154, 0, 28, 42, 42, 180, 0, 80, 21, 4, 96, 16, 40, 164, 0, 7, 4, 167, 0, 4, 3, 5]
abbrev dktX2_put_3 : List UInt8 := dkwX2_put_3 ++ dktX2_put_4
def dkwX2_put_2 : List UInt8 := [16, 127, 164, 0, 7, 4, 167, 0, 4, 3, 54, 5, 132, 6, 1, 167, 255, 202, 42, 21, 5, 182, 0, 76]
abbrev dktX2_put_2 : List UInt8 := dkwX2_put_2 ++ dktX2_put_3
def dkwX2_put_1 : List UInt8 := [54, 7, 21, 4, 21, 7, 154, 0, 7, 3, 167, 0, 4, 4, 96, 54, 4, 21, 5, 154, 0, 10, 21, 7]
abbrev dktX2_put_1 : List UInt8 := dkwX2_put_1 ++ dktX2_put_2
def dkwX2_put_0 : List UInt8 := [3, 54, 4, 3, 54, 5, 3, 54, 6, 21, 6, 16, 12, 162, 0, 53, 27, 28, 29, 21, 6, 184, 0, 72]
abbrev dktX2_put_0 : List UInt8 := dkwX2_put_0 ++ dktX2_put_1
theorem dksX2_put_0 : cX2_put.data.toList.drop 0 = dktX2_put_0 := by decide +kernel
theorem dksX2_put_1 : cX2_put.data.toList.drop 24 = dktX2_put_1 := dk_seg dksX2_put_0 24 rfl rfl
theorem dksX2_put_2 : cX2_put.data.toList.drop 48 = dktX2_put_2 := dk_seg dksX2_put_1 24 rfl rfl
theorem dksX2_put_3 : cX2_put.data.toList.drop 72 = dktX2_put_3 := dk_seg dksX2_put_2 24 rfl rfl
theorem dksX2_put_4 : cX2_put.data.toList.drop 94 = dktX2_put_4 := dk_seg dksX2_put_3 22 rfl rfl
theorem dksX2_put_5 : cX2_put.data.toList.drop 117 = dktX2_put_5 := dk_seg dksX2_put_4 23 rfl rfl
theorem dksX2_put_6 : cX2_put.data.toList.drop 140 = dktX2_put_6 := dk_seg dksX2_put_5 23 rfl rfl
theorem dX2_put_0 : decode cX2_put 0 = .ok (.iconst 0, 1) := dk_3 (dk_at dksX2_put_0 0 rfl rfl)
theorem dX2_put_1 : decode cX2_put 1 = .ok (.istore 4, 2) := dk_54 4 (dk_at dksX2_put_0 1 rfl rfl)
theorem dX2_put_3 : decode cX2_put 3 = .ok (.iconst 0, 1) := dk_3 (dk_at dksX2_put_0 3 rfl rfl)
theorem dX2_put_4 : decode cX2_put 4 = .ok (.istore 5, 2) := dk_54 5 (dk_at dksX2_put_0 4 rfl rfl)
theorem dX2_put_6 : decode cX2_put 6 = .ok (.iconst 0, 1) := dk_3 (dk_at dksX2_put_0 6 rfl rfl)
theorem dX2_put_7 : decode cX2_put 7 = .ok (.istore 6, 2) := dk_54 6 (dk_at dksX2_put_0 7 rfl rfl)
theorem dX2_put_9 : decode cX2_put 9 = .ok (.iload 6, 2) := dk_21 6 (dk_at dksX2_put_0 9 rfl rfl)
theorem dX2_put_11 : decode cX2_put 11 = .ok (.bipush 12, 2) := dk_16 12 (dk_at dksX2_put_0 11 rfl rfl)
theorem dX2_put_13 : decode cX2_put 13 = .ok (.if_icmp .ge 53, 3) := dk_162 0 53 (dk_at dksX2_put_0 13 rfl rfl)
theorem dX2_put_16 : decode cX2_put 16 = .ok (.iload_n 1, 1) := dk_27 (dk_at dksX2_put_0 16 rfl rfl)
theorem dX2_put_17 : decode cX2_put 17 = .ok (.iload_n 2, 1) := dk_28 (dk_at dksX2_put_0 17 rfl rfl)
theorem dX2_put_18 : decode cX2_put 18 = .ok (.iload_n 3, 1) := dk_29 (dk_at dksX2_put_0 18 rfl rfl)
theorem dX2_put_19 : decode cX2_put 19 = .ok (.iload 6, 2) := dk_21 6 (dk_at dksX2_put_0 19 rfl rfl)
theorem dX2_put_21 : decode cX2_put 21 = .ok (.invokestatic 72, 3) := dk_184 0 72 (dk_at dksX2_put_0 21 rfl rfl)
theorem dX2_put_24 : decode cX2_put 24 = .ok (.istore 7, 2) := dk_54 7 (dk_at dksX2_put_1 0 rfl rfl)
theorem dX2_put_26 : decode cX2_put 26 = .ok (.iload 4, 2) := dk_21 4 (dk_at dksX2_put_1 2 rfl rfl)
theorem dX2_put_28 : decode cX2_put 28 = .ok (.iload 7, 2) := dk_21 7 (dk_at dksX2_put_1 4 rfl rfl)
theorem dX2_put_30 : decode cX2_put 30 = .ok (.ifCond .ne 7, 3) := dk_154 0 7 (dk_at dksX2_put_1 6 rfl rfl)
theorem dX2_put_33 : decode cX2_put 33 = .ok (.iconst 0, 1) := dk_3 (dk_at dksX2_put_1 9 rfl rfl)
theorem dX2_put_34 : decode cX2_put 34 = .ok (.goto 4, 3) := dk_167 0 4 (dk_at dksX2_put_1 10 rfl rfl)
theorem dX2_put_37 : decode cX2_put 37 = .ok (.iconst 1, 1) := dk_4 (dk_at dksX2_put_1 13 rfl rfl)
theorem dX2_put_38 : decode cX2_put 38 = .ok (.iadd, 1) := dk_96 (dk_at dksX2_put_1 14 rfl rfl)
theorem dX2_put_39 : decode cX2_put 39 = .ok (.istore 4, 2) := dk_54 4 (dk_at dksX2_put_1 15 rfl rfl)
theorem dX2_put_41 : decode cX2_put 41 = .ok (.iload 5, 2) := dk_21 5 (dk_at dksX2_put_1 17 rfl rfl)
theorem dX2_put_43 : decode cX2_put 43 = .ok (.ifCond .ne 10, 3) := dk_154 0 10 (dk_at dksX2_put_1 19 rfl rfl)
theorem dX2_put_46 : decode cX2_put 46 = .ok (.iload 7, 2) := dk_21 7 (dk_at dksX2_put_1 22 rfl rfl)
theorem dX2_put_48 : decode cX2_put 48 = .ok (.bipush 127, 2) := dk_16 127 (dk_at dksX2_put_2 0 rfl rfl)
theorem dX2_put_50 : decode cX2_put 50 = .ok (.if_icmp .le 7, 3) := dk_164 0 7 (dk_at dksX2_put_2 2 rfl rfl)
theorem dX2_put_53 : decode cX2_put 53 = .ok (.iconst 1, 1) := dk_4 (dk_at dksX2_put_2 5 rfl rfl)
theorem dX2_put_54 : decode cX2_put 54 = .ok (.goto 4, 3) := dk_167 0 4 (dk_at dksX2_put_2 6 rfl rfl)
theorem dX2_put_57 : decode cX2_put 57 = .ok (.iconst 0, 1) := dk_3 (dk_at dksX2_put_2 9 rfl rfl)
theorem dX2_put_58 : decode cX2_put 58 = .ok (.istore 5, 2) := dk_54 5 (dk_at dksX2_put_2 10 rfl rfl)
theorem dX2_put_60 : decode cX2_put 60 = .ok (.iinc 6 1, 3) := dk_132 6 1 (dk_at dksX2_put_2 12 rfl rfl)
theorem dX2_put_63 : decode cX2_put 63 = .ok (.goto (-54), 3) := dk_167 255 202 (dk_at dksX2_put_2 15 rfl rfl)
theorem dX2_put_66 : decode cX2_put 66 = .ok (.aload_n 0, 1) := dk_42 (dk_at dksX2_put_2 18 rfl rfl)
theorem dX2_put_67 : decode cX2_put 67 = .ok (.iload 5, 2) := dk_21 5 (dk_at dksX2_put_2 19 rfl rfl)
theorem dX2_put_69 : decode cX2_put 69 = .ok (.invokevirtual 76, 3) := dk_182 0 76 (dk_at dksX2_put_2 21 rfl rfl)
theorem dX2_put_72 : decode cX2_put 72 = .ok (.ifCond .ne 28, 3) := dk_154 0 28 (dk_at dksX2_put_3 0 rfl rfl)
theorem dX2_put_75 : decode cX2_put 75 = .ok (.aload_n 0, 1) := dk_42 (dk_at dksX2_put_3 3 rfl rfl)
theorem dX2_put_76 : decode cX2_put 76 = .ok (.aload_n 0, 1) := dk_42 (dk_at dksX2_put_3 4 rfl rfl)
theorem dX2_put_77 : decode cX2_put 77 = .ok (.getfield 80, 3) := dk_180 0 80 (dk_at dksX2_put_3 5 rfl rfl)
theorem dX2_put_80 : decode cX2_put 80 = .ok (.iload 4, 2) := dk_21 4 (dk_at dksX2_put_3 8 rfl rfl)
theorem dX2_put_82 : decode cX2_put 82 = .ok (.iadd, 1) := dk_96 (dk_at dksX2_put_3 10 rfl rfl)
theorem dX2_put_83 : decode cX2_put 83 = .ok (.bipush 40, 2) := dk_16 40 (dk_at dksX2_put_3 11 rfl rfl)
theorem dX2_put_85 : decode cX2_put 85 = .ok (.if_icmp .le 7, 3) := dk_164 0 7 (dk_at dksX2_put_3 13 rfl rfl)
theorem dX2_put_88 : decode cX2_put 88 = .ok (.iconst 1, 1) := dk_4 (dk_at dksX2_put_3 16 rfl rfl)
theorem dX2_put_89 : decode cX2_put 89 = .ok (.goto 4, 3) := dk_167 0 4 (dk_at dksX2_put_3 17 rfl rfl)
theorem dX2_put_92 : decode cX2_put 92 = .ok (.iconst 0, 1) := dk_3 (dk_at dksX2_put_3 20 rfl rfl)
theorem dX2_put_93 : decode cX2_put 93 = .ok (.iconst 2, 1) := dk_5 (dk_at dksX2_put_3 21 rfl rfl)
theorem dX2_put_94 : decode cX2_put 94 = .ok (.invokevirtual 83, 3) := dk_182 0 83 (dk_at dksX2_put_4 0 rfl rfl)
theorem dX2_put_97 : decode cX2_put 97 = .ok (.ifCond .eq 5, 3) := dk_153 0 5 (dk_at dksX2_put_4 3 rfl rfl)
theorem dX2_put_100 : decode cX2_put 100 = .ok (.iconst 0, 1) := dk_3 (dk_at dksX2_put_4 6 rfl rfl)
theorem dX2_put_101 : decode cX2_put 101 = .ok (.ireturn, 1) := dk_172 (dk_at dksX2_put_4 7 rfl rfl)
theorem dX2_put_102 : decode cX2_put 102 = .ok (.iconst 0, 1) := dk_3 (dk_at dksX2_put_4 8 rfl rfl)
theorem dX2_put_103 : decode cX2_put 103 = .ok (.istore 6, 2) := dk_54 6 (dk_at dksX2_put_4 9 rfl rfl)
theorem dX2_put_105 : decode cX2_put 105 = .ok (.iload 6, 2) := dk_21 6 (dk_at dksX2_put_4 11 rfl rfl)
theorem dX2_put_107 : decode cX2_put 107 = .ok (.bipush 12, 2) := dk_16 12 (dk_at dksX2_put_4 13 rfl rfl)
theorem dX2_put_109 : decode cX2_put 109 = .ok (.if_icmp .ge 45, 3) := dk_162 0 45 (dk_at dksX2_put_4 15 rfl rfl)
theorem dX2_put_112 : decode cX2_put 112 = .ok (.iload_n 1, 1) := dk_27 (dk_at dksX2_put_4 18 rfl rfl)
theorem dX2_put_113 : decode cX2_put 113 = .ok (.iload_n 2, 1) := dk_28 (dk_at dksX2_put_4 19 rfl rfl)
theorem dX2_put_114 : decode cX2_put 114 = .ok (.iload_n 3, 1) := dk_29 (dk_at dksX2_put_4 20 rfl rfl)
theorem dX2_put_115 : decode cX2_put 115 = .ok (.iload 6, 2) := dk_21 6 (dk_at dksX2_put_4 21 rfl rfl)
theorem dX2_put_117 : decode cX2_put 117 = .ok (.invokestatic 72, 3) := dk_184 0 72 (dk_at dksX2_put_5 0 rfl rfl)
theorem dX2_put_120 : decode cX2_put 120 = .ok (.istore 7, 2) := dk_54 7 (dk_at dksX2_put_5 3 rfl rfl)
theorem dX2_put_122 : decode cX2_put 122 = .ok (.iload 7, 2) := dk_21 7 (dk_at dksX2_put_5 5 rfl rfl)
theorem dX2_put_124 : decode cX2_put 124 = .ok (.ifCond .eq 24, 3) := dk_153 0 24 (dk_at dksX2_put_5 7 rfl rfl)
theorem dX2_put_127 : decode cX2_put 127 = .ok (.aload_n 0, 1) := dk_42 (dk_at dksX2_put_5 10 rfl rfl)
theorem dX2_put_128 : decode cX2_put 128 = .ok (.getfield 9, 3) := dk_180 0 9 (dk_at dksX2_put_5 11 rfl rfl)
theorem dX2_put_131 : decode cX2_put 131 = .ok (.aload_n 0, 1) := dk_42 (dk_at dksX2_put_5 14 rfl rfl)
theorem dX2_put_132 : decode cX2_put 132 = .ok (.getfield 80, 3) := dk_180 0 80 (dk_at dksX2_put_5 15 rfl rfl)
theorem dX2_put_135 : decode cX2_put 135 = .ok (.iload 7, 2) := dk_21 7 (dk_at dksX2_put_5 18 rfl rfl)
theorem dX2_put_137 : decode cX2_put 137 = .ok (.iastore, 1) := dk_79 (dk_at dksX2_put_5 20 rfl rfl)
theorem dX2_put_138 : decode cX2_put 138 = .ok (.aload_n 0, 1) := dk_42 (dk_at dksX2_put_5 21 rfl rfl)
theorem dX2_put_139 : decode cX2_put 139 = .ok (.dup, 1) := dk_89 (dk_at dksX2_put_5 22 rfl rfl)
theorem dX2_put_140 : decode cX2_put 140 = .ok (.getfield 80, 3) := dk_180 0 80 (dk_at dksX2_put_6 0 rfl rfl)
theorem dX2_put_143 : decode cX2_put 143 = .ok (.iconst 1, 1) := dk_4 (dk_at dksX2_put_6 3 rfl rfl)
theorem dX2_put_144 : decode cX2_put 144 = .ok (.iadd, 1) := dk_96 (dk_at dksX2_put_6 4 rfl rfl)
theorem dX2_put_145 : decode cX2_put 145 = .ok (.putfield 80, 3) := dk_181 0 80 (dk_at dksX2_put_6 5 rfl rfl)
theorem dX2_put_148 : decode cX2_put 148 = .ok (.iinc 6 1, 3) := dk_132 6 1 (dk_at dksX2_put_6 8 rfl rfl)
theorem dX2_put_151 : decode cX2_put 151 = .ok (.goto (-46), 3) := dk_167 255 210 (dk_at dksX2_put_6 11 rfl rfl)
theorem dX2_put_154 : decode cX2_put 154 = .ok (.aload_n 0, 1) := dk_42 (dk_at dksX2_put_6 14 rfl rfl)
theorem dX2_put_155 : decode cX2_put 155 = .ok (.getfield 80, 3) := dk_180 0 80 (dk_at dksX2_put_6 15 rfl rfl)
theorem dX2_put_158 : decode cX2_put 158 = .ok (.ireturn, 1) := dk_172 (dk_at dksX2_put_6 18 rfl rfl)
abbrev cX2_byteOf : ByteArray := prog_15_method_10_code
def yX2_byteOf : MethodName := ⟨RX2, "byteOf", "(IIII)I"⟩
def dkwX2_byteOf_1 : List UInt8 := [16, 24, 16, 8, 29, 7, 112, 104, 100, 124, 17, 0, 255, 126, 172]
abbrev dktX2_byteOf_1 : List UInt8 := dkwX2_byteOf_1 ++ []
def dkwX2_byteOf_0 : List UInt8 := [29, 7, 162, 0, 7, 26, 167, 0, 14, 29, 16, 8, 162, 0, 7, 27, 167, 0, 4, 28, 54, 4, 21, 4]
abbrev dktX2_byteOf_0 : List UInt8 := dkwX2_byteOf_0 ++ dktX2_byteOf_1
theorem dksX2_byteOf_0 : cX2_byteOf.data.toList.drop 0 = dktX2_byteOf_0 := by decide +kernel
theorem dksX2_byteOf_1 : cX2_byteOf.data.toList.drop 24 = dktX2_byteOf_1 := dk_seg dksX2_byteOf_0 24 rfl rfl
theorem dX2_byteOf_0 : decode cX2_byteOf 0 = .ok (.iload_n 3, 1) := dk_29 (dk_at dksX2_byteOf_0 0 rfl rfl)
theorem dX2_byteOf_1 : decode cX2_byteOf 1 = .ok (.iconst 4, 1) := dk_7 (dk_at dksX2_byteOf_0 1 rfl rfl)
theorem dX2_byteOf_2 : decode cX2_byteOf 2 = .ok (.if_icmp .ge 7, 3) := dk_162 0 7 (dk_at dksX2_byteOf_0 2 rfl rfl)
theorem dX2_byteOf_5 : decode cX2_byteOf 5 = .ok (.iload_n 0, 1) := dk_26 (dk_at dksX2_byteOf_0 5 rfl rfl)
theorem dX2_byteOf_6 : decode cX2_byteOf 6 = .ok (.goto 14, 3) := dk_167 0 14 (dk_at dksX2_byteOf_0 6 rfl rfl)
theorem dX2_byteOf_9 : decode cX2_byteOf 9 = .ok (.iload_n 3, 1) := dk_29 (dk_at dksX2_byteOf_0 9 rfl rfl)
theorem dX2_byteOf_10 : decode cX2_byteOf 10 = .ok (.bipush 8, 2) := dk_16 8 (dk_at dksX2_byteOf_0 10 rfl rfl)
theorem dX2_byteOf_12 : decode cX2_byteOf 12 = .ok (.if_icmp .ge 7, 3) := dk_162 0 7 (dk_at dksX2_byteOf_0 12 rfl rfl)
theorem dX2_byteOf_15 : decode cX2_byteOf 15 = .ok (.iload_n 1, 1) := dk_27 (dk_at dksX2_byteOf_0 15 rfl rfl)
theorem dX2_byteOf_16 : decode cX2_byteOf 16 = .ok (.goto 4, 3) := dk_167 0 4 (dk_at dksX2_byteOf_0 16 rfl rfl)
theorem dX2_byteOf_19 : decode cX2_byteOf 19 = .ok (.iload_n 2, 1) := dk_28 (dk_at dksX2_byteOf_0 19 rfl rfl)
theorem dX2_byteOf_20 : decode cX2_byteOf 20 = .ok (.istore 4, 2) := dk_54 4 (dk_at dksX2_byteOf_0 20 rfl rfl)
theorem dX2_byteOf_22 : decode cX2_byteOf 22 = .ok (.iload 4, 2) := dk_21 4 (dk_at dksX2_byteOf_0 22 rfl rfl)
theorem dX2_byteOf_24 : decode cX2_byteOf 24 = .ok (.bipush 24, 2) := dk_16 24 (dk_at dksX2_byteOf_1 0 rfl rfl)
theorem dX2_byteOf_26 : decode cX2_byteOf 26 = .ok (.bipush 8, 2) := dk_16 8 (dk_at dksX2_byteOf_1 2 rfl rfl)
theorem dX2_byteOf_28 : decode cX2_byteOf 28 = .ok (.iload_n 3, 1) := dk_29 (dk_at dksX2_byteOf_1 4 rfl rfl)
theorem dX2_byteOf_29 : decode cX2_byteOf 29 = .ok (.iconst 4, 1) := dk_7 (dk_at dksX2_byteOf_1 5 rfl rfl)
theorem dX2_byteOf_30 : decode cX2_byteOf 30 = .ok (.irem, 1) := dk_112 (dk_at dksX2_byteOf_1 6 rfl rfl)
theorem dX2_byteOf_31 : decode cX2_byteOf 31 = .ok (.imul, 1) := dk_104 (dk_at dksX2_byteOf_1 7 rfl rfl)
theorem dX2_byteOf_32 : decode cX2_byteOf 32 = .ok (.isub, 1) := dk_100 (dk_at dksX2_byteOf_1 8 rfl rfl)
theorem dX2_byteOf_33 : decode cX2_byteOf 33 = .ok (.iushr, 1) := dk_124 (dk_at dksX2_byteOf_1 9 rfl rfl)
theorem dX2_byteOf_34 : decode cX2_byteOf 34 = .ok (.sipush 255, 3) := dk_17 0 255 (dk_at dksX2_byteOf_1 10 rfl rfl)
theorem dX2_byteOf_37 : decode cX2_byteOf 37 = .ok (.iand, 1) := dk_126 (dk_at dksX2_byteOf_1 13 rfl rfl)
theorem dX2_byteOf_38 : decode cX2_byteOf 38 = .ok (.ireturn, 1) := dk_172 (dk_at dksX2_byteOf_1 14 rfl rfl)
abbrev cX2_wrong : ByteArray := prog_15_method_4_code
def yX2_wrong : MethodName := ⟨RX2, "wrong", "(Z)Z"⟩
def dkwX2_wrong_0 : List UInt8 := [42, 27, 153, 0, 7, 4, 167, 0, 4, 3, 181, 0, 68, 27, 172]
abbrev dktX2_wrong_0 : List UInt8 := dkwX2_wrong_0 ++ []
theorem dksX2_wrong_0 : cX2_wrong.data.toList.drop 0 = dktX2_wrong_0 := by decide +kernel
theorem dX2_wrong_0 : decode cX2_wrong 0 = .ok (.aload_n 0, 1) := dk_42 (dk_at dksX2_wrong_0 0 rfl rfl)
theorem dX2_wrong_1 : decode cX2_wrong 1 = .ok (.iload_n 1, 1) := dk_27 (dk_at dksX2_wrong_0 1 rfl rfl)
theorem dX2_wrong_2 : decode cX2_wrong 2 = .ok (.ifCond .eq 7, 3) := dk_153 0 7 (dk_at dksX2_wrong_0 2 rfl rfl)
theorem dX2_wrong_5 : decode cX2_wrong 5 = .ok (.iconst 1, 1) := dk_4 (dk_at dksX2_wrong_0 5 rfl rfl)
theorem dX2_wrong_6 : decode cX2_wrong 6 = .ok (.goto 4, 3) := dk_167 0 4 (dk_at dksX2_wrong_0 6 rfl rfl)
theorem dX2_wrong_9 : decode cX2_wrong 9 = .ok (.iconst 0, 1) := dk_3 (dk_at dksX2_wrong_0 9 rfl rfl)
theorem dX2_wrong_10 : decode cX2_wrong 10 = .ok (.putfield 68, 3) := dk_181 0 68 (dk_at dksX2_wrong_0 10 rfl rfl)
theorem dX2_wrong_13 : decode cX2_wrong 13 = .ok (.iload_n 1, 1) := dk_27 (dk_at dksX2_wrong_0 13 rfl rfl)
theorem dX2_wrong_14 : decode cX2_wrong 14 = .ok (.ireturn, 1) := dk_172 (dk_at dksX2_wrong_0 14 rfl rfl)
abbrev cX2_throwsIf : ByteArray := prog_15_method_5_code
def yX2_throwsIf : MethodName := ⟨RX2, "throwsIf", "(ZI)Z"⟩
def dkwX2_throwsIf_0 : List UInt8 := [27, 153, 0, 8, 42, 28, 181, 0, 68, 27, 172]
abbrev dktX2_throwsIf_0 : List UInt8 := dkwX2_throwsIf_0 ++ []
theorem dksX2_throwsIf_0 : cX2_throwsIf.data.toList.drop 0 = dktX2_throwsIf_0 := by decide +kernel
theorem dX2_throwsIf_0 : decode cX2_throwsIf 0 = .ok (.iload_n 1, 1) := dk_27 (dk_at dksX2_throwsIf_0 0 rfl rfl)
theorem dX2_throwsIf_1 : decode cX2_throwsIf 1 = .ok (.ifCond .eq 8, 3) := dk_153 0 8 (dk_at dksX2_throwsIf_0 1 rfl rfl)
theorem dX2_throwsIf_4 : decode cX2_throwsIf 4 = .ok (.aload_n 0, 1) := dk_42 (dk_at dksX2_throwsIf_0 4 rfl rfl)
theorem dX2_throwsIf_5 : decode cX2_throwsIf 5 = .ok (.iload_n 2, 1) := dk_28 (dk_at dksX2_throwsIf_0 5 rfl rfl)
theorem dX2_throwsIf_6 : decode cX2_throwsIf 6 = .ok (.putfield 68, 3) := dk_181 0 68 (dk_at dksX2_throwsIf_0 6 rfl rfl)
theorem dX2_throwsIf_9 : decode cX2_throwsIf 9 = .ok (.iload_n 1, 1) := dk_27 (dk_at dksX2_throwsIf_0 9 rfl rfl)
theorem dX2_throwsIf_10 : decode cX2_throwsIf 10 = .ok (.ireturn, 1) := dk_172 (dk_at dksX2_throwsIf_0 10 rfl rfl)
abbrev cX2_clear : ByteArray := prog_15_method_11_code
def yX2_clear : MethodName := ⟨RX2, "clear", "()I"⟩
def dkwX2_clear_0 : List UInt8 := [42, 180, 0, 80, 60, 42, 3, 181, 0, 80, 42, 27, 182, 0, 87, 172]
abbrev dktX2_clear_0 : List UInt8 := dkwX2_clear_0 ++ []
theorem dksX2_clear_0 : cX2_clear.data.toList.drop 0 = dktX2_clear_0 := by decide +kernel
theorem dX2_clear_0 : decode cX2_clear 0 = .ok (.aload_n 0, 1) := dk_42 (dk_at dksX2_clear_0 0 rfl rfl)
theorem dX2_clear_1 : decode cX2_clear 1 = .ok (.getfield 80, 3) := dk_180 0 80 (dk_at dksX2_clear_0 1 rfl rfl)
theorem dX2_clear_4 : decode cX2_clear 4 = .ok (.istore_n 1, 1) := dk_60 (dk_at dksX2_clear_0 4 rfl rfl)
theorem dX2_clear_5 : decode cX2_clear 5 = .ok (.aload_n 0, 1) := dk_42 (dk_at dksX2_clear_0 5 rfl rfl)
theorem dX2_clear_6 : decode cX2_clear 6 = .ok (.iconst 0, 1) := dk_3 (dk_at dksX2_clear_0 6 rfl rfl)
theorem dX2_clear_7 : decode cX2_clear 7 = .ok (.putfield 80, 3) := dk_181 0 80 (dk_at dksX2_clear_0 7 rfl rfl)
theorem dX2_clear_10 : decode cX2_clear 10 = .ok (.aload_n 0, 1) := dk_42 (dk_at dksX2_clear_0 10 rfl rfl)
theorem dX2_clear_11 : decode cX2_clear 11 = .ok (.iload_n 1, 1) := dk_27 (dk_at dksX2_clear_0 11 rfl rfl)
theorem dX2_clear_12 : decode cX2_clear 12 = .ok (.invokevirtual 87, 3) := dk_182 0 87 (dk_at dksX2_clear_0 12 rfl rfl)
theorem dX2_clear_15 : decode cX2_clear 15 = .ok (.ireturn, 1) := dk_172 (dk_at dksX2_clear_0 15 rfl rfl)
abbrev cX2_tells : ByteArray := prog_15_method_6_code
def yX2_tells : MethodName := ⟨RX2, "tells", "(I)I"⟩
def dkwX2_tells_0 : List UInt8 := [42, 3, 181, 0, 68, 27, 172]
abbrev dktX2_tells_0 : List UInt8 := dkwX2_tells_0 ++ []
theorem dksX2_tells_0 : cX2_tells.data.toList.drop 0 = dktX2_tells_0 := by decide +kernel
theorem dX2_tells_0 : decode cX2_tells 0 = .ok (.aload_n 0, 1) := dk_42 (dk_at dksX2_tells_0 0 rfl rfl)
theorem dX2_tells_1 : decode cX2_tells 1 = .ok (.iconst 0, 1) := dk_3 (dk_at dksX2_tells_0 1 rfl rfl)
theorem dX2_tells_2 : decode cX2_tells 2 = .ok (.putfield 68, 3) := dk_181 0 68 (dk_at dksX2_tells_0 2 rfl rfl)
theorem dX2_tells_5 : decode cX2_tells 5 = .ok (.iload_n 1, 1) := dk_27 (dk_at dksX2_tells_0 5 rfl rfl)
theorem dX2_tells_6 : decode cX2_tells 6 = .ok (.ireturn, 1) := dk_172 (dk_at dksX2_tells_0 6 rfl rfl)
abbrev cX2_read : ByteArray := prog_15_method_18_code
def yX2_read : MethodName := ⟨RX2, "read", "()I"⟩
def dkwX2_read_5 : List UInt8 := [89, 180, 0, 102, 4, 96, 181, 0, 102, 42, 180, 0, 102, 4, 100, 172]
abbrev dktX2_read_5 : List UInt8 := dkwX2_read_5 ++ []
def dkwX2_read_4 : List UInt8 := [181, 0, 94, 42, 3, 181, 0, 80, 42, 180, 0, 94, 153, 0, 11, 16, 254, 42, 180, 0, 91, 100, 172, 42]
abbrev dktX2_read_4 : List UInt8 := dkwX2_read_4 ++ dktX2_read_5
def dkwX2_read_3 : List UInt8 := [180, 0, 94, 154, 0, 14, 42, 180, 0, 91, 42, 180, 0, 80, 162, 0, 7, 4, 167, 0, 4, 3]
abbrev dktX2_read_3 : List UInt8 := dkwX2_read_3 ++ dktX2_read_4
def dkwX2_read_2 : List UInt8 := [180, 0, 102, 3, 79, 42, 180, 0, 31, 42, 180, 0, 102, 3, 79, 42, 6, 182, 0, 123, 60, 42, 42]
abbrev dktX2_read_2 : List UInt8 := dkwX2_read_2 ++ dktX2_read_3
def dkwX2_read_1 : List UInt8 := [3, 181, 0, 91, 42, 3, 181, 0, 94, 42, 180, 0, 22, 42, 180, 0, 102, 3, 79, 42, 180, 0, 28, 42]
abbrev dktX2_read_1 : List UInt8 := dkwX2_read_1 ++ dktX2_read_2
def dkwX2_read_0 : List UInt8 := [42, 42, 180, 0, 102, 16, 6, 160, 0, 7, 4, 167, 0, 4, 3, 182, 0, 76, 153, 0, 5, 3, 172, 42]
abbrev dktX2_read_0 : List UInt8 := dkwX2_read_0 ++ dktX2_read_1
theorem dksX2_read_0 : cX2_read.data.toList.drop 0 = dktX2_read_0 := by decide +kernel
theorem dksX2_read_1 : cX2_read.data.toList.drop 24 = dktX2_read_1 := dk_seg dksX2_read_0 24 rfl rfl
theorem dksX2_read_2 : cX2_read.data.toList.drop 48 = dktX2_read_2 := dk_seg dksX2_read_1 24 rfl rfl
theorem dksX2_read_3 : cX2_read.data.toList.drop 71 = dktX2_read_3 := dk_seg dksX2_read_2 23 rfl rfl
theorem dksX2_read_4 : cX2_read.data.toList.drop 93 = dktX2_read_4 := dk_seg dksX2_read_3 22 rfl rfl
theorem dksX2_read_5 : cX2_read.data.toList.drop 117 = dktX2_read_5 := dk_seg dksX2_read_4 24 rfl rfl
theorem dX2_read_0 : decode cX2_read 0 = .ok (.aload_n 0, 1) := dk_42 (dk_at dksX2_read_0 0 rfl rfl)
theorem dX2_read_1 : decode cX2_read 1 = .ok (.aload_n 0, 1) := dk_42 (dk_at dksX2_read_0 1 rfl rfl)
theorem dX2_read_2 : decode cX2_read 2 = .ok (.getfield 102, 3) := dk_180 0 102 (dk_at dksX2_read_0 2 rfl rfl)
theorem dX2_read_5 : decode cX2_read 5 = .ok (.bipush 6, 2) := dk_16 6 (dk_at dksX2_read_0 5 rfl rfl)
theorem dX2_read_7 : decode cX2_read 7 = .ok (.if_icmp .ne 7, 3) := dk_160 0 7 (dk_at dksX2_read_0 7 rfl rfl)
theorem dX2_read_10 : decode cX2_read 10 = .ok (.iconst 1, 1) := dk_4 (dk_at dksX2_read_0 10 rfl rfl)
theorem dX2_read_11 : decode cX2_read 11 = .ok (.goto 4, 3) := dk_167 0 4 (dk_at dksX2_read_0 11 rfl rfl)
theorem dX2_read_14 : decode cX2_read 14 = .ok (.iconst 0, 1) := dk_3 (dk_at dksX2_read_0 14 rfl rfl)
theorem dX2_read_15 : decode cX2_read 15 = .ok (.invokevirtual 76, 3) := dk_182 0 76 (dk_at dksX2_read_0 15 rfl rfl)
theorem dX2_read_18 : decode cX2_read 18 = .ok (.ifCond .eq 5, 3) := dk_153 0 5 (dk_at dksX2_read_0 18 rfl rfl)
theorem dX2_read_21 : decode cX2_read 21 = .ok (.iconst 0, 1) := dk_3 (dk_at dksX2_read_0 21 rfl rfl)
theorem dX2_read_22 : decode cX2_read 22 = .ok (.ireturn, 1) := dk_172 (dk_at dksX2_read_0 22 rfl rfl)
theorem dX2_read_23 : decode cX2_read 23 = .ok (.aload_n 0, 1) := dk_42 (dk_at dksX2_read_0 23 rfl rfl)
theorem dX2_read_24 : decode cX2_read 24 = .ok (.iconst 0, 1) := dk_3 (dk_at dksX2_read_1 0 rfl rfl)
theorem dX2_read_25 : decode cX2_read 25 = .ok (.putfield 91, 3) := dk_181 0 91 (dk_at dksX2_read_1 1 rfl rfl)
theorem dX2_read_28 : decode cX2_read 28 = .ok (.aload_n 0, 1) := dk_42 (dk_at dksX2_read_1 4 rfl rfl)
theorem dX2_read_29 : decode cX2_read 29 = .ok (.iconst 0, 1) := dk_3 (dk_at dksX2_read_1 5 rfl rfl)
theorem dX2_read_30 : decode cX2_read 30 = .ok (.putfield 94, 3) := dk_181 0 94 (dk_at dksX2_read_1 6 rfl rfl)
theorem dX2_read_33 : decode cX2_read 33 = .ok (.aload_n 0, 1) := dk_42 (dk_at dksX2_read_1 9 rfl rfl)
theorem dX2_read_34 : decode cX2_read 34 = .ok (.getfield 22, 3) := dk_180 0 22 (dk_at dksX2_read_1 10 rfl rfl)
theorem dX2_read_37 : decode cX2_read 37 = .ok (.aload_n 0, 1) := dk_42 (dk_at dksX2_read_1 13 rfl rfl)
theorem dX2_read_38 : decode cX2_read 38 = .ok (.getfield 102, 3) := dk_180 0 102 (dk_at dksX2_read_1 14 rfl rfl)
theorem dX2_read_41 : decode cX2_read 41 = .ok (.iconst 0, 1) := dk_3 (dk_at dksX2_read_1 17 rfl rfl)
theorem dX2_read_42 : decode cX2_read 42 = .ok (.iastore, 1) := dk_79 (dk_at dksX2_read_1 18 rfl rfl)
theorem dX2_read_43 : decode cX2_read 43 = .ok (.aload_n 0, 1) := dk_42 (dk_at dksX2_read_1 19 rfl rfl)
theorem dX2_read_44 : decode cX2_read 44 = .ok (.getfield 28, 3) := dk_180 0 28 (dk_at dksX2_read_1 20 rfl rfl)
theorem dX2_read_47 : decode cX2_read 47 = .ok (.aload_n 0, 1) := dk_42 (dk_at dksX2_read_1 23 rfl rfl)
theorem dX2_read_48 : decode cX2_read 48 = .ok (.getfield 102, 3) := dk_180 0 102 (dk_at dksX2_read_2 0 rfl rfl)
theorem dX2_read_51 : decode cX2_read 51 = .ok (.iconst 0, 1) := dk_3 (dk_at dksX2_read_2 3 rfl rfl)
theorem dX2_read_52 : decode cX2_read 52 = .ok (.iastore, 1) := dk_79 (dk_at dksX2_read_2 4 rfl rfl)
theorem dX2_read_53 : decode cX2_read 53 = .ok (.aload_n 0, 1) := dk_42 (dk_at dksX2_read_2 5 rfl rfl)
theorem dX2_read_54 : decode cX2_read 54 = .ok (.getfield 31, 3) := dk_180 0 31 (dk_at dksX2_read_2 6 rfl rfl)
theorem dX2_read_57 : decode cX2_read 57 = .ok (.aload_n 0, 1) := dk_42 (dk_at dksX2_read_2 9 rfl rfl)
theorem dX2_read_58 : decode cX2_read 58 = .ok (.getfield 102, 3) := dk_180 0 102 (dk_at dksX2_read_2 10 rfl rfl)
theorem dX2_read_61 : decode cX2_read 61 = .ok (.iconst 0, 1) := dk_3 (dk_at dksX2_read_2 13 rfl rfl)
theorem dX2_read_62 : decode cX2_read 62 = .ok (.iastore, 1) := dk_79 (dk_at dksX2_read_2 14 rfl rfl)
theorem dX2_read_63 : decode cX2_read 63 = .ok (.aload_n 0, 1) := dk_42 (dk_at dksX2_read_2 15 rfl rfl)
theorem dX2_read_64 : decode cX2_read 64 = .ok (.iconst 3, 1) := dk_6 (dk_at dksX2_read_2 16 rfl rfl)
theorem dX2_read_65 : decode cX2_read 65 = .ok (.invokevirtual 123, 3) := dk_182 0 123 (dk_at dksX2_read_2 17 rfl rfl)
theorem dX2_read_68 : decode cX2_read 68 = .ok (.istore_n 1, 1) := dk_60 (dk_at dksX2_read_2 20 rfl rfl)
theorem dX2_read_69 : decode cX2_read 69 = .ok (.aload_n 0, 1) := dk_42 (dk_at dksX2_read_2 21 rfl rfl)
theorem dX2_read_70 : decode cX2_read 70 = .ok (.aload_n 0, 1) := dk_42 (dk_at dksX2_read_2 22 rfl rfl)
theorem dX2_read_71 : decode cX2_read 71 = .ok (.getfield 94, 3) := dk_180 0 94 (dk_at dksX2_read_3 0 rfl rfl)
theorem dX2_read_74 : decode cX2_read 74 = .ok (.ifCond .ne 14, 3) := dk_154 0 14 (dk_at dksX2_read_3 3 rfl rfl)
theorem dX2_read_77 : decode cX2_read 77 = .ok (.aload_n 0, 1) := dk_42 (dk_at dksX2_read_3 6 rfl rfl)
theorem dX2_read_78 : decode cX2_read 78 = .ok (.getfield 91, 3) := dk_180 0 91 (dk_at dksX2_read_3 7 rfl rfl)
theorem dX2_read_81 : decode cX2_read 81 = .ok (.aload_n 0, 1) := dk_42 (dk_at dksX2_read_3 10 rfl rfl)
theorem dX2_read_82 : decode cX2_read 82 = .ok (.getfield 80, 3) := dk_180 0 80 (dk_at dksX2_read_3 11 rfl rfl)
theorem dX2_read_85 : decode cX2_read 85 = .ok (.if_icmp .ge 7, 3) := dk_162 0 7 (dk_at dksX2_read_3 14 rfl rfl)
theorem dX2_read_88 : decode cX2_read 88 = .ok (.iconst 1, 1) := dk_4 (dk_at dksX2_read_3 17 rfl rfl)
theorem dX2_read_89 : decode cX2_read 89 = .ok (.goto 4, 3) := dk_167 0 4 (dk_at dksX2_read_3 18 rfl rfl)
theorem dX2_read_92 : decode cX2_read 92 = .ok (.iconst 0, 1) := dk_3 (dk_at dksX2_read_3 21 rfl rfl)
theorem dX2_read_93 : decode cX2_read 93 = .ok (.putfield 94, 3) := dk_181 0 94 (dk_at dksX2_read_4 0 rfl rfl)
theorem dX2_read_96 : decode cX2_read 96 = .ok (.aload_n 0, 1) := dk_42 (dk_at dksX2_read_4 3 rfl rfl)
theorem dX2_read_97 : decode cX2_read 97 = .ok (.iconst 0, 1) := dk_3 (dk_at dksX2_read_4 4 rfl rfl)
theorem dX2_read_98 : decode cX2_read 98 = .ok (.putfield 80, 3) := dk_181 0 80 (dk_at dksX2_read_4 5 rfl rfl)
theorem dX2_read_101 : decode cX2_read 101 = .ok (.aload_n 0, 1) := dk_42 (dk_at dksX2_read_4 8 rfl rfl)
theorem dX2_read_102 : decode cX2_read 102 = .ok (.getfield 94, 3) := dk_180 0 94 (dk_at dksX2_read_4 9 rfl rfl)
theorem dX2_read_105 : decode cX2_read 105 = .ok (.ifCond .eq 11, 3) := dk_153 0 11 (dk_at dksX2_read_4 12 rfl rfl)
theorem dX2_read_108 : decode cX2_read 108 = .ok (.bipush (-2), 2) := dk_16 254 (dk_at dksX2_read_4 15 rfl rfl)
theorem dX2_read_110 : decode cX2_read 110 = .ok (.aload_n 0, 1) := dk_42 (dk_at dksX2_read_4 17 rfl rfl)
theorem dX2_read_111 : decode cX2_read 111 = .ok (.getfield 91, 3) := dk_180 0 91 (dk_at dksX2_read_4 18 rfl rfl)
theorem dX2_read_114 : decode cX2_read 114 = .ok (.isub, 1) := dk_100 (dk_at dksX2_read_4 21 rfl rfl)
theorem dX2_read_115 : decode cX2_read 115 = .ok (.ireturn, 1) := dk_172 (dk_at dksX2_read_4 22 rfl rfl)
theorem dX2_read_116 : decode cX2_read 116 = .ok (.aload_n 0, 1) := dk_42 (dk_at dksX2_read_4 23 rfl rfl)
theorem dX2_read_117 : decode cX2_read 117 = .ok (.dup, 1) := dk_89 (dk_at dksX2_read_5 0 rfl rfl)
theorem dX2_read_118 : decode cX2_read 118 = .ok (.getfield 102, 3) := dk_180 0 102 (dk_at dksX2_read_5 1 rfl rfl)
theorem dX2_read_121 : decode cX2_read 121 = .ok (.iconst 1, 1) := dk_4 (dk_at dksX2_read_5 4 rfl rfl)
theorem dX2_read_122 : decode cX2_read 122 = .ok (.iadd, 1) := dk_96 (dk_at dksX2_read_5 5 rfl rfl)
theorem dX2_read_123 : decode cX2_read 123 = .ok (.putfield 102, 3) := dk_181 0 102 (dk_at dksX2_read_5 6 rfl rfl)
theorem dX2_read_126 : decode cX2_read 126 = .ok (.aload_n 0, 1) := dk_42 (dk_at dksX2_read_5 9 rfl rfl)
theorem dX2_read_127 : decode cX2_read 127 = .ok (.getfield 102, 3) := dk_180 0 102 (dk_at dksX2_read_5 10 rfl rfl)
theorem dX2_read_130 : decode cX2_read 130 = .ok (.iconst 1, 1) := dk_4 (dk_at dksX2_read_5 13 rfl rfl)
theorem dX2_read_131 : decode cX2_read 131 = .ok (.isub, 1) := dk_100 (dk_at dksX2_read_5 14 rfl rfl)
theorem dX2_read_132 : decode cX2_read 132 = .ok (.ireturn, 1) := dk_172 (dk_at dksX2_read_5 15 rfl rfl)
abbrev cX2_reads : ByteArray := prog_15_method_17_code
def yX2_reads : MethodName := ⟨RX2, "reads", "(I)I"⟩
def dkwX2_reads_4 : List UInt8 := [167, 255, 211, 28, 172]
abbrev dktX2_reads_4 : List UInt8 := dkwX2_reads_4 ++ []
def dkwX2_reads_3 : List UInt8 := [27, 6, 160, 0, 7, 7, 167, 0, 4, 5, 182, 0, 123, 54, 4, 42, 27, 28, 21, 4, 182, 0, 109, 61]
abbrev dktX2_reads_3 : List UInt8 := dkwX2_reads_3 ++ dktX2_reads_4
def dkwX2_reads_2 : List UInt8 := [16, 38, 62, 42, 29, 182, 0, 113, 153, 0, 43, 27, 5, 160, 0, 10, 42, 182, 0, 117, 167, 0, 17, 42]
abbrev dktX2_reads_2 : List UInt8 := dkwX2_reads_2 ++ dktX2_reads_3
def dkwX2_reads_1 : List UInt8 := [182, 0, 123, 61, 27, 6, 160, 0, 8, 16, 124, 167, 0, 15, 27, 7, 160, 0, 8, 16, 94, 167, 0, 5]
abbrev dktX2_reads_1 : List UInt8 := dkwX2_reads_1 ++ dktX2_reads_2
def dkwX2_reads_0 : List UInt8 := [27, 5, 160, 0, 10, 42, 182, 0, 117, 167, 0, 17, 42, 27, 6, 160, 0, 7, 7, 167, 0, 4, 5]
abbrev dktX2_reads_0 : List UInt8 := dkwX2_reads_0 ++ dktX2_reads_1
theorem dksX2_reads_0 : cX2_reads.data.toList.drop 0 = dktX2_reads_0 := by decide +kernel
theorem dksX2_reads_1 : cX2_reads.data.toList.drop 23 = dktX2_reads_1 := dk_seg dksX2_reads_0 23 rfl rfl
theorem dksX2_reads_2 : cX2_reads.data.toList.drop 47 = dktX2_reads_2 := dk_seg dksX2_reads_1 24 rfl rfl
theorem dksX2_reads_3 : cX2_reads.data.toList.drop 71 = dktX2_reads_3 := dk_seg dksX2_reads_2 24 rfl rfl
theorem dksX2_reads_4 : cX2_reads.data.toList.drop 95 = dktX2_reads_4 := dk_seg dksX2_reads_3 24 rfl rfl
theorem dX2_reads_0 : decode cX2_reads 0 = .ok (.iload_n 1, 1) := dk_27 (dk_at dksX2_reads_0 0 rfl rfl)
theorem dX2_reads_1 : decode cX2_reads 1 = .ok (.iconst 2, 1) := dk_5 (dk_at dksX2_reads_0 1 rfl rfl)
theorem dX2_reads_2 : decode cX2_reads 2 = .ok (.if_icmp .ne 10, 3) := dk_160 0 10 (dk_at dksX2_reads_0 2 rfl rfl)
theorem dX2_reads_5 : decode cX2_reads 5 = .ok (.aload_n 0, 1) := dk_42 (dk_at dksX2_reads_0 5 rfl rfl)
theorem dX2_reads_6 : decode cX2_reads 6 = .ok (.invokevirtual 117, 3) := dk_182 0 117 (dk_at dksX2_reads_0 6 rfl rfl)
theorem dX2_reads_9 : decode cX2_reads 9 = .ok (.goto 17, 3) := dk_167 0 17 (dk_at dksX2_reads_0 9 rfl rfl)
theorem dX2_reads_12 : decode cX2_reads 12 = .ok (.aload_n 0, 1) := dk_42 (dk_at dksX2_reads_0 12 rfl rfl)
theorem dX2_reads_13 : decode cX2_reads 13 = .ok (.iload_n 1, 1) := dk_27 (dk_at dksX2_reads_0 13 rfl rfl)
theorem dX2_reads_14 : decode cX2_reads 14 = .ok (.iconst 3, 1) := dk_6 (dk_at dksX2_reads_0 14 rfl rfl)
theorem dX2_reads_15 : decode cX2_reads 15 = .ok (.if_icmp .ne 7, 3) := dk_160 0 7 (dk_at dksX2_reads_0 15 rfl rfl)
theorem dX2_reads_18 : decode cX2_reads 18 = .ok (.iconst 4, 1) := dk_7 (dk_at dksX2_reads_0 18 rfl rfl)
theorem dX2_reads_19 : decode cX2_reads 19 = .ok (.goto 4, 3) := dk_167 0 4 (dk_at dksX2_reads_0 19 rfl rfl)
theorem dX2_reads_22 : decode cX2_reads 22 = .ok (.iconst 2, 1) := dk_5 (dk_at dksX2_reads_0 22 rfl rfl)
theorem dX2_reads_23 : decode cX2_reads 23 = .ok (.invokevirtual 123, 3) := dk_182 0 123 (dk_at dksX2_reads_1 0 rfl rfl)
theorem dX2_reads_26 : decode cX2_reads 26 = .ok (.istore_n 2, 1) := dk_61 (dk_at dksX2_reads_1 3 rfl rfl)
theorem dX2_reads_27 : decode cX2_reads 27 = .ok (.iload_n 1, 1) := dk_27 (dk_at dksX2_reads_1 4 rfl rfl)
theorem dX2_reads_28 : decode cX2_reads 28 = .ok (.iconst 3, 1) := dk_6 (dk_at dksX2_reads_1 5 rfl rfl)
theorem dX2_reads_29 : decode cX2_reads 29 = .ok (.if_icmp .ne 8, 3) := dk_160 0 8 (dk_at dksX2_reads_1 6 rfl rfl)
theorem dX2_reads_32 : decode cX2_reads 32 = .ok (.bipush 124, 2) := dk_16 124 (dk_at dksX2_reads_1 9 rfl rfl)
theorem dX2_reads_34 : decode cX2_reads 34 = .ok (.goto 15, 3) := dk_167 0 15 (dk_at dksX2_reads_1 11 rfl rfl)
theorem dX2_reads_37 : decode cX2_reads 37 = .ok (.iload_n 1, 1) := dk_27 (dk_at dksX2_reads_1 14 rfl rfl)
theorem dX2_reads_38 : decode cX2_reads 38 = .ok (.iconst 4, 1) := dk_7 (dk_at dksX2_reads_1 15 rfl rfl)
theorem dX2_reads_39 : decode cX2_reads 39 = .ok (.if_icmp .ne 8, 3) := dk_160 0 8 (dk_at dksX2_reads_1 16 rfl rfl)
theorem dX2_reads_42 : decode cX2_reads 42 = .ok (.bipush 94, 2) := dk_16 94 (dk_at dksX2_reads_1 19 rfl rfl)
theorem dX2_reads_44 : decode cX2_reads 44 = .ok (.goto 5, 3) := dk_167 0 5 (dk_at dksX2_reads_1 21 rfl rfl)
theorem dX2_reads_47 : decode cX2_reads 47 = .ok (.bipush 38, 2) := dk_16 38 (dk_at dksX2_reads_2 0 rfl rfl)
theorem dX2_reads_49 : decode cX2_reads 49 = .ok (.istore_n 3, 1) := dk_62 (dk_at dksX2_reads_2 2 rfl rfl)
theorem dX2_reads_50 : decode cX2_reads 50 = .ok (.aload_n 0, 1) := dk_42 (dk_at dksX2_reads_2 3 rfl rfl)
theorem dX2_reads_51 : decode cX2_reads 51 = .ok (.iload_n 3, 1) := dk_29 (dk_at dksX2_reads_2 4 rfl rfl)
theorem dX2_reads_52 : decode cX2_reads 52 = .ok (.invokevirtual 113, 3) := dk_182 0 113 (dk_at dksX2_reads_2 5 rfl rfl)
theorem dX2_reads_55 : decode cX2_reads 55 = .ok (.ifCond .eq 43, 3) := dk_153 0 43 (dk_at dksX2_reads_2 8 rfl rfl)
theorem dX2_reads_58 : decode cX2_reads 58 = .ok (.iload_n 1, 1) := dk_27 (dk_at dksX2_reads_2 11 rfl rfl)
theorem dX2_reads_59 : decode cX2_reads 59 = .ok (.iconst 2, 1) := dk_5 (dk_at dksX2_reads_2 12 rfl rfl)
theorem dX2_reads_60 : decode cX2_reads 60 = .ok (.if_icmp .ne 10, 3) := dk_160 0 10 (dk_at dksX2_reads_2 13 rfl rfl)
theorem dX2_reads_63 : decode cX2_reads 63 = .ok (.aload_n 0, 1) := dk_42 (dk_at dksX2_reads_2 16 rfl rfl)
theorem dX2_reads_64 : decode cX2_reads 64 = .ok (.invokevirtual 117, 3) := dk_182 0 117 (dk_at dksX2_reads_2 17 rfl rfl)
theorem dX2_reads_67 : decode cX2_reads 67 = .ok (.goto 17, 3) := dk_167 0 17 (dk_at dksX2_reads_2 20 rfl rfl)
theorem dX2_reads_70 : decode cX2_reads 70 = .ok (.aload_n 0, 1) := dk_42 (dk_at dksX2_reads_2 23 rfl rfl)
theorem dX2_reads_71 : decode cX2_reads 71 = .ok (.iload_n 1, 1) := dk_27 (dk_at dksX2_reads_3 0 rfl rfl)
theorem dX2_reads_72 : decode cX2_reads 72 = .ok (.iconst 3, 1) := dk_6 (dk_at dksX2_reads_3 1 rfl rfl)
theorem dX2_reads_73 : decode cX2_reads 73 = .ok (.if_icmp .ne 7, 3) := dk_160 0 7 (dk_at dksX2_reads_3 2 rfl rfl)
theorem dX2_reads_76 : decode cX2_reads 76 = .ok (.iconst 4, 1) := dk_7 (dk_at dksX2_reads_3 5 rfl rfl)
theorem dX2_reads_77 : decode cX2_reads 77 = .ok (.goto 4, 3) := dk_167 0 4 (dk_at dksX2_reads_3 6 rfl rfl)
theorem dX2_reads_80 : decode cX2_reads 80 = .ok (.iconst 2, 1) := dk_5 (dk_at dksX2_reads_3 9 rfl rfl)
theorem dX2_reads_81 : decode cX2_reads 81 = .ok (.invokevirtual 123, 3) := dk_182 0 123 (dk_at dksX2_reads_3 10 rfl rfl)
theorem dX2_reads_84 : decode cX2_reads 84 = .ok (.istore 4, 2) := dk_54 4 (dk_at dksX2_reads_3 13 rfl rfl)
theorem dX2_reads_86 : decode cX2_reads 86 = .ok (.aload_n 0, 1) := dk_42 (dk_at dksX2_reads_3 15 rfl rfl)
theorem dX2_reads_87 : decode cX2_reads 87 = .ok (.iload_n 1, 1) := dk_27 (dk_at dksX2_reads_3 16 rfl rfl)
theorem dX2_reads_88 : decode cX2_reads 88 = .ok (.iload_n 2, 1) := dk_28 (dk_at dksX2_reads_3 17 rfl rfl)
theorem dX2_reads_89 : decode cX2_reads 89 = .ok (.iload 4, 2) := dk_21 4 (dk_at dksX2_reads_3 18 rfl rfl)
theorem dX2_reads_91 : decode cX2_reads 91 = .ok (.invokevirtual 109, 3) := dk_182 0 109 (dk_at dksX2_reads_3 20 rfl rfl)
theorem dX2_reads_94 : decode cX2_reads 94 = .ok (.istore_n 2, 1) := dk_61 (dk_at dksX2_reads_3 23 rfl rfl)
theorem dX2_reads_95 : decode cX2_reads 95 = .ok (.goto (-45), 3) := dk_167 255 211 (dk_at dksX2_reads_4 0 rfl rfl)
theorem dX2_reads_98 : decode cX2_reads 98 = .ok (.iload_n 2, 1) := dk_28 (dk_at dksX2_reads_4 3 rfl rfl)
theorem dX2_reads_99 : decode cX2_reads 99 = .ok (.ireturn, 1) := dk_172 (dk_at dksX2_reads_4 4 rfl rfl)
abbrev cX2_readsOne : ByteArray := prog_15_method_16_code
def yX2_readsOne : MethodName := ⟨RX2, "readsOne", "()I"⟩
def dkwX2_readsOne_3 : List UInt8 := [180, 0, 91, 42, 180, 0, 94, 153, 0, 7, 3, 167, 0, 4, 4, 96, 181, 0, 91, 27, 172]
abbrev dktX2_readsOne_3 : List UInt8 := dkwX2_readsOne_3 ++ []
def dkwX2_readsOne_2 : List UInt8 := [154, 0, 12, 42, 182, 0, 98, 16, 41, 159, 0, 7, 4, 167, 0, 4, 3, 181, 0, 94, 42, 89]
abbrev dktX2_readsOne_2 : List UInt8 := dkwX2_readsOne_2 ++ dktX2_readsOne_3
def dkwX2_readsOne_1 : List UInt8 := [182, 0, 113, 154, 0, 8, 42, 182, 0, 120, 172, 42, 6, 182, 0, 123, 60, 42, 42, 180, 0, 94]
abbrev dktX2_readsOne_1 : List UInt8 := dkwX2_readsOne_1 ++ dktX2_readsOne_2
def dkwX2_readsOne_0 : List UInt8 := [42, 16, 33, 182, 0, 113, 153, 0, 14, 42, 4, 42, 182, 0, 117, 3, 182, 0, 109, 172, 42, 16, 40]
abbrev dktX2_readsOne_0 : List UInt8 := dkwX2_readsOne_0 ++ dktX2_readsOne_1
theorem dksX2_readsOne_0 : cX2_readsOne.data.toList.drop 0 = dktX2_readsOne_0 := by decide +kernel
theorem dksX2_readsOne_1 : cX2_readsOne.data.toList.drop 23 = dktX2_readsOne_1 := dk_seg dksX2_readsOne_0 23 rfl rfl
theorem dksX2_readsOne_2 : cX2_readsOne.data.toList.drop 45 = dktX2_readsOne_2 := dk_seg dksX2_readsOne_1 22 rfl rfl
theorem dksX2_readsOne_3 : cX2_readsOne.data.toList.drop 67 = dktX2_readsOne_3 := dk_seg dksX2_readsOne_2 22 rfl rfl
theorem dX2_readsOne_0 : decode cX2_readsOne 0 = .ok (.aload_n 0, 1) := dk_42 (dk_at dksX2_readsOne_0 0 rfl rfl)
theorem dX2_readsOne_1 : decode cX2_readsOne 1 = .ok (.bipush 33, 2) := dk_16 33 (dk_at dksX2_readsOne_0 1 rfl rfl)
theorem dX2_readsOne_3 : decode cX2_readsOne 3 = .ok (.invokevirtual 113, 3) := dk_182 0 113 (dk_at dksX2_readsOne_0 3 rfl rfl)
theorem dX2_readsOne_6 : decode cX2_readsOne 6 = .ok (.ifCond .eq 14, 3) := dk_153 0 14 (dk_at dksX2_readsOne_0 6 rfl rfl)
theorem dX2_readsOne_9 : decode cX2_readsOne 9 = .ok (.aload_n 0, 1) := dk_42 (dk_at dksX2_readsOne_0 9 rfl rfl)
theorem dX2_readsOne_10 : decode cX2_readsOne 10 = .ok (.iconst 1, 1) := dk_4 (dk_at dksX2_readsOne_0 10 rfl rfl)
theorem dX2_readsOne_11 : decode cX2_readsOne 11 = .ok (.aload_n 0, 1) := dk_42 (dk_at dksX2_readsOne_0 11 rfl rfl)
theorem dX2_readsOne_12 : decode cX2_readsOne 12 = .ok (.invokevirtual 117, 3) := dk_182 0 117 (dk_at dksX2_readsOne_0 12 rfl rfl)
theorem dX2_readsOne_15 : decode cX2_readsOne 15 = .ok (.iconst 0, 1) := dk_3 (dk_at dksX2_readsOne_0 15 rfl rfl)
theorem dX2_readsOne_16 : decode cX2_readsOne 16 = .ok (.invokevirtual 109, 3) := dk_182 0 109 (dk_at dksX2_readsOne_0 16 rfl rfl)
theorem dX2_readsOne_19 : decode cX2_readsOne 19 = .ok (.ireturn, 1) := dk_172 (dk_at dksX2_readsOne_0 19 rfl rfl)
theorem dX2_readsOne_20 : decode cX2_readsOne 20 = .ok (.aload_n 0, 1) := dk_42 (dk_at dksX2_readsOne_0 20 rfl rfl)
theorem dX2_readsOne_21 : decode cX2_readsOne 21 = .ok (.bipush 40, 2) := dk_16 40 (dk_at dksX2_readsOne_0 21 rfl rfl)
theorem dX2_readsOne_23 : decode cX2_readsOne 23 = .ok (.invokevirtual 113, 3) := dk_182 0 113 (dk_at dksX2_readsOne_1 0 rfl rfl)
theorem dX2_readsOne_26 : decode cX2_readsOne 26 = .ok (.ifCond .ne 8, 3) := dk_154 0 8 (dk_at dksX2_readsOne_1 3 rfl rfl)
theorem dX2_readsOne_29 : decode cX2_readsOne 29 = .ok (.aload_n 0, 1) := dk_42 (dk_at dksX2_readsOne_1 6 rfl rfl)
theorem dX2_readsOne_30 : decode cX2_readsOne 30 = .ok (.invokevirtual 120, 3) := dk_182 0 120 (dk_at dksX2_readsOne_1 7 rfl rfl)
theorem dX2_readsOne_33 : decode cX2_readsOne 33 = .ok (.ireturn, 1) := dk_172 (dk_at dksX2_readsOne_1 10 rfl rfl)
theorem dX2_readsOne_34 : decode cX2_readsOne 34 = .ok (.aload_n 0, 1) := dk_42 (dk_at dksX2_readsOne_1 11 rfl rfl)
theorem dX2_readsOne_35 : decode cX2_readsOne 35 = .ok (.iconst 3, 1) := dk_6 (dk_at dksX2_readsOne_1 12 rfl rfl)
theorem dX2_readsOne_36 : decode cX2_readsOne 36 = .ok (.invokevirtual 123, 3) := dk_182 0 123 (dk_at dksX2_readsOne_1 13 rfl rfl)
theorem dX2_readsOne_39 : decode cX2_readsOne 39 = .ok (.istore_n 1, 1) := dk_60 (dk_at dksX2_readsOne_1 16 rfl rfl)
theorem dX2_readsOne_40 : decode cX2_readsOne 40 = .ok (.aload_n 0, 1) := dk_42 (dk_at dksX2_readsOne_1 17 rfl rfl)
theorem dX2_readsOne_41 : decode cX2_readsOne 41 = .ok (.aload_n 0, 1) := dk_42 (dk_at dksX2_readsOne_1 18 rfl rfl)
theorem dX2_readsOne_42 : decode cX2_readsOne 42 = .ok (.getfield 94, 3) := dk_180 0 94 (dk_at dksX2_readsOne_1 19 rfl rfl)
theorem dX2_readsOne_45 : decode cX2_readsOne 45 = .ok (.ifCond .ne 12, 3) := dk_154 0 12 (dk_at dksX2_readsOne_2 0 rfl rfl)
theorem dX2_readsOne_48 : decode cX2_readsOne 48 = .ok (.aload_n 0, 1) := dk_42 (dk_at dksX2_readsOne_2 3 rfl rfl)
theorem dX2_readsOne_49 : decode cX2_readsOne 49 = .ok (.invokevirtual 98, 3) := dk_182 0 98 (dk_at dksX2_readsOne_2 4 rfl rfl)
theorem dX2_readsOne_52 : decode cX2_readsOne 52 = .ok (.bipush 41, 2) := dk_16 41 (dk_at dksX2_readsOne_2 7 rfl rfl)
theorem dX2_readsOne_54 : decode cX2_readsOne 54 = .ok (.if_icmp .eq 7, 3) := dk_159 0 7 (dk_at dksX2_readsOne_2 9 rfl rfl)
theorem dX2_readsOne_57 : decode cX2_readsOne 57 = .ok (.iconst 1, 1) := dk_4 (dk_at dksX2_readsOne_2 12 rfl rfl)
theorem dX2_readsOne_58 : decode cX2_readsOne 58 = .ok (.goto 4, 3) := dk_167 0 4 (dk_at dksX2_readsOne_2 13 rfl rfl)
theorem dX2_readsOne_61 : decode cX2_readsOne 61 = .ok (.iconst 0, 1) := dk_3 (dk_at dksX2_readsOne_2 16 rfl rfl)
theorem dX2_readsOne_62 : decode cX2_readsOne 62 = .ok (.putfield 94, 3) := dk_181 0 94 (dk_at dksX2_readsOne_2 17 rfl rfl)
theorem dX2_readsOne_65 : decode cX2_readsOne 65 = .ok (.aload_n 0, 1) := dk_42 (dk_at dksX2_readsOne_2 20 rfl rfl)
theorem dX2_readsOne_66 : decode cX2_readsOne 66 = .ok (.dup, 1) := dk_89 (dk_at dksX2_readsOne_2 21 rfl rfl)
theorem dX2_readsOne_67 : decode cX2_readsOne 67 = .ok (.getfield 91, 3) := dk_180 0 91 (dk_at dksX2_readsOne_3 0 rfl rfl)
theorem dX2_readsOne_70 : decode cX2_readsOne 70 = .ok (.aload_n 0, 1) := dk_42 (dk_at dksX2_readsOne_3 3 rfl rfl)
theorem dX2_readsOne_71 : decode cX2_readsOne 71 = .ok (.getfield 94, 3) := dk_180 0 94 (dk_at dksX2_readsOne_3 4 rfl rfl)
theorem dX2_readsOne_74 : decode cX2_readsOne 74 = .ok (.ifCond .eq 7, 3) := dk_153 0 7 (dk_at dksX2_readsOne_3 7 rfl rfl)
theorem dX2_readsOne_77 : decode cX2_readsOne 77 = .ok (.iconst 0, 1) := dk_3 (dk_at dksX2_readsOne_3 10 rfl rfl)
theorem dX2_readsOne_78 : decode cX2_readsOne 78 = .ok (.goto 4, 3) := dk_167 0 4 (dk_at dksX2_readsOne_3 11 rfl rfl)
theorem dX2_readsOne_81 : decode cX2_readsOne 81 = .ok (.iconst 1, 1) := dk_4 (dk_at dksX2_readsOne_3 14 rfl rfl)
theorem dX2_readsOne_82 : decode cX2_readsOne 82 = .ok (.iadd, 1) := dk_96 (dk_at dksX2_readsOne_3 15 rfl rfl)
theorem dX2_readsOne_83 : decode cX2_readsOne 83 = .ok (.putfield 91, 3) := dk_181 0 91 (dk_at dksX2_readsOne_3 16 rfl rfl)
theorem dX2_readsOne_86 : decode cX2_readsOne 86 = .ok (.iload_n 1, 1) := dk_27 (dk_at dksX2_readsOne_3 19 rfl rfl)
theorem dX2_readsOne_87 : decode cX2_readsOne 87 = .ok (.ireturn, 1) := dk_172 (dk_at dksX2_readsOne_3 20 rfl rfl)
abbrev cX2_takes : ByteArray := prog_15_method_13_code
def yX2_takes : MethodName := ⟨RX2, "takes", "(I)Z"⟩
def dkwX2_takes_1 : List UInt8 := [180, 0, 91, 28, 153, 0, 7, 4, 167, 0, 4, 3, 96, 181, 0, 91, 28, 172]
abbrev dktX2_takes_1 : List UInt8 := dkwX2_takes_1 ++ []
def dkwX2_takes_0 : List UInt8 := [42, 180, 0, 94, 154, 0, 15, 42, 182, 0, 98, 27, 160, 0, 7, 4, 167, 0, 4, 3, 61, 42, 89]
abbrev dktX2_takes_0 : List UInt8 := dkwX2_takes_0 ++ dktX2_takes_1
theorem dksX2_takes_0 : cX2_takes.data.toList.drop 0 = dktX2_takes_0 := by decide +kernel
theorem dksX2_takes_1 : cX2_takes.data.toList.drop 23 = dktX2_takes_1 := dk_seg dksX2_takes_0 23 rfl rfl
theorem dX2_takes_0 : decode cX2_takes 0 = .ok (.aload_n 0, 1) := dk_42 (dk_at dksX2_takes_0 0 rfl rfl)
theorem dX2_takes_1 : decode cX2_takes 1 = .ok (.getfield 94, 3) := dk_180 0 94 (dk_at dksX2_takes_0 1 rfl rfl)
theorem dX2_takes_4 : decode cX2_takes 4 = .ok (.ifCond .ne 15, 3) := dk_154 0 15 (dk_at dksX2_takes_0 4 rfl rfl)
theorem dX2_takes_7 : decode cX2_takes 7 = .ok (.aload_n 0, 1) := dk_42 (dk_at dksX2_takes_0 7 rfl rfl)
theorem dX2_takes_8 : decode cX2_takes 8 = .ok (.invokevirtual 98, 3) := dk_182 0 98 (dk_at dksX2_takes_0 8 rfl rfl)
theorem dX2_takes_11 : decode cX2_takes 11 = .ok (.iload_n 1, 1) := dk_27 (dk_at dksX2_takes_0 11 rfl rfl)
theorem dX2_takes_12 : decode cX2_takes 12 = .ok (.if_icmp .ne 7, 3) := dk_160 0 7 (dk_at dksX2_takes_0 12 rfl rfl)
theorem dX2_takes_15 : decode cX2_takes 15 = .ok (.iconst 1, 1) := dk_4 (dk_at dksX2_takes_0 15 rfl rfl)
theorem dX2_takes_16 : decode cX2_takes 16 = .ok (.goto 4, 3) := dk_167 0 4 (dk_at dksX2_takes_0 16 rfl rfl)
theorem dX2_takes_19 : decode cX2_takes 19 = .ok (.iconst 0, 1) := dk_3 (dk_at dksX2_takes_0 19 rfl rfl)
theorem dX2_takes_20 : decode cX2_takes 20 = .ok (.istore_n 2, 1) := dk_61 (dk_at dksX2_takes_0 20 rfl rfl)
theorem dX2_takes_21 : decode cX2_takes 21 = .ok (.aload_n 0, 1) := dk_42 (dk_at dksX2_takes_0 21 rfl rfl)
theorem dX2_takes_22 : decode cX2_takes 22 = .ok (.dup, 1) := dk_89 (dk_at dksX2_takes_0 22 rfl rfl)
theorem dX2_takes_23 : decode cX2_takes 23 = .ok (.getfield 91, 3) := dk_180 0 91 (dk_at dksX2_takes_1 0 rfl rfl)
theorem dX2_takes_26 : decode cX2_takes 26 = .ok (.iload_n 2, 1) := dk_28 (dk_at dksX2_takes_1 3 rfl rfl)
theorem dX2_takes_27 : decode cX2_takes 27 = .ok (.ifCond .eq 7, 3) := dk_153 0 7 (dk_at dksX2_takes_1 4 rfl rfl)
theorem dX2_takes_30 : decode cX2_takes 30 = .ok (.iconst 1, 1) := dk_4 (dk_at dksX2_takes_1 7 rfl rfl)
theorem dX2_takes_31 : decode cX2_takes 31 = .ok (.goto 4, 3) := dk_167 0 4 (dk_at dksX2_takes_1 8 rfl rfl)
theorem dX2_takes_34 : decode cX2_takes 34 = .ok (.iconst 0, 1) := dk_3 (dk_at dksX2_takes_1 11 rfl rfl)
theorem dX2_takes_35 : decode cX2_takes 35 = .ok (.iadd, 1) := dk_96 (dk_at dksX2_takes_1 12 rfl rfl)
theorem dX2_takes_36 : decode cX2_takes 36 = .ok (.putfield 91, 3) := dk_181 0 91 (dk_at dksX2_takes_1 13 rfl rfl)
theorem dX2_takes_39 : decode cX2_takes 39 = .ok (.iload_n 2, 1) := dk_28 (dk_at dksX2_takes_1 16 rfl rfl)
theorem dX2_takes_40 : decode cX2_takes 40 = .ok (.ireturn, 1) := dk_172 (dk_at dksX2_takes_1 17 rfl rfl)
abbrev cX2_next : ByteArray := prog_15_method_12_code
def yX2_next : MethodName := ⟨RX2, "next", "()I"⟩
def dkwX2_next_1 : List UInt8 := [172]
abbrev dktX2_next_1 : List UInt8 := dkwX2_next_1 ++ []
def dkwX2_next_0 : List UInt8 := [42, 180, 0, 91, 42, 180, 0, 80, 162, 0, 15, 42, 180, 0, 9, 42, 180, 0, 91, 46, 167, 0, 4, 2]
abbrev dktX2_next_0 : List UInt8 := dkwX2_next_0 ++ dktX2_next_1
theorem dksX2_next_0 : cX2_next.data.toList.drop 0 = dktX2_next_0 := by decide +kernel
theorem dksX2_next_1 : cX2_next.data.toList.drop 24 = dktX2_next_1 := dk_seg dksX2_next_0 24 rfl rfl
theorem dX2_next_0 : decode cX2_next 0 = .ok (.aload_n 0, 1) := dk_42 (dk_at dksX2_next_0 0 rfl rfl)
theorem dX2_next_1 : decode cX2_next 1 = .ok (.getfield 91, 3) := dk_180 0 91 (dk_at dksX2_next_0 1 rfl rfl)
theorem dX2_next_4 : decode cX2_next 4 = .ok (.aload_n 0, 1) := dk_42 (dk_at dksX2_next_0 4 rfl rfl)
theorem dX2_next_5 : decode cX2_next 5 = .ok (.getfield 80, 3) := dk_180 0 80 (dk_at dksX2_next_0 5 rfl rfl)
theorem dX2_next_8 : decode cX2_next 8 = .ok (.if_icmp .ge 15, 3) := dk_162 0 15 (dk_at dksX2_next_0 8 rfl rfl)
theorem dX2_next_11 : decode cX2_next 11 = .ok (.aload_n 0, 1) := dk_42 (dk_at dksX2_next_0 11 rfl rfl)
theorem dX2_next_12 : decode cX2_next 12 = .ok (.getfield 9, 3) := dk_180 0 9 (dk_at dksX2_next_0 12 rfl rfl)
theorem dX2_next_15 : decode cX2_next 15 = .ok (.aload_n 0, 1) := dk_42 (dk_at dksX2_next_0 15 rfl rfl)
theorem dX2_next_16 : decode cX2_next 16 = .ok (.getfield 91, 3) := dk_180 0 91 (dk_at dksX2_next_0 16 rfl rfl)
theorem dX2_next_19 : decode cX2_next 19 = .ok (.iaload, 1) := dk_46 (dk_at dksX2_next_0 19 rfl rfl)
theorem dX2_next_20 : decode cX2_next 20 = .ok (.goto 4, 3) := dk_167 0 4 (dk_at dksX2_next_0 20 rfl rfl)
theorem dX2_next_23 : decode cX2_next 23 = .ok (.iconst (-1), 1) := dk_2 (dk_at dksX2_next_0 23 rfl rfl)
theorem dX2_next_24 : decode cX2_next 24 = .ok (.ireturn, 1) := dk_172 (dk_at dksX2_next_1 0 rfl rfl)
abbrev cX2_makes : ByteArray := prog_15_method_14_code
def yX2_makes : MethodName := ⟨RX2, "makes", "(III)I"⟩
def dkwX2_makes_3 : List UInt8 := [79, 42, 180, 0, 22, 21, 4, 92, 46, 4, 96, 79, 42, 180, 0, 22, 21, 4, 46, 4, 100, 172]
abbrev dktX2_makes_3 : List UInt8 := dkwX2_makes_3 ++ []
def dkwX2_makes_2 : List UInt8 := [21, 4, 46, 96, 28, 79, 42, 180, 0, 19, 21, 4, 16, 40, 104, 42, 180, 0, 22, 21, 4, 46, 96, 29]
abbrev dktX2_makes_2 : List UInt8 := dkwX2_makes_2 ++ dktX2_makes_3
def dkwX2_makes_1 : List UInt8 := [42, 180, 0, 22, 21, 4, 46, 96, 27, 79, 42, 180, 0, 16, 21, 4, 16, 40, 104, 42, 180, 0, 22]
abbrev dktX2_makes_1 : List UInt8 := dkwX2_makes_1 ++ dktX2_makes_2
def dkwX2_makes_0 : List UInt8 := [42, 180, 0, 102, 54, 4, 42, 180, 0, 94, 153, 0, 5, 3, 172, 42, 180, 0, 13, 21, 4, 16, 40, 104]
abbrev dktX2_makes_0 : List UInt8 := dkwX2_makes_0 ++ dktX2_makes_1
theorem dksX2_makes_0 : cX2_makes.data.toList.drop 0 = dktX2_makes_0 := by decide +kernel
theorem dksX2_makes_1 : cX2_makes.data.toList.drop 24 = dktX2_makes_1 := dk_seg dksX2_makes_0 24 rfl rfl
theorem dksX2_makes_2 : cX2_makes.data.toList.drop 47 = dktX2_makes_2 := dk_seg dksX2_makes_1 23 rfl rfl
theorem dksX2_makes_3 : cX2_makes.data.toList.drop 71 = dktX2_makes_3 := dk_seg dksX2_makes_2 24 rfl rfl
theorem dX2_makes_0 : decode cX2_makes 0 = .ok (.aload_n 0, 1) := dk_42 (dk_at dksX2_makes_0 0 rfl rfl)
theorem dX2_makes_1 : decode cX2_makes 1 = .ok (.getfield 102, 3) := dk_180 0 102 (dk_at dksX2_makes_0 1 rfl rfl)
theorem dX2_makes_4 : decode cX2_makes 4 = .ok (.istore 4, 2) := dk_54 4 (dk_at dksX2_makes_0 4 rfl rfl)
theorem dX2_makes_6 : decode cX2_makes 6 = .ok (.aload_n 0, 1) := dk_42 (dk_at dksX2_makes_0 6 rfl rfl)
theorem dX2_makes_7 : decode cX2_makes 7 = .ok (.getfield 94, 3) := dk_180 0 94 (dk_at dksX2_makes_0 7 rfl rfl)
theorem dX2_makes_10 : decode cX2_makes 10 = .ok (.ifCond .eq 5, 3) := dk_153 0 5 (dk_at dksX2_makes_0 10 rfl rfl)
theorem dX2_makes_13 : decode cX2_makes 13 = .ok (.iconst 0, 1) := dk_3 (dk_at dksX2_makes_0 13 rfl rfl)
theorem dX2_makes_14 : decode cX2_makes 14 = .ok (.ireturn, 1) := dk_172 (dk_at dksX2_makes_0 14 rfl rfl)
theorem dX2_makes_15 : decode cX2_makes 15 = .ok (.aload_n 0, 1) := dk_42 (dk_at dksX2_makes_0 15 rfl rfl)
theorem dX2_makes_16 : decode cX2_makes 16 = .ok (.getfield 13, 3) := dk_180 0 13 (dk_at dksX2_makes_0 16 rfl rfl)
theorem dX2_makes_19 : decode cX2_makes 19 = .ok (.iload 4, 2) := dk_21 4 (dk_at dksX2_makes_0 19 rfl rfl)
theorem dX2_makes_21 : decode cX2_makes 21 = .ok (.bipush 40, 2) := dk_16 40 (dk_at dksX2_makes_0 21 rfl rfl)
theorem dX2_makes_23 : decode cX2_makes 23 = .ok (.imul, 1) := dk_104 (dk_at dksX2_makes_0 23 rfl rfl)
theorem dX2_makes_24 : decode cX2_makes 24 = .ok (.aload_n 0, 1) := dk_42 (dk_at dksX2_makes_1 0 rfl rfl)
theorem dX2_makes_25 : decode cX2_makes 25 = .ok (.getfield 22, 3) := dk_180 0 22 (dk_at dksX2_makes_1 1 rfl rfl)
theorem dX2_makes_28 : decode cX2_makes 28 = .ok (.iload 4, 2) := dk_21 4 (dk_at dksX2_makes_1 4 rfl rfl)
theorem dX2_makes_30 : decode cX2_makes 30 = .ok (.iaload, 1) := dk_46 (dk_at dksX2_makes_1 6 rfl rfl)
theorem dX2_makes_31 : decode cX2_makes 31 = .ok (.iadd, 1) := dk_96 (dk_at dksX2_makes_1 7 rfl rfl)
theorem dX2_makes_32 : decode cX2_makes 32 = .ok (.iload_n 1, 1) := dk_27 (dk_at dksX2_makes_1 8 rfl rfl)
theorem dX2_makes_33 : decode cX2_makes 33 = .ok (.iastore, 1) := dk_79 (dk_at dksX2_makes_1 9 rfl rfl)
theorem dX2_makes_34 : decode cX2_makes 34 = .ok (.aload_n 0, 1) := dk_42 (dk_at dksX2_makes_1 10 rfl rfl)
theorem dX2_makes_35 : decode cX2_makes 35 = .ok (.getfield 16, 3) := dk_180 0 16 (dk_at dksX2_makes_1 11 rfl rfl)
theorem dX2_makes_38 : decode cX2_makes 38 = .ok (.iload 4, 2) := dk_21 4 (dk_at dksX2_makes_1 14 rfl rfl)
theorem dX2_makes_40 : decode cX2_makes 40 = .ok (.bipush 40, 2) := dk_16 40 (dk_at dksX2_makes_1 16 rfl rfl)
theorem dX2_makes_42 : decode cX2_makes 42 = .ok (.imul, 1) := dk_104 (dk_at dksX2_makes_1 18 rfl rfl)
theorem dX2_makes_43 : decode cX2_makes 43 = .ok (.aload_n 0, 1) := dk_42 (dk_at dksX2_makes_1 19 rfl rfl)
theorem dX2_makes_44 : decode cX2_makes 44 = .ok (.getfield 22, 3) := dk_180 0 22 (dk_at dksX2_makes_1 20 rfl rfl)
theorem dX2_makes_47 : decode cX2_makes 47 = .ok (.iload 4, 2) := dk_21 4 (dk_at dksX2_makes_2 0 rfl rfl)
theorem dX2_makes_49 : decode cX2_makes 49 = .ok (.iaload, 1) := dk_46 (dk_at dksX2_makes_2 2 rfl rfl)
theorem dX2_makes_50 : decode cX2_makes 50 = .ok (.iadd, 1) := dk_96 (dk_at dksX2_makes_2 3 rfl rfl)
theorem dX2_makes_51 : decode cX2_makes 51 = .ok (.iload_n 2, 1) := dk_28 (dk_at dksX2_makes_2 4 rfl rfl)
theorem dX2_makes_52 : decode cX2_makes 52 = .ok (.iastore, 1) := dk_79 (dk_at dksX2_makes_2 5 rfl rfl)
theorem dX2_makes_53 : decode cX2_makes 53 = .ok (.aload_n 0, 1) := dk_42 (dk_at dksX2_makes_2 6 rfl rfl)
theorem dX2_makes_54 : decode cX2_makes 54 = .ok (.getfield 19, 3) := dk_180 0 19 (dk_at dksX2_makes_2 7 rfl rfl)
theorem dX2_makes_57 : decode cX2_makes 57 = .ok (.iload 4, 2) := dk_21 4 (dk_at dksX2_makes_2 10 rfl rfl)
theorem dX2_makes_59 : decode cX2_makes 59 = .ok (.bipush 40, 2) := dk_16 40 (dk_at dksX2_makes_2 12 rfl rfl)
theorem dX2_makes_61 : decode cX2_makes 61 = .ok (.imul, 1) := dk_104 (dk_at dksX2_makes_2 14 rfl rfl)
theorem dX2_makes_62 : decode cX2_makes 62 = .ok (.aload_n 0, 1) := dk_42 (dk_at dksX2_makes_2 15 rfl rfl)
theorem dX2_makes_63 : decode cX2_makes 63 = .ok (.getfield 22, 3) := dk_180 0 22 (dk_at dksX2_makes_2 16 rfl rfl)
theorem dX2_makes_66 : decode cX2_makes 66 = .ok (.iload 4, 2) := dk_21 4 (dk_at dksX2_makes_2 19 rfl rfl)
theorem dX2_makes_68 : decode cX2_makes 68 = .ok (.iaload, 1) := dk_46 (dk_at dksX2_makes_2 21 rfl rfl)
theorem dX2_makes_69 : decode cX2_makes 69 = .ok (.iadd, 1) := dk_96 (dk_at dksX2_makes_2 22 rfl rfl)
theorem dX2_makes_70 : decode cX2_makes 70 = .ok (.iload_n 3, 1) := dk_29 (dk_at dksX2_makes_2 23 rfl rfl)
theorem dX2_makes_71 : decode cX2_makes 71 = .ok (.iastore, 1) := dk_79 (dk_at dksX2_makes_3 0 rfl rfl)
theorem dX2_makes_72 : decode cX2_makes 72 = .ok (.aload_n 0, 1) := dk_42 (dk_at dksX2_makes_3 1 rfl rfl)
theorem dX2_makes_73 : decode cX2_makes 73 = .ok (.getfield 22, 3) := dk_180 0 22 (dk_at dksX2_makes_3 2 rfl rfl)
theorem dX2_makes_76 : decode cX2_makes 76 = .ok (.iload 4, 2) := dk_21 4 (dk_at dksX2_makes_3 5 rfl rfl)
theorem dX2_makes_78 : decode cX2_makes 78 = .ok (.dup2, 1) := dk_92 (dk_at dksX2_makes_3 7 rfl rfl)
theorem dX2_makes_79 : decode cX2_makes 79 = .ok (.iaload, 1) := dk_46 (dk_at dksX2_makes_3 8 rfl rfl)
theorem dX2_makes_80 : decode cX2_makes 80 = .ok (.iconst 1, 1) := dk_4 (dk_at dksX2_makes_3 9 rfl rfl)
theorem dX2_makes_81 : decode cX2_makes 81 = .ok (.iadd, 1) := dk_96 (dk_at dksX2_makes_3 10 rfl rfl)
theorem dX2_makes_82 : decode cX2_makes 82 = .ok (.iastore, 1) := dk_79 (dk_at dksX2_makes_3 11 rfl rfl)
theorem dX2_makes_83 : decode cX2_makes 83 = .ok (.aload_n 0, 1) := dk_42 (dk_at dksX2_makes_3 12 rfl rfl)
theorem dX2_makes_84 : decode cX2_makes 84 = .ok (.getfield 22, 3) := dk_180 0 22 (dk_at dksX2_makes_3 13 rfl rfl)
theorem dX2_makes_87 : decode cX2_makes 87 = .ok (.iload 4, 2) := dk_21 4 (dk_at dksX2_makes_3 16 rfl rfl)
theorem dX2_makes_89 : decode cX2_makes 89 = .ok (.iaload, 1) := dk_46 (dk_at dksX2_makes_3 18 rfl rfl)
theorem dX2_makes_90 : decode cX2_makes 90 = .ok (.iconst 1, 1) := dk_4 (dk_at dksX2_makes_3 19 rfl rfl)
theorem dX2_makes_91 : decode cX2_makes 91 = .ok (.isub, 1) := dk_100 (dk_at dksX2_makes_3 20 rfl rfl)
theorem dX2_makes_92 : decode cX2_makes 92 = .ok (.ireturn, 1) := dk_172 (dk_at dksX2_makes_3 21 rfl rfl)
abbrev cX2_readsLetter : ByteArray := prog_15_method_15_code
def yX2_readsLetter : MethodName := ⟨RX2, "readsLetter", "()I"⟩
def dkwX2_readsLetter_4 : List UInt8 := [4, 96, 79, 42, 3, 42, 180, 0, 28, 27, 46, 4, 100, 3, 182, 0, 109, 172]
abbrev dktX2_readsLetter_4 : List UInt8 := dkwX2_readsLetter_4 ++ []
def dkwX2_readsLetter_3 : List UInt8 := [182, 0, 98, 16, 97, 100, 79, 42, 89, 180, 0, 91, 4, 96, 181, 0, 91, 42, 180, 0, 28, 27, 92, 46]
abbrev dktX2_readsLetter_3 : List UInt8 := dkwX2_readsLetter_3 ++ dktX2_readsLetter_4
def dkwX2_readsLetter_2 : List UInt8 := [180, 0, 94, 153, 0, 5, 3, 172, 42, 180, 0, 25, 27, 16, 8, 104, 42, 180, 0, 28, 27, 46, 96, 42]
abbrev dktX2_readsLetter_2 : List UInt8 := dkwX2_readsLetter_2 ++ dktX2_readsLetter_3
def dkwX2_readsLetter_1 : List UInt8 := [153, 0, 14, 42, 180, 0, 28, 27, 46, 16, 8, 160, 0, 7, 4, 167, 0, 4, 3, 181, 0, 94, 42]
abbrev dktX2_readsLetter_1 : List UInt8 := dkwX2_readsLetter_1 ++ dktX2_readsLetter_2
def dkwX2_readsLetter_0 : List UInt8 := [42, 180, 0, 102, 60, 42, 42, 180, 0, 94, 154, 0, 28, 42, 182, 0, 98, 16, 97, 16, 100, 184, 0, 105]
abbrev dktX2_readsLetter_0 : List UInt8 := dkwX2_readsLetter_0 ++ dktX2_readsLetter_1
theorem dksX2_readsLetter_0 : cX2_readsLetter.data.toList.drop 0 = dktX2_readsLetter_0 := by decide +kernel
theorem dksX2_readsLetter_1 : cX2_readsLetter.data.toList.drop 24 = dktX2_readsLetter_1 := dk_seg dksX2_readsLetter_0 24 rfl rfl
theorem dksX2_readsLetter_2 : cX2_readsLetter.data.toList.drop 47 = dktX2_readsLetter_2 := dk_seg dksX2_readsLetter_1 23 rfl rfl
theorem dksX2_readsLetter_3 : cX2_readsLetter.data.toList.drop 71 = dktX2_readsLetter_3 := dk_seg dksX2_readsLetter_2 24 rfl rfl
theorem dksX2_readsLetter_4 : cX2_readsLetter.data.toList.drop 95 = dktX2_readsLetter_4 := dk_seg dksX2_readsLetter_3 24 rfl rfl
theorem dX2_readsLetter_0 : decode cX2_readsLetter 0 = .ok (.aload_n 0, 1) := dk_42 (dk_at dksX2_readsLetter_0 0 rfl rfl)
theorem dX2_readsLetter_1 : decode cX2_readsLetter 1 = .ok (.getfield 102, 3) := dk_180 0 102 (dk_at dksX2_readsLetter_0 1 rfl rfl)
theorem dX2_readsLetter_4 : decode cX2_readsLetter 4 = .ok (.istore_n 1, 1) := dk_60 (dk_at dksX2_readsLetter_0 4 rfl rfl)
theorem dX2_readsLetter_5 : decode cX2_readsLetter 5 = .ok (.aload_n 0, 1) := dk_42 (dk_at dksX2_readsLetter_0 5 rfl rfl)
theorem dX2_readsLetter_6 : decode cX2_readsLetter 6 = .ok (.aload_n 0, 1) := dk_42 (dk_at dksX2_readsLetter_0 6 rfl rfl)
theorem dX2_readsLetter_7 : decode cX2_readsLetter 7 = .ok (.getfield 94, 3) := dk_180 0 94 (dk_at dksX2_readsLetter_0 7 rfl rfl)
theorem dX2_readsLetter_10 : decode cX2_readsLetter 10 = .ok (.ifCond .ne 28, 3) := dk_154 0 28 (dk_at dksX2_readsLetter_0 10 rfl rfl)
theorem dX2_readsLetter_13 : decode cX2_readsLetter 13 = .ok (.aload_n 0, 1) := dk_42 (dk_at dksX2_readsLetter_0 13 rfl rfl)
theorem dX2_readsLetter_14 : decode cX2_readsLetter 14 = .ok (.invokevirtual 98, 3) := dk_182 0 98 (dk_at dksX2_readsLetter_0 14 rfl rfl)
theorem dX2_readsLetter_17 : decode cX2_readsLetter 17 = .ok (.bipush 97, 2) := dk_16 97 (dk_at dksX2_readsLetter_0 17 rfl rfl)
theorem dX2_readsLetter_19 : decode cX2_readsLetter 19 = .ok (.bipush 100, 2) := dk_16 100 (dk_at dksX2_readsLetter_0 19 rfl rfl)
theorem dX2_readsLetter_21 : decode cX2_readsLetter 21 = .ok (.invokestatic 105, 3) := dk_184 0 105 (dk_at dksX2_readsLetter_0 21 rfl rfl)
theorem dX2_readsLetter_24 : decode cX2_readsLetter 24 = .ok (.ifCond .eq 14, 3) := dk_153 0 14 (dk_at dksX2_readsLetter_1 0 rfl rfl)
theorem dX2_readsLetter_27 : decode cX2_readsLetter 27 = .ok (.aload_n 0, 1) := dk_42 (dk_at dksX2_readsLetter_1 3 rfl rfl)
theorem dX2_readsLetter_28 : decode cX2_readsLetter 28 = .ok (.getfield 28, 3) := dk_180 0 28 (dk_at dksX2_readsLetter_1 4 rfl rfl)
theorem dX2_readsLetter_31 : decode cX2_readsLetter 31 = .ok (.iload_n 1, 1) := dk_27 (dk_at dksX2_readsLetter_1 7 rfl rfl)
theorem dX2_readsLetter_32 : decode cX2_readsLetter 32 = .ok (.iaload, 1) := dk_46 (dk_at dksX2_readsLetter_1 8 rfl rfl)
theorem dX2_readsLetter_33 : decode cX2_readsLetter 33 = .ok (.bipush 8, 2) := dk_16 8 (dk_at dksX2_readsLetter_1 9 rfl rfl)
theorem dX2_readsLetter_35 : decode cX2_readsLetter 35 = .ok (.if_icmp .ne 7, 3) := dk_160 0 7 (dk_at dksX2_readsLetter_1 11 rfl rfl)
theorem dX2_readsLetter_38 : decode cX2_readsLetter 38 = .ok (.iconst 1, 1) := dk_4 (dk_at dksX2_readsLetter_1 14 rfl rfl)
theorem dX2_readsLetter_39 : decode cX2_readsLetter 39 = .ok (.goto 4, 3) := dk_167 0 4 (dk_at dksX2_readsLetter_1 15 rfl rfl)
theorem dX2_readsLetter_42 : decode cX2_readsLetter 42 = .ok (.iconst 0, 1) := dk_3 (dk_at dksX2_readsLetter_1 18 rfl rfl)
theorem dX2_readsLetter_43 : decode cX2_readsLetter 43 = .ok (.putfield 94, 3) := dk_181 0 94 (dk_at dksX2_readsLetter_1 19 rfl rfl)
theorem dX2_readsLetter_46 : decode cX2_readsLetter 46 = .ok (.aload_n 0, 1) := dk_42 (dk_at dksX2_readsLetter_1 22 rfl rfl)
theorem dX2_readsLetter_47 : decode cX2_readsLetter 47 = .ok (.getfield 94, 3) := dk_180 0 94 (dk_at dksX2_readsLetter_2 0 rfl rfl)
theorem dX2_readsLetter_50 : decode cX2_readsLetter 50 = .ok (.ifCond .eq 5, 3) := dk_153 0 5 (dk_at dksX2_readsLetter_2 3 rfl rfl)
theorem dX2_readsLetter_53 : decode cX2_readsLetter 53 = .ok (.iconst 0, 1) := dk_3 (dk_at dksX2_readsLetter_2 6 rfl rfl)
theorem dX2_readsLetter_54 : decode cX2_readsLetter 54 = .ok (.ireturn, 1) := dk_172 (dk_at dksX2_readsLetter_2 7 rfl rfl)
theorem dX2_readsLetter_55 : decode cX2_readsLetter 55 = .ok (.aload_n 0, 1) := dk_42 (dk_at dksX2_readsLetter_2 8 rfl rfl)
theorem dX2_readsLetter_56 : decode cX2_readsLetter 56 = .ok (.getfield 25, 3) := dk_180 0 25 (dk_at dksX2_readsLetter_2 9 rfl rfl)
theorem dX2_readsLetter_59 : decode cX2_readsLetter 59 = .ok (.iload_n 1, 1) := dk_27 (dk_at dksX2_readsLetter_2 12 rfl rfl)
theorem dX2_readsLetter_60 : decode cX2_readsLetter 60 = .ok (.bipush 8, 2) := dk_16 8 (dk_at dksX2_readsLetter_2 13 rfl rfl)
theorem dX2_readsLetter_62 : decode cX2_readsLetter 62 = .ok (.imul, 1) := dk_104 (dk_at dksX2_readsLetter_2 15 rfl rfl)
theorem dX2_readsLetter_63 : decode cX2_readsLetter 63 = .ok (.aload_n 0, 1) := dk_42 (dk_at dksX2_readsLetter_2 16 rfl rfl)
theorem dX2_readsLetter_64 : decode cX2_readsLetter 64 = .ok (.getfield 28, 3) := dk_180 0 28 (dk_at dksX2_readsLetter_2 17 rfl rfl)
theorem dX2_readsLetter_67 : decode cX2_readsLetter 67 = .ok (.iload_n 1, 1) := dk_27 (dk_at dksX2_readsLetter_2 20 rfl rfl)
theorem dX2_readsLetter_68 : decode cX2_readsLetter 68 = .ok (.iaload, 1) := dk_46 (dk_at dksX2_readsLetter_2 21 rfl rfl)
theorem dX2_readsLetter_69 : decode cX2_readsLetter 69 = .ok (.iadd, 1) := dk_96 (dk_at dksX2_readsLetter_2 22 rfl rfl)
theorem dX2_readsLetter_70 : decode cX2_readsLetter 70 = .ok (.aload_n 0, 1) := dk_42 (dk_at dksX2_readsLetter_2 23 rfl rfl)
theorem dX2_readsLetter_71 : decode cX2_readsLetter 71 = .ok (.invokevirtual 98, 3) := dk_182 0 98 (dk_at dksX2_readsLetter_3 0 rfl rfl)
theorem dX2_readsLetter_74 : decode cX2_readsLetter 74 = .ok (.bipush 97, 2) := dk_16 97 (dk_at dksX2_readsLetter_3 3 rfl rfl)
theorem dX2_readsLetter_76 : decode cX2_readsLetter 76 = .ok (.isub, 1) := dk_100 (dk_at dksX2_readsLetter_3 5 rfl rfl)
theorem dX2_readsLetter_77 : decode cX2_readsLetter 77 = .ok (.iastore, 1) := dk_79 (dk_at dksX2_readsLetter_3 6 rfl rfl)
theorem dX2_readsLetter_78 : decode cX2_readsLetter 78 = .ok (.aload_n 0, 1) := dk_42 (dk_at dksX2_readsLetter_3 7 rfl rfl)
theorem dX2_readsLetter_79 : decode cX2_readsLetter 79 = .ok (.dup, 1) := dk_89 (dk_at dksX2_readsLetter_3 8 rfl rfl)
theorem dX2_readsLetter_80 : decode cX2_readsLetter 80 = .ok (.getfield 91, 3) := dk_180 0 91 (dk_at dksX2_readsLetter_3 9 rfl rfl)
theorem dX2_readsLetter_83 : decode cX2_readsLetter 83 = .ok (.iconst 1, 1) := dk_4 (dk_at dksX2_readsLetter_3 12 rfl rfl)
theorem dX2_readsLetter_84 : decode cX2_readsLetter 84 = .ok (.iadd, 1) := dk_96 (dk_at dksX2_readsLetter_3 13 rfl rfl)
theorem dX2_readsLetter_85 : decode cX2_readsLetter 85 = .ok (.putfield 91, 3) := dk_181 0 91 (dk_at dksX2_readsLetter_3 14 rfl rfl)
theorem dX2_readsLetter_88 : decode cX2_readsLetter 88 = .ok (.aload_n 0, 1) := dk_42 (dk_at dksX2_readsLetter_3 17 rfl rfl)
theorem dX2_readsLetter_89 : decode cX2_readsLetter 89 = .ok (.getfield 28, 3) := dk_180 0 28 (dk_at dksX2_readsLetter_3 18 rfl rfl)
theorem dX2_readsLetter_92 : decode cX2_readsLetter 92 = .ok (.iload_n 1, 1) := dk_27 (dk_at dksX2_readsLetter_3 21 rfl rfl)
theorem dX2_readsLetter_93 : decode cX2_readsLetter 93 = .ok (.dup2, 1) := dk_92 (dk_at dksX2_readsLetter_3 22 rfl rfl)
theorem dX2_readsLetter_94 : decode cX2_readsLetter 94 = .ok (.iaload, 1) := dk_46 (dk_at dksX2_readsLetter_3 23 rfl rfl)
theorem dX2_readsLetter_95 : decode cX2_readsLetter 95 = .ok (.iconst 1, 1) := dk_4 (dk_at dksX2_readsLetter_4 0 rfl rfl)
theorem dX2_readsLetter_96 : decode cX2_readsLetter 96 = .ok (.iadd, 1) := dk_96 (dk_at dksX2_readsLetter_4 1 rfl rfl)
theorem dX2_readsLetter_97 : decode cX2_readsLetter 97 = .ok (.iastore, 1) := dk_79 (dk_at dksX2_readsLetter_4 2 rfl rfl)
theorem dX2_readsLetter_98 : decode cX2_readsLetter 98 = .ok (.aload_n 0, 1) := dk_42 (dk_at dksX2_readsLetter_4 3 rfl rfl)
theorem dX2_readsLetter_99 : decode cX2_readsLetter 99 = .ok (.iconst 0, 1) := dk_3 (dk_at dksX2_readsLetter_4 4 rfl rfl)
theorem dX2_readsLetter_100 : decode cX2_readsLetter 100 = .ok (.aload_n 0, 1) := dk_42 (dk_at dksX2_readsLetter_4 5 rfl rfl)
theorem dX2_readsLetter_101 : decode cX2_readsLetter 101 = .ok (.getfield 28, 3) := dk_180 0 28 (dk_at dksX2_readsLetter_4 6 rfl rfl)
theorem dX2_readsLetter_104 : decode cX2_readsLetter 104 = .ok (.iload_n 1, 1) := dk_27 (dk_at dksX2_readsLetter_4 9 rfl rfl)
theorem dX2_readsLetter_105 : decode cX2_readsLetter 105 = .ok (.iaload, 1) := dk_46 (dk_at dksX2_readsLetter_4 10 rfl rfl)
theorem dX2_readsLetter_106 : decode cX2_readsLetter 106 = .ok (.iconst 1, 1) := dk_4 (dk_at dksX2_readsLetter_4 11 rfl rfl)
theorem dX2_readsLetter_107 : decode cX2_readsLetter 107 = .ok (.isub, 1) := dk_100 (dk_at dksX2_readsLetter_4 12 rfl rfl)
theorem dX2_readsLetter_108 : decode cX2_readsLetter 108 = .ok (.iconst 0, 1) := dk_3 (dk_at dksX2_readsLetter_4 13 rfl rfl)
theorem dX2_readsLetter_109 : decode cX2_readsLetter 109 = .ok (.invokevirtual 109, 3) := dk_182 0 109 (dk_at dksX2_readsLetter_4 14 rfl rfl)
theorem dX2_readsLetter_112 : decode cX2_readsLetter 112 = .ok (.ireturn, 1) := dk_172 (dk_at dksX2_readsLetter_4 17 rfl rfl)
abbrev cX2_in : ByteArray := prog_15_method_3_code
def yX2_in : MethodName := ⟨RX2, "in", "(III)Z"⟩
def dkwX2_in_0 : List UInt8 := [26, 27, 161, 0, 12, 26, 28, 163, 0, 7, 4, 167, 0, 4, 3, 172]
abbrev dktX2_in_0 : List UInt8 := dkwX2_in_0 ++ []
theorem dksX2_in_0 : cX2_in.data.toList.drop 0 = dktX2_in_0 := by decide +kernel
theorem dX2_in_0 : decode cX2_in 0 = .ok (.iload_n 0, 1) := dk_26 (dk_at dksX2_in_0 0 rfl rfl)
theorem dX2_in_1 : decode cX2_in 1 = .ok (.iload_n 1, 1) := dk_27 (dk_at dksX2_in_0 1 rfl rfl)
theorem dX2_in_2 : decode cX2_in 2 = .ok (.if_icmp .lt 12, 3) := dk_161 0 12 (dk_at dksX2_in_0 2 rfl rfl)
theorem dX2_in_5 : decode cX2_in 5 = .ok (.iload_n 0, 1) := dk_26 (dk_at dksX2_in_0 5 rfl rfl)
theorem dX2_in_6 : decode cX2_in 6 = .ok (.iload_n 2, 1) := dk_28 (dk_at dksX2_in_0 6 rfl rfl)
theorem dX2_in_7 : decode cX2_in 7 = .ok (.if_icmp .gt 7, 3) := dk_163 0 7 (dk_at dksX2_in_0 7 rfl rfl)
theorem dX2_in_10 : decode cX2_in 10 = .ok (.iconst 1, 1) := dk_4 (dk_at dksX2_in_0 10 rfl rfl)
theorem dX2_in_11 : decode cX2_in 11 = .ok (.goto 4, 3) := dk_167 0 4 (dk_at dksX2_in_0 11 rfl rfl)
theorem dX2_in_14 : decode cX2_in 14 = .ok (.iconst 0, 1) := dk_3 (dk_at dksX2_in_0 14 rfl rfl)
theorem dX2_in_15 : decode cX2_in 15 = .ok (.ireturn, 1) := dk_172 (dk_at dksX2_in_0 15 rfl rfl)
abbrev cX2_decisions : ByteArray := prog_15_method_19_code
def yX2_decisions : MethodName := ⟨RX2, "decisions", "()I"⟩
def dkwX2_decisions_0 : List UInt8 := [42, 42, 180, 0, 102, 182, 0, 87, 172]
abbrev dktX2_decisions_0 : List UInt8 := dkwX2_decisions_0 ++ []
theorem dksX2_decisions_0 : cX2_decisions.data.toList.drop 0 = dktX2_decisions_0 := by decide +kernel
theorem dX2_decisions_0 : decode cX2_decisions 0 = .ok (.aload_n 0, 1) := dk_42 (dk_at dksX2_decisions_0 0 rfl rfl)
theorem dX2_decisions_1 : decode cX2_decisions 1 = .ok (.aload_n 0, 1) := dk_42 (dk_at dksX2_decisions_0 1 rfl rfl)
theorem dX2_decisions_2 : decode cX2_decisions 2 = .ok (.getfield 102, 3) := dk_180 0 102 (dk_at dksX2_decisions_0 2 rfl rfl)
theorem dX2_decisions_5 : decode cX2_decisions 5 = .ok (.invokevirtual 87, 3) := dk_182 0 87 (dk_at dksX2_decisions_0 5 rfl rfl)
theorem dX2_decisions_8 : decode cX2_decisions 8 = .ok (.ireturn, 1) := dk_172 (dk_at dksX2_decisions_0 8 rfl rfl)
abbrev cX2_length : ByteArray := prog_15_method_20_code
def yX2_length : MethodName := ⟨RX2, "length", "()I"⟩
def dkwX2_length_0 : List UInt8 := [42, 42, 180, 0, 80, 182, 0, 87, 172]
abbrev dktX2_length_0 : List UInt8 := dkwX2_length_0 ++ []
theorem dksX2_length_0 : cX2_length.data.toList.drop 0 = dktX2_length_0 := by decide +kernel
theorem dX2_length_0 : decode cX2_length 0 = .ok (.aload_n 0, 1) := dk_42 (dk_at dksX2_length_0 0 rfl rfl)
theorem dX2_length_1 : decode cX2_length 1 = .ok (.aload_n 0, 1) := dk_42 (dk_at dksX2_length_0 1 rfl rfl)
theorem dX2_length_2 : decode cX2_length 2 = .ok (.getfield 80, 3) := dk_180 0 80 (dk_at dksX2_length_0 2 rfl rfl)
theorem dX2_length_5 : decode cX2_length 5 = .ok (.invokevirtual 87, 3) := dk_182 0 87 (dk_at dksX2_length_0 5 rfl rfl)
theorem dX2_length_8 : decode cX2_length 8 = .ok (.ireturn, 1) := dk_172 (dk_at dksX2_length_0 8 rfl rfl)
abbrev cX2_conditions : ByteArray := prog_15_method_25_code
def yX2_conditions : MethodName := ⟨RX2, "conditions", "(I)I"⟩
def dkwX2_conditions_0 : List UInt8 := [42, 27, 182, 0, 133, 153, 0, 7, 3, 167, 0, 9, 42, 180, 0, 28, 27, 46, 172]
abbrev dktX2_conditions_0 : List UInt8 := dkwX2_conditions_0 ++ []
theorem dksX2_conditions_0 : cX2_conditions.data.toList.drop 0 = dktX2_conditions_0 := by decide +kernel
theorem dX2_conditions_0 : decode cX2_conditions 0 = .ok (.aload_n 0, 1) := dk_42 (dk_at dksX2_conditions_0 0 rfl rfl)
theorem dX2_conditions_1 : decode cX2_conditions 1 = .ok (.iload_n 1, 1) := dk_27 (dk_at dksX2_conditions_0 1 rfl rfl)
theorem dX2_conditions_2 : decode cX2_conditions 2 = .ok (.invokevirtual 133, 3) := dk_182 0 133 (dk_at dksX2_conditions_0 2 rfl rfl)
theorem dX2_conditions_5 : decode cX2_conditions 5 = .ok (.ifCond .eq 7, 3) := dk_153 0 7 (dk_at dksX2_conditions_0 5 rfl rfl)
theorem dX2_conditions_8 : decode cX2_conditions 8 = .ok (.iconst 0, 1) := dk_3 (dk_at dksX2_conditions_0 8 rfl rfl)
theorem dX2_conditions_9 : decode cX2_conditions 9 = .ok (.goto 9, 3) := dk_167 0 9 (dk_at dksX2_conditions_0 9 rfl rfl)
theorem dX2_conditions_12 : decode cX2_conditions 12 = .ok (.aload_n 0, 1) := dk_42 (dk_at dksX2_conditions_0 12 rfl rfl)
theorem dX2_conditions_13 : decode cX2_conditions 13 = .ok (.getfield 28, 3) := dk_180 0 28 (dk_at dksX2_conditions_0 13 rfl rfl)
theorem dX2_conditions_16 : decode cX2_conditions 16 = .ok (.iload_n 1, 1) := dk_27 (dk_at dksX2_conditions_0 16 rfl rfl)
theorem dX2_conditions_17 : decode cX2_conditions 17 = .ok (.iaload, 1) := dk_46 (dk_at dksX2_conditions_0 17 rfl rfl)
theorem dX2_conditions_18 : decode cX2_conditions 18 = .ok (.ireturn, 1) := dk_172 (dk_at dksX2_conditions_0 18 rfl rfl)
abbrev cX2_noDecision : ByteArray := prog_15_method_22_code
def yX2_noDecision : MethodName := ⟨RX2, "noDecision", "(I)Z"⟩
def dkwX2_noDecision_0 : List UInt8 := [42, 42, 27, 182, 0, 126, 154, 0, 7, 4, 167, 0, 4, 3, 182, 0, 76, 172]
abbrev dktX2_noDecision_0 : List UInt8 := dkwX2_noDecision_0 ++ []
theorem dksX2_noDecision_0 : cX2_noDecision.data.toList.drop 0 = dktX2_noDecision_0 := by decide +kernel
theorem dX2_noDecision_0 : decode cX2_noDecision 0 = .ok (.aload_n 0, 1) := dk_42 (dk_at dksX2_noDecision_0 0 rfl rfl)
theorem dX2_noDecision_1 : decode cX2_noDecision 1 = .ok (.aload_n 0, 1) := dk_42 (dk_at dksX2_noDecision_0 1 rfl rfl)
theorem dX2_noDecision_2 : decode cX2_noDecision 2 = .ok (.iload_n 1, 1) := dk_27 (dk_at dksX2_noDecision_0 2 rfl rfl)
theorem dX2_noDecision_3 : decode cX2_noDecision 3 = .ok (.invokevirtual 126, 3) := dk_182 0 126 (dk_at dksX2_noDecision_0 3 rfl rfl)
theorem dX2_noDecision_6 : decode cX2_noDecision 6 = .ok (.ifCond .ne 7, 3) := dk_154 0 7 (dk_at dksX2_noDecision_0 6 rfl rfl)
theorem dX2_noDecision_9 : decode cX2_noDecision 9 = .ok (.iconst 1, 1) := dk_4 (dk_at dksX2_noDecision_0 9 rfl rfl)
theorem dX2_noDecision_10 : decode cX2_noDecision 10 = .ok (.goto 4, 3) := dk_167 0 4 (dk_at dksX2_noDecision_0 10 rfl rfl)
theorem dX2_noDecision_13 : decode cX2_noDecision 13 = .ok (.iconst 0, 1) := dk_3 (dk_at dksX2_noDecision_0 13 rfl rfl)
theorem dX2_noDecision_14 : decode cX2_noDecision 14 = .ok (.invokevirtual 76, 3) := dk_182 0 76 (dk_at dksX2_noDecision_0 14 rfl rfl)
theorem dX2_noDecision_17 : decode cX2_noDecision 17 = .ok (.ireturn, 1) := dk_172 (dk_at dksX2_noDecision_0 17 rfl rfl)
abbrev cX2_isDecision : ByteArray := prog_15_method_21_code
def yX2_isDecision : MethodName := ⟨RX2, "isDecision", "(I)Z"⟩
def dkwX2_isDecision_0 : List UInt8 := [27, 3, 42, 180, 0, 102, 4, 100, 184, 0, 105, 172]
abbrev dktX2_isDecision_0 : List UInt8 := dkwX2_isDecision_0 ++ []
theorem dksX2_isDecision_0 : cX2_isDecision.data.toList.drop 0 = dktX2_isDecision_0 := by decide +kernel
theorem dX2_isDecision_0 : decode cX2_isDecision 0 = .ok (.iload_n 1, 1) := dk_27 (dk_at dksX2_isDecision_0 0 rfl rfl)
theorem dX2_isDecision_1 : decode cX2_isDecision 1 = .ok (.iconst 0, 1) := dk_3 (dk_at dksX2_isDecision_0 1 rfl rfl)
theorem dX2_isDecision_2 : decode cX2_isDecision 2 = .ok (.aload_n 0, 1) := dk_42 (dk_at dksX2_isDecision_0 2 rfl rfl)
theorem dX2_isDecision_3 : decode cX2_isDecision 3 = .ok (.getfield 102, 3) := dk_180 0 102 (dk_at dksX2_isDecision_0 3 rfl rfl)
theorem dX2_isDecision_6 : decode cX2_isDecision 6 = .ok (.iconst 1, 1) := dk_4 (dk_at dksX2_isDecision_0 6 rfl rfl)
theorem dX2_isDecision_7 : decode cX2_isDecision 7 = .ok (.isub, 1) := dk_100 (dk_at dksX2_isDecision_0 7 rfl rfl)
theorem dX2_isDecision_8 : decode cX2_isDecision 8 = .ok (.invokestatic 105, 3) := dk_184 0 105 (dk_at dksX2_isDecision_0 8 rfl rfl)
theorem dX2_isDecision_11 : decode cX2_isDecision 11 = .ok (.ireturn, 1) := dk_172 (dk_at dksX2_isDecision_0 11 rfl rfl)
abbrev cX2_letterOf : ByteArray := prog_15_method_26_code
def yX2_letterOf : MethodName := ⟨RX2, "letterOf", "(II)I"⟩
def dkwX2_letterOf_1 : List UInt8 := [172]
abbrev dktX2_letterOf_1 : List UInt8 := dkwX2_letterOf_1 ++ []
def dkwX2_letterOf_0 : List UInt8 := [42, 27, 28, 182, 0, 136, 153, 0, 7, 3, 167, 0, 14, 42, 180, 0, 25, 27, 16, 8, 104, 28, 96, 46]
abbrev dktX2_letterOf_0 : List UInt8 := dkwX2_letterOf_0 ++ dktX2_letterOf_1
theorem dksX2_letterOf_0 : cX2_letterOf.data.toList.drop 0 = dktX2_letterOf_0 := by decide +kernel
theorem dksX2_letterOf_1 : cX2_letterOf.data.toList.drop 24 = dktX2_letterOf_1 := dk_seg dksX2_letterOf_0 24 rfl rfl
theorem dX2_letterOf_0 : decode cX2_letterOf 0 = .ok (.aload_n 0, 1) := dk_42 (dk_at dksX2_letterOf_0 0 rfl rfl)
theorem dX2_letterOf_1 : decode cX2_letterOf 1 = .ok (.iload_n 1, 1) := dk_27 (dk_at dksX2_letterOf_0 1 rfl rfl)
theorem dX2_letterOf_2 : decode cX2_letterOf 2 = .ok (.iload_n 2, 1) := dk_28 (dk_at dksX2_letterOf_0 2 rfl rfl)
theorem dX2_letterOf_3 : decode cX2_letterOf 3 = .ok (.invokevirtual 136, 3) := dk_182 0 136 (dk_at dksX2_letterOf_0 3 rfl rfl)
theorem dX2_letterOf_6 : decode cX2_letterOf 6 = .ok (.ifCond .eq 7, 3) := dk_153 0 7 (dk_at dksX2_letterOf_0 6 rfl rfl)
theorem dX2_letterOf_9 : decode cX2_letterOf 9 = .ok (.iconst 0, 1) := dk_3 (dk_at dksX2_letterOf_0 9 rfl rfl)
theorem dX2_letterOf_10 : decode cX2_letterOf 10 = .ok (.goto 14, 3) := dk_167 0 14 (dk_at dksX2_letterOf_0 10 rfl rfl)
theorem dX2_letterOf_13 : decode cX2_letterOf 13 = .ok (.aload_n 0, 1) := dk_42 (dk_at dksX2_letterOf_0 13 rfl rfl)
theorem dX2_letterOf_14 : decode cX2_letterOf 14 = .ok (.getfield 25, 3) := dk_180 0 25 (dk_at dksX2_letterOf_0 14 rfl rfl)
theorem dX2_letterOf_17 : decode cX2_letterOf 17 = .ok (.iload_n 1, 1) := dk_27 (dk_at dksX2_letterOf_0 17 rfl rfl)
theorem dX2_letterOf_18 : decode cX2_letterOf 18 = .ok (.bipush 8, 2) := dk_16 8 (dk_at dksX2_letterOf_0 18 rfl rfl)
theorem dX2_letterOf_20 : decode cX2_letterOf 20 = .ok (.imul, 1) := dk_104 (dk_at dksX2_letterOf_0 20 rfl rfl)
theorem dX2_letterOf_21 : decode cX2_letterOf 21 = .ok (.iload_n 2, 1) := dk_28 (dk_at dksX2_letterOf_0 21 rfl rfl)
theorem dX2_letterOf_22 : decode cX2_letterOf 22 = .ok (.iadd, 1) := dk_96 (dk_at dksX2_letterOf_0 22 rfl rfl)
theorem dX2_letterOf_23 : decode cX2_letterOf 23 = .ok (.iaload, 1) := dk_46 (dk_at dksX2_letterOf_0 23 rfl rfl)
theorem dX2_letterOf_24 : decode cX2_letterOf 24 = .ok (.ireturn, 1) := dk_172 (dk_at dksX2_letterOf_1 0 rfl rfl)
abbrev cX2_noCondition : ByteArray := prog_15_method_24_code
def yX2_noCondition : MethodName := ⟨RX2, "noCondition", "(II)Z"⟩
def dkwX2_noCondition_0 : List UInt8 := [42, 42, 27, 28, 182, 0, 129, 154, 0, 7, 4, 167, 0, 4, 3, 182, 0, 76, 172]
abbrev dktX2_noCondition_0 : List UInt8 := dkwX2_noCondition_0 ++ []
theorem dksX2_noCondition_0 : cX2_noCondition.data.toList.drop 0 = dktX2_noCondition_0 := by decide +kernel
theorem dX2_noCondition_0 : decode cX2_noCondition 0 = .ok (.aload_n 0, 1) := dk_42 (dk_at dksX2_noCondition_0 0 rfl rfl)
theorem dX2_noCondition_1 : decode cX2_noCondition 1 = .ok (.aload_n 0, 1) := dk_42 (dk_at dksX2_noCondition_0 1 rfl rfl)
theorem dX2_noCondition_2 : decode cX2_noCondition 2 = .ok (.iload_n 1, 1) := dk_27 (dk_at dksX2_noCondition_0 2 rfl rfl)
theorem dX2_noCondition_3 : decode cX2_noCondition 3 = .ok (.iload_n 2, 1) := dk_28 (dk_at dksX2_noCondition_0 3 rfl rfl)
theorem dX2_noCondition_4 : decode cX2_noCondition 4 = .ok (.invokevirtual 129, 3) := dk_182 0 129 (dk_at dksX2_noCondition_0 4 rfl rfl)
theorem dX2_noCondition_7 : decode cX2_noCondition 7 = .ok (.ifCond .ne 7, 3) := dk_154 0 7 (dk_at dksX2_noCondition_0 7 rfl rfl)
theorem dX2_noCondition_10 : decode cX2_noCondition 10 = .ok (.iconst 1, 1) := dk_4 (dk_at dksX2_noCondition_0 10 rfl rfl)
theorem dX2_noCondition_11 : decode cX2_noCondition 11 = .ok (.goto 4, 3) := dk_167 0 4 (dk_at dksX2_noCondition_0 11 rfl rfl)
theorem dX2_noCondition_14 : decode cX2_noCondition 14 = .ok (.iconst 0, 1) := dk_3 (dk_at dksX2_noCondition_0 14 rfl rfl)
theorem dX2_noCondition_15 : decode cX2_noCondition 15 = .ok (.invokevirtual 76, 3) := dk_182 0 76 (dk_at dksX2_noCondition_0 15 rfl rfl)
theorem dX2_noCondition_18 : decode cX2_noCondition 18 = .ok (.ireturn, 1) := dk_172 (dk_at dksX2_noCondition_0 18 rfl rfl)
abbrev cX2_isCondition : ByteArray := prog_15_method_23_code
def yX2_isCondition : MethodName := ⟨RX2, "isCondition", "(II)Z"⟩
def dkwX2_isCondition_1 : List UInt8 := [4, 167, 0, 4, 3, 172]
abbrev dktX2_isCondition_1 : List UInt8 := dkwX2_isCondition_1 ++ []
def dkwX2_isCondition_0 : List UInt8 := [42, 27, 182, 0, 126, 153, 0, 23, 28, 3, 42, 180, 0, 28, 27, 46, 4, 100, 184, 0, 105, 153, 0, 7]
abbrev dktX2_isCondition_0 : List UInt8 := dkwX2_isCondition_0 ++ dktX2_isCondition_1
theorem dksX2_isCondition_0 : cX2_isCondition.data.toList.drop 0 = dktX2_isCondition_0 := by decide +kernel
theorem dksX2_isCondition_1 : cX2_isCondition.data.toList.drop 24 = dktX2_isCondition_1 := dk_seg dksX2_isCondition_0 24 rfl rfl
theorem dX2_isCondition_0 : decode cX2_isCondition 0 = .ok (.aload_n 0, 1) := dk_42 (dk_at dksX2_isCondition_0 0 rfl rfl)
theorem dX2_isCondition_1 : decode cX2_isCondition 1 = .ok (.iload_n 1, 1) := dk_27 (dk_at dksX2_isCondition_0 1 rfl rfl)
theorem dX2_isCondition_2 : decode cX2_isCondition 2 = .ok (.invokevirtual 126, 3) := dk_182 0 126 (dk_at dksX2_isCondition_0 2 rfl rfl)
theorem dX2_isCondition_5 : decode cX2_isCondition 5 = .ok (.ifCond .eq 23, 3) := dk_153 0 23 (dk_at dksX2_isCondition_0 5 rfl rfl)
theorem dX2_isCondition_8 : decode cX2_isCondition 8 = .ok (.iload_n 2, 1) := dk_28 (dk_at dksX2_isCondition_0 8 rfl rfl)
theorem dX2_isCondition_9 : decode cX2_isCondition 9 = .ok (.iconst 0, 1) := dk_3 (dk_at dksX2_isCondition_0 9 rfl rfl)
theorem dX2_isCondition_10 : decode cX2_isCondition 10 = .ok (.aload_n 0, 1) := dk_42 (dk_at dksX2_isCondition_0 10 rfl rfl)
theorem dX2_isCondition_11 : decode cX2_isCondition 11 = .ok (.getfield 28, 3) := dk_180 0 28 (dk_at dksX2_isCondition_0 11 rfl rfl)
theorem dX2_isCondition_14 : decode cX2_isCondition 14 = .ok (.iload_n 1, 1) := dk_27 (dk_at dksX2_isCondition_0 14 rfl rfl)
theorem dX2_isCondition_15 : decode cX2_isCondition 15 = .ok (.iaload, 1) := dk_46 (dk_at dksX2_isCondition_0 15 rfl rfl)
theorem dX2_isCondition_16 : decode cX2_isCondition 16 = .ok (.iconst 1, 1) := dk_4 (dk_at dksX2_isCondition_0 16 rfl rfl)
theorem dX2_isCondition_17 : decode cX2_isCondition 17 = .ok (.isub, 1) := dk_100 (dk_at dksX2_isCondition_0 17 rfl rfl)
theorem dX2_isCondition_18 : decode cX2_isCondition 18 = .ok (.invokestatic 105, 3) := dk_184 0 105 (dk_at dksX2_isCondition_0 18 rfl rfl)
theorem dX2_isCondition_21 : decode cX2_isCondition 21 = .ok (.ifCond .eq 7, 3) := dk_153 0 7 (dk_at dksX2_isCondition_0 21 rfl rfl)
theorem dX2_isCondition_24 : decode cX2_isCondition 24 = .ok (.iconst 1, 1) := dk_4 (dk_at dksX2_isCondition_1 0 rfl rfl)
theorem dX2_isCondition_25 : decode cX2_isCondition 25 = .ok (.goto 4, 3) := dk_167 0 4 (dk_at dksX2_isCondition_1 1 rfl rfl)
theorem dX2_isCondition_28 : decode cX2_isCondition 28 = .ok (.iconst 0, 1) := dk_3 (dk_at dksX2_isCondition_1 4 rfl rfl)
theorem dX2_isCondition_29 : decode cX2_isCondition 29 = .ok (.ireturn, 1) := dk_172 (dk_at dksX2_isCondition_1 5 rfl rfl)
abbrev cX2_coupled : ByteArray := prog_15_method_27_code
def yX2_coupled : MethodName := ⟨RX2, "coupled", "(I)I"⟩
def dkwX2_coupled_4 : List UInt8 := [28, 172]
abbrev dktX2_coupled_4 : List UInt8 := dkwX2_coupled_4 ++ []
def dkwX2_coupled_3 : List UInt8 := [160, 0, 9, 4, 29, 120, 167, 0, 4, 3, 128, 61, 132, 4, 1, 167, 255, 200, 132, 3, 1, 167, 255, 181]
abbrev dktX2_coupled_3 : List UInt8 := dkwX2_coupled_3 ++ dktX2_coupled_4
def dkwX2_coupled_2 : List UInt8 := [180, 0, 25, 27, 16, 8, 104, 29, 96, 46, 42, 180, 0, 25, 27, 16, 8, 104, 21, 4, 96, 46]
abbrev dktX2_coupled_2 : List UInt8 := dkwX2_coupled_2 ++ dktX2_coupled_3
def dkwX2_coupled_1 : List UInt8 := [3, 54, 4, 21, 4, 42, 180, 0, 28, 27, 46, 162, 0, 51, 28, 29, 21, 4, 159, 0, 35, 42]
abbrev dktX2_coupled_1 : List UInt8 := dkwX2_coupled_1 ++ dktX2_coupled_2
def dkwX2_coupled_0 : List UInt8 := [42, 27, 182, 0, 133, 153, 0, 5, 3, 172, 3, 61, 3, 62, 29, 42, 180, 0, 28, 27, 46, 162, 0, 71]
abbrev dktX2_coupled_0 : List UInt8 := dkwX2_coupled_0 ++ dktX2_coupled_1
theorem dksX2_coupled_0 : cX2_coupled.data.toList.drop 0 = dktX2_coupled_0 := by decide +kernel
theorem dksX2_coupled_1 : cX2_coupled.data.toList.drop 24 = dktX2_coupled_1 := dk_seg dksX2_coupled_0 24 rfl rfl
theorem dksX2_coupled_2 : cX2_coupled.data.toList.drop 46 = dktX2_coupled_2 := dk_seg dksX2_coupled_1 22 rfl rfl
theorem dksX2_coupled_3 : cX2_coupled.data.toList.drop 68 = dktX2_coupled_3 := dk_seg dksX2_coupled_2 22 rfl rfl
theorem dksX2_coupled_4 : cX2_coupled.data.toList.drop 92 = dktX2_coupled_4 := dk_seg dksX2_coupled_3 24 rfl rfl
theorem dX2_coupled_0 : decode cX2_coupled 0 = .ok (.aload_n 0, 1) := dk_42 (dk_at dksX2_coupled_0 0 rfl rfl)
theorem dX2_coupled_1 : decode cX2_coupled 1 = .ok (.iload_n 1, 1) := dk_27 (dk_at dksX2_coupled_0 1 rfl rfl)
theorem dX2_coupled_2 : decode cX2_coupled 2 = .ok (.invokevirtual 133, 3) := dk_182 0 133 (dk_at dksX2_coupled_0 2 rfl rfl)
theorem dX2_coupled_5 : decode cX2_coupled 5 = .ok (.ifCond .eq 5, 3) := dk_153 0 5 (dk_at dksX2_coupled_0 5 rfl rfl)
theorem dX2_coupled_8 : decode cX2_coupled 8 = .ok (.iconst 0, 1) := dk_3 (dk_at dksX2_coupled_0 8 rfl rfl)
theorem dX2_coupled_9 : decode cX2_coupled 9 = .ok (.ireturn, 1) := dk_172 (dk_at dksX2_coupled_0 9 rfl rfl)
theorem dX2_coupled_10 : decode cX2_coupled 10 = .ok (.iconst 0, 1) := dk_3 (dk_at dksX2_coupled_0 10 rfl rfl)
theorem dX2_coupled_11 : decode cX2_coupled 11 = .ok (.istore_n 2, 1) := dk_61 (dk_at dksX2_coupled_0 11 rfl rfl)
theorem dX2_coupled_12 : decode cX2_coupled 12 = .ok (.iconst 0, 1) := dk_3 (dk_at dksX2_coupled_0 12 rfl rfl)
theorem dX2_coupled_13 : decode cX2_coupled 13 = .ok (.istore_n 3, 1) := dk_62 (dk_at dksX2_coupled_0 13 rfl rfl)
theorem dX2_coupled_14 : decode cX2_coupled 14 = .ok (.iload_n 3, 1) := dk_29 (dk_at dksX2_coupled_0 14 rfl rfl)
theorem dX2_coupled_15 : decode cX2_coupled 15 = .ok (.aload_n 0, 1) := dk_42 (dk_at dksX2_coupled_0 15 rfl rfl)
theorem dX2_coupled_16 : decode cX2_coupled 16 = .ok (.getfield 28, 3) := dk_180 0 28 (dk_at dksX2_coupled_0 16 rfl rfl)
theorem dX2_coupled_19 : decode cX2_coupled 19 = .ok (.iload_n 1, 1) := dk_27 (dk_at dksX2_coupled_0 19 rfl rfl)
theorem dX2_coupled_20 : decode cX2_coupled 20 = .ok (.iaload, 1) := dk_46 (dk_at dksX2_coupled_0 20 rfl rfl)
theorem dX2_coupled_21 : decode cX2_coupled 21 = .ok (.if_icmp .ge 71, 3) := dk_162 0 71 (dk_at dksX2_coupled_0 21 rfl rfl)
theorem dX2_coupled_24 : decode cX2_coupled 24 = .ok (.iconst 0, 1) := dk_3 (dk_at dksX2_coupled_1 0 rfl rfl)
theorem dX2_coupled_25 : decode cX2_coupled 25 = .ok (.istore 4, 2) := dk_54 4 (dk_at dksX2_coupled_1 1 rfl rfl)
theorem dX2_coupled_27 : decode cX2_coupled 27 = .ok (.iload 4, 2) := dk_21 4 (dk_at dksX2_coupled_1 3 rfl rfl)
theorem dX2_coupled_29 : decode cX2_coupled 29 = .ok (.aload_n 0, 1) := dk_42 (dk_at dksX2_coupled_1 5 rfl rfl)
theorem dX2_coupled_30 : decode cX2_coupled 30 = .ok (.getfield 28, 3) := dk_180 0 28 (dk_at dksX2_coupled_1 6 rfl rfl)
theorem dX2_coupled_33 : decode cX2_coupled 33 = .ok (.iload_n 1, 1) := dk_27 (dk_at dksX2_coupled_1 9 rfl rfl)
theorem dX2_coupled_34 : decode cX2_coupled 34 = .ok (.iaload, 1) := dk_46 (dk_at dksX2_coupled_1 10 rfl rfl)
theorem dX2_coupled_35 : decode cX2_coupled 35 = .ok (.if_icmp .ge 51, 3) := dk_162 0 51 (dk_at dksX2_coupled_1 11 rfl rfl)
theorem dX2_coupled_38 : decode cX2_coupled 38 = .ok (.iload_n 2, 1) := dk_28 (dk_at dksX2_coupled_1 14 rfl rfl)
theorem dX2_coupled_39 : decode cX2_coupled 39 = .ok (.iload_n 3, 1) := dk_29 (dk_at dksX2_coupled_1 15 rfl rfl)
theorem dX2_coupled_40 : decode cX2_coupled 40 = .ok (.iload 4, 2) := dk_21 4 (dk_at dksX2_coupled_1 16 rfl rfl)
theorem dX2_coupled_42 : decode cX2_coupled 42 = .ok (.if_icmp .eq 35, 3) := dk_159 0 35 (dk_at dksX2_coupled_1 18 rfl rfl)
theorem dX2_coupled_45 : decode cX2_coupled 45 = .ok (.aload_n 0, 1) := dk_42 (dk_at dksX2_coupled_1 21 rfl rfl)
theorem dX2_coupled_46 : decode cX2_coupled 46 = .ok (.getfield 25, 3) := dk_180 0 25 (dk_at dksX2_coupled_2 0 rfl rfl)
theorem dX2_coupled_49 : decode cX2_coupled 49 = .ok (.iload_n 1, 1) := dk_27 (dk_at dksX2_coupled_2 3 rfl rfl)
theorem dX2_coupled_50 : decode cX2_coupled 50 = .ok (.bipush 8, 2) := dk_16 8 (dk_at dksX2_coupled_2 4 rfl rfl)
theorem dX2_coupled_52 : decode cX2_coupled 52 = .ok (.imul, 1) := dk_104 (dk_at dksX2_coupled_2 6 rfl rfl)
theorem dX2_coupled_53 : decode cX2_coupled 53 = .ok (.iload_n 3, 1) := dk_29 (dk_at dksX2_coupled_2 7 rfl rfl)
theorem dX2_coupled_54 : decode cX2_coupled 54 = .ok (.iadd, 1) := dk_96 (dk_at dksX2_coupled_2 8 rfl rfl)
theorem dX2_coupled_55 : decode cX2_coupled 55 = .ok (.iaload, 1) := dk_46 (dk_at dksX2_coupled_2 9 rfl rfl)
theorem dX2_coupled_56 : decode cX2_coupled 56 = .ok (.aload_n 0, 1) := dk_42 (dk_at dksX2_coupled_2 10 rfl rfl)
theorem dX2_coupled_57 : decode cX2_coupled 57 = .ok (.getfield 25, 3) := dk_180 0 25 (dk_at dksX2_coupled_2 11 rfl rfl)
theorem dX2_coupled_60 : decode cX2_coupled 60 = .ok (.iload_n 1, 1) := dk_27 (dk_at dksX2_coupled_2 14 rfl rfl)
theorem dX2_coupled_61 : decode cX2_coupled 61 = .ok (.bipush 8, 2) := dk_16 8 (dk_at dksX2_coupled_2 15 rfl rfl)
theorem dX2_coupled_63 : decode cX2_coupled 63 = .ok (.imul, 1) := dk_104 (dk_at dksX2_coupled_2 17 rfl rfl)
theorem dX2_coupled_64 : decode cX2_coupled 64 = .ok (.iload 4, 2) := dk_21 4 (dk_at dksX2_coupled_2 18 rfl rfl)
theorem dX2_coupled_66 : decode cX2_coupled 66 = .ok (.iadd, 1) := dk_96 (dk_at dksX2_coupled_2 20 rfl rfl)
theorem dX2_coupled_67 : decode cX2_coupled 67 = .ok (.iaload, 1) := dk_46 (dk_at dksX2_coupled_2 21 rfl rfl)
theorem dX2_coupled_68 : decode cX2_coupled 68 = .ok (.if_icmp .ne 9, 3) := dk_160 0 9 (dk_at dksX2_coupled_3 0 rfl rfl)
theorem dX2_coupled_71 : decode cX2_coupled 71 = .ok (.iconst 1, 1) := dk_4 (dk_at dksX2_coupled_3 3 rfl rfl)
theorem dX2_coupled_72 : decode cX2_coupled 72 = .ok (.iload_n 3, 1) := dk_29 (dk_at dksX2_coupled_3 4 rfl rfl)
theorem dX2_coupled_73 : decode cX2_coupled 73 = .ok (.ishl, 1) := dk_120 (dk_at dksX2_coupled_3 5 rfl rfl)
theorem dX2_coupled_74 : decode cX2_coupled 74 = .ok (.goto 4, 3) := dk_167 0 4 (dk_at dksX2_coupled_3 6 rfl rfl)
theorem dX2_coupled_77 : decode cX2_coupled 77 = .ok (.iconst 0, 1) := dk_3 (dk_at dksX2_coupled_3 9 rfl rfl)
theorem dX2_coupled_78 : decode cX2_coupled 78 = .ok (.ior, 1) := dk_128 (dk_at dksX2_coupled_3 10 rfl rfl)
theorem dX2_coupled_79 : decode cX2_coupled 79 = .ok (.istore_n 2, 1) := dk_61 (dk_at dksX2_coupled_3 11 rfl rfl)
theorem dX2_coupled_80 : decode cX2_coupled 80 = .ok (.iinc 4 1, 3) := dk_132 4 1 (dk_at dksX2_coupled_3 12 rfl rfl)
theorem dX2_coupled_83 : decode cX2_coupled 83 = .ok (.goto (-56), 3) := dk_167 255 200 (dk_at dksX2_coupled_3 15 rfl rfl)
theorem dX2_coupled_86 : decode cX2_coupled 86 = .ok (.iinc 3 1, 3) := dk_132 3 1 (dk_at dksX2_coupled_3 18 rfl rfl)
theorem dX2_coupled_89 : decode cX2_coupled 89 = .ok (.goto (-75), 3) := dk_167 255 181 (dk_at dksX2_coupled_3 21 rfl rfl)
theorem dX2_coupled_92 : decode cX2_coupled 92 = .ok (.iload_n 2, 1) := dk_28 (dk_at dksX2_coupled_4 0 rfl rfl)
theorem dX2_coupled_93 : decode cX2_coupled 93 = .ok (.ireturn, 1) := dk_172 (dk_at dksX2_coupled_4 1 rfl rfl)
abbrev cX2_depth : ByteArray := prog_15_method_28_code
def yX2_depth : MethodName := ⟨RX2, "depth", "(I)I"⟩
def dkwX2_depth_5 : List UInt8 := [46, 172]
abbrev dktX2_depth_5 : List UInt8 := dkwX2_depth_5 ++ []
def dkwX2_depth_4 : List UInt8 := [46, 184, 0, 139, 96, 79, 132, 2, 1, 167, 255, 166, 42, 180, 0, 46, 42, 180, 0, 22, 27, 46, 4, 100]
abbrev dktX2_depth_4 : List UInt8 := dkwX2_depth_4 ++ dktX2_depth_5
def dkwX2_depth_3 : List UInt8 := [167, 0, 28, 42, 180, 0, 46, 42, 180, 0, 16, 29, 46, 46, 42, 180, 0, 46, 42, 180, 0, 19, 29, 46]
abbrev dktX2_depth_3 : List UInt8 := dkwX2_depth_3 ++ dktX2_depth_4
def dkwX2_depth_2 : List UInt8 := [4, 42, 180, 0, 13, 29, 46, 4, 160, 0, 17, 42, 180, 0, 46, 42, 180, 0, 16, 29, 46, 46]
abbrev dktX2_depth_2 : List UInt8 := dkwX2_depth_2 ++ dktX2_depth_3
def dkwX2_depth_1 : List UInt8 := [16, 40, 104, 28, 96, 62, 42, 180, 0, 46, 28, 42, 180, 0, 13, 29, 46, 154, 0, 7, 3, 167, 0, 54]
abbrev dktX2_depth_1 : List UInt8 := dkwX2_depth_1 ++ dktX2_depth_2
def dkwX2_depth_0 : List UInt8 := [42, 27, 182, 0, 133, 153, 0, 5, 3, 172, 3, 61, 28, 42, 180, 0, 22, 27, 46, 162, 0, 86, 27]
abbrev dktX2_depth_0 : List UInt8 := dkwX2_depth_0 ++ dktX2_depth_1
theorem dksX2_depth_0 : cX2_depth.data.toList.drop 0 = dktX2_depth_0 := by decide +kernel
theorem dksX2_depth_1 : cX2_depth.data.toList.drop 23 = dktX2_depth_1 := dk_seg dksX2_depth_0 23 rfl rfl
theorem dksX2_depth_2 : cX2_depth.data.toList.drop 47 = dktX2_depth_2 := dk_seg dksX2_depth_1 24 rfl rfl
theorem dksX2_depth_3 : cX2_depth.data.toList.drop 69 = dktX2_depth_3 := dk_seg dksX2_depth_2 22 rfl rfl
theorem dksX2_depth_4 : cX2_depth.data.toList.drop 93 = dktX2_depth_4 := dk_seg dksX2_depth_3 24 rfl rfl
theorem dksX2_depth_5 : cX2_depth.data.toList.drop 117 = dktX2_depth_5 := dk_seg dksX2_depth_4 24 rfl rfl
theorem dX2_depth_0 : decode cX2_depth 0 = .ok (.aload_n 0, 1) := dk_42 (dk_at dksX2_depth_0 0 rfl rfl)
theorem dX2_depth_1 : decode cX2_depth 1 = .ok (.iload_n 1, 1) := dk_27 (dk_at dksX2_depth_0 1 rfl rfl)
theorem dX2_depth_2 : decode cX2_depth 2 = .ok (.invokevirtual 133, 3) := dk_182 0 133 (dk_at dksX2_depth_0 2 rfl rfl)
theorem dX2_depth_5 : decode cX2_depth 5 = .ok (.ifCond .eq 5, 3) := dk_153 0 5 (dk_at dksX2_depth_0 5 rfl rfl)
theorem dX2_depth_8 : decode cX2_depth 8 = .ok (.iconst 0, 1) := dk_3 (dk_at dksX2_depth_0 8 rfl rfl)
theorem dX2_depth_9 : decode cX2_depth 9 = .ok (.ireturn, 1) := dk_172 (dk_at dksX2_depth_0 9 rfl rfl)
theorem dX2_depth_10 : decode cX2_depth 10 = .ok (.iconst 0, 1) := dk_3 (dk_at dksX2_depth_0 10 rfl rfl)
theorem dX2_depth_11 : decode cX2_depth 11 = .ok (.istore_n 2, 1) := dk_61 (dk_at dksX2_depth_0 11 rfl rfl)
theorem dX2_depth_12 : decode cX2_depth 12 = .ok (.iload_n 2, 1) := dk_28 (dk_at dksX2_depth_0 12 rfl rfl)
theorem dX2_depth_13 : decode cX2_depth 13 = .ok (.aload_n 0, 1) := dk_42 (dk_at dksX2_depth_0 13 rfl rfl)
theorem dX2_depth_14 : decode cX2_depth 14 = .ok (.getfield 22, 3) := dk_180 0 22 (dk_at dksX2_depth_0 14 rfl rfl)
theorem dX2_depth_17 : decode cX2_depth 17 = .ok (.iload_n 1, 1) := dk_27 (dk_at dksX2_depth_0 17 rfl rfl)
theorem dX2_depth_18 : decode cX2_depth 18 = .ok (.iaload, 1) := dk_46 (dk_at dksX2_depth_0 18 rfl rfl)
theorem dX2_depth_19 : decode cX2_depth 19 = .ok (.if_icmp .ge 86, 3) := dk_162 0 86 (dk_at dksX2_depth_0 19 rfl rfl)
theorem dX2_depth_22 : decode cX2_depth 22 = .ok (.iload_n 1, 1) := dk_27 (dk_at dksX2_depth_0 22 rfl rfl)
theorem dX2_depth_23 : decode cX2_depth 23 = .ok (.bipush 40, 2) := dk_16 40 (dk_at dksX2_depth_1 0 rfl rfl)
theorem dX2_depth_25 : decode cX2_depth 25 = .ok (.imul, 1) := dk_104 (dk_at dksX2_depth_1 2 rfl rfl)
theorem dX2_depth_26 : decode cX2_depth 26 = .ok (.iload_n 2, 1) := dk_28 (dk_at dksX2_depth_1 3 rfl rfl)
theorem dX2_depth_27 : decode cX2_depth 27 = .ok (.iadd, 1) := dk_96 (dk_at dksX2_depth_1 4 rfl rfl)
theorem dX2_depth_28 : decode cX2_depth 28 = .ok (.istore_n 3, 1) := dk_62 (dk_at dksX2_depth_1 5 rfl rfl)
theorem dX2_depth_29 : decode cX2_depth 29 = .ok (.aload_n 0, 1) := dk_42 (dk_at dksX2_depth_1 6 rfl rfl)
theorem dX2_depth_30 : decode cX2_depth 30 = .ok (.getfield 46, 3) := dk_180 0 46 (dk_at dksX2_depth_1 7 rfl rfl)
theorem dX2_depth_33 : decode cX2_depth 33 = .ok (.iload_n 2, 1) := dk_28 (dk_at dksX2_depth_1 10 rfl rfl)
theorem dX2_depth_34 : decode cX2_depth 34 = .ok (.aload_n 0, 1) := dk_42 (dk_at dksX2_depth_1 11 rfl rfl)
theorem dX2_depth_35 : decode cX2_depth 35 = .ok (.getfield 13, 3) := dk_180 0 13 (dk_at dksX2_depth_1 12 rfl rfl)
theorem dX2_depth_38 : decode cX2_depth 38 = .ok (.iload_n 3, 1) := dk_29 (dk_at dksX2_depth_1 15 rfl rfl)
theorem dX2_depth_39 : decode cX2_depth 39 = .ok (.iaload, 1) := dk_46 (dk_at dksX2_depth_1 16 rfl rfl)
theorem dX2_depth_40 : decode cX2_depth 40 = .ok (.ifCond .ne 7, 3) := dk_154 0 7 (dk_at dksX2_depth_1 17 rfl rfl)
theorem dX2_depth_43 : decode cX2_depth 43 = .ok (.iconst 0, 1) := dk_3 (dk_at dksX2_depth_1 20 rfl rfl)
theorem dX2_depth_44 : decode cX2_depth 44 = .ok (.goto 54, 3) := dk_167 0 54 (dk_at dksX2_depth_1 21 rfl rfl)
theorem dX2_depth_47 : decode cX2_depth 47 = .ok (.iconst 1, 1) := dk_4 (dk_at dksX2_depth_2 0 rfl rfl)
theorem dX2_depth_48 : decode cX2_depth 48 = .ok (.aload_n 0, 1) := dk_42 (dk_at dksX2_depth_2 1 rfl rfl)
theorem dX2_depth_49 : decode cX2_depth 49 = .ok (.getfield 13, 3) := dk_180 0 13 (dk_at dksX2_depth_2 2 rfl rfl)
theorem dX2_depth_52 : decode cX2_depth 52 = .ok (.iload_n 3, 1) := dk_29 (dk_at dksX2_depth_2 5 rfl rfl)
theorem dX2_depth_53 : decode cX2_depth 53 = .ok (.iaload, 1) := dk_46 (dk_at dksX2_depth_2 6 rfl rfl)
theorem dX2_depth_54 : decode cX2_depth 54 = .ok (.iconst 1, 1) := dk_4 (dk_at dksX2_depth_2 7 rfl rfl)
theorem dX2_depth_55 : decode cX2_depth 55 = .ok (.if_icmp .ne 17, 3) := dk_160 0 17 (dk_at dksX2_depth_2 8 rfl rfl)
theorem dX2_depth_58 : decode cX2_depth 58 = .ok (.aload_n 0, 1) := dk_42 (dk_at dksX2_depth_2 11 rfl rfl)
theorem dX2_depth_59 : decode cX2_depth 59 = .ok (.getfield 46, 3) := dk_180 0 46 (dk_at dksX2_depth_2 12 rfl rfl)
theorem dX2_depth_62 : decode cX2_depth 62 = .ok (.aload_n 0, 1) := dk_42 (dk_at dksX2_depth_2 15 rfl rfl)
theorem dX2_depth_63 : decode cX2_depth 63 = .ok (.getfield 16, 3) := dk_180 0 16 (dk_at dksX2_depth_2 16 rfl rfl)
theorem dX2_depth_66 : decode cX2_depth 66 = .ok (.iload_n 3, 1) := dk_29 (dk_at dksX2_depth_2 19 rfl rfl)
theorem dX2_depth_67 : decode cX2_depth 67 = .ok (.iaload, 1) := dk_46 (dk_at dksX2_depth_2 20 rfl rfl)
theorem dX2_depth_68 : decode cX2_depth 68 = .ok (.iaload, 1) := dk_46 (dk_at dksX2_depth_2 21 rfl rfl)
theorem dX2_depth_69 : decode cX2_depth 69 = .ok (.goto 28, 3) := dk_167 0 28 (dk_at dksX2_depth_3 0 rfl rfl)
theorem dX2_depth_72 : decode cX2_depth 72 = .ok (.aload_n 0, 1) := dk_42 (dk_at dksX2_depth_3 3 rfl rfl)
theorem dX2_depth_73 : decode cX2_depth 73 = .ok (.getfield 46, 3) := dk_180 0 46 (dk_at dksX2_depth_3 4 rfl rfl)
theorem dX2_depth_76 : decode cX2_depth 76 = .ok (.aload_n 0, 1) := dk_42 (dk_at dksX2_depth_3 7 rfl rfl)
theorem dX2_depth_77 : decode cX2_depth 77 = .ok (.getfield 16, 3) := dk_180 0 16 (dk_at dksX2_depth_3 8 rfl rfl)
theorem dX2_depth_80 : decode cX2_depth 80 = .ok (.iload_n 3, 1) := dk_29 (dk_at dksX2_depth_3 11 rfl rfl)
theorem dX2_depth_81 : decode cX2_depth 81 = .ok (.iaload, 1) := dk_46 (dk_at dksX2_depth_3 12 rfl rfl)
theorem dX2_depth_82 : decode cX2_depth 82 = .ok (.iaload, 1) := dk_46 (dk_at dksX2_depth_3 13 rfl rfl)
theorem dX2_depth_83 : decode cX2_depth 83 = .ok (.aload_n 0, 1) := dk_42 (dk_at dksX2_depth_3 14 rfl rfl)
theorem dX2_depth_84 : decode cX2_depth 84 = .ok (.getfield 46, 3) := dk_180 0 46 (dk_at dksX2_depth_3 15 rfl rfl)
theorem dX2_depth_87 : decode cX2_depth 87 = .ok (.aload_n 0, 1) := dk_42 (dk_at dksX2_depth_3 18 rfl rfl)
theorem dX2_depth_88 : decode cX2_depth 88 = .ok (.getfield 19, 3) := dk_180 0 19 (dk_at dksX2_depth_3 19 rfl rfl)
theorem dX2_depth_91 : decode cX2_depth 91 = .ok (.iload_n 3, 1) := dk_29 (dk_at dksX2_depth_3 22 rfl rfl)
theorem dX2_depth_92 : decode cX2_depth 92 = .ok (.iaload, 1) := dk_46 (dk_at dksX2_depth_3 23 rfl rfl)
theorem dX2_depth_93 : decode cX2_depth 93 = .ok (.iaload, 1) := dk_46 (dk_at dksX2_depth_4 0 rfl rfl)
theorem dX2_depth_94 : decode cX2_depth 94 = .ok (.invokestatic 139, 3) := dk_184 0 139 (dk_at dksX2_depth_4 1 rfl rfl)
theorem dX2_depth_97 : decode cX2_depth 97 = .ok (.iadd, 1) := dk_96 (dk_at dksX2_depth_4 4 rfl rfl)
theorem dX2_depth_98 : decode cX2_depth 98 = .ok (.iastore, 1) := dk_79 (dk_at dksX2_depth_4 5 rfl rfl)
theorem dX2_depth_99 : decode cX2_depth 99 = .ok (.iinc 2 1, 3) := dk_132 2 1 (dk_at dksX2_depth_4 6 rfl rfl)
theorem dX2_depth_102 : decode cX2_depth 102 = .ok (.goto (-90), 3) := dk_167 255 166 (dk_at dksX2_depth_4 9 rfl rfl)
theorem dX2_depth_105 : decode cX2_depth 105 = .ok (.aload_n 0, 1) := dk_42 (dk_at dksX2_depth_4 12 rfl rfl)
theorem dX2_depth_106 : decode cX2_depth 106 = .ok (.getfield 46, 3) := dk_180 0 46 (dk_at dksX2_depth_4 13 rfl rfl)
theorem dX2_depth_109 : decode cX2_depth 109 = .ok (.aload_n 0, 1) := dk_42 (dk_at dksX2_depth_4 16 rfl rfl)
theorem dX2_depth_110 : decode cX2_depth 110 = .ok (.getfield 22, 3) := dk_180 0 22 (dk_at dksX2_depth_4 17 rfl rfl)
theorem dX2_depth_113 : decode cX2_depth 113 = .ok (.iload_n 1, 1) := dk_27 (dk_at dksX2_depth_4 20 rfl rfl)
theorem dX2_depth_114 : decode cX2_depth 114 = .ok (.iaload, 1) := dk_46 (dk_at dksX2_depth_4 21 rfl rfl)
theorem dX2_depth_115 : decode cX2_depth 115 = .ok (.iconst 1, 1) := dk_4 (dk_at dksX2_depth_4 22 rfl rfl)
theorem dX2_depth_116 : decode cX2_depth 116 = .ok (.isub, 1) := dk_100 (dk_at dksX2_depth_4 23 rfl rfl)
theorem dX2_depth_117 : decode cX2_depth 117 = .ok (.iaload, 1) := dk_46 (dk_at dksX2_depth_5 0 rfl rfl)
theorem dX2_depth_118 : decode cX2_depth 118 = .ok (.ireturn, 1) := dk_172 (dk_at dksX2_depth_5 1 rfl rfl)
abbrev cX2_outcome : ByteArray := prog_15_method_36_code
def yX2_outcome : MethodName := ⟨RX2, "outcome", "(II)Z"⟩
def dkwX2_outcome_0 : List UInt8 := [42, 27, 28, 182, 0, 163, 154, 0, 16, 42, 27, 28, 182, 0, 166, 153, 0, 7, 4, 167, 0, 4, 3, 172]
abbrev dktX2_outcome_0 : List UInt8 := dkwX2_outcome_0 ++ []
theorem dksX2_outcome_0 : cX2_outcome.data.toList.drop 0 = dktX2_outcome_0 := by decide +kernel
theorem dX2_outcome_0 : decode cX2_outcome 0 = .ok (.aload_n 0, 1) := dk_42 (dk_at dksX2_outcome_0 0 rfl rfl)
theorem dX2_outcome_1 : decode cX2_outcome 1 = .ok (.iload_n 1, 1) := dk_27 (dk_at dksX2_outcome_0 1 rfl rfl)
theorem dX2_outcome_2 : decode cX2_outcome 2 = .ok (.iload_n 2, 1) := dk_28 (dk_at dksX2_outcome_0 2 rfl rfl)
theorem dX2_outcome_3 : decode cX2_outcome 3 = .ok (.invokevirtual 163, 3) := dk_182 0 163 (dk_at dksX2_outcome_0 3 rfl rfl)
theorem dX2_outcome_6 : decode cX2_outcome 6 = .ok (.ifCond .ne 16, 3) := dk_154 0 16 (dk_at dksX2_outcome_0 6 rfl rfl)
theorem dX2_outcome_9 : decode cX2_outcome 9 = .ok (.aload_n 0, 1) := dk_42 (dk_at dksX2_outcome_0 9 rfl rfl)
theorem dX2_outcome_10 : decode cX2_outcome 10 = .ok (.iload_n 1, 1) := dk_27 (dk_at dksX2_outcome_0 10 rfl rfl)
theorem dX2_outcome_11 : decode cX2_outcome 11 = .ok (.iload_n 2, 1) := dk_28 (dk_at dksX2_outcome_0 11 rfl rfl)
theorem dX2_outcome_12 : decode cX2_outcome 12 = .ok (.invokevirtual 166, 3) := dk_182 0 166 (dk_at dksX2_outcome_0 12 rfl rfl)
theorem dX2_outcome_15 : decode cX2_outcome 15 = .ok (.ifCond .eq 7, 3) := dk_153 0 7 (dk_at dksX2_outcome_0 15 rfl rfl)
theorem dX2_outcome_18 : decode cX2_outcome 18 = .ok (.iconst 1, 1) := dk_4 (dk_at dksX2_outcome_0 18 rfl rfl)
theorem dX2_outcome_19 : decode cX2_outcome 19 = .ok (.goto 4, 3) := dk_167 0 4 (dk_at dksX2_outcome_0 19 rfl rfl)
theorem dX2_outcome_22 : decode cX2_outcome 22 = .ok (.iconst 0, 1) := dk_3 (dk_at dksX2_outcome_0 22 rfl rfl)
theorem dX2_outcome_23 : decode cX2_outcome 23 = .ok (.ireturn, 1) := dk_172 (dk_at dksX2_outcome_0 23 rfl rfl)
abbrev cX2_noVector : ByteArray := prog_15_method_35_code
def yX2_noVector : MethodName := ⟨RX2, "noVector", "(II)Z"⟩
def dkwX2_noVector_1 : List UInt8 := [182, 0, 83, 153, 0, 7, 4, 167, 0, 4, 3, 172]
abbrev dktX2_noVector_1 : List UInt8 := dkwX2_noVector_1 ++ []
def dkwX2_noVector_0 : List UInt8 := [42, 27, 182, 0, 133, 154, 0, 23, 42, 28, 184, 0, 160, 154, 0, 7, 4, 167, 0, 4, 3, 5]
abbrev dktX2_noVector_0 : List UInt8 := dkwX2_noVector_0 ++ dktX2_noVector_1
theorem dksX2_noVector_0 : cX2_noVector.data.toList.drop 0 = dktX2_noVector_0 := by decide +kernel
theorem dksX2_noVector_1 : cX2_noVector.data.toList.drop 22 = dktX2_noVector_1 := dk_seg dksX2_noVector_0 22 rfl rfl
theorem dX2_noVector_0 : decode cX2_noVector 0 = .ok (.aload_n 0, 1) := dk_42 (dk_at dksX2_noVector_0 0 rfl rfl)
theorem dX2_noVector_1 : decode cX2_noVector 1 = .ok (.iload_n 1, 1) := dk_27 (dk_at dksX2_noVector_0 1 rfl rfl)
theorem dX2_noVector_2 : decode cX2_noVector 2 = .ok (.invokevirtual 133, 3) := dk_182 0 133 (dk_at dksX2_noVector_0 2 rfl rfl)
theorem dX2_noVector_5 : decode cX2_noVector 5 = .ok (.ifCond .ne 23, 3) := dk_154 0 23 (dk_at dksX2_noVector_0 5 rfl rfl)
theorem dX2_noVector_8 : decode cX2_noVector 8 = .ok (.aload_n 0, 1) := dk_42 (dk_at dksX2_noVector_0 8 rfl rfl)
theorem dX2_noVector_9 : decode cX2_noVector 9 = .ok (.iload_n 2, 1) := dk_28 (dk_at dksX2_noVector_0 9 rfl rfl)
theorem dX2_noVector_10 : decode cX2_noVector 10 = .ok (.invokestatic 160, 3) := dk_184 0 160 (dk_at dksX2_noVector_0 10 rfl rfl)
theorem dX2_noVector_13 : decode cX2_noVector 13 = .ok (.ifCond .ne 7, 3) := dk_154 0 7 (dk_at dksX2_noVector_0 13 rfl rfl)
theorem dX2_noVector_16 : decode cX2_noVector 16 = .ok (.iconst 1, 1) := dk_4 (dk_at dksX2_noVector_0 16 rfl rfl)
theorem dX2_noVector_17 : decode cX2_noVector 17 = .ok (.goto 4, 3) := dk_167 0 4 (dk_at dksX2_noVector_0 17 rfl rfl)
theorem dX2_noVector_20 : decode cX2_noVector 20 = .ok (.iconst 0, 1) := dk_3 (dk_at dksX2_noVector_0 20 rfl rfl)
theorem dX2_noVector_21 : decode cX2_noVector 21 = .ok (.iconst 2, 1) := dk_5 (dk_at dksX2_noVector_0 21 rfl rfl)
theorem dX2_noVector_22 : decode cX2_noVector 22 = .ok (.invokevirtual 83, 3) := dk_182 0 83 (dk_at dksX2_noVector_1 0 rfl rfl)
theorem dX2_noVector_25 : decode cX2_noVector 25 = .ok (.ifCond .eq 7, 3) := dk_153 0 7 (dk_at dksX2_noVector_1 3 rfl rfl)
theorem dX2_noVector_28 : decode cX2_noVector 28 = .ok (.iconst 1, 1) := dk_4 (dk_at dksX2_noVector_1 6 rfl rfl)
theorem dX2_noVector_29 : decode cX2_noVector 29 = .ok (.goto 4, 3) := dk_167 0 4 (dk_at dksX2_noVector_1 7 rfl rfl)
theorem dX2_noVector_32 : decode cX2_noVector 32 = .ok (.iconst 0, 1) := dk_3 (dk_at dksX2_noVector_1 10 rfl rfl)
theorem dX2_noVector_33 : decode cX2_noVector 33 = .ok (.ireturn, 1) := dk_172 (dk_at dksX2_noVector_1 11 rfl rfl)
abbrev cX2_isVector : ByteArray := prog_15_method_34_code
def yX2_isVector : MethodName := ⟨RX2, "isVector", "(I)Z"⟩
def dkwX2_isVector_0 : List UInt8 := [26, 3, 16, 15, 184, 0, 105, 172]
abbrev dktX2_isVector_0 : List UInt8 := dkwX2_isVector_0 ++ []
theorem dksX2_isVector_0 : cX2_isVector.data.toList.drop 0 = dktX2_isVector_0 := by decide +kernel
theorem dX2_isVector_0 : decode cX2_isVector 0 = .ok (.iload_n 0, 1) := dk_26 (dk_at dksX2_isVector_0 0 rfl rfl)
theorem dX2_isVector_1 : decode cX2_isVector 1 = .ok (.iconst 0, 1) := dk_3 (dk_at dksX2_isVector_0 1 rfl rfl)
theorem dX2_isVector_2 : decode cX2_isVector 2 = .ok (.bipush 15, 2) := dk_16 15 (dk_at dksX2_isVector_0 2 rfl rfl)
theorem dX2_isVector_4 : decode cX2_isVector 4 = .ok (.invokestatic 105, 3) := dk_184 0 105 (dk_at dksX2_isVector_0 4 rfl rfl)
theorem dX2_isVector_7 : decode cX2_isVector 7 = .ok (.ireturn, 1) := dk_172 (dk_at dksX2_isVector_0 7 rfl rfl)
abbrev cX2_walksAll : ByteArray := prog_15_method_32_code
def yX2_walksAll : MethodName := ⟨RX2, "walksAll", "(II)Z"⟩
def dkwX2_walksAll_1 : List UInt8 := [172]
abbrev dktX2_walksAll_1 : List UInt8 := dkwX2_walksAll_1 ++ []
def dkwX2_walksAll_0 : List UInt8 := [42, 3, 181, 0, 148, 42, 27, 42, 180, 0, 22, 27, 46, 4, 100, 42, 27, 28, 182, 0, 154, 182, 0, 151]
abbrev dktX2_walksAll_0 : List UInt8 := dkwX2_walksAll_0 ++ dktX2_walksAll_1
theorem dksX2_walksAll_0 : cX2_walksAll.data.toList.drop 0 = dktX2_walksAll_0 := by decide +kernel
theorem dksX2_walksAll_1 : cX2_walksAll.data.toList.drop 24 = dktX2_walksAll_1 := dk_seg dksX2_walksAll_0 24 rfl rfl
theorem dX2_walksAll_0 : decode cX2_walksAll 0 = .ok (.aload_n 0, 1) := dk_42 (dk_at dksX2_walksAll_0 0 rfl rfl)
theorem dX2_walksAll_1 : decode cX2_walksAll 1 = .ok (.iconst 0, 1) := dk_3 (dk_at dksX2_walksAll_0 1 rfl rfl)
theorem dX2_walksAll_2 : decode cX2_walksAll 2 = .ok (.putfield 148, 3) := dk_181 0 148 (dk_at dksX2_walksAll_0 2 rfl rfl)
theorem dX2_walksAll_5 : decode cX2_walksAll 5 = .ok (.aload_n 0, 1) := dk_42 (dk_at dksX2_walksAll_0 5 rfl rfl)
theorem dX2_walksAll_6 : decode cX2_walksAll 6 = .ok (.iload_n 1, 1) := dk_27 (dk_at dksX2_walksAll_0 6 rfl rfl)
theorem dX2_walksAll_7 : decode cX2_walksAll 7 = .ok (.aload_n 0, 1) := dk_42 (dk_at dksX2_walksAll_0 7 rfl rfl)
theorem dX2_walksAll_8 : decode cX2_walksAll 8 = .ok (.getfield 22, 3) := dk_180 0 22 (dk_at dksX2_walksAll_0 8 rfl rfl)
theorem dX2_walksAll_11 : decode cX2_walksAll 11 = .ok (.iload_n 1, 1) := dk_27 (dk_at dksX2_walksAll_0 11 rfl rfl)
theorem dX2_walksAll_12 : decode cX2_walksAll 12 = .ok (.iaload, 1) := dk_46 (dk_at dksX2_walksAll_0 12 rfl rfl)
theorem dX2_walksAll_13 : decode cX2_walksAll 13 = .ok (.iconst 1, 1) := dk_4 (dk_at dksX2_walksAll_0 13 rfl rfl)
theorem dX2_walksAll_14 : decode cX2_walksAll 14 = .ok (.isub, 1) := dk_100 (dk_at dksX2_walksAll_0 14 rfl rfl)
theorem dX2_walksAll_15 : decode cX2_walksAll 15 = .ok (.aload_n 0, 1) := dk_42 (dk_at dksX2_walksAll_0 15 rfl rfl)
theorem dX2_walksAll_16 : decode cX2_walksAll 16 = .ok (.iload_n 1, 1) := dk_27 (dk_at dksX2_walksAll_0 16 rfl rfl)
theorem dX2_walksAll_17 : decode cX2_walksAll 17 = .ok (.iload_n 2, 1) := dk_28 (dk_at dksX2_walksAll_0 17 rfl rfl)
theorem dX2_walksAll_18 : decode cX2_walksAll 18 = .ok (.invokevirtual 154, 3) := dk_182 0 154 (dk_at dksX2_walksAll_0 18 rfl rfl)
theorem dX2_walksAll_21 : decode cX2_walksAll 21 = .ok (.invokevirtual 151, 3) := dk_182 0 151 (dk_at dksX2_walksAll_0 21 rfl rfl)
theorem dX2_walksAll_24 : decode cX2_walksAll 24 = .ok (.ireturn, 1) := dk_172 (dk_at dksX2_walksAll_1 0 rfl rfl)
abbrev cX2_values : ByteArray := prog_15_method_29_code
def yX2_values : MethodName := ⟨RX2, "values", "(II)I"⟩
def dkwX2_values_2 : List UInt8 := [132, 4, 1, 167, 255, 212, 29, 172]
abbrev dktX2_values_2 : List UInt8 := dkwX2_values_2 ++ []
def dkwX2_values_1 : List UInt8 := [16, 8, 104, 21, 4, 96, 46, 184, 0, 145, 153, 0, 10, 4, 21, 4, 120, 167, 0, 4, 3, 128, 62]
abbrev dktX2_values_1 : List UInt8 := dkwX2_values_1 ++ dktX2_values_2
def dkwX2_values_0 : List UInt8 := [3, 62, 3, 54, 4, 21, 4, 42, 180, 0, 28, 27, 46, 162, 0, 39, 29, 28, 42, 180, 0, 25, 27]
abbrev dktX2_values_0 : List UInt8 := dkwX2_values_0 ++ dktX2_values_1
theorem dksX2_values_0 : cX2_values.data.toList.drop 0 = dktX2_values_0 := by decide +kernel
theorem dksX2_values_1 : cX2_values.data.toList.drop 23 = dktX2_values_1 := dk_seg dksX2_values_0 23 rfl rfl
theorem dksX2_values_2 : cX2_values.data.toList.drop 46 = dktX2_values_2 := dk_seg dksX2_values_1 23 rfl rfl
theorem dX2_values_0 : decode cX2_values 0 = .ok (.iconst 0, 1) := dk_3 (dk_at dksX2_values_0 0 rfl rfl)
theorem dX2_values_1 : decode cX2_values 1 = .ok (.istore_n 3, 1) := dk_62 (dk_at dksX2_values_0 1 rfl rfl)
theorem dX2_values_2 : decode cX2_values 2 = .ok (.iconst 0, 1) := dk_3 (dk_at dksX2_values_0 2 rfl rfl)
theorem dX2_values_3 : decode cX2_values 3 = .ok (.istore 4, 2) := dk_54 4 (dk_at dksX2_values_0 3 rfl rfl)
theorem dX2_values_5 : decode cX2_values 5 = .ok (.iload 4, 2) := dk_21 4 (dk_at dksX2_values_0 5 rfl rfl)
theorem dX2_values_7 : decode cX2_values 7 = .ok (.aload_n 0, 1) := dk_42 (dk_at dksX2_values_0 7 rfl rfl)
theorem dX2_values_8 : decode cX2_values 8 = .ok (.getfield 28, 3) := dk_180 0 28 (dk_at dksX2_values_0 8 rfl rfl)
theorem dX2_values_11 : decode cX2_values 11 = .ok (.iload_n 1, 1) := dk_27 (dk_at dksX2_values_0 11 rfl rfl)
theorem dX2_values_12 : decode cX2_values 12 = .ok (.iaload, 1) := dk_46 (dk_at dksX2_values_0 12 rfl rfl)
theorem dX2_values_13 : decode cX2_values 13 = .ok (.if_icmp .ge 39, 3) := dk_162 0 39 (dk_at dksX2_values_0 13 rfl rfl)
theorem dX2_values_16 : decode cX2_values 16 = .ok (.iload_n 3, 1) := dk_29 (dk_at dksX2_values_0 16 rfl rfl)
theorem dX2_values_17 : decode cX2_values 17 = .ok (.iload_n 2, 1) := dk_28 (dk_at dksX2_values_0 17 rfl rfl)
theorem dX2_values_18 : decode cX2_values 18 = .ok (.aload_n 0, 1) := dk_42 (dk_at dksX2_values_0 18 rfl rfl)
theorem dX2_values_19 : decode cX2_values 19 = .ok (.getfield 25, 3) := dk_180 0 25 (dk_at dksX2_values_0 19 rfl rfl)
theorem dX2_values_22 : decode cX2_values 22 = .ok (.iload_n 1, 1) := dk_27 (dk_at dksX2_values_0 22 rfl rfl)
theorem dX2_values_23 : decode cX2_values 23 = .ok (.bipush 8, 2) := dk_16 8 (dk_at dksX2_values_1 0 rfl rfl)
theorem dX2_values_25 : decode cX2_values 25 = .ok (.imul, 1) := dk_104 (dk_at dksX2_values_1 2 rfl rfl)
theorem dX2_values_26 : decode cX2_values 26 = .ok (.iload 4, 2) := dk_21 4 (dk_at dksX2_values_1 3 rfl rfl)
theorem dX2_values_28 : decode cX2_values 28 = .ok (.iadd, 1) := dk_96 (dk_at dksX2_values_1 5 rfl rfl)
theorem dX2_values_29 : decode cX2_values 29 = .ok (.iaload, 1) := dk_46 (dk_at dksX2_values_1 6 rfl rfl)
theorem dX2_values_30 : decode cX2_values 30 = .ok (.invokestatic 145, 3) := dk_184 0 145 (dk_at dksX2_values_1 7 rfl rfl)
theorem dX2_values_33 : decode cX2_values 33 = .ok (.ifCond .eq 10, 3) := dk_153 0 10 (dk_at dksX2_values_1 10 rfl rfl)
theorem dX2_values_36 : decode cX2_values 36 = .ok (.iconst 1, 1) := dk_4 (dk_at dksX2_values_1 13 rfl rfl)
theorem dX2_values_37 : decode cX2_values 37 = .ok (.iload 4, 2) := dk_21 4 (dk_at dksX2_values_1 14 rfl rfl)
theorem dX2_values_39 : decode cX2_values 39 = .ok (.ishl, 1) := dk_120 (dk_at dksX2_values_1 16 rfl rfl)
theorem dX2_values_40 : decode cX2_values 40 = .ok (.goto 4, 3) := dk_167 0 4 (dk_at dksX2_values_1 17 rfl rfl)
theorem dX2_values_43 : decode cX2_values 43 = .ok (.iconst 0, 1) := dk_3 (dk_at dksX2_values_1 20 rfl rfl)
theorem dX2_values_44 : decode cX2_values 44 = .ok (.ior, 1) := dk_128 (dk_at dksX2_values_1 21 rfl rfl)
theorem dX2_values_45 : decode cX2_values 45 = .ok (.istore_n 3, 1) := dk_62 (dk_at dksX2_values_1 22 rfl rfl)
theorem dX2_values_46 : decode cX2_values 46 = .ok (.iinc 4 1, 3) := dk_132 4 1 (dk_at dksX2_values_2 0 rfl rfl)
theorem dX2_values_49 : decode cX2_values 49 = .ok (.goto (-44), 3) := dk_167 255 212 (dk_at dksX2_values_2 3 rfl rfl)
theorem dX2_values_52 : decode cX2_values 52 = .ok (.iload_n 3, 1) := dk_29 (dk_at dksX2_values_2 6 rfl rfl)
theorem dX2_values_53 : decode cX2_values 53 = .ok (.ireturn, 1) := dk_172 (dk_at dksX2_values_2 7 rfl rfl)
abbrev cX2_has : ByteArray := prog_15_method_7_code
def yX2_has : MethodName := ⟨RX2, "has", "(II)Z"⟩
def dkwX2_has_0 : List UInt8 := [26, 27, 122, 4, 126, 4, 160, 0, 7, 4, 167, 0, 4, 3, 172]
abbrev dktX2_has_0 : List UInt8 := dkwX2_has_0 ++ []
theorem dksX2_has_0 : cX2_has.data.toList.drop 0 = dktX2_has_0 := by decide +kernel
theorem dX2_has_0 : decode cX2_has 0 = .ok (.iload_n 0, 1) := dk_26 (dk_at dksX2_has_0 0 rfl rfl)
theorem dX2_has_1 : decode cX2_has 1 = .ok (.iload_n 1, 1) := dk_27 (dk_at dksX2_has_0 1 rfl rfl)
theorem dX2_has_2 : decode cX2_has 2 = .ok (.ishr, 1) := dk_122 (dk_at dksX2_has_0 2 rfl rfl)
theorem dX2_has_3 : decode cX2_has 3 = .ok (.iconst 1, 1) := dk_4 (dk_at dksX2_has_0 3 rfl rfl)
theorem dX2_has_4 : decode cX2_has 4 = .ok (.iand, 1) := dk_126 (dk_at dksX2_has_0 4 rfl rfl)
theorem dX2_has_5 : decode cX2_has 5 = .ok (.iconst 1, 1) := dk_4 (dk_at dksX2_has_0 5 rfl rfl)
theorem dX2_has_6 : decode cX2_has 6 = .ok (.if_icmp .ne 7, 3) := dk_160 0 7 (dk_at dksX2_has_0 6 rfl rfl)
theorem dX2_has_9 : decode cX2_has 9 = .ok (.iconst 1, 1) := dk_4 (dk_at dksX2_has_0 9 rfl rfl)
theorem dX2_has_10 : decode cX2_has 10 = .ok (.goto 4, 3) := dk_167 0 4 (dk_at dksX2_has_0 10 rfl rfl)
theorem dX2_has_13 : decode cX2_has 13 = .ok (.iconst 0, 1) := dk_3 (dk_at dksX2_has_0 13 rfl rfl)
theorem dX2_has_14 : decode cX2_has 14 = .ok (.ireturn, 1) := dk_172 (dk_at dksX2_has_0 14 rfl rfl)
abbrev cX2_walks : ByteArray := prog_15_method_31_code
def yX2_walks : MethodName := ⟨RX2, "walks", "(III)Z"⟩
def dkwX2_walks_6 : List UInt8 := [46, 7, 160, 0, 18, 21, 5, 21, 6, 159, 0, 7, 4, 167, 0, 9, 3, 167, 0, 5, 21, 6, 172]
abbrev dktX2_walks_6 : List UInt8 := dkwX2_walks_6 ++ []
def dkwX2_walks_5 : List UInt8 := [21, 5, 172, 42, 27, 42, 180, 0, 19, 21, 4, 46, 29, 182, 0, 151, 54, 6, 42, 180, 0, 13, 21, 4]
abbrev dktX2_walks_5 : List UInt8 := dkwX2_walks_5 ++ dktX2_walks_6
def dkwX2_walks_4 : List UInt8 := [160, 0, 8, 21, 5, 153, 0, 19, 42, 180, 0, 13, 21, 4, 46, 6, 160, 0, 11, 21, 5, 153, 0, 6]
abbrev dktX2_walks_4 : List UInt8 := dkwX2_walks_4 ++ dktX2_walks_5
def dkwX2_walks_3 : List UInt8 := [160, 0, 14, 21, 5, 154, 0, 7, 4, 167, 0, 4, 3, 172, 42, 180, 0, 13, 21, 4, 46, 5]
abbrev dktX2_walks_3 : List UInt8 := dkwX2_walks_3 ++ dktX2_walks_4
def dkwX2_walks_2 : List UInt8 := [42, 27, 42, 180, 0, 16, 21, 4, 46, 29, 182, 0, 151, 54, 5, 42, 180, 0, 13, 21, 4, 46, 4]
abbrev dktX2_walks_2 : List UInt8 := dkwX2_walks_2 ++ dktX2_walks_3
def dkwX2_walks_1 : List UInt8 := [42, 180, 0, 16, 21, 4, 46, 120, 128, 181, 0, 148, 29, 42, 180, 0, 16, 21, 4, 46, 184, 0, 145, 172]
abbrev dktX2_walks_1 : List UInt8 := dkwX2_walks_1 ++ dktX2_walks_2
def dkwX2_walks_0 : List UInt8 := [27, 16, 40, 104, 28, 96, 54, 4, 42, 180, 0, 13, 21, 4, 46, 154, 0, 33, 42, 89, 180, 0, 148, 4]
abbrev dktX2_walks_0 : List UInt8 := dkwX2_walks_0 ++ dktX2_walks_1
theorem dksX2_walks_0 : cX2_walks.data.toList.drop 0 = dktX2_walks_0 := by decide +kernel
theorem dksX2_walks_1 : cX2_walks.data.toList.drop 24 = dktX2_walks_1 := dk_seg dksX2_walks_0 24 rfl rfl
theorem dksX2_walks_2 : cX2_walks.data.toList.drop 48 = dktX2_walks_2 := dk_seg dksX2_walks_1 24 rfl rfl
theorem dksX2_walks_3 : cX2_walks.data.toList.drop 71 = dktX2_walks_3 := dk_seg dksX2_walks_2 23 rfl rfl
theorem dksX2_walks_4 : cX2_walks.data.toList.drop 93 = dktX2_walks_4 := dk_seg dksX2_walks_3 22 rfl rfl
theorem dksX2_walks_5 : cX2_walks.data.toList.drop 117 = dktX2_walks_5 := dk_seg dksX2_walks_4 24 rfl rfl
theorem dksX2_walks_6 : cX2_walks.data.toList.drop 141 = dktX2_walks_6 := dk_seg dksX2_walks_5 24 rfl rfl
theorem dX2_walks_0 : decode cX2_walks 0 = .ok (.iload_n 1, 1) := dk_27 (dk_at dksX2_walks_0 0 rfl rfl)
theorem dX2_walks_1 : decode cX2_walks 1 = .ok (.bipush 40, 2) := dk_16 40 (dk_at dksX2_walks_0 1 rfl rfl)
theorem dX2_walks_3 : decode cX2_walks 3 = .ok (.imul, 1) := dk_104 (dk_at dksX2_walks_0 3 rfl rfl)
theorem dX2_walks_4 : decode cX2_walks 4 = .ok (.iload_n 2, 1) := dk_28 (dk_at dksX2_walks_0 4 rfl rfl)
theorem dX2_walks_5 : decode cX2_walks 5 = .ok (.iadd, 1) := dk_96 (dk_at dksX2_walks_0 5 rfl rfl)
theorem dX2_walks_6 : decode cX2_walks 6 = .ok (.istore 4, 2) := dk_54 4 (dk_at dksX2_walks_0 6 rfl rfl)
theorem dX2_walks_8 : decode cX2_walks 8 = .ok (.aload_n 0, 1) := dk_42 (dk_at dksX2_walks_0 8 rfl rfl)
theorem dX2_walks_9 : decode cX2_walks 9 = .ok (.getfield 13, 3) := dk_180 0 13 (dk_at dksX2_walks_0 9 rfl rfl)
theorem dX2_walks_12 : decode cX2_walks 12 = .ok (.iload 4, 2) := dk_21 4 (dk_at dksX2_walks_0 12 rfl rfl)
theorem dX2_walks_14 : decode cX2_walks 14 = .ok (.iaload, 1) := dk_46 (dk_at dksX2_walks_0 14 rfl rfl)
theorem dX2_walks_15 : decode cX2_walks 15 = .ok (.ifCond .ne 33, 3) := dk_154 0 33 (dk_at dksX2_walks_0 15 rfl rfl)
theorem dX2_walks_18 : decode cX2_walks 18 = .ok (.aload_n 0, 1) := dk_42 (dk_at dksX2_walks_0 18 rfl rfl)
theorem dX2_walks_19 : decode cX2_walks 19 = .ok (.dup, 1) := dk_89 (dk_at dksX2_walks_0 19 rfl rfl)
theorem dX2_walks_20 : decode cX2_walks 20 = .ok (.getfield 148, 3) := dk_180 0 148 (dk_at dksX2_walks_0 20 rfl rfl)
theorem dX2_walks_23 : decode cX2_walks 23 = .ok (.iconst 1, 1) := dk_4 (dk_at dksX2_walks_0 23 rfl rfl)
theorem dX2_walks_24 : decode cX2_walks 24 = .ok (.aload_n 0, 1) := dk_42 (dk_at dksX2_walks_1 0 rfl rfl)
theorem dX2_walks_25 : decode cX2_walks 25 = .ok (.getfield 16, 3) := dk_180 0 16 (dk_at dksX2_walks_1 1 rfl rfl)
theorem dX2_walks_28 : decode cX2_walks 28 = .ok (.iload 4, 2) := dk_21 4 (dk_at dksX2_walks_1 4 rfl rfl)
theorem dX2_walks_30 : decode cX2_walks 30 = .ok (.iaload, 1) := dk_46 (dk_at dksX2_walks_1 6 rfl rfl)
theorem dX2_walks_31 : decode cX2_walks 31 = .ok (.ishl, 1) := dk_120 (dk_at dksX2_walks_1 7 rfl rfl)
theorem dX2_walks_32 : decode cX2_walks 32 = .ok (.ior, 1) := dk_128 (dk_at dksX2_walks_1 8 rfl rfl)
theorem dX2_walks_33 : decode cX2_walks 33 = .ok (.putfield 148, 3) := dk_181 0 148 (dk_at dksX2_walks_1 9 rfl rfl)
theorem dX2_walks_36 : decode cX2_walks 36 = .ok (.iload_n 3, 1) := dk_29 (dk_at dksX2_walks_1 12 rfl rfl)
theorem dX2_walks_37 : decode cX2_walks 37 = .ok (.aload_n 0, 1) := dk_42 (dk_at dksX2_walks_1 13 rfl rfl)
theorem dX2_walks_38 : decode cX2_walks 38 = .ok (.getfield 16, 3) := dk_180 0 16 (dk_at dksX2_walks_1 14 rfl rfl)
theorem dX2_walks_41 : decode cX2_walks 41 = .ok (.iload 4, 2) := dk_21 4 (dk_at dksX2_walks_1 17 rfl rfl)
theorem dX2_walks_43 : decode cX2_walks 43 = .ok (.iaload, 1) := dk_46 (dk_at dksX2_walks_1 19 rfl rfl)
theorem dX2_walks_44 : decode cX2_walks 44 = .ok (.invokestatic 145, 3) := dk_184 0 145 (dk_at dksX2_walks_1 20 rfl rfl)
theorem dX2_walks_47 : decode cX2_walks 47 = .ok (.ireturn, 1) := dk_172 (dk_at dksX2_walks_1 23 rfl rfl)
theorem dX2_walks_48 : decode cX2_walks 48 = .ok (.aload_n 0, 1) := dk_42 (dk_at dksX2_walks_2 0 rfl rfl)
theorem dX2_walks_49 : decode cX2_walks 49 = .ok (.iload_n 1, 1) := dk_27 (dk_at dksX2_walks_2 1 rfl rfl)
theorem dX2_walks_50 : decode cX2_walks 50 = .ok (.aload_n 0, 1) := dk_42 (dk_at dksX2_walks_2 2 rfl rfl)
theorem dX2_walks_51 : decode cX2_walks 51 = .ok (.getfield 16, 3) := dk_180 0 16 (dk_at dksX2_walks_2 3 rfl rfl)
theorem dX2_walks_54 : decode cX2_walks 54 = .ok (.iload 4, 2) := dk_21 4 (dk_at dksX2_walks_2 6 rfl rfl)
theorem dX2_walks_56 : decode cX2_walks 56 = .ok (.iaload, 1) := dk_46 (dk_at dksX2_walks_2 8 rfl rfl)
theorem dX2_walks_57 : decode cX2_walks 57 = .ok (.iload_n 3, 1) := dk_29 (dk_at dksX2_walks_2 9 rfl rfl)
theorem dX2_walks_58 : decode cX2_walks 58 = .ok (.invokevirtual 151, 3) := dk_182 0 151 (dk_at dksX2_walks_2 10 rfl rfl)
theorem dX2_walks_61 : decode cX2_walks 61 = .ok (.istore 5, 2) := dk_54 5 (dk_at dksX2_walks_2 13 rfl rfl)
theorem dX2_walks_63 : decode cX2_walks 63 = .ok (.aload_n 0, 1) := dk_42 (dk_at dksX2_walks_2 15 rfl rfl)
theorem dX2_walks_64 : decode cX2_walks 64 = .ok (.getfield 13, 3) := dk_180 0 13 (dk_at dksX2_walks_2 16 rfl rfl)
theorem dX2_walks_67 : decode cX2_walks 67 = .ok (.iload 4, 2) := dk_21 4 (dk_at dksX2_walks_2 19 rfl rfl)
theorem dX2_walks_69 : decode cX2_walks 69 = .ok (.iaload, 1) := dk_46 (dk_at dksX2_walks_2 21 rfl rfl)
theorem dX2_walks_70 : decode cX2_walks 70 = .ok (.iconst 1, 1) := dk_4 (dk_at dksX2_walks_2 22 rfl rfl)
theorem dX2_walks_71 : decode cX2_walks 71 = .ok (.if_icmp .ne 14, 3) := dk_160 0 14 (dk_at dksX2_walks_3 0 rfl rfl)
theorem dX2_walks_74 : decode cX2_walks 74 = .ok (.iload 5, 2) := dk_21 5 (dk_at dksX2_walks_3 3 rfl rfl)
theorem dX2_walks_76 : decode cX2_walks 76 = .ok (.ifCond .ne 7, 3) := dk_154 0 7 (dk_at dksX2_walks_3 5 rfl rfl)
theorem dX2_walks_79 : decode cX2_walks 79 = .ok (.iconst 1, 1) := dk_4 (dk_at dksX2_walks_3 8 rfl rfl)
theorem dX2_walks_80 : decode cX2_walks 80 = .ok (.goto 4, 3) := dk_167 0 4 (dk_at dksX2_walks_3 9 rfl rfl)
theorem dX2_walks_83 : decode cX2_walks 83 = .ok (.iconst 0, 1) := dk_3 (dk_at dksX2_walks_3 12 rfl rfl)
theorem dX2_walks_84 : decode cX2_walks 84 = .ok (.ireturn, 1) := dk_172 (dk_at dksX2_walks_3 13 rfl rfl)
theorem dX2_walks_85 : decode cX2_walks 85 = .ok (.aload_n 0, 1) := dk_42 (dk_at dksX2_walks_3 14 rfl rfl)
theorem dX2_walks_86 : decode cX2_walks 86 = .ok (.getfield 13, 3) := dk_180 0 13 (dk_at dksX2_walks_3 15 rfl rfl)
theorem dX2_walks_89 : decode cX2_walks 89 = .ok (.iload 4, 2) := dk_21 4 (dk_at dksX2_walks_3 18 rfl rfl)
theorem dX2_walks_91 : decode cX2_walks 91 = .ok (.iaload, 1) := dk_46 (dk_at dksX2_walks_3 20 rfl rfl)
theorem dX2_walks_92 : decode cX2_walks 92 = .ok (.iconst 2, 1) := dk_5 (dk_at dksX2_walks_3 21 rfl rfl)
theorem dX2_walks_93 : decode cX2_walks 93 = .ok (.if_icmp .ne 8, 3) := dk_160 0 8 (dk_at dksX2_walks_4 0 rfl rfl)
theorem dX2_walks_96 : decode cX2_walks 96 = .ok (.iload 5, 2) := dk_21 5 (dk_at dksX2_walks_4 3 rfl rfl)
theorem dX2_walks_98 : decode cX2_walks 98 = .ok (.ifCond .eq 19, 3) := dk_153 0 19 (dk_at dksX2_walks_4 5 rfl rfl)
theorem dX2_walks_101 : decode cX2_walks 101 = .ok (.aload_n 0, 1) := dk_42 (dk_at dksX2_walks_4 8 rfl rfl)
theorem dX2_walks_102 : decode cX2_walks 102 = .ok (.getfield 13, 3) := dk_180 0 13 (dk_at dksX2_walks_4 9 rfl rfl)
theorem dX2_walks_105 : decode cX2_walks 105 = .ok (.iload 4, 2) := dk_21 4 (dk_at dksX2_walks_4 12 rfl rfl)
theorem dX2_walks_107 : decode cX2_walks 107 = .ok (.iaload, 1) := dk_46 (dk_at dksX2_walks_4 14 rfl rfl)
theorem dX2_walks_108 : decode cX2_walks 108 = .ok (.iconst 3, 1) := dk_6 (dk_at dksX2_walks_4 15 rfl rfl)
theorem dX2_walks_109 : decode cX2_walks 109 = .ok (.if_icmp .ne 11, 3) := dk_160 0 11 (dk_at dksX2_walks_4 16 rfl rfl)
theorem dX2_walks_112 : decode cX2_walks 112 = .ok (.iload 5, 2) := dk_21 5 (dk_at dksX2_walks_4 19 rfl rfl)
theorem dX2_walks_114 : decode cX2_walks 114 = .ok (.ifCond .eq 6, 3) := dk_153 0 6 (dk_at dksX2_walks_4 21 rfl rfl)
theorem dX2_walks_117 : decode cX2_walks 117 = .ok (.iload 5, 2) := dk_21 5 (dk_at dksX2_walks_5 0 rfl rfl)
theorem dX2_walks_119 : decode cX2_walks 119 = .ok (.ireturn, 1) := dk_172 (dk_at dksX2_walks_5 2 rfl rfl)
theorem dX2_walks_120 : decode cX2_walks 120 = .ok (.aload_n 0, 1) := dk_42 (dk_at dksX2_walks_5 3 rfl rfl)
theorem dX2_walks_121 : decode cX2_walks 121 = .ok (.iload_n 1, 1) := dk_27 (dk_at dksX2_walks_5 4 rfl rfl)
theorem dX2_walks_122 : decode cX2_walks 122 = .ok (.aload_n 0, 1) := dk_42 (dk_at dksX2_walks_5 5 rfl rfl)
theorem dX2_walks_123 : decode cX2_walks 123 = .ok (.getfield 19, 3) := dk_180 0 19 (dk_at dksX2_walks_5 6 rfl rfl)
theorem dX2_walks_126 : decode cX2_walks 126 = .ok (.iload 4, 2) := dk_21 4 (dk_at dksX2_walks_5 9 rfl rfl)
theorem dX2_walks_128 : decode cX2_walks 128 = .ok (.iaload, 1) := dk_46 (dk_at dksX2_walks_5 11 rfl rfl)
theorem dX2_walks_129 : decode cX2_walks 129 = .ok (.iload_n 3, 1) := dk_29 (dk_at dksX2_walks_5 12 rfl rfl)
theorem dX2_walks_130 : decode cX2_walks 130 = .ok (.invokevirtual 151, 3) := dk_182 0 151 (dk_at dksX2_walks_5 13 rfl rfl)
theorem dX2_walks_133 : decode cX2_walks 133 = .ok (.istore 6, 2) := dk_54 6 (dk_at dksX2_walks_5 16 rfl rfl)
theorem dX2_walks_135 : decode cX2_walks 135 = .ok (.aload_n 0, 1) := dk_42 (dk_at dksX2_walks_5 18 rfl rfl)
theorem dX2_walks_136 : decode cX2_walks 136 = .ok (.getfield 13, 3) := dk_180 0 13 (dk_at dksX2_walks_5 19 rfl rfl)
theorem dX2_walks_139 : decode cX2_walks 139 = .ok (.iload 4, 2) := dk_21 4 (dk_at dksX2_walks_5 22 rfl rfl)
theorem dX2_walks_141 : decode cX2_walks 141 = .ok (.iaload, 1) := dk_46 (dk_at dksX2_walks_6 0 rfl rfl)
theorem dX2_walks_142 : decode cX2_walks 142 = .ok (.iconst 4, 1) := dk_7 (dk_at dksX2_walks_6 1 rfl rfl)
theorem dX2_walks_143 : decode cX2_walks 143 = .ok (.if_icmp .ne 18, 3) := dk_160 0 18 (dk_at dksX2_walks_6 2 rfl rfl)
theorem dX2_walks_146 : decode cX2_walks 146 = .ok (.iload 5, 2) := dk_21 5 (dk_at dksX2_walks_6 5 rfl rfl)
theorem dX2_walks_148 : decode cX2_walks 148 = .ok (.iload 6, 2) := dk_21 6 (dk_at dksX2_walks_6 7 rfl rfl)
theorem dX2_walks_150 : decode cX2_walks 150 = .ok (.if_icmp .eq 7, 3) := dk_159 0 7 (dk_at dksX2_walks_6 9 rfl rfl)
theorem dX2_walks_153 : decode cX2_walks 153 = .ok (.iconst 1, 1) := dk_4 (dk_at dksX2_walks_6 12 rfl rfl)
theorem dX2_walks_154 : decode cX2_walks 154 = .ok (.goto 9, 3) := dk_167 0 9 (dk_at dksX2_walks_6 13 rfl rfl)
theorem dX2_walks_157 : decode cX2_walks 157 = .ok (.iconst 0, 1) := dk_3 (dk_at dksX2_walks_6 16 rfl rfl)
theorem dX2_walks_158 : decode cX2_walks 158 = .ok (.goto 5, 3) := dk_167 0 5 (dk_at dksX2_walks_6 17 rfl rfl)
theorem dX2_walks_161 : decode cX2_walks 161 = .ok (.iload 6, 2) := dk_21 6 (dk_at dksX2_walks_6 20 rfl rfl)
theorem dX2_walks_163 : decode cX2_walks 163 = .ok (.ireturn, 1) := dk_172 (dk_at dksX2_walks_6 22 rfl rfl)
abbrev cX2_state : ByteArray := prog_15_method_37_code
def yX2_state : MethodName := ⟨RX2, "state", "(III)I"⟩
def dkwX2_state_3 : List UInt8 := [3, 172]
abbrev dktX2_state_3 : List UInt8 := dkwX2_state_3 ++ []
def dkwX2_state_2 : List UInt8 := [154, 0, 7, 5, 167, 0, 21, 42, 27, 29, 182, 0, 154, 28, 184, 0, 145, 153, 0, 7, 4, 167, 0, 4]
abbrev dktX2_state_2 : List UInt8 := dkwX2_state_2 ++ dktX2_state_3
def dkwX2_state_1 : List UInt8 := [182, 0, 83, 153, 0, 5, 3, 172, 42, 27, 29, 182, 0, 166, 54, 4, 42, 180, 0, 148, 28, 184, 0, 145]
abbrev dktX2_state_1 : List UInt8 := dkwX2_state_1 ++ dktX2_state_2
def dkwX2_state_0 : List UInt8 := [42, 27, 28, 182, 0, 136, 154, 0, 23, 42, 29, 184, 0, 160, 154, 0, 7, 4, 167, 0, 4, 3, 5]
abbrev dktX2_state_0 : List UInt8 := dkwX2_state_0 ++ dktX2_state_1
theorem dksX2_state_0 : cX2_state.data.toList.drop 0 = dktX2_state_0 := by decide +kernel
theorem dksX2_state_1 : cX2_state.data.toList.drop 23 = dktX2_state_1 := dk_seg dksX2_state_0 23 rfl rfl
theorem dksX2_state_2 : cX2_state.data.toList.drop 47 = dktX2_state_2 := dk_seg dksX2_state_1 24 rfl rfl
theorem dksX2_state_3 : cX2_state.data.toList.drop 71 = dktX2_state_3 := dk_seg dksX2_state_2 24 rfl rfl
theorem dX2_state_0 : decode cX2_state 0 = .ok (.aload_n 0, 1) := dk_42 (dk_at dksX2_state_0 0 rfl rfl)
theorem dX2_state_1 : decode cX2_state 1 = .ok (.iload_n 1, 1) := dk_27 (dk_at dksX2_state_0 1 rfl rfl)
theorem dX2_state_2 : decode cX2_state 2 = .ok (.iload_n 2, 1) := dk_28 (dk_at dksX2_state_0 2 rfl rfl)
theorem dX2_state_3 : decode cX2_state 3 = .ok (.invokevirtual 136, 3) := dk_182 0 136 (dk_at dksX2_state_0 3 rfl rfl)
theorem dX2_state_6 : decode cX2_state 6 = .ok (.ifCond .ne 23, 3) := dk_154 0 23 (dk_at dksX2_state_0 6 rfl rfl)
theorem dX2_state_9 : decode cX2_state 9 = .ok (.aload_n 0, 1) := dk_42 (dk_at dksX2_state_0 9 rfl rfl)
theorem dX2_state_10 : decode cX2_state 10 = .ok (.iload_n 3, 1) := dk_29 (dk_at dksX2_state_0 10 rfl rfl)
theorem dX2_state_11 : decode cX2_state 11 = .ok (.invokestatic 160, 3) := dk_184 0 160 (dk_at dksX2_state_0 11 rfl rfl)
theorem dX2_state_14 : decode cX2_state 14 = .ok (.ifCond .ne 7, 3) := dk_154 0 7 (dk_at dksX2_state_0 14 rfl rfl)
theorem dX2_state_17 : decode cX2_state 17 = .ok (.iconst 1, 1) := dk_4 (dk_at dksX2_state_0 17 rfl rfl)
theorem dX2_state_18 : decode cX2_state 18 = .ok (.goto 4, 3) := dk_167 0 4 (dk_at dksX2_state_0 18 rfl rfl)
theorem dX2_state_21 : decode cX2_state 21 = .ok (.iconst 0, 1) := dk_3 (dk_at dksX2_state_0 21 rfl rfl)
theorem dX2_state_22 : decode cX2_state 22 = .ok (.iconst 2, 1) := dk_5 (dk_at dksX2_state_0 22 rfl rfl)
theorem dX2_state_23 : decode cX2_state 23 = .ok (.invokevirtual 83, 3) := dk_182 0 83 (dk_at dksX2_state_1 0 rfl rfl)
theorem dX2_state_26 : decode cX2_state 26 = .ok (.ifCond .eq 5, 3) := dk_153 0 5 (dk_at dksX2_state_1 3 rfl rfl)
theorem dX2_state_29 : decode cX2_state 29 = .ok (.iconst 0, 1) := dk_3 (dk_at dksX2_state_1 6 rfl rfl)
theorem dX2_state_30 : decode cX2_state 30 = .ok (.ireturn, 1) := dk_172 (dk_at dksX2_state_1 7 rfl rfl)
theorem dX2_state_31 : decode cX2_state 31 = .ok (.aload_n 0, 1) := dk_42 (dk_at dksX2_state_1 8 rfl rfl)
theorem dX2_state_32 : decode cX2_state 32 = .ok (.iload_n 1, 1) := dk_27 (dk_at dksX2_state_1 9 rfl rfl)
theorem dX2_state_33 : decode cX2_state 33 = .ok (.iload_n 3, 1) := dk_29 (dk_at dksX2_state_1 10 rfl rfl)
theorem dX2_state_34 : decode cX2_state 34 = .ok (.invokevirtual 166, 3) := dk_182 0 166 (dk_at dksX2_state_1 11 rfl rfl)
theorem dX2_state_37 : decode cX2_state 37 = .ok (.istore 4, 2) := dk_54 4 (dk_at dksX2_state_1 14 rfl rfl)
theorem dX2_state_39 : decode cX2_state 39 = .ok (.aload_n 0, 1) := dk_42 (dk_at dksX2_state_1 16 rfl rfl)
theorem dX2_state_40 : decode cX2_state 40 = .ok (.getfield 148, 3) := dk_180 0 148 (dk_at dksX2_state_1 17 rfl rfl)
theorem dX2_state_43 : decode cX2_state 43 = .ok (.iload_n 2, 1) := dk_28 (dk_at dksX2_state_1 20 rfl rfl)
theorem dX2_state_44 : decode cX2_state 44 = .ok (.invokestatic 145, 3) := dk_184 0 145 (dk_at dksX2_state_1 21 rfl rfl)
theorem dX2_state_47 : decode cX2_state 47 = .ok (.ifCond .ne 7, 3) := dk_154 0 7 (dk_at dksX2_state_2 0 rfl rfl)
theorem dX2_state_50 : decode cX2_state 50 = .ok (.iconst 2, 1) := dk_5 (dk_at dksX2_state_2 3 rfl rfl)
theorem dX2_state_51 : decode cX2_state 51 = .ok (.goto 21, 3) := dk_167 0 21 (dk_at dksX2_state_2 4 rfl rfl)
theorem dX2_state_54 : decode cX2_state 54 = .ok (.aload_n 0, 1) := dk_42 (dk_at dksX2_state_2 7 rfl rfl)
theorem dX2_state_55 : decode cX2_state 55 = .ok (.iload_n 1, 1) := dk_27 (dk_at dksX2_state_2 8 rfl rfl)
theorem dX2_state_56 : decode cX2_state 56 = .ok (.iload_n 3, 1) := dk_29 (dk_at dksX2_state_2 9 rfl rfl)
theorem dX2_state_57 : decode cX2_state 57 = .ok (.invokevirtual 154, 3) := dk_182 0 154 (dk_at dksX2_state_2 10 rfl rfl)
theorem dX2_state_60 : decode cX2_state 60 = .ok (.iload_n 2, 1) := dk_28 (dk_at dksX2_state_2 13 rfl rfl)
theorem dX2_state_61 : decode cX2_state 61 = .ok (.invokestatic 145, 3) := dk_184 0 145 (dk_at dksX2_state_2 14 rfl rfl)
theorem dX2_state_64 : decode cX2_state 64 = .ok (.ifCond .eq 7, 3) := dk_153 0 7 (dk_at dksX2_state_2 17 rfl rfl)
theorem dX2_state_67 : decode cX2_state 67 = .ok (.iconst 1, 1) := dk_4 (dk_at dksX2_state_2 20 rfl rfl)
theorem dX2_state_68 : decode cX2_state 68 = .ok (.goto 4, 3) := dk_167 0 4 (dk_at dksX2_state_2 21 rfl rfl)
theorem dX2_state_71 : decode cX2_state 71 = .ok (.iconst 0, 1) := dk_3 (dk_at dksX2_state_3 0 rfl rfl)
theorem dX2_state_72 : decode cX2_state 72 = .ok (.ireturn, 1) := dk_172 (dk_at dksX2_state_3 1 rfl rfl)
abbrev cX2_deciding : ByteArray := prog_15_method_38_code
def yX2_deciding : MethodName := ⟨RX2, "deciding", "(II)I"⟩
def dkwX2_deciding_0 : List UInt8 := [42, 27, 28, 182, 0, 163, 153, 0, 7, 3, 167, 0, 9, 42, 27, 28, 182, 0, 169, 172]
abbrev dktX2_deciding_0 : List UInt8 := dkwX2_deciding_0 ++ []
theorem dksX2_deciding_0 : cX2_deciding.data.toList.drop 0 = dktX2_deciding_0 := by decide +kernel
theorem dX2_deciding_0 : decode cX2_deciding 0 = .ok (.aload_n 0, 1) := dk_42 (dk_at dksX2_deciding_0 0 rfl rfl)
theorem dX2_deciding_1 : decode cX2_deciding 1 = .ok (.iload_n 1, 1) := dk_27 (dk_at dksX2_deciding_0 1 rfl rfl)
theorem dX2_deciding_2 : decode cX2_deciding 2 = .ok (.iload_n 2, 1) := dk_28 (dk_at dksX2_deciding_0 2 rfl rfl)
theorem dX2_deciding_3 : decode cX2_deciding 3 = .ok (.invokevirtual 163, 3) := dk_182 0 163 (dk_at dksX2_deciding_0 3 rfl rfl)
theorem dX2_deciding_6 : decode cX2_deciding 6 = .ok (.ifCond .eq 7, 3) := dk_153 0 7 (dk_at dksX2_deciding_0 6 rfl rfl)
theorem dX2_deciding_9 : decode cX2_deciding 9 = .ok (.iconst 0, 1) := dk_3 (dk_at dksX2_deciding_0 9 rfl rfl)
theorem dX2_deciding_10 : decode cX2_deciding 10 = .ok (.goto 9, 3) := dk_167 0 9 (dk_at dksX2_deciding_0 10 rfl rfl)
theorem dX2_deciding_13 : decode cX2_deciding 13 = .ok (.aload_n 0, 1) := dk_42 (dk_at dksX2_deciding_0 13 rfl rfl)
theorem dX2_deciding_14 : decode cX2_deciding 14 = .ok (.iload_n 1, 1) := dk_27 (dk_at dksX2_deciding_0 14 rfl rfl)
theorem dX2_deciding_15 : decode cX2_deciding 15 = .ok (.iload_n 2, 1) := dk_28 (dk_at dksX2_deciding_0 15 rfl rfl)
theorem dX2_deciding_16 : decode cX2_deciding 16 = .ok (.invokevirtual 169, 3) := dk_182 0 169 (dk_at dksX2_deciding_0 16 rfl rfl)
theorem dX2_deciding_19 : decode cX2_deciding 19 = .ok (.ireturn, 1) := dk_172 (dk_at dksX2_deciding_0 19 rfl rfl)
abbrev cX2_decidesIn : ByteArray := prog_15_method_33_code
def yX2_decidesIn : MethodName := ⟨RX2, "decidesIn", "(II)I"⟩
def dkwX2_decidesIn_2 : List UInt8 := [159, 0, 10, 4, 21, 6, 120, 167, 0, 4, 3, 128, 54, 5, 132, 6, 1, 167, 255, 213, 21, 5, 172]
abbrev dktX2_decidesIn_2 : List UInt8 := dkwX2_decidesIn_2 ++ []
def dkwX2_decidesIn_1 : List UInt8 := [180, 0, 28, 27, 46, 162, 0, 38, 21, 5, 42, 27, 29, 4, 21, 6, 120, 130, 182, 0, 157, 21, 4]
abbrev dktX2_decidesIn_1 : List UInt8 := dkwX2_decidesIn_1 ++ dktX2_decidesIn_2
def dkwX2_decidesIn_0 : List UInt8 := [42, 27, 28, 182, 0, 154, 62, 42, 27, 29, 182, 0, 157, 54, 4, 3, 54, 5, 3, 54, 6, 21, 6, 42]
abbrev dktX2_decidesIn_0 : List UInt8 := dkwX2_decidesIn_0 ++ dktX2_decidesIn_1
theorem dksX2_decidesIn_0 : cX2_decidesIn.data.toList.drop 0 = dktX2_decidesIn_0 := by decide +kernel
theorem dksX2_decidesIn_1 : cX2_decidesIn.data.toList.drop 24 = dktX2_decidesIn_1 := dk_seg dksX2_decidesIn_0 24 rfl rfl
theorem dksX2_decidesIn_2 : cX2_decidesIn.data.toList.drop 47 = dktX2_decidesIn_2 := dk_seg dksX2_decidesIn_1 23 rfl rfl
theorem dX2_decidesIn_0 : decode cX2_decidesIn 0 = .ok (.aload_n 0, 1) := dk_42 (dk_at dksX2_decidesIn_0 0 rfl rfl)
theorem dX2_decidesIn_1 : decode cX2_decidesIn 1 = .ok (.iload_n 1, 1) := dk_27 (dk_at dksX2_decidesIn_0 1 rfl rfl)
theorem dX2_decidesIn_2 : decode cX2_decidesIn 2 = .ok (.iload_n 2, 1) := dk_28 (dk_at dksX2_decidesIn_0 2 rfl rfl)
theorem dX2_decidesIn_3 : decode cX2_decidesIn 3 = .ok (.invokevirtual 154, 3) := dk_182 0 154 (dk_at dksX2_decidesIn_0 3 rfl rfl)
theorem dX2_decidesIn_6 : decode cX2_decidesIn 6 = .ok (.istore_n 3, 1) := dk_62 (dk_at dksX2_decidesIn_0 6 rfl rfl)
theorem dX2_decidesIn_7 : decode cX2_decidesIn 7 = .ok (.aload_n 0, 1) := dk_42 (dk_at dksX2_decidesIn_0 7 rfl rfl)
theorem dX2_decidesIn_8 : decode cX2_decidesIn 8 = .ok (.iload_n 1, 1) := dk_27 (dk_at dksX2_decidesIn_0 8 rfl rfl)
theorem dX2_decidesIn_9 : decode cX2_decidesIn 9 = .ok (.iload_n 3, 1) := dk_29 (dk_at dksX2_decidesIn_0 9 rfl rfl)
theorem dX2_decidesIn_10 : decode cX2_decidesIn 10 = .ok (.invokevirtual 157, 3) := dk_182 0 157 (dk_at dksX2_decidesIn_0 10 rfl rfl)
theorem dX2_decidesIn_13 : decode cX2_decidesIn 13 = .ok (.istore 4, 2) := dk_54 4 (dk_at dksX2_decidesIn_0 13 rfl rfl)
theorem dX2_decidesIn_15 : decode cX2_decidesIn 15 = .ok (.iconst 0, 1) := dk_3 (dk_at dksX2_decidesIn_0 15 rfl rfl)
theorem dX2_decidesIn_16 : decode cX2_decidesIn 16 = .ok (.istore 5, 2) := dk_54 5 (dk_at dksX2_decidesIn_0 16 rfl rfl)
theorem dX2_decidesIn_18 : decode cX2_decidesIn 18 = .ok (.iconst 0, 1) := dk_3 (dk_at dksX2_decidesIn_0 18 rfl rfl)
theorem dX2_decidesIn_19 : decode cX2_decidesIn 19 = .ok (.istore 6, 2) := dk_54 6 (dk_at dksX2_decidesIn_0 19 rfl rfl)
theorem dX2_decidesIn_21 : decode cX2_decidesIn 21 = .ok (.iload 6, 2) := dk_21 6 (dk_at dksX2_decidesIn_0 21 rfl rfl)
theorem dX2_decidesIn_23 : decode cX2_decidesIn 23 = .ok (.aload_n 0, 1) := dk_42 (dk_at dksX2_decidesIn_0 23 rfl rfl)
theorem dX2_decidesIn_24 : decode cX2_decidesIn 24 = .ok (.getfield 28, 3) := dk_180 0 28 (dk_at dksX2_decidesIn_1 0 rfl rfl)
theorem dX2_decidesIn_27 : decode cX2_decidesIn 27 = .ok (.iload_n 1, 1) := dk_27 (dk_at dksX2_decidesIn_1 3 rfl rfl)
theorem dX2_decidesIn_28 : decode cX2_decidesIn 28 = .ok (.iaload, 1) := dk_46 (dk_at dksX2_decidesIn_1 4 rfl rfl)
theorem dX2_decidesIn_29 : decode cX2_decidesIn 29 = .ok (.if_icmp .ge 38, 3) := dk_162 0 38 (dk_at dksX2_decidesIn_1 5 rfl rfl)
theorem dX2_decidesIn_32 : decode cX2_decidesIn 32 = .ok (.iload 5, 2) := dk_21 5 (dk_at dksX2_decidesIn_1 8 rfl rfl)
theorem dX2_decidesIn_34 : decode cX2_decidesIn 34 = .ok (.aload_n 0, 1) := dk_42 (dk_at dksX2_decidesIn_1 10 rfl rfl)
theorem dX2_decidesIn_35 : decode cX2_decidesIn 35 = .ok (.iload_n 1, 1) := dk_27 (dk_at dksX2_decidesIn_1 11 rfl rfl)
theorem dX2_decidesIn_36 : decode cX2_decidesIn 36 = .ok (.iload_n 3, 1) := dk_29 (dk_at dksX2_decidesIn_1 12 rfl rfl)
theorem dX2_decidesIn_37 : decode cX2_decidesIn 37 = .ok (.iconst 1, 1) := dk_4 (dk_at dksX2_decidesIn_1 13 rfl rfl)
theorem dX2_decidesIn_38 : decode cX2_decidesIn 38 = .ok (.iload 6, 2) := dk_21 6 (dk_at dksX2_decidesIn_1 14 rfl rfl)
theorem dX2_decidesIn_40 : decode cX2_decidesIn 40 = .ok (.ishl, 1) := dk_120 (dk_at dksX2_decidesIn_1 16 rfl rfl)
theorem dX2_decidesIn_41 : decode cX2_decidesIn 41 = .ok (.ixor, 1) := dk_130 (dk_at dksX2_decidesIn_1 17 rfl rfl)
theorem dX2_decidesIn_42 : decode cX2_decidesIn 42 = .ok (.invokevirtual 157, 3) := dk_182 0 157 (dk_at dksX2_decidesIn_1 18 rfl rfl)
theorem dX2_decidesIn_45 : decode cX2_decidesIn 45 = .ok (.iload 4, 2) := dk_21 4 (dk_at dksX2_decidesIn_1 21 rfl rfl)
theorem dX2_decidesIn_47 : decode cX2_decidesIn 47 = .ok (.if_icmp .eq 10, 3) := dk_159 0 10 (dk_at dksX2_decidesIn_2 0 rfl rfl)
theorem dX2_decidesIn_50 : decode cX2_decidesIn 50 = .ok (.iconst 1, 1) := dk_4 (dk_at dksX2_decidesIn_2 3 rfl rfl)
theorem dX2_decidesIn_51 : decode cX2_decidesIn 51 = .ok (.iload 6, 2) := dk_21 6 (dk_at dksX2_decidesIn_2 4 rfl rfl)
theorem dX2_decidesIn_53 : decode cX2_decidesIn 53 = .ok (.ishl, 1) := dk_120 (dk_at dksX2_decidesIn_2 6 rfl rfl)
theorem dX2_decidesIn_54 : decode cX2_decidesIn 54 = .ok (.goto 4, 3) := dk_167 0 4 (dk_at dksX2_decidesIn_2 7 rfl rfl)
theorem dX2_decidesIn_57 : decode cX2_decidesIn 57 = .ok (.iconst 0, 1) := dk_3 (dk_at dksX2_decidesIn_2 10 rfl rfl)
theorem dX2_decidesIn_58 : decode cX2_decidesIn 58 = .ok (.ior, 1) := dk_128 (dk_at dksX2_decidesIn_2 11 rfl rfl)
theorem dX2_decidesIn_59 : decode cX2_decidesIn 59 = .ok (.istore 5, 2) := dk_54 5 (dk_at dksX2_decidesIn_2 12 rfl rfl)
theorem dX2_decidesIn_61 : decode cX2_decidesIn 61 = .ok (.iinc 6 1, 3) := dk_132 6 1 (dk_at dksX2_decidesIn_2 14 rfl rfl)
theorem dX2_decidesIn_64 : decode cX2_decidesIn 64 = .ok (.goto (-43), 3) := dk_167 255 213 (dk_at dksX2_decidesIn_2 17 rfl rfl)
theorem dX2_decidesIn_67 : decode cX2_decidesIn 67 = .ok (.iload 5, 2) := dk_21 5 (dk_at dksX2_decidesIn_2 20 rfl rfl)
theorem dX2_decidesIn_69 : decode cX2_decidesIn 69 = .ok (.ireturn, 1) := dk_172 (dk_at dksX2_decidesIn_2 22 rfl rfl)
abbrev cX2_whole : ByteArray := prog_15_method_30_code
def yX2_whole : MethodName := ⟨RX2, "whole", "(II)Z"⟩
def dkwX2_whole_10 : List UInt8 := [46, 4, 100, 51, 172]
abbrev dktX2_whole_10 : List UInt8 := dkwX2_whole_10 ++ []
def dkwX2_whole_9 : List UInt8 := [159, 0, 7, 4, 167, 0, 4, 3, 84, 132, 3, 1, 167, 255, 36, 42, 180, 0, 49, 42, 180, 0, 22, 27]
abbrev dktX2_whole_9 : List UInt8 := dkwX2_whole_9 ++ dktX2_whole_10
def dkwX2_whole_8 : List UInt8 := [21, 5, 154, 0, 8, 21, 6, 153, 0, 7, 4, 167, 0, 19, 3, 167, 0, 15, 21, 5, 21, 6]
abbrev dktX2_whole_8 : List UInt8 := dkwX2_whole_8 ++ dktX2_whole_9
def dkwX2_whole_7 : List UInt8 := [21, 6, 153, 0, 7, 4, 167, 0, 48, 3, 167, 0, 44, 42, 180, 0, 13, 21, 4, 46, 6, 160, 0, 21]
abbrev dktX2_whole_7 : List UInt8 := dkwX2_whole_7 ++ dktX2_whole_8
def dkwX2_whole_6 : List UInt8 := [167, 0, 77, 3, 167, 0, 73, 42, 180, 0, 13, 21, 4, 46, 5, 160, 0, 21, 21, 5, 153, 0, 12]
abbrev dktX2_whole_6 : List UInt8 := dkwX2_whole_6 ++ dktX2_whole_7
def dkwX2_whole_5 : List UInt8 := [46, 184, 0, 145, 167, 0, 97, 42, 180, 0, 13, 21, 4, 46, 4, 160, 0, 16, 21, 5, 154, 0, 7, 4]
abbrev dktX2_whole_5 : List UInt8 := dkwX2_whole_5 ++ dktX2_whole_6
def dkwX2_whole_4 : List UInt8 := [54, 6, 42, 180, 0, 49, 29, 42, 180, 0, 13, 21, 4, 46, 154, 0, 17, 28, 42, 180, 0, 16, 21, 4]
abbrev dktX2_whole_4 : List UInt8 := dkwX2_whole_4 ++ dktX2_whole_5
def dkwX2_whole_3 : List UInt8 := [159, 0, 22, 42, 180, 0, 49, 42, 180, 0, 19, 21, 4, 46, 51, 153, 0, 7, 4, 167, 0, 4, 3]
abbrev dktX2_whole_3 : List UInt8 := dkwX2_whole_3 ++ dktX2_whole_4
def dkwX2_whole_2 : List UInt8 := [167, 0, 4, 3, 54, 5, 42, 180, 0, 13, 21, 4, 46, 153, 0, 33, 42, 180, 0, 13, 21, 4, 46, 4]
abbrev dktX2_whole_2 : List UInt8 := dkwX2_whole_2 ++ dktX2_whole_3
def dkwX2_whole_1 : List UInt8 := [21, 4, 46, 153, 0, 22, 42, 180, 0, 49, 42, 180, 0, 16, 21, 4, 46, 51, 153, 0, 7, 4]
abbrev dktX2_whole_1 : List UInt8 := dkwX2_whole_1 ++ dktX2_whole_2
def dkwX2_whole_0 : List UInt8 := [3, 62, 29, 42, 180, 0, 22, 27, 46, 162, 0, 216, 27, 16, 40, 104, 29, 96, 54, 4, 42, 180, 0, 13]
abbrev dktX2_whole_0 : List UInt8 := dkwX2_whole_0 ++ dktX2_whole_1
theorem dksX2_whole_0 : cX2_whole.data.toList.drop 0 = dktX2_whole_0 := by decide +kernel
theorem dksX2_whole_1 : cX2_whole.data.toList.drop 24 = dktX2_whole_1 := dk_seg dksX2_whole_0 24 rfl rfl
theorem dksX2_whole_2 : cX2_whole.data.toList.drop 46 = dktX2_whole_2 := dk_seg dksX2_whole_1 22 rfl rfl
theorem dksX2_whole_3 : cX2_whole.data.toList.drop 70 = dktX2_whole_3 := dk_seg dksX2_whole_2 24 rfl rfl
theorem dksX2_whole_4 : cX2_whole.data.toList.drop 93 = dktX2_whole_4 := dk_seg dksX2_whole_3 23 rfl rfl
theorem dksX2_whole_5 : cX2_whole.data.toList.drop 117 = dktX2_whole_5 := dk_seg dksX2_whole_4 24 rfl rfl
theorem dksX2_whole_6 : cX2_whole.data.toList.drop 141 = dktX2_whole_6 := dk_seg dksX2_whole_5 24 rfl rfl
theorem dksX2_whole_7 : cX2_whole.data.toList.drop 164 = dktX2_whole_7 := dk_seg dksX2_whole_6 23 rfl rfl
theorem dksX2_whole_8 : cX2_whole.data.toList.drop 188 = dktX2_whole_8 := dk_seg dksX2_whole_7 24 rfl rfl
theorem dksX2_whole_9 : cX2_whole.data.toList.drop 210 = dktX2_whole_9 := dk_seg dksX2_whole_8 22 rfl rfl
theorem dksX2_whole_10 : cX2_whole.data.toList.drop 234 = dktX2_whole_10 := dk_seg dksX2_whole_9 24 rfl rfl
theorem dX2_whole_0 : decode cX2_whole 0 = .ok (.iconst 0, 1) := dk_3 (dk_at dksX2_whole_0 0 rfl rfl)
theorem dX2_whole_1 : decode cX2_whole 1 = .ok (.istore_n 3, 1) := dk_62 (dk_at dksX2_whole_0 1 rfl rfl)
theorem dX2_whole_2 : decode cX2_whole 2 = .ok (.iload_n 3, 1) := dk_29 (dk_at dksX2_whole_0 2 rfl rfl)
theorem dX2_whole_3 : decode cX2_whole 3 = .ok (.aload_n 0, 1) := dk_42 (dk_at dksX2_whole_0 3 rfl rfl)
theorem dX2_whole_4 : decode cX2_whole 4 = .ok (.getfield 22, 3) := dk_180 0 22 (dk_at dksX2_whole_0 4 rfl rfl)
theorem dX2_whole_7 : decode cX2_whole 7 = .ok (.iload_n 1, 1) := dk_27 (dk_at dksX2_whole_0 7 rfl rfl)
theorem dX2_whole_8 : decode cX2_whole 8 = .ok (.iaload, 1) := dk_46 (dk_at dksX2_whole_0 8 rfl rfl)
theorem dX2_whole_9 : decode cX2_whole 9 = .ok (.if_icmp .ge 216, 3) := dk_162 0 216 (dk_at dksX2_whole_0 9 rfl rfl)
theorem dX2_whole_12 : decode cX2_whole 12 = .ok (.iload_n 1, 1) := dk_27 (dk_at dksX2_whole_0 12 rfl rfl)
theorem dX2_whole_13 : decode cX2_whole 13 = .ok (.bipush 40, 2) := dk_16 40 (dk_at dksX2_whole_0 13 rfl rfl)
theorem dX2_whole_15 : decode cX2_whole 15 = .ok (.imul, 1) := dk_104 (dk_at dksX2_whole_0 15 rfl rfl)
theorem dX2_whole_16 : decode cX2_whole 16 = .ok (.iload_n 3, 1) := dk_29 (dk_at dksX2_whole_0 16 rfl rfl)
theorem dX2_whole_17 : decode cX2_whole 17 = .ok (.iadd, 1) := dk_96 (dk_at dksX2_whole_0 17 rfl rfl)
theorem dX2_whole_18 : decode cX2_whole 18 = .ok (.istore 4, 2) := dk_54 4 (dk_at dksX2_whole_0 18 rfl rfl)
theorem dX2_whole_20 : decode cX2_whole 20 = .ok (.aload_n 0, 1) := dk_42 (dk_at dksX2_whole_0 20 rfl rfl)
theorem dX2_whole_21 : decode cX2_whole 21 = .ok (.getfield 13, 3) := dk_180 0 13 (dk_at dksX2_whole_0 21 rfl rfl)
theorem dX2_whole_24 : decode cX2_whole 24 = .ok (.iload 4, 2) := dk_21 4 (dk_at dksX2_whole_1 0 rfl rfl)
theorem dX2_whole_26 : decode cX2_whole 26 = .ok (.iaload, 1) := dk_46 (dk_at dksX2_whole_1 2 rfl rfl)
theorem dX2_whole_27 : decode cX2_whole 27 = .ok (.ifCond .eq 22, 3) := dk_153 0 22 (dk_at dksX2_whole_1 3 rfl rfl)
theorem dX2_whole_30 : decode cX2_whole 30 = .ok (.aload_n 0, 1) := dk_42 (dk_at dksX2_whole_1 6 rfl rfl)
theorem dX2_whole_31 : decode cX2_whole 31 = .ok (.getfield 49, 3) := dk_180 0 49 (dk_at dksX2_whole_1 7 rfl rfl)
theorem dX2_whole_34 : decode cX2_whole 34 = .ok (.aload_n 0, 1) := dk_42 (dk_at dksX2_whole_1 10 rfl rfl)
theorem dX2_whole_35 : decode cX2_whole 35 = .ok (.getfield 16, 3) := dk_180 0 16 (dk_at dksX2_whole_1 11 rfl rfl)
theorem dX2_whole_38 : decode cX2_whole 38 = .ok (.iload 4, 2) := dk_21 4 (dk_at dksX2_whole_1 14 rfl rfl)
theorem dX2_whole_40 : decode cX2_whole 40 = .ok (.iaload, 1) := dk_46 (dk_at dksX2_whole_1 16 rfl rfl)
theorem dX2_whole_41 : decode cX2_whole 41 = .ok (.baload, 1) := dk_51 (dk_at dksX2_whole_1 17 rfl rfl)
theorem dX2_whole_42 : decode cX2_whole 42 = .ok (.ifCond .eq 7, 3) := dk_153 0 7 (dk_at dksX2_whole_1 18 rfl rfl)
theorem dX2_whole_45 : decode cX2_whole 45 = .ok (.iconst 1, 1) := dk_4 (dk_at dksX2_whole_1 21 rfl rfl)
theorem dX2_whole_46 : decode cX2_whole 46 = .ok (.goto 4, 3) := dk_167 0 4 (dk_at dksX2_whole_2 0 rfl rfl)
theorem dX2_whole_49 : decode cX2_whole 49 = .ok (.iconst 0, 1) := dk_3 (dk_at dksX2_whole_2 3 rfl rfl)
theorem dX2_whole_50 : decode cX2_whole 50 = .ok (.istore 5, 2) := dk_54 5 (dk_at dksX2_whole_2 4 rfl rfl)
theorem dX2_whole_52 : decode cX2_whole 52 = .ok (.aload_n 0, 1) := dk_42 (dk_at dksX2_whole_2 6 rfl rfl)
theorem dX2_whole_53 : decode cX2_whole 53 = .ok (.getfield 13, 3) := dk_180 0 13 (dk_at dksX2_whole_2 7 rfl rfl)
theorem dX2_whole_56 : decode cX2_whole 56 = .ok (.iload 4, 2) := dk_21 4 (dk_at dksX2_whole_2 10 rfl rfl)
theorem dX2_whole_58 : decode cX2_whole 58 = .ok (.iaload, 1) := dk_46 (dk_at dksX2_whole_2 12 rfl rfl)
theorem dX2_whole_59 : decode cX2_whole 59 = .ok (.ifCond .eq 33, 3) := dk_153 0 33 (dk_at dksX2_whole_2 13 rfl rfl)
theorem dX2_whole_62 : decode cX2_whole 62 = .ok (.aload_n 0, 1) := dk_42 (dk_at dksX2_whole_2 16 rfl rfl)
theorem dX2_whole_63 : decode cX2_whole 63 = .ok (.getfield 13, 3) := dk_180 0 13 (dk_at dksX2_whole_2 17 rfl rfl)
theorem dX2_whole_66 : decode cX2_whole 66 = .ok (.iload 4, 2) := dk_21 4 (dk_at dksX2_whole_2 20 rfl rfl)
theorem dX2_whole_68 : decode cX2_whole 68 = .ok (.iaload, 1) := dk_46 (dk_at dksX2_whole_2 22 rfl rfl)
theorem dX2_whole_69 : decode cX2_whole 69 = .ok (.iconst 1, 1) := dk_4 (dk_at dksX2_whole_2 23 rfl rfl)
theorem dX2_whole_70 : decode cX2_whole 70 = .ok (.if_icmp .eq 22, 3) := dk_159 0 22 (dk_at dksX2_whole_3 0 rfl rfl)
theorem dX2_whole_73 : decode cX2_whole 73 = .ok (.aload_n 0, 1) := dk_42 (dk_at dksX2_whole_3 3 rfl rfl)
theorem dX2_whole_74 : decode cX2_whole 74 = .ok (.getfield 49, 3) := dk_180 0 49 (dk_at dksX2_whole_3 4 rfl rfl)
theorem dX2_whole_77 : decode cX2_whole 77 = .ok (.aload_n 0, 1) := dk_42 (dk_at dksX2_whole_3 7 rfl rfl)
theorem dX2_whole_78 : decode cX2_whole 78 = .ok (.getfield 19, 3) := dk_180 0 19 (dk_at dksX2_whole_3 8 rfl rfl)
theorem dX2_whole_81 : decode cX2_whole 81 = .ok (.iload 4, 2) := dk_21 4 (dk_at dksX2_whole_3 11 rfl rfl)
theorem dX2_whole_83 : decode cX2_whole 83 = .ok (.iaload, 1) := dk_46 (dk_at dksX2_whole_3 13 rfl rfl)
theorem dX2_whole_84 : decode cX2_whole 84 = .ok (.baload, 1) := dk_51 (dk_at dksX2_whole_3 14 rfl rfl)
theorem dX2_whole_85 : decode cX2_whole 85 = .ok (.ifCond .eq 7, 3) := dk_153 0 7 (dk_at dksX2_whole_3 15 rfl rfl)
theorem dX2_whole_88 : decode cX2_whole 88 = .ok (.iconst 1, 1) := dk_4 (dk_at dksX2_whole_3 18 rfl rfl)
theorem dX2_whole_89 : decode cX2_whole 89 = .ok (.goto 4, 3) := dk_167 0 4 (dk_at dksX2_whole_3 19 rfl rfl)
theorem dX2_whole_92 : decode cX2_whole 92 = .ok (.iconst 0, 1) := dk_3 (dk_at dksX2_whole_3 22 rfl rfl)
theorem dX2_whole_93 : decode cX2_whole 93 = .ok (.istore 6, 2) := dk_54 6 (dk_at dksX2_whole_4 0 rfl rfl)
theorem dX2_whole_95 : decode cX2_whole 95 = .ok (.aload_n 0, 1) := dk_42 (dk_at dksX2_whole_4 2 rfl rfl)
theorem dX2_whole_96 : decode cX2_whole 96 = .ok (.getfield 49, 3) := dk_180 0 49 (dk_at dksX2_whole_4 3 rfl rfl)
theorem dX2_whole_99 : decode cX2_whole 99 = .ok (.iload_n 3, 1) := dk_29 (dk_at dksX2_whole_4 6 rfl rfl)
theorem dX2_whole_100 : decode cX2_whole 100 = .ok (.aload_n 0, 1) := dk_42 (dk_at dksX2_whole_4 7 rfl rfl)
theorem dX2_whole_101 : decode cX2_whole 101 = .ok (.getfield 13, 3) := dk_180 0 13 (dk_at dksX2_whole_4 8 rfl rfl)
theorem dX2_whole_104 : decode cX2_whole 104 = .ok (.iload 4, 2) := dk_21 4 (dk_at dksX2_whole_4 11 rfl rfl)
theorem dX2_whole_106 : decode cX2_whole 106 = .ok (.iaload, 1) := dk_46 (dk_at dksX2_whole_4 13 rfl rfl)
theorem dX2_whole_107 : decode cX2_whole 107 = .ok (.ifCond .ne 17, 3) := dk_154 0 17 (dk_at dksX2_whole_4 14 rfl rfl)
theorem dX2_whole_110 : decode cX2_whole 110 = .ok (.iload_n 2, 1) := dk_28 (dk_at dksX2_whole_4 17 rfl rfl)
theorem dX2_whole_111 : decode cX2_whole 111 = .ok (.aload_n 0, 1) := dk_42 (dk_at dksX2_whole_4 18 rfl rfl)
theorem dX2_whole_112 : decode cX2_whole 112 = .ok (.getfield 16, 3) := dk_180 0 16 (dk_at dksX2_whole_4 19 rfl rfl)
theorem dX2_whole_115 : decode cX2_whole 115 = .ok (.iload 4, 2) := dk_21 4 (dk_at dksX2_whole_4 22 rfl rfl)
theorem dX2_whole_117 : decode cX2_whole 117 = .ok (.iaload, 1) := dk_46 (dk_at dksX2_whole_5 0 rfl rfl)
theorem dX2_whole_118 : decode cX2_whole 118 = .ok (.invokestatic 145, 3) := dk_184 0 145 (dk_at dksX2_whole_5 1 rfl rfl)
theorem dX2_whole_121 : decode cX2_whole 121 = .ok (.goto 97, 3) := dk_167 0 97 (dk_at dksX2_whole_5 4 rfl rfl)
theorem dX2_whole_124 : decode cX2_whole 124 = .ok (.aload_n 0, 1) := dk_42 (dk_at dksX2_whole_5 7 rfl rfl)
theorem dX2_whole_125 : decode cX2_whole 125 = .ok (.getfield 13, 3) := dk_180 0 13 (dk_at dksX2_whole_5 8 rfl rfl)
theorem dX2_whole_128 : decode cX2_whole 128 = .ok (.iload 4, 2) := dk_21 4 (dk_at dksX2_whole_5 11 rfl rfl)
theorem dX2_whole_130 : decode cX2_whole 130 = .ok (.iaload, 1) := dk_46 (dk_at dksX2_whole_5 13 rfl rfl)
theorem dX2_whole_131 : decode cX2_whole 131 = .ok (.iconst 1, 1) := dk_4 (dk_at dksX2_whole_5 14 rfl rfl)
theorem dX2_whole_132 : decode cX2_whole 132 = .ok (.if_icmp .ne 16, 3) := dk_160 0 16 (dk_at dksX2_whole_5 15 rfl rfl)
theorem dX2_whole_135 : decode cX2_whole 135 = .ok (.iload 5, 2) := dk_21 5 (dk_at dksX2_whole_5 18 rfl rfl)
theorem dX2_whole_137 : decode cX2_whole 137 = .ok (.ifCond .ne 7, 3) := dk_154 0 7 (dk_at dksX2_whole_5 20 rfl rfl)
theorem dX2_whole_140 : decode cX2_whole 140 = .ok (.iconst 1, 1) := dk_4 (dk_at dksX2_whole_5 23 rfl rfl)
theorem dX2_whole_141 : decode cX2_whole 141 = .ok (.goto 77, 3) := dk_167 0 77 (dk_at dksX2_whole_6 0 rfl rfl)
theorem dX2_whole_144 : decode cX2_whole 144 = .ok (.iconst 0, 1) := dk_3 (dk_at dksX2_whole_6 3 rfl rfl)
theorem dX2_whole_145 : decode cX2_whole 145 = .ok (.goto 73, 3) := dk_167 0 73 (dk_at dksX2_whole_6 4 rfl rfl)
theorem dX2_whole_148 : decode cX2_whole 148 = .ok (.aload_n 0, 1) := dk_42 (dk_at dksX2_whole_6 7 rfl rfl)
theorem dX2_whole_149 : decode cX2_whole 149 = .ok (.getfield 13, 3) := dk_180 0 13 (dk_at dksX2_whole_6 8 rfl rfl)
theorem dX2_whole_152 : decode cX2_whole 152 = .ok (.iload 4, 2) := dk_21 4 (dk_at dksX2_whole_6 11 rfl rfl)
theorem dX2_whole_154 : decode cX2_whole 154 = .ok (.iaload, 1) := dk_46 (dk_at dksX2_whole_6 13 rfl rfl)
theorem dX2_whole_155 : decode cX2_whole 155 = .ok (.iconst 2, 1) := dk_5 (dk_at dksX2_whole_6 14 rfl rfl)
theorem dX2_whole_156 : decode cX2_whole 156 = .ok (.if_icmp .ne 21, 3) := dk_160 0 21 (dk_at dksX2_whole_6 15 rfl rfl)
theorem dX2_whole_159 : decode cX2_whole 159 = .ok (.iload 5, 2) := dk_21 5 (dk_at dksX2_whole_6 18 rfl rfl)
theorem dX2_whole_161 : decode cX2_whole 161 = .ok (.ifCond .eq 12, 3) := dk_153 0 12 (dk_at dksX2_whole_6 20 rfl rfl)
theorem dX2_whole_164 : decode cX2_whole 164 = .ok (.iload 6, 2) := dk_21 6 (dk_at dksX2_whole_7 0 rfl rfl)
theorem dX2_whole_166 : decode cX2_whole 166 = .ok (.ifCond .eq 7, 3) := dk_153 0 7 (dk_at dksX2_whole_7 2 rfl rfl)
theorem dX2_whole_169 : decode cX2_whole 169 = .ok (.iconst 1, 1) := dk_4 (dk_at dksX2_whole_7 5 rfl rfl)
theorem dX2_whole_170 : decode cX2_whole 170 = .ok (.goto 48, 3) := dk_167 0 48 (dk_at dksX2_whole_7 6 rfl rfl)
theorem dX2_whole_173 : decode cX2_whole 173 = .ok (.iconst 0, 1) := dk_3 (dk_at dksX2_whole_7 9 rfl rfl)
theorem dX2_whole_174 : decode cX2_whole 174 = .ok (.goto 44, 3) := dk_167 0 44 (dk_at dksX2_whole_7 10 rfl rfl)
theorem dX2_whole_177 : decode cX2_whole 177 = .ok (.aload_n 0, 1) := dk_42 (dk_at dksX2_whole_7 13 rfl rfl)
theorem dX2_whole_178 : decode cX2_whole 178 = .ok (.getfield 13, 3) := dk_180 0 13 (dk_at dksX2_whole_7 14 rfl rfl)
theorem dX2_whole_181 : decode cX2_whole 181 = .ok (.iload 4, 2) := dk_21 4 (dk_at dksX2_whole_7 17 rfl rfl)
theorem dX2_whole_183 : decode cX2_whole 183 = .ok (.iaload, 1) := dk_46 (dk_at dksX2_whole_7 19 rfl rfl)
theorem dX2_whole_184 : decode cX2_whole 184 = .ok (.iconst 3, 1) := dk_6 (dk_at dksX2_whole_7 20 rfl rfl)
theorem dX2_whole_185 : decode cX2_whole 185 = .ok (.if_icmp .ne 21, 3) := dk_160 0 21 (dk_at dksX2_whole_7 21 rfl rfl)
theorem dX2_whole_188 : decode cX2_whole 188 = .ok (.iload 5, 2) := dk_21 5 (dk_at dksX2_whole_8 0 rfl rfl)
theorem dX2_whole_190 : decode cX2_whole 190 = .ok (.ifCond .ne 8, 3) := dk_154 0 8 (dk_at dksX2_whole_8 2 rfl rfl)
theorem dX2_whole_193 : decode cX2_whole 193 = .ok (.iload 6, 2) := dk_21 6 (dk_at dksX2_whole_8 5 rfl rfl)
theorem dX2_whole_195 : decode cX2_whole 195 = .ok (.ifCond .eq 7, 3) := dk_153 0 7 (dk_at dksX2_whole_8 7 rfl rfl)
theorem dX2_whole_198 : decode cX2_whole 198 = .ok (.iconst 1, 1) := dk_4 (dk_at dksX2_whole_8 10 rfl rfl)
theorem dX2_whole_199 : decode cX2_whole 199 = .ok (.goto 19, 3) := dk_167 0 19 (dk_at dksX2_whole_8 11 rfl rfl)
theorem dX2_whole_202 : decode cX2_whole 202 = .ok (.iconst 0, 1) := dk_3 (dk_at dksX2_whole_8 14 rfl rfl)
theorem dX2_whole_203 : decode cX2_whole 203 = .ok (.goto 15, 3) := dk_167 0 15 (dk_at dksX2_whole_8 15 rfl rfl)
theorem dX2_whole_206 : decode cX2_whole 206 = .ok (.iload 5, 2) := dk_21 5 (dk_at dksX2_whole_8 18 rfl rfl)
theorem dX2_whole_208 : decode cX2_whole 208 = .ok (.iload 6, 2) := dk_21 6 (dk_at dksX2_whole_8 20 rfl rfl)
theorem dX2_whole_210 : decode cX2_whole 210 = .ok (.if_icmp .eq 7, 3) := dk_159 0 7 (dk_at dksX2_whole_9 0 rfl rfl)
theorem dX2_whole_213 : decode cX2_whole 213 = .ok (.iconst 1, 1) := dk_4 (dk_at dksX2_whole_9 3 rfl rfl)
theorem dX2_whole_214 : decode cX2_whole 214 = .ok (.goto 4, 3) := dk_167 0 4 (dk_at dksX2_whole_9 4 rfl rfl)
theorem dX2_whole_217 : decode cX2_whole 217 = .ok (.iconst 0, 1) := dk_3 (dk_at dksX2_whole_9 7 rfl rfl)
theorem dX2_whole_218 : decode cX2_whole 218 = .ok (.bastore, 1) := dk_84 (dk_at dksX2_whole_9 8 rfl rfl)
theorem dX2_whole_219 : decode cX2_whole 219 = .ok (.iinc 3 1, 3) := dk_132 3 1 (dk_at dksX2_whole_9 9 rfl rfl)
theorem dX2_whole_222 : decode cX2_whole 222 = .ok (.goto (-220), 3) := dk_167 255 36 (dk_at dksX2_whole_9 12 rfl rfl)
theorem dX2_whole_225 : decode cX2_whole 225 = .ok (.aload_n 0, 1) := dk_42 (dk_at dksX2_whole_9 15 rfl rfl)
theorem dX2_whole_226 : decode cX2_whole 226 = .ok (.getfield 49, 3) := dk_180 0 49 (dk_at dksX2_whole_9 16 rfl rfl)
theorem dX2_whole_229 : decode cX2_whole 229 = .ok (.aload_n 0, 1) := dk_42 (dk_at dksX2_whole_9 19 rfl rfl)
theorem dX2_whole_230 : decode cX2_whole 230 = .ok (.getfield 22, 3) := dk_180 0 22 (dk_at dksX2_whole_9 20 rfl rfl)
theorem dX2_whole_233 : decode cX2_whole 233 = .ok (.iload_n 1, 1) := dk_27 (dk_at dksX2_whole_9 23 rfl rfl)
theorem dX2_whole_234 : decode cX2_whole 234 = .ok (.iaload, 1) := dk_46 (dk_at dksX2_whole_10 0 rfl rfl)
theorem dX2_whole_235 : decode cX2_whole 235 = .ok (.iconst 1, 1) := dk_4 (dk_at dksX2_whole_10 1 rfl rfl)
theorem dX2_whole_236 : decode cX2_whole 236 = .ok (.isub, 1) := dk_100 (dk_at dksX2_whole_10 2 rfl rfl)
theorem dX2_whole_237 : decode cX2_whole 237 = .ok (.baload, 1) := dk_51 (dk_at dksX2_whole_10 3 rfl rfl)
theorem dX2_whole_238 : decode cX2_whole 238 = .ok (.ireturn, 1) := dk_172 (dk_at dksX2_whole_10 4 rfl rfl)
abbrev cX2_isSame : ByteArray := prog_15_method_39_code
def yX2_isSame : MethodName := ⟨RX2, "isSame", "(II)Z"⟩
def dkwX2_isSame_3 : List UInt8 := [172]
abbrev dktX2_isSame_3 : List UInt8 := dkwX2_isSame_3 ++ []
def dkwX2_isSame_2 : List UInt8 := [42, 27, 29, 182, 0, 166, 42, 28, 29, 182, 0, 166, 159, 0, 5, 3, 172, 132, 3, 1, 167, 255, 222, 4]
abbrev dktX2_isSame_2 : List UInt8 := dkwX2_isSame_2 ++ dktX2_isSame_3
def dkwX2_isSame_1 : List UInt8 := [182, 0, 76, 153, 0, 5, 3, 172, 3, 62, 29, 16, 16, 162, 0, 34, 42, 29, 182, 0, 172, 153, 0, 20]
abbrev dktX2_isSame_1 : List UInt8 := dkwX2_isSame_1 ++ dktX2_isSame_2
def dkwX2_isSame_0 : List UInt8 := [42, 42, 27, 182, 0, 126, 153, 0, 11, 42, 28, 182, 0, 126, 154, 0, 7, 4, 167, 0, 4, 3]
abbrev dktX2_isSame_0 : List UInt8 := dkwX2_isSame_0 ++ dktX2_isSame_1
theorem dksX2_isSame_0 : cX2_isSame.data.toList.drop 0 = dktX2_isSame_0 := by decide +kernel
theorem dksX2_isSame_1 : cX2_isSame.data.toList.drop 22 = dktX2_isSame_1 := dk_seg dksX2_isSame_0 22 rfl rfl
theorem dksX2_isSame_2 : cX2_isSame.data.toList.drop 46 = dktX2_isSame_2 := dk_seg dksX2_isSame_1 24 rfl rfl
theorem dksX2_isSame_3 : cX2_isSame.data.toList.drop 70 = dktX2_isSame_3 := dk_seg dksX2_isSame_2 24 rfl rfl
theorem dX2_isSame_0 : decode cX2_isSame 0 = .ok (.aload_n 0, 1) := dk_42 (dk_at dksX2_isSame_0 0 rfl rfl)
theorem dX2_isSame_1 : decode cX2_isSame 1 = .ok (.aload_n 0, 1) := dk_42 (dk_at dksX2_isSame_0 1 rfl rfl)
theorem dX2_isSame_2 : decode cX2_isSame 2 = .ok (.iload_n 1, 1) := dk_27 (dk_at dksX2_isSame_0 2 rfl rfl)
theorem dX2_isSame_3 : decode cX2_isSame 3 = .ok (.invokevirtual 126, 3) := dk_182 0 126 (dk_at dksX2_isSame_0 3 rfl rfl)
theorem dX2_isSame_6 : decode cX2_isSame 6 = .ok (.ifCond .eq 11, 3) := dk_153 0 11 (dk_at dksX2_isSame_0 6 rfl rfl)
theorem dX2_isSame_9 : decode cX2_isSame 9 = .ok (.aload_n 0, 1) := dk_42 (dk_at dksX2_isSame_0 9 rfl rfl)
theorem dX2_isSame_10 : decode cX2_isSame 10 = .ok (.iload_n 2, 1) := dk_28 (dk_at dksX2_isSame_0 10 rfl rfl)
theorem dX2_isSame_11 : decode cX2_isSame 11 = .ok (.invokevirtual 126, 3) := dk_182 0 126 (dk_at dksX2_isSame_0 11 rfl rfl)
theorem dX2_isSame_14 : decode cX2_isSame 14 = .ok (.ifCond .ne 7, 3) := dk_154 0 7 (dk_at dksX2_isSame_0 14 rfl rfl)
theorem dX2_isSame_17 : decode cX2_isSame 17 = .ok (.iconst 1, 1) := dk_4 (dk_at dksX2_isSame_0 17 rfl rfl)
theorem dX2_isSame_18 : decode cX2_isSame 18 = .ok (.goto 4, 3) := dk_167 0 4 (dk_at dksX2_isSame_0 18 rfl rfl)
theorem dX2_isSame_21 : decode cX2_isSame 21 = .ok (.iconst 0, 1) := dk_3 (dk_at dksX2_isSame_0 21 rfl rfl)
theorem dX2_isSame_22 : decode cX2_isSame 22 = .ok (.invokevirtual 76, 3) := dk_182 0 76 (dk_at dksX2_isSame_1 0 rfl rfl)
theorem dX2_isSame_25 : decode cX2_isSame 25 = .ok (.ifCond .eq 5, 3) := dk_153 0 5 (dk_at dksX2_isSame_1 3 rfl rfl)
theorem dX2_isSame_28 : decode cX2_isSame 28 = .ok (.iconst 0, 1) := dk_3 (dk_at dksX2_isSame_1 6 rfl rfl)
theorem dX2_isSame_29 : decode cX2_isSame 29 = .ok (.ireturn, 1) := dk_172 (dk_at dksX2_isSame_1 7 rfl rfl)
theorem dX2_isSame_30 : decode cX2_isSame 30 = .ok (.iconst 0, 1) := dk_3 (dk_at dksX2_isSame_1 8 rfl rfl)
theorem dX2_isSame_31 : decode cX2_isSame 31 = .ok (.istore_n 3, 1) := dk_62 (dk_at dksX2_isSame_1 9 rfl rfl)
theorem dX2_isSame_32 : decode cX2_isSame 32 = .ok (.iload_n 3, 1) := dk_29 (dk_at dksX2_isSame_1 10 rfl rfl)
theorem dX2_isSame_33 : decode cX2_isSame 33 = .ok (.bipush 16, 2) := dk_16 16 (dk_at dksX2_isSame_1 11 rfl rfl)
theorem dX2_isSame_35 : decode cX2_isSame 35 = .ok (.if_icmp .ge 34, 3) := dk_162 0 34 (dk_at dksX2_isSame_1 13 rfl rfl)
theorem dX2_isSame_38 : decode cX2_isSame 38 = .ok (.aload_n 0, 1) := dk_42 (dk_at dksX2_isSame_1 16 rfl rfl)
theorem dX2_isSame_39 : decode cX2_isSame 39 = .ok (.iload_n 3, 1) := dk_29 (dk_at dksX2_isSame_1 17 rfl rfl)
theorem dX2_isSame_40 : decode cX2_isSame 40 = .ok (.invokevirtual 172, 3) := dk_182 0 172 (dk_at dksX2_isSame_1 18 rfl rfl)
theorem dX2_isSame_43 : decode cX2_isSame 43 = .ok (.ifCond .eq 20, 3) := dk_153 0 20 (dk_at dksX2_isSame_1 21 rfl rfl)
theorem dX2_isSame_46 : decode cX2_isSame 46 = .ok (.aload_n 0, 1) := dk_42 (dk_at dksX2_isSame_2 0 rfl rfl)
theorem dX2_isSame_47 : decode cX2_isSame 47 = .ok (.iload_n 1, 1) := dk_27 (dk_at dksX2_isSame_2 1 rfl rfl)
theorem dX2_isSame_48 : decode cX2_isSame 48 = .ok (.iload_n 3, 1) := dk_29 (dk_at dksX2_isSame_2 2 rfl rfl)
theorem dX2_isSame_49 : decode cX2_isSame 49 = .ok (.invokevirtual 166, 3) := dk_182 0 166 (dk_at dksX2_isSame_2 3 rfl rfl)
theorem dX2_isSame_52 : decode cX2_isSame 52 = .ok (.aload_n 0, 1) := dk_42 (dk_at dksX2_isSame_2 6 rfl rfl)
theorem dX2_isSame_53 : decode cX2_isSame 53 = .ok (.iload_n 2, 1) := dk_28 (dk_at dksX2_isSame_2 7 rfl rfl)
theorem dX2_isSame_54 : decode cX2_isSame 54 = .ok (.iload_n 3, 1) := dk_29 (dk_at dksX2_isSame_2 8 rfl rfl)
theorem dX2_isSame_55 : decode cX2_isSame 55 = .ok (.invokevirtual 166, 3) := dk_182 0 166 (dk_at dksX2_isSame_2 9 rfl rfl)
theorem dX2_isSame_58 : decode cX2_isSame 58 = .ok (.if_icmp .eq 5, 3) := dk_159 0 5 (dk_at dksX2_isSame_2 12 rfl rfl)
theorem dX2_isSame_61 : decode cX2_isSame 61 = .ok (.iconst 0, 1) := dk_3 (dk_at dksX2_isSame_2 15 rfl rfl)
theorem dX2_isSame_62 : decode cX2_isSame 62 = .ok (.ireturn, 1) := dk_172 (dk_at dksX2_isSame_2 16 rfl rfl)
theorem dX2_isSame_63 : decode cX2_isSame 63 = .ok (.iinc 3 1, 3) := dk_132 3 1 (dk_at dksX2_isSame_2 17 rfl rfl)
theorem dX2_isSame_66 : decode cX2_isSame 66 = .ok (.goto (-34), 3) := dk_167 255 222 (dk_at dksX2_isSame_2 20 rfl rfl)
theorem dX2_isSame_69 : decode cX2_isSame 69 = .ok (.iconst 1, 1) := dk_4 (dk_at dksX2_isSame_2 23 rfl rfl)
theorem dX2_isSame_70 : decode cX2_isSame 70 = .ok (.ireturn, 1) := dk_172 (dk_at dksX2_isSame_3 0 rfl rfl)
abbrev cX2_isAllowed : ByteArray := prog_15_method_41_code
def yX2_isAllowed : MethodName := ⟨RX2, "isAllowed", "(I)Z"⟩
def dkwX2_isAllowed_2 : List UInt8 := [3, 172, 132, 2, 1, 167, 255, 205, 4, 172]
abbrev dktX2_isAllowed_2 : List UInt8 := dkwX2_isAllowed_2 ++ []
def dkwX2_isAllowed_1 : List UInt8 := [28, 46, 160, 0, 24, 27, 42, 180, 0, 40, 28, 46, 184, 0, 178, 42, 180, 0, 43, 28, 46, 160, 0, 5]
abbrev dktX2_isAllowed_1 : List UInt8 := dkwX2_isAllowed_1 ++ dktX2_isAllowed_2
def dkwX2_isAllowed_0 : List UInt8 := [3, 61, 28, 42, 180, 0, 175, 162, 0, 49, 27, 42, 180, 0, 34, 28, 46, 184, 0, 178, 42, 180, 0, 37]
abbrev dktX2_isAllowed_0 : List UInt8 := dkwX2_isAllowed_0 ++ dktX2_isAllowed_1
theorem dksX2_isAllowed_0 : cX2_isAllowed.data.toList.drop 0 = dktX2_isAllowed_0 := by decide +kernel
theorem dksX2_isAllowed_1 : cX2_isAllowed.data.toList.drop 24 = dktX2_isAllowed_1 := dk_seg dksX2_isAllowed_0 24 rfl rfl
theorem dksX2_isAllowed_2 : cX2_isAllowed.data.toList.drop 48 = dktX2_isAllowed_2 := dk_seg dksX2_isAllowed_1 24 rfl rfl
theorem dX2_isAllowed_0 : decode cX2_isAllowed 0 = .ok (.iconst 0, 1) := dk_3 (dk_at dksX2_isAllowed_0 0 rfl rfl)
theorem dX2_isAllowed_1 : decode cX2_isAllowed 1 = .ok (.istore_n 2, 1) := dk_61 (dk_at dksX2_isAllowed_0 1 rfl rfl)
theorem dX2_isAllowed_2 : decode cX2_isAllowed 2 = .ok (.iload_n 2, 1) := dk_28 (dk_at dksX2_isAllowed_0 2 rfl rfl)
theorem dX2_isAllowed_3 : decode cX2_isAllowed 3 = .ok (.aload_n 0, 1) := dk_42 (dk_at dksX2_isAllowed_0 3 rfl rfl)
theorem dX2_isAllowed_4 : decode cX2_isAllowed 4 = .ok (.getfield 175, 3) := dk_180 0 175 (dk_at dksX2_isAllowed_0 4 rfl rfl)
theorem dX2_isAllowed_7 : decode cX2_isAllowed 7 = .ok (.if_icmp .ge 49, 3) := dk_162 0 49 (dk_at dksX2_isAllowed_0 7 rfl rfl)
theorem dX2_isAllowed_10 : decode cX2_isAllowed 10 = .ok (.iload_n 1, 1) := dk_27 (dk_at dksX2_isAllowed_0 10 rfl rfl)
theorem dX2_isAllowed_11 : decode cX2_isAllowed 11 = .ok (.aload_n 0, 1) := dk_42 (dk_at dksX2_isAllowed_0 11 rfl rfl)
theorem dX2_isAllowed_12 : decode cX2_isAllowed 12 = .ok (.getfield 34, 3) := dk_180 0 34 (dk_at dksX2_isAllowed_0 12 rfl rfl)
theorem dX2_isAllowed_15 : decode cX2_isAllowed 15 = .ok (.iload_n 2, 1) := dk_28 (dk_at dksX2_isAllowed_0 15 rfl rfl)
theorem dX2_isAllowed_16 : decode cX2_isAllowed 16 = .ok (.iaload, 1) := dk_46 (dk_at dksX2_isAllowed_0 16 rfl rfl)
theorem dX2_isAllowed_17 : decode cX2_isAllowed 17 = .ok (.invokestatic 178, 3) := dk_184 0 178 (dk_at dksX2_isAllowed_0 17 rfl rfl)
theorem dX2_isAllowed_20 : decode cX2_isAllowed 20 = .ok (.aload_n 0, 1) := dk_42 (dk_at dksX2_isAllowed_0 20 rfl rfl)
theorem dX2_isAllowed_21 : decode cX2_isAllowed 21 = .ok (.getfield 37, 3) := dk_180 0 37 (dk_at dksX2_isAllowed_0 21 rfl rfl)
theorem dX2_isAllowed_24 : decode cX2_isAllowed 24 = .ok (.iload_n 2, 1) := dk_28 (dk_at dksX2_isAllowed_1 0 rfl rfl)
theorem dX2_isAllowed_25 : decode cX2_isAllowed 25 = .ok (.iaload, 1) := dk_46 (dk_at dksX2_isAllowed_1 1 rfl rfl)
theorem dX2_isAllowed_26 : decode cX2_isAllowed 26 = .ok (.if_icmp .ne 24, 3) := dk_160 0 24 (dk_at dksX2_isAllowed_1 2 rfl rfl)
theorem dX2_isAllowed_29 : decode cX2_isAllowed 29 = .ok (.iload_n 1, 1) := dk_27 (dk_at dksX2_isAllowed_1 5 rfl rfl)
theorem dX2_isAllowed_30 : decode cX2_isAllowed 30 = .ok (.aload_n 0, 1) := dk_42 (dk_at dksX2_isAllowed_1 6 rfl rfl)
theorem dX2_isAllowed_31 : decode cX2_isAllowed 31 = .ok (.getfield 40, 3) := dk_180 0 40 (dk_at dksX2_isAllowed_1 7 rfl rfl)
theorem dX2_isAllowed_34 : decode cX2_isAllowed 34 = .ok (.iload_n 2, 1) := dk_28 (dk_at dksX2_isAllowed_1 10 rfl rfl)
theorem dX2_isAllowed_35 : decode cX2_isAllowed 35 = .ok (.iaload, 1) := dk_46 (dk_at dksX2_isAllowed_1 11 rfl rfl)
theorem dX2_isAllowed_36 : decode cX2_isAllowed 36 = .ok (.invokestatic 178, 3) := dk_184 0 178 (dk_at dksX2_isAllowed_1 12 rfl rfl)
theorem dX2_isAllowed_39 : decode cX2_isAllowed 39 = .ok (.aload_n 0, 1) := dk_42 (dk_at dksX2_isAllowed_1 15 rfl rfl)
theorem dX2_isAllowed_40 : decode cX2_isAllowed 40 = .ok (.getfield 43, 3) := dk_180 0 43 (dk_at dksX2_isAllowed_1 16 rfl rfl)
theorem dX2_isAllowed_43 : decode cX2_isAllowed 43 = .ok (.iload_n 2, 1) := dk_28 (dk_at dksX2_isAllowed_1 19 rfl rfl)
theorem dX2_isAllowed_44 : decode cX2_isAllowed 44 = .ok (.iaload, 1) := dk_46 (dk_at dksX2_isAllowed_1 20 rfl rfl)
theorem dX2_isAllowed_45 : decode cX2_isAllowed 45 = .ok (.if_icmp .ne 5, 3) := dk_160 0 5 (dk_at dksX2_isAllowed_1 21 rfl rfl)
theorem dX2_isAllowed_48 : decode cX2_isAllowed 48 = .ok (.iconst 0, 1) := dk_3 (dk_at dksX2_isAllowed_2 0 rfl rfl)
theorem dX2_isAllowed_49 : decode cX2_isAllowed 49 = .ok (.ireturn, 1) := dk_172 (dk_at dksX2_isAllowed_2 1 rfl rfl)
theorem dX2_isAllowed_50 : decode cX2_isAllowed 50 = .ok (.iinc 2 1, 3) := dk_132 2 1 (dk_at dksX2_isAllowed_2 2 rfl rfl)
theorem dX2_isAllowed_53 : decode cX2_isAllowed 53 = .ok (.goto (-51), 3) := dk_167 255 205 (dk_at dksX2_isAllowed_2 5 rfl rfl)
theorem dX2_isAllowed_56 : decode cX2_isAllowed 56 = .ok (.iconst 1, 1) := dk_4 (dk_at dksX2_isAllowed_2 8 rfl rfl)
theorem dX2_isAllowed_57 : decode cX2_isAllowed 57 = .ok (.ireturn, 1) := dk_172 (dk_at dksX2_isAllowed_2 9 rfl rfl)
abbrev cX2_bit : ByteArray := prog_15_method_40_code
def yX2_bit : MethodName := ⟨RX2, "bit", "(II)I"⟩
def dkwX2_bit_0 : List UInt8 := [26, 27, 122, 4, 126, 172]
abbrev dktX2_bit_0 : List UInt8 := dkwX2_bit_0 ++ []
theorem dksX2_bit_0 : cX2_bit.data.toList.drop 0 = dktX2_bit_0 := by decide +kernel
theorem dX2_bit_0 : decode cX2_bit 0 = .ok (.iload_n 0, 1) := dk_26 (dk_at dksX2_bit_0 0 rfl rfl)
theorem dX2_bit_1 : decode cX2_bit 1 = .ok (.iload_n 1, 1) := dk_27 (dk_at dksX2_bit_0 1 rfl rfl)
theorem dX2_bit_2 : decode cX2_bit 2 = .ok (.ishr, 1) := dk_122 (dk_at dksX2_bit_0 2 rfl rfl)
theorem dX2_bit_3 : decode cX2_bit 3 = .ok (.iconst 1, 1) := dk_4 (dk_at dksX2_bit_0 3 rfl rfl)
theorem dX2_bit_4 : decode cX2_bit 4 = .ok (.iand, 1) := dk_126 (dk_at dksX2_bit_0 4 rfl rfl)
theorem dX2_bit_5 : decode cX2_bit 5 = .ok (.ireturn, 1) := dk_172 (dk_at dksX2_bit_0 5 rfl rfl)
abbrev cX2_forbid : ByteArray := prog_15_method_43_code
def yX2_forbid : MethodName := ⟨RX2, "forbid", "(IZIZ)I"⟩
def dkwX2_forbid_5 : List UInt8 := [42, 89, 180, 0, 175, 4, 96, 181, 0, 175, 42, 180, 0, 175, 4, 100, 172]
abbrev dktX2_forbid_5 : List UInt8 := dkwX2_forbid_5 ++ []
def dkwX2_forbid_4 : List UInt8 := [180, 0, 175, 29, 79, 42, 180, 0, 43, 42, 180, 0, 175, 21, 4, 153, 0, 7, 4, 167, 0, 4, 3, 79]
abbrev dktX2_forbid_4 : List UInt8 := dkwX2_forbid_4 ++ dktX2_forbid_5
def dkwX2_forbid_3 : List UInt8 := [180, 0, 37, 42, 180, 0, 175, 28, 153, 0, 7, 4, 167, 0, 4, 3, 79, 42, 180, 0, 40, 42]
abbrev dktX2_forbid_3 : List UInt8 := dkwX2_forbid_3 ++ dktX2_forbid_4
def dkwX2_forbid_2 : List UInt8 := [167, 0, 4, 3, 5, 182, 0, 83, 153, 0, 5, 3, 172, 42, 180, 0, 34, 42, 180, 0, 175, 27, 79, 42]
abbrev dktX2_forbid_2 : List UInt8 := dkwX2_forbid_2 ++ dktX2_forbid_3
def dkwX2_forbid_1 : List UInt8 := [4, 167, 0, 4, 3, 182, 0, 76, 154, 0, 25, 42, 42, 180, 0, 175, 16, 6, 160, 0, 7, 4]
abbrev dktX2_forbid_1 : List UInt8 := dkwX2_forbid_1 ++ dktX2_forbid_2
def dkwX2_forbid_0 : List UInt8 := [42, 27, 3, 6, 184, 0, 105, 153, 0, 17, 29, 3, 6, 184, 0, 105, 153, 0, 8, 27, 29, 160, 0, 7]
abbrev dktX2_forbid_0 : List UInt8 := dkwX2_forbid_0 ++ dktX2_forbid_1
theorem dksX2_forbid_0 : cX2_forbid.data.toList.drop 0 = dktX2_forbid_0 := by decide +kernel
theorem dksX2_forbid_1 : cX2_forbid.data.toList.drop 24 = dktX2_forbid_1 := dk_seg dksX2_forbid_0 24 rfl rfl
theorem dksX2_forbid_2 : cX2_forbid.data.toList.drop 46 = dktX2_forbid_2 := dk_seg dksX2_forbid_1 22 rfl rfl
theorem dksX2_forbid_3 : cX2_forbid.data.toList.drop 70 = dktX2_forbid_3 := dk_seg dksX2_forbid_2 24 rfl rfl
theorem dksX2_forbid_4 : cX2_forbid.data.toList.drop 92 = dktX2_forbid_4 := dk_seg dksX2_forbid_3 22 rfl rfl
theorem dksX2_forbid_5 : cX2_forbid.data.toList.drop 116 = dktX2_forbid_5 := dk_seg dksX2_forbid_4 24 rfl rfl
theorem dX2_forbid_0 : decode cX2_forbid 0 = .ok (.aload_n 0, 1) := dk_42 (dk_at dksX2_forbid_0 0 rfl rfl)
theorem dX2_forbid_1 : decode cX2_forbid 1 = .ok (.iload_n 1, 1) := dk_27 (dk_at dksX2_forbid_0 1 rfl rfl)
theorem dX2_forbid_2 : decode cX2_forbid 2 = .ok (.iconst 0, 1) := dk_3 (dk_at dksX2_forbid_0 2 rfl rfl)
theorem dX2_forbid_3 : decode cX2_forbid 3 = .ok (.iconst 3, 1) := dk_6 (dk_at dksX2_forbid_0 3 rfl rfl)
theorem dX2_forbid_4 : decode cX2_forbid 4 = .ok (.invokestatic 105, 3) := dk_184 0 105 (dk_at dksX2_forbid_0 4 rfl rfl)
theorem dX2_forbid_7 : decode cX2_forbid 7 = .ok (.ifCond .eq 17, 3) := dk_153 0 17 (dk_at dksX2_forbid_0 7 rfl rfl)
theorem dX2_forbid_10 : decode cX2_forbid 10 = .ok (.iload_n 3, 1) := dk_29 (dk_at dksX2_forbid_0 10 rfl rfl)
theorem dX2_forbid_11 : decode cX2_forbid 11 = .ok (.iconst 0, 1) := dk_3 (dk_at dksX2_forbid_0 11 rfl rfl)
theorem dX2_forbid_12 : decode cX2_forbid 12 = .ok (.iconst 3, 1) := dk_6 (dk_at dksX2_forbid_0 12 rfl rfl)
theorem dX2_forbid_13 : decode cX2_forbid 13 = .ok (.invokestatic 105, 3) := dk_184 0 105 (dk_at dksX2_forbid_0 13 rfl rfl)
theorem dX2_forbid_16 : decode cX2_forbid 16 = .ok (.ifCond .eq 8, 3) := dk_153 0 8 (dk_at dksX2_forbid_0 16 rfl rfl)
theorem dX2_forbid_19 : decode cX2_forbid 19 = .ok (.iload_n 1, 1) := dk_27 (dk_at dksX2_forbid_0 19 rfl rfl)
theorem dX2_forbid_20 : decode cX2_forbid 20 = .ok (.iload_n 3, 1) := dk_29 (dk_at dksX2_forbid_0 20 rfl rfl)
theorem dX2_forbid_21 : decode cX2_forbid 21 = .ok (.if_icmp .ne 7, 3) := dk_160 0 7 (dk_at dksX2_forbid_0 21 rfl rfl)
theorem dX2_forbid_24 : decode cX2_forbid 24 = .ok (.iconst 1, 1) := dk_4 (dk_at dksX2_forbid_1 0 rfl rfl)
theorem dX2_forbid_25 : decode cX2_forbid 25 = .ok (.goto 4, 3) := dk_167 0 4 (dk_at dksX2_forbid_1 1 rfl rfl)
theorem dX2_forbid_28 : decode cX2_forbid 28 = .ok (.iconst 0, 1) := dk_3 (dk_at dksX2_forbid_1 4 rfl rfl)
theorem dX2_forbid_29 : decode cX2_forbid 29 = .ok (.invokevirtual 76, 3) := dk_182 0 76 (dk_at dksX2_forbid_1 5 rfl rfl)
theorem dX2_forbid_32 : decode cX2_forbid 32 = .ok (.ifCond .ne 25, 3) := dk_154 0 25 (dk_at dksX2_forbid_1 8 rfl rfl)
theorem dX2_forbid_35 : decode cX2_forbid 35 = .ok (.aload_n 0, 1) := dk_42 (dk_at dksX2_forbid_1 11 rfl rfl)
theorem dX2_forbid_36 : decode cX2_forbid 36 = .ok (.aload_n 0, 1) := dk_42 (dk_at dksX2_forbid_1 12 rfl rfl)
theorem dX2_forbid_37 : decode cX2_forbid 37 = .ok (.getfield 175, 3) := dk_180 0 175 (dk_at dksX2_forbid_1 13 rfl rfl)
theorem dX2_forbid_40 : decode cX2_forbid 40 = .ok (.bipush 6, 2) := dk_16 6 (dk_at dksX2_forbid_1 16 rfl rfl)
theorem dX2_forbid_42 : decode cX2_forbid 42 = .ok (.if_icmp .ne 7, 3) := dk_160 0 7 (dk_at dksX2_forbid_1 18 rfl rfl)
theorem dX2_forbid_45 : decode cX2_forbid 45 = .ok (.iconst 1, 1) := dk_4 (dk_at dksX2_forbid_1 21 rfl rfl)
theorem dX2_forbid_46 : decode cX2_forbid 46 = .ok (.goto 4, 3) := dk_167 0 4 (dk_at dksX2_forbid_2 0 rfl rfl)
theorem dX2_forbid_49 : decode cX2_forbid 49 = .ok (.iconst 0, 1) := dk_3 (dk_at dksX2_forbid_2 3 rfl rfl)
theorem dX2_forbid_50 : decode cX2_forbid 50 = .ok (.iconst 2, 1) := dk_5 (dk_at dksX2_forbid_2 4 rfl rfl)
theorem dX2_forbid_51 : decode cX2_forbid 51 = .ok (.invokevirtual 83, 3) := dk_182 0 83 (dk_at dksX2_forbid_2 5 rfl rfl)
theorem dX2_forbid_54 : decode cX2_forbid 54 = .ok (.ifCond .eq 5, 3) := dk_153 0 5 (dk_at dksX2_forbid_2 8 rfl rfl)
theorem dX2_forbid_57 : decode cX2_forbid 57 = .ok (.iconst 0, 1) := dk_3 (dk_at dksX2_forbid_2 11 rfl rfl)
theorem dX2_forbid_58 : decode cX2_forbid 58 = .ok (.ireturn, 1) := dk_172 (dk_at dksX2_forbid_2 12 rfl rfl)
theorem dX2_forbid_59 : decode cX2_forbid 59 = .ok (.aload_n 0, 1) := dk_42 (dk_at dksX2_forbid_2 13 rfl rfl)
theorem dX2_forbid_60 : decode cX2_forbid 60 = .ok (.getfield 34, 3) := dk_180 0 34 (dk_at dksX2_forbid_2 14 rfl rfl)
theorem dX2_forbid_63 : decode cX2_forbid 63 = .ok (.aload_n 0, 1) := dk_42 (dk_at dksX2_forbid_2 17 rfl rfl)
theorem dX2_forbid_64 : decode cX2_forbid 64 = .ok (.getfield 175, 3) := dk_180 0 175 (dk_at dksX2_forbid_2 18 rfl rfl)
theorem dX2_forbid_67 : decode cX2_forbid 67 = .ok (.iload_n 1, 1) := dk_27 (dk_at dksX2_forbid_2 21 rfl rfl)
theorem dX2_forbid_68 : decode cX2_forbid 68 = .ok (.iastore, 1) := dk_79 (dk_at dksX2_forbid_2 22 rfl rfl)
theorem dX2_forbid_69 : decode cX2_forbid 69 = .ok (.aload_n 0, 1) := dk_42 (dk_at dksX2_forbid_2 23 rfl rfl)
theorem dX2_forbid_70 : decode cX2_forbid 70 = .ok (.getfield 37, 3) := dk_180 0 37 (dk_at dksX2_forbid_3 0 rfl rfl)
theorem dX2_forbid_73 : decode cX2_forbid 73 = .ok (.aload_n 0, 1) := dk_42 (dk_at dksX2_forbid_3 3 rfl rfl)
theorem dX2_forbid_74 : decode cX2_forbid 74 = .ok (.getfield 175, 3) := dk_180 0 175 (dk_at dksX2_forbid_3 4 rfl rfl)
theorem dX2_forbid_77 : decode cX2_forbid 77 = .ok (.iload_n 2, 1) := dk_28 (dk_at dksX2_forbid_3 7 rfl rfl)
theorem dX2_forbid_78 : decode cX2_forbid 78 = .ok (.ifCond .eq 7, 3) := dk_153 0 7 (dk_at dksX2_forbid_3 8 rfl rfl)
theorem dX2_forbid_81 : decode cX2_forbid 81 = .ok (.iconst 1, 1) := dk_4 (dk_at dksX2_forbid_3 11 rfl rfl)
theorem dX2_forbid_82 : decode cX2_forbid 82 = .ok (.goto 4, 3) := dk_167 0 4 (dk_at dksX2_forbid_3 12 rfl rfl)
theorem dX2_forbid_85 : decode cX2_forbid 85 = .ok (.iconst 0, 1) := dk_3 (dk_at dksX2_forbid_3 15 rfl rfl)
theorem dX2_forbid_86 : decode cX2_forbid 86 = .ok (.iastore, 1) := dk_79 (dk_at dksX2_forbid_3 16 rfl rfl)
theorem dX2_forbid_87 : decode cX2_forbid 87 = .ok (.aload_n 0, 1) := dk_42 (dk_at dksX2_forbid_3 17 rfl rfl)
theorem dX2_forbid_88 : decode cX2_forbid 88 = .ok (.getfield 40, 3) := dk_180 0 40 (dk_at dksX2_forbid_3 18 rfl rfl)
theorem dX2_forbid_91 : decode cX2_forbid 91 = .ok (.aload_n 0, 1) := dk_42 (dk_at dksX2_forbid_3 21 rfl rfl)
theorem dX2_forbid_92 : decode cX2_forbid 92 = .ok (.getfield 175, 3) := dk_180 0 175 (dk_at dksX2_forbid_4 0 rfl rfl)
theorem dX2_forbid_95 : decode cX2_forbid 95 = .ok (.iload_n 3, 1) := dk_29 (dk_at dksX2_forbid_4 3 rfl rfl)
theorem dX2_forbid_96 : decode cX2_forbid 96 = .ok (.iastore, 1) := dk_79 (dk_at dksX2_forbid_4 4 rfl rfl)
theorem dX2_forbid_97 : decode cX2_forbid 97 = .ok (.aload_n 0, 1) := dk_42 (dk_at dksX2_forbid_4 5 rfl rfl)
theorem dX2_forbid_98 : decode cX2_forbid 98 = .ok (.getfield 43, 3) := dk_180 0 43 (dk_at dksX2_forbid_4 6 rfl rfl)
theorem dX2_forbid_101 : decode cX2_forbid 101 = .ok (.aload_n 0, 1) := dk_42 (dk_at dksX2_forbid_4 9 rfl rfl)
theorem dX2_forbid_102 : decode cX2_forbid 102 = .ok (.getfield 175, 3) := dk_180 0 175 (dk_at dksX2_forbid_4 10 rfl rfl)
theorem dX2_forbid_105 : decode cX2_forbid 105 = .ok (.iload 4, 2) := dk_21 4 (dk_at dksX2_forbid_4 13 rfl rfl)
theorem dX2_forbid_107 : decode cX2_forbid 107 = .ok (.ifCond .eq 7, 3) := dk_153 0 7 (dk_at dksX2_forbid_4 15 rfl rfl)
theorem dX2_forbid_110 : decode cX2_forbid 110 = .ok (.iconst 1, 1) := dk_4 (dk_at dksX2_forbid_4 18 rfl rfl)
theorem dX2_forbid_111 : decode cX2_forbid 111 = .ok (.goto 4, 3) := dk_167 0 4 (dk_at dksX2_forbid_4 19 rfl rfl)
theorem dX2_forbid_114 : decode cX2_forbid 114 = .ok (.iconst 0, 1) := dk_3 (dk_at dksX2_forbid_4 22 rfl rfl)
theorem dX2_forbid_115 : decode cX2_forbid 115 = .ok (.iastore, 1) := dk_79 (dk_at dksX2_forbid_4 23 rfl rfl)
theorem dX2_forbid_116 : decode cX2_forbid 116 = .ok (.aload_n 0, 1) := dk_42 (dk_at dksX2_forbid_5 0 rfl rfl)
theorem dX2_forbid_117 : decode cX2_forbid 117 = .ok (.dup, 1) := dk_89 (dk_at dksX2_forbid_5 1 rfl rfl)
theorem dX2_forbid_118 : decode cX2_forbid 118 = .ok (.getfield 175, 3) := dk_180 0 175 (dk_at dksX2_forbid_5 2 rfl rfl)
theorem dX2_forbid_121 : decode cX2_forbid 121 = .ok (.iconst 1, 1) := dk_4 (dk_at dksX2_forbid_5 5 rfl rfl)
theorem dX2_forbid_122 : decode cX2_forbid 122 = .ok (.iadd, 1) := dk_96 (dk_at dksX2_forbid_5 6 rfl rfl)
theorem dX2_forbid_123 : decode cX2_forbid 123 = .ok (.putfield 175, 3) := dk_181 0 175 (dk_at dksX2_forbid_5 7 rfl rfl)
theorem dX2_forbid_126 : decode cX2_forbid 126 = .ok (.aload_n 0, 1) := dk_42 (dk_at dksX2_forbid_5 10 rfl rfl)
theorem dX2_forbid_127 : decode cX2_forbid 127 = .ok (.getfield 175, 3) := dk_180 0 175 (dk_at dksX2_forbid_5 11 rfl rfl)
theorem dX2_forbid_130 : decode cX2_forbid 130 = .ok (.iconst 1, 1) := dk_4 (dk_at dksX2_forbid_5 14 rfl rfl)
theorem dX2_forbid_131 : decode cX2_forbid 131 = .ok (.isub, 1) := dk_100 (dk_at dksX2_forbid_5 15 rfl rfl)
theorem dX2_forbid_132 : decode cX2_forbid 132 = .ok (.ireturn, 1) := dk_172 (dk_at dksX2_forbid_5 16 rfl rfl)
abbrev cX2_permit : ByteArray := prog_15_method_44_code
def yX2_permit : MethodName := ⟨RX2, "permit", "(I)I"⟩
def dkwX2_permit_5 : List UInt8 := [184, 0, 184, 172]
abbrev dktX2_permit_5 : List UInt8 := dkwX2_permit_5 ++ []
def dkwX2_permit_4 : List UInt8 := [180, 0, 43, 28, 42, 180, 0, 43, 28, 4, 96, 46, 79, 132, 2, 1, 167, 255, 189, 42, 182, 0, 181]
abbrev dktX2_permit_4 : List UInt8 := dkwX2_permit_4 ++ dktX2_permit_5
def dkwX2_permit_3 : List UInt8 := [180, 0, 37, 28, 4, 96, 46, 79, 42, 180, 0, 40, 28, 42, 180, 0, 40, 28, 4, 96, 46, 79, 42]
abbrev dktX2_permit_3 : List UInt8 := dkwX2_permit_3 ++ dktX2_permit_4
def dkwX2_permit_2 : List UInt8 := [162, 0, 65, 42, 180, 0, 34, 28, 42, 180, 0, 34, 28, 4, 96, 46, 79, 42, 180, 0, 37, 28, 42]
abbrev dktX2_permit_2 : List UInt8 := dkwX2_permit_2 ++ dktX2_permit_3
def dkwX2_permit_1 : List UInt8 := [153, 0, 5, 3, 172, 42, 89, 180, 0, 175, 4, 100, 181, 0, 175, 27, 61, 28, 42, 180, 0, 175]
abbrev dktX2_permit_1 : List UInt8 := dkwX2_permit_1 ++ dktX2_permit_2
def dkwX2_permit_0 : List UInt8 := [42, 27, 3, 42, 180, 0, 175, 4, 100, 184, 0, 105, 154, 0, 7, 4, 167, 0, 4, 3, 182, 0, 76]
abbrev dktX2_permit_0 : List UInt8 := dkwX2_permit_0 ++ dktX2_permit_1
theorem dksX2_permit_0 : cX2_permit.data.toList.drop 0 = dktX2_permit_0 := by decide +kernel
theorem dksX2_permit_1 : cX2_permit.data.toList.drop 23 = dktX2_permit_1 := dk_seg dksX2_permit_0 23 rfl rfl
theorem dksX2_permit_2 : cX2_permit.data.toList.drop 45 = dktX2_permit_2 := dk_seg dksX2_permit_1 22 rfl rfl
theorem dksX2_permit_3 : cX2_permit.data.toList.drop 68 = dktX2_permit_3 := dk_seg dksX2_permit_2 23 rfl rfl
theorem dksX2_permit_4 : cX2_permit.data.toList.drop 91 = dktX2_permit_4 := dk_seg dksX2_permit_3 23 rfl rfl
theorem dksX2_permit_5 : cX2_permit.data.toList.drop 114 = dktX2_permit_5 := dk_seg dksX2_permit_4 23 rfl rfl
theorem dX2_permit_0 : decode cX2_permit 0 = .ok (.aload_n 0, 1) := dk_42 (dk_at dksX2_permit_0 0 rfl rfl)
theorem dX2_permit_1 : decode cX2_permit 1 = .ok (.iload_n 1, 1) := dk_27 (dk_at dksX2_permit_0 1 rfl rfl)
theorem dX2_permit_2 : decode cX2_permit 2 = .ok (.iconst 0, 1) := dk_3 (dk_at dksX2_permit_0 2 rfl rfl)
theorem dX2_permit_3 : decode cX2_permit 3 = .ok (.aload_n 0, 1) := dk_42 (dk_at dksX2_permit_0 3 rfl rfl)
theorem dX2_permit_4 : decode cX2_permit 4 = .ok (.getfield 175, 3) := dk_180 0 175 (dk_at dksX2_permit_0 4 rfl rfl)
theorem dX2_permit_7 : decode cX2_permit 7 = .ok (.iconst 1, 1) := dk_4 (dk_at dksX2_permit_0 7 rfl rfl)
theorem dX2_permit_8 : decode cX2_permit 8 = .ok (.isub, 1) := dk_100 (dk_at dksX2_permit_0 8 rfl rfl)
theorem dX2_permit_9 : decode cX2_permit 9 = .ok (.invokestatic 105, 3) := dk_184 0 105 (dk_at dksX2_permit_0 9 rfl rfl)
theorem dX2_permit_12 : decode cX2_permit 12 = .ok (.ifCond .ne 7, 3) := dk_154 0 7 (dk_at dksX2_permit_0 12 rfl rfl)
theorem dX2_permit_15 : decode cX2_permit 15 = .ok (.iconst 1, 1) := dk_4 (dk_at dksX2_permit_0 15 rfl rfl)
theorem dX2_permit_16 : decode cX2_permit 16 = .ok (.goto 4, 3) := dk_167 0 4 (dk_at dksX2_permit_0 16 rfl rfl)
theorem dX2_permit_19 : decode cX2_permit 19 = .ok (.iconst 0, 1) := dk_3 (dk_at dksX2_permit_0 19 rfl rfl)
theorem dX2_permit_20 : decode cX2_permit 20 = .ok (.invokevirtual 76, 3) := dk_182 0 76 (dk_at dksX2_permit_0 20 rfl rfl)
theorem dX2_permit_23 : decode cX2_permit 23 = .ok (.ifCond .eq 5, 3) := dk_153 0 5 (dk_at dksX2_permit_1 0 rfl rfl)
theorem dX2_permit_26 : decode cX2_permit 26 = .ok (.iconst 0, 1) := dk_3 (dk_at dksX2_permit_1 3 rfl rfl)
theorem dX2_permit_27 : decode cX2_permit 27 = .ok (.ireturn, 1) := dk_172 (dk_at dksX2_permit_1 4 rfl rfl)
theorem dX2_permit_28 : decode cX2_permit 28 = .ok (.aload_n 0, 1) := dk_42 (dk_at dksX2_permit_1 5 rfl rfl)
theorem dX2_permit_29 : decode cX2_permit 29 = .ok (.dup, 1) := dk_89 (dk_at dksX2_permit_1 6 rfl rfl)
theorem dX2_permit_30 : decode cX2_permit 30 = .ok (.getfield 175, 3) := dk_180 0 175 (dk_at dksX2_permit_1 7 rfl rfl)
theorem dX2_permit_33 : decode cX2_permit 33 = .ok (.iconst 1, 1) := dk_4 (dk_at dksX2_permit_1 10 rfl rfl)
theorem dX2_permit_34 : decode cX2_permit 34 = .ok (.isub, 1) := dk_100 (dk_at dksX2_permit_1 11 rfl rfl)
theorem dX2_permit_35 : decode cX2_permit 35 = .ok (.putfield 175, 3) := dk_181 0 175 (dk_at dksX2_permit_1 12 rfl rfl)
theorem dX2_permit_38 : decode cX2_permit 38 = .ok (.iload_n 1, 1) := dk_27 (dk_at dksX2_permit_1 15 rfl rfl)
theorem dX2_permit_39 : decode cX2_permit 39 = .ok (.istore_n 2, 1) := dk_61 (dk_at dksX2_permit_1 16 rfl rfl)
theorem dX2_permit_40 : decode cX2_permit 40 = .ok (.iload_n 2, 1) := dk_28 (dk_at dksX2_permit_1 17 rfl rfl)
theorem dX2_permit_41 : decode cX2_permit 41 = .ok (.aload_n 0, 1) := dk_42 (dk_at dksX2_permit_1 18 rfl rfl)
theorem dX2_permit_42 : decode cX2_permit 42 = .ok (.getfield 175, 3) := dk_180 0 175 (dk_at dksX2_permit_1 19 rfl rfl)
theorem dX2_permit_45 : decode cX2_permit 45 = .ok (.if_icmp .ge 65, 3) := dk_162 0 65 (dk_at dksX2_permit_2 0 rfl rfl)
theorem dX2_permit_48 : decode cX2_permit 48 = .ok (.aload_n 0, 1) := dk_42 (dk_at dksX2_permit_2 3 rfl rfl)
theorem dX2_permit_49 : decode cX2_permit 49 = .ok (.getfield 34, 3) := dk_180 0 34 (dk_at dksX2_permit_2 4 rfl rfl)
theorem dX2_permit_52 : decode cX2_permit 52 = .ok (.iload_n 2, 1) := dk_28 (dk_at dksX2_permit_2 7 rfl rfl)
theorem dX2_permit_53 : decode cX2_permit 53 = .ok (.aload_n 0, 1) := dk_42 (dk_at dksX2_permit_2 8 rfl rfl)
theorem dX2_permit_54 : decode cX2_permit 54 = .ok (.getfield 34, 3) := dk_180 0 34 (dk_at dksX2_permit_2 9 rfl rfl)
theorem dX2_permit_57 : decode cX2_permit 57 = .ok (.iload_n 2, 1) := dk_28 (dk_at dksX2_permit_2 12 rfl rfl)
theorem dX2_permit_58 : decode cX2_permit 58 = .ok (.iconst 1, 1) := dk_4 (dk_at dksX2_permit_2 13 rfl rfl)
theorem dX2_permit_59 : decode cX2_permit 59 = .ok (.iadd, 1) := dk_96 (dk_at dksX2_permit_2 14 rfl rfl)
theorem dX2_permit_60 : decode cX2_permit 60 = .ok (.iaload, 1) := dk_46 (dk_at dksX2_permit_2 15 rfl rfl)
theorem dX2_permit_61 : decode cX2_permit 61 = .ok (.iastore, 1) := dk_79 (dk_at dksX2_permit_2 16 rfl rfl)
theorem dX2_permit_62 : decode cX2_permit 62 = .ok (.aload_n 0, 1) := dk_42 (dk_at dksX2_permit_2 17 rfl rfl)
theorem dX2_permit_63 : decode cX2_permit 63 = .ok (.getfield 37, 3) := dk_180 0 37 (dk_at dksX2_permit_2 18 rfl rfl)
theorem dX2_permit_66 : decode cX2_permit 66 = .ok (.iload_n 2, 1) := dk_28 (dk_at dksX2_permit_2 21 rfl rfl)
theorem dX2_permit_67 : decode cX2_permit 67 = .ok (.aload_n 0, 1) := dk_42 (dk_at dksX2_permit_2 22 rfl rfl)
theorem dX2_permit_68 : decode cX2_permit 68 = .ok (.getfield 37, 3) := dk_180 0 37 (dk_at dksX2_permit_3 0 rfl rfl)
theorem dX2_permit_71 : decode cX2_permit 71 = .ok (.iload_n 2, 1) := dk_28 (dk_at dksX2_permit_3 3 rfl rfl)
theorem dX2_permit_72 : decode cX2_permit 72 = .ok (.iconst 1, 1) := dk_4 (dk_at dksX2_permit_3 4 rfl rfl)
theorem dX2_permit_73 : decode cX2_permit 73 = .ok (.iadd, 1) := dk_96 (dk_at dksX2_permit_3 5 rfl rfl)
theorem dX2_permit_74 : decode cX2_permit 74 = .ok (.iaload, 1) := dk_46 (dk_at dksX2_permit_3 6 rfl rfl)
theorem dX2_permit_75 : decode cX2_permit 75 = .ok (.iastore, 1) := dk_79 (dk_at dksX2_permit_3 7 rfl rfl)
theorem dX2_permit_76 : decode cX2_permit 76 = .ok (.aload_n 0, 1) := dk_42 (dk_at dksX2_permit_3 8 rfl rfl)
theorem dX2_permit_77 : decode cX2_permit 77 = .ok (.getfield 40, 3) := dk_180 0 40 (dk_at dksX2_permit_3 9 rfl rfl)
theorem dX2_permit_80 : decode cX2_permit 80 = .ok (.iload_n 2, 1) := dk_28 (dk_at dksX2_permit_3 12 rfl rfl)
theorem dX2_permit_81 : decode cX2_permit 81 = .ok (.aload_n 0, 1) := dk_42 (dk_at dksX2_permit_3 13 rfl rfl)
theorem dX2_permit_82 : decode cX2_permit 82 = .ok (.getfield 40, 3) := dk_180 0 40 (dk_at dksX2_permit_3 14 rfl rfl)
theorem dX2_permit_85 : decode cX2_permit 85 = .ok (.iload_n 2, 1) := dk_28 (dk_at dksX2_permit_3 17 rfl rfl)
theorem dX2_permit_86 : decode cX2_permit 86 = .ok (.iconst 1, 1) := dk_4 (dk_at dksX2_permit_3 18 rfl rfl)
theorem dX2_permit_87 : decode cX2_permit 87 = .ok (.iadd, 1) := dk_96 (dk_at dksX2_permit_3 19 rfl rfl)
theorem dX2_permit_88 : decode cX2_permit 88 = .ok (.iaload, 1) := dk_46 (dk_at dksX2_permit_3 20 rfl rfl)
theorem dX2_permit_89 : decode cX2_permit 89 = .ok (.iastore, 1) := dk_79 (dk_at dksX2_permit_3 21 rfl rfl)
theorem dX2_permit_90 : decode cX2_permit 90 = .ok (.aload_n 0, 1) := dk_42 (dk_at dksX2_permit_3 22 rfl rfl)
theorem dX2_permit_91 : decode cX2_permit 91 = .ok (.getfield 43, 3) := dk_180 0 43 (dk_at dksX2_permit_4 0 rfl rfl)
theorem dX2_permit_94 : decode cX2_permit 94 = .ok (.iload_n 2, 1) := dk_28 (dk_at dksX2_permit_4 3 rfl rfl)
theorem dX2_permit_95 : decode cX2_permit 95 = .ok (.aload_n 0, 1) := dk_42 (dk_at dksX2_permit_4 4 rfl rfl)
theorem dX2_permit_96 : decode cX2_permit 96 = .ok (.getfield 43, 3) := dk_180 0 43 (dk_at dksX2_permit_4 5 rfl rfl)
theorem dX2_permit_99 : decode cX2_permit 99 = .ok (.iload_n 2, 1) := dk_28 (dk_at dksX2_permit_4 8 rfl rfl)
theorem dX2_permit_100 : decode cX2_permit 100 = .ok (.iconst 1, 1) := dk_4 (dk_at dksX2_permit_4 9 rfl rfl)
theorem dX2_permit_101 : decode cX2_permit 101 = .ok (.iadd, 1) := dk_96 (dk_at dksX2_permit_4 10 rfl rfl)
theorem dX2_permit_102 : decode cX2_permit 102 = .ok (.iaload, 1) := dk_46 (dk_at dksX2_permit_4 11 rfl rfl)
theorem dX2_permit_103 : decode cX2_permit 103 = .ok (.iastore, 1) := dk_79 (dk_at dksX2_permit_4 12 rfl rfl)
theorem dX2_permit_104 : decode cX2_permit 104 = .ok (.iinc 2 1, 3) := dk_132 2 1 (dk_at dksX2_permit_4 13 rfl rfl)
theorem dX2_permit_107 : decode cX2_permit 107 = .ok (.goto (-67), 3) := dk_167 255 189 (dk_at dksX2_permit_4 16 rfl rfl)
theorem dX2_permit_110 : decode cX2_permit 110 = .ok (.aload_n 0, 1) := dk_42 (dk_at dksX2_permit_4 19 rfl rfl)
theorem dX2_permit_111 : decode cX2_permit 111 = .ok (.invokevirtual 181, 3) := dk_182 0 181 (dk_at dksX2_permit_4 20 rfl rfl)
theorem dX2_permit_114 : decode cX2_permit 114 = .ok (.invokestatic 184, 3) := dk_184 0 184 (dk_at dksX2_permit_5 0 rfl rfl)
theorem dX2_permit_117 : decode cX2_permit 117 = .ok (.ireturn, 1) := dk_172 (dk_at dksX2_permit_5 3 rfl rfl)
abbrev cX2_allowedSet : ByteArray := prog_15_method_42_code
def yX2_allowedSet : MethodName := ⟨RX2, "allowedSet", "()I"⟩
def dkwX2_allowedSet_1 : List UInt8 := [167, 0, 4, 3, 128, 60, 132, 2, 1, 167, 255, 229, 27, 172]
abbrev dktX2_allowedSet_1 : List UInt8 := dkwX2_allowedSet_1 ++ []
def dkwX2_allowedSet_0 : List UInt8 := [3, 60, 3, 61, 28, 16, 16, 162, 0, 27, 27, 42, 28, 182, 0, 172, 153, 0, 9, 4, 28, 120]
abbrev dktX2_allowedSet_0 : List UInt8 := dkwX2_allowedSet_0 ++ dktX2_allowedSet_1
theorem dksX2_allowedSet_0 : cX2_allowedSet.data.toList.drop 0 = dktX2_allowedSet_0 := by decide +kernel
theorem dksX2_allowedSet_1 : cX2_allowedSet.data.toList.drop 22 = dktX2_allowedSet_1 := dk_seg dksX2_allowedSet_0 22 rfl rfl
theorem dX2_allowedSet_0 : decode cX2_allowedSet 0 = .ok (.iconst 0, 1) := dk_3 (dk_at dksX2_allowedSet_0 0 rfl rfl)
theorem dX2_allowedSet_1 : decode cX2_allowedSet 1 = .ok (.istore_n 1, 1) := dk_60 (dk_at dksX2_allowedSet_0 1 rfl rfl)
theorem dX2_allowedSet_2 : decode cX2_allowedSet 2 = .ok (.iconst 0, 1) := dk_3 (dk_at dksX2_allowedSet_0 2 rfl rfl)
theorem dX2_allowedSet_3 : decode cX2_allowedSet 3 = .ok (.istore_n 2, 1) := dk_61 (dk_at dksX2_allowedSet_0 3 rfl rfl)
theorem dX2_allowedSet_4 : decode cX2_allowedSet 4 = .ok (.iload_n 2, 1) := dk_28 (dk_at dksX2_allowedSet_0 4 rfl rfl)
theorem dX2_allowedSet_5 : decode cX2_allowedSet 5 = .ok (.bipush 16, 2) := dk_16 16 (dk_at dksX2_allowedSet_0 5 rfl rfl)
theorem dX2_allowedSet_7 : decode cX2_allowedSet 7 = .ok (.if_icmp .ge 27, 3) := dk_162 0 27 (dk_at dksX2_allowedSet_0 7 rfl rfl)
theorem dX2_allowedSet_10 : decode cX2_allowedSet 10 = .ok (.iload_n 1, 1) := dk_27 (dk_at dksX2_allowedSet_0 10 rfl rfl)
theorem dX2_allowedSet_11 : decode cX2_allowedSet 11 = .ok (.aload_n 0, 1) := dk_42 (dk_at dksX2_allowedSet_0 11 rfl rfl)
theorem dX2_allowedSet_12 : decode cX2_allowedSet 12 = .ok (.iload_n 2, 1) := dk_28 (dk_at dksX2_allowedSet_0 12 rfl rfl)
theorem dX2_allowedSet_13 : decode cX2_allowedSet 13 = .ok (.invokevirtual 172, 3) := dk_182 0 172 (dk_at dksX2_allowedSet_0 13 rfl rfl)
theorem dX2_allowedSet_16 : decode cX2_allowedSet 16 = .ok (.ifCond .eq 9, 3) := dk_153 0 9 (dk_at dksX2_allowedSet_0 16 rfl rfl)
theorem dX2_allowedSet_19 : decode cX2_allowedSet 19 = .ok (.iconst 1, 1) := dk_4 (dk_at dksX2_allowedSet_0 19 rfl rfl)
theorem dX2_allowedSet_20 : decode cX2_allowedSet 20 = .ok (.iload_n 2, 1) := dk_28 (dk_at dksX2_allowedSet_0 20 rfl rfl)
theorem dX2_allowedSet_21 : decode cX2_allowedSet 21 = .ok (.ishl, 1) := dk_120 (dk_at dksX2_allowedSet_0 21 rfl rfl)
theorem dX2_allowedSet_22 : decode cX2_allowedSet 22 = .ok (.goto 4, 3) := dk_167 0 4 (dk_at dksX2_allowedSet_1 0 rfl rfl)
theorem dX2_allowedSet_25 : decode cX2_allowedSet 25 = .ok (.iconst 0, 1) := dk_3 (dk_at dksX2_allowedSet_1 3 rfl rfl)
theorem dX2_allowedSet_26 : decode cX2_allowedSet 26 = .ok (.ior, 1) := dk_128 (dk_at dksX2_allowedSet_1 4 rfl rfl)
theorem dX2_allowedSet_27 : decode cX2_allowedSet 27 = .ok (.istore_n 1, 1) := dk_60 (dk_at dksX2_allowedSet_1 5 rfl rfl)
theorem dX2_allowedSet_28 : decode cX2_allowedSet 28 = .ok (.iinc 2 1, 3) := dk_132 2 1 (dk_at dksX2_allowedSet_1 6 rfl rfl)
theorem dX2_allowedSet_31 : decode cX2_allowedSet 31 = .ok (.goto (-27), 3) := dk_167 255 229 (dk_at dksX2_allowedSet_1 9 rfl rfl)
theorem dX2_allowedSet_34 : decode cX2_allowedSet 34 = .ok (.iload_n 1, 1) := dk_27 (dk_at dksX2_allowedSet_1 12 rfl rfl)
theorem dX2_allowedSet_35 : decode cX2_allowedSet 35 = .ok (.ireturn, 1) := dk_172 (dk_at dksX2_allowedSet_1 13 rfl rfl)
abbrev cX2_size : ByteArray := prog_15_method_8_code
def yX2_size : MethodName := ⟨RX2, "size", "(I)I"⟩
def dkwX2_size_0 : List UInt8 := [3, 60, 26, 61, 28, 153, 0, 15, 132, 1, 1, 28, 28, 4, 100, 126, 61, 167, 255, 243, 27, 172]
abbrev dktX2_size_0 : List UInt8 := dkwX2_size_0 ++ []
theorem dksX2_size_0 : cX2_size.data.toList.drop 0 = dktX2_size_0 := by decide +kernel
theorem dX2_size_0 : decode cX2_size 0 = .ok (.iconst 0, 1) := dk_3 (dk_at dksX2_size_0 0 rfl rfl)
theorem dX2_size_1 : decode cX2_size 1 = .ok (.istore_n 1, 1) := dk_60 (dk_at dksX2_size_0 1 rfl rfl)
theorem dX2_size_2 : decode cX2_size 2 = .ok (.iload_n 0, 1) := dk_26 (dk_at dksX2_size_0 2 rfl rfl)
theorem dX2_size_3 : decode cX2_size 3 = .ok (.istore_n 2, 1) := dk_61 (dk_at dksX2_size_0 3 rfl rfl)
theorem dX2_size_4 : decode cX2_size 4 = .ok (.iload_n 2, 1) := dk_28 (dk_at dksX2_size_0 4 rfl rfl)
theorem dX2_size_5 : decode cX2_size 5 = .ok (.ifCond .eq 15, 3) := dk_153 0 15 (dk_at dksX2_size_0 5 rfl rfl)
theorem dX2_size_8 : decode cX2_size 8 = .ok (.iinc 1 1, 3) := dk_132 1 1 (dk_at dksX2_size_0 8 rfl rfl)
theorem dX2_size_11 : decode cX2_size 11 = .ok (.iload_n 2, 1) := dk_28 (dk_at dksX2_size_0 11 rfl rfl)
theorem dX2_size_12 : decode cX2_size 12 = .ok (.iload_n 2, 1) := dk_28 (dk_at dksX2_size_0 12 rfl rfl)
theorem dX2_size_13 : decode cX2_size 13 = .ok (.iconst 1, 1) := dk_4 (dk_at dksX2_size_0 13 rfl rfl)
theorem dX2_size_14 : decode cX2_size 14 = .ok (.isub, 1) := dk_100 (dk_at dksX2_size_0 14 rfl rfl)
theorem dX2_size_15 : decode cX2_size 15 = .ok (.iand, 1) := dk_126 (dk_at dksX2_size_0 15 rfl rfl)
theorem dX2_size_16 : decode cX2_size 16 = .ok (.istore_n 2, 1) := dk_61 (dk_at dksX2_size_0 16 rfl rfl)
theorem dX2_size_17 : decode cX2_size 17 = .ok (.goto (-13), 3) := dk_167 255 243 (dk_at dksX2_size_0 17 rfl rfl)
theorem dX2_size_20 : decode cX2_size 20 = .ok (.iload_n 1, 1) := dk_27 (dk_at dksX2_size_0 20 rfl rfl)
theorem dX2_size_21 : decode cX2_size 21 = .ok (.ireturn, 1) := dk_172 (dk_at dksX2_size_0 21 rfl rfl)
abbrev cX2_allowed : ByteArray := prog_15_method_45_code
def yX2_allowed : MethodName := ⟨RX2, "allowed", "()I"⟩
def dkwX2_allowed_0 : List UInt8 := [42, 42, 182, 0, 181, 182, 0, 87, 172]
abbrev dktX2_allowed_0 : List UInt8 := dkwX2_allowed_0 ++ []
theorem dksX2_allowed_0 : cX2_allowed.data.toList.drop 0 = dktX2_allowed_0 := by decide +kernel
theorem dX2_allowed_0 : decode cX2_allowed 0 = .ok (.aload_n 0, 1) := dk_42 (dk_at dksX2_allowed_0 0 rfl rfl)
theorem dX2_allowed_1 : decode cX2_allowed 1 = .ok (.aload_n 0, 1) := dk_42 (dk_at dksX2_allowed_0 1 rfl rfl)
theorem dX2_allowed_2 : decode cX2_allowed 2 = .ok (.invokevirtual 181, 3) := dk_182 0 181 (dk_at dksX2_allowed_0 2 rfl rfl)
theorem dX2_allowed_5 : decode cX2_allowed 5 = .ok (.invokevirtual 87, 3) := dk_182 0 87 (dk_at dksX2_allowed_0 5 rfl rfl)
theorem dX2_allowed_8 : decode cX2_allowed 8 = .ok (.ireturn, 1) := dk_172 (dk_at dksX2_allowed_0 8 rfl rfl)
abbrev cX2_isPair : ByteArray := prog_15_method_51_code
def yX2_isPair : MethodName := ⟨RX2, "isPair", "(IIIII)Z"⟩
def dkwX2_isPair_2 : List UInt8 := [180, 0, 65, 29, 16, 16, 104, 21, 4, 96, 46, 21, 5, 184, 0, 145, 172]
abbrev dktX2_isPair_2 : List UInt8 := dkwX2_isPair_2 ++ []
def dkwX2_isPair_1 : List UInt8 := [154, 0, 7, 4, 167, 0, 4, 3, 5, 182, 0, 83, 153, 0, 5, 3, 172, 42, 27, 28, 182, 0, 197, 42]
abbrev dktX2_isPair_1 : List UInt8 := dkwX2_isPair_1 ++ dktX2_isPair_2
def dkwX2_isPair_0 : List UInt8 := [42, 27, 28, 29, 182, 0, 194, 154, 0, 32, 42, 21, 4, 184, 0, 160, 153, 0, 11, 21, 5, 184, 0, 160]
abbrev dktX2_isPair_0 : List UInt8 := dkwX2_isPair_0 ++ dktX2_isPair_1
theorem dksX2_isPair_0 : cX2_isPair.data.toList.drop 0 = dktX2_isPair_0 := by decide +kernel
theorem dksX2_isPair_1 : cX2_isPair.data.toList.drop 24 = dktX2_isPair_1 := dk_seg dksX2_isPair_0 24 rfl rfl
theorem dksX2_isPair_2 : cX2_isPair.data.toList.drop 48 = dktX2_isPair_2 := dk_seg dksX2_isPair_1 24 rfl rfl
theorem dX2_isPair_0 : decode cX2_isPair 0 = .ok (.aload_n 0, 1) := dk_42 (dk_at dksX2_isPair_0 0 rfl rfl)
theorem dX2_isPair_1 : decode cX2_isPair 1 = .ok (.iload_n 1, 1) := dk_27 (dk_at dksX2_isPair_0 1 rfl rfl)
theorem dX2_isPair_2 : decode cX2_isPair 2 = .ok (.iload_n 2, 1) := dk_28 (dk_at dksX2_isPair_0 2 rfl rfl)
theorem dX2_isPair_3 : decode cX2_isPair 3 = .ok (.iload_n 3, 1) := dk_29 (dk_at dksX2_isPair_0 3 rfl rfl)
theorem dX2_isPair_4 : decode cX2_isPair 4 = .ok (.invokevirtual 194, 3) := dk_182 0 194 (dk_at dksX2_isPair_0 4 rfl rfl)
theorem dX2_isPair_7 : decode cX2_isPair 7 = .ok (.ifCond .ne 32, 3) := dk_154 0 32 (dk_at dksX2_isPair_0 7 rfl rfl)
theorem dX2_isPair_10 : decode cX2_isPair 10 = .ok (.aload_n 0, 1) := dk_42 (dk_at dksX2_isPair_0 10 rfl rfl)
theorem dX2_isPair_11 : decode cX2_isPair 11 = .ok (.iload 4, 2) := dk_21 4 (dk_at dksX2_isPair_0 11 rfl rfl)
theorem dX2_isPair_13 : decode cX2_isPair 13 = .ok (.invokestatic 160, 3) := dk_184 0 160 (dk_at dksX2_isPair_0 13 rfl rfl)
theorem dX2_isPair_16 : decode cX2_isPair 16 = .ok (.ifCond .eq 11, 3) := dk_153 0 11 (dk_at dksX2_isPair_0 16 rfl rfl)
theorem dX2_isPair_19 : decode cX2_isPair 19 = .ok (.iload 5, 2) := dk_21 5 (dk_at dksX2_isPair_0 19 rfl rfl)
theorem dX2_isPair_21 : decode cX2_isPair 21 = .ok (.invokestatic 160, 3) := dk_184 0 160 (dk_at dksX2_isPair_0 21 rfl rfl)
theorem dX2_isPair_24 : decode cX2_isPair 24 = .ok (.ifCond .ne 7, 3) := dk_154 0 7 (dk_at dksX2_isPair_1 0 rfl rfl)
theorem dX2_isPair_27 : decode cX2_isPair 27 = .ok (.iconst 1, 1) := dk_4 (dk_at dksX2_isPair_1 3 rfl rfl)
theorem dX2_isPair_28 : decode cX2_isPair 28 = .ok (.goto 4, 3) := dk_167 0 4 (dk_at dksX2_isPair_1 4 rfl rfl)
theorem dX2_isPair_31 : decode cX2_isPair 31 = .ok (.iconst 0, 1) := dk_3 (dk_at dksX2_isPair_1 7 rfl rfl)
theorem dX2_isPair_32 : decode cX2_isPair 32 = .ok (.iconst 2, 1) := dk_5 (dk_at dksX2_isPair_1 8 rfl rfl)
theorem dX2_isPair_33 : decode cX2_isPair 33 = .ok (.invokevirtual 83, 3) := dk_182 0 83 (dk_at dksX2_isPair_1 9 rfl rfl)
theorem dX2_isPair_36 : decode cX2_isPair 36 = .ok (.ifCond .eq 5, 3) := dk_153 0 5 (dk_at dksX2_isPair_1 12 rfl rfl)
theorem dX2_isPair_39 : decode cX2_isPair 39 = .ok (.iconst 0, 1) := dk_3 (dk_at dksX2_isPair_1 15 rfl rfl)
theorem dX2_isPair_40 : decode cX2_isPair 40 = .ok (.ireturn, 1) := dk_172 (dk_at dksX2_isPair_1 16 rfl rfl)
theorem dX2_isPair_41 : decode cX2_isPair 41 = .ok (.aload_n 0, 1) := dk_42 (dk_at dksX2_isPair_1 17 rfl rfl)
theorem dX2_isPair_42 : decode cX2_isPair 42 = .ok (.iload_n 1, 1) := dk_27 (dk_at dksX2_isPair_1 18 rfl rfl)
theorem dX2_isPair_43 : decode cX2_isPair 43 = .ok (.iload_n 2, 1) := dk_28 (dk_at dksX2_isPair_1 19 rfl rfl)
theorem dX2_isPair_44 : decode cX2_isPair 44 = .ok (.invokevirtual 197, 3) := dk_182 0 197 (dk_at dksX2_isPair_1 20 rfl rfl)
theorem dX2_isPair_47 : decode cX2_isPair 47 = .ok (.aload_n 0, 1) := dk_42 (dk_at dksX2_isPair_1 23 rfl rfl)
theorem dX2_isPair_48 : decode cX2_isPair 48 = .ok (.getfield 65, 3) := dk_180 0 65 (dk_at dksX2_isPair_2 0 rfl rfl)
theorem dX2_isPair_51 : decode cX2_isPair 51 = .ok (.iload_n 3, 1) := dk_29 (dk_at dksX2_isPair_2 3 rfl rfl)
theorem dX2_isPair_52 : decode cX2_isPair 52 = .ok (.bipush 16, 2) := dk_16 16 (dk_at dksX2_isPair_2 4 rfl rfl)
theorem dX2_isPair_54 : decode cX2_isPair 54 = .ok (.imul, 1) := dk_104 (dk_at dksX2_isPair_2 6 rfl rfl)
theorem dX2_isPair_55 : decode cX2_isPair 55 = .ok (.iload 4, 2) := dk_21 4 (dk_at dksX2_isPair_2 7 rfl rfl)
theorem dX2_isPair_57 : decode cX2_isPair 57 = .ok (.iadd, 1) := dk_96 (dk_at dksX2_isPair_2 9 rfl rfl)
theorem dX2_isPair_58 : decode cX2_isPair 58 = .ok (.iaload, 1) := dk_46 (dk_at dksX2_isPair_2 10 rfl rfl)
theorem dX2_isPair_59 : decode cX2_isPair 59 = .ok (.iload 5, 2) := dk_21 5 (dk_at dksX2_isPair_2 11 rfl rfl)
theorem dX2_isPair_61 : decode cX2_isPair 61 = .ok (.invokestatic 145, 3) := dk_184 0 145 (dk_at dksX2_isPair_2 13 rfl rfl)
theorem dX2_isPair_64 : decode cX2_isPair 64 = .ok (.ireturn, 1) := dk_172 (dk_at dksX2_isPair_2 16 rfl rfl)
abbrev cX2_noPairs : ByteArray := prog_15_method_50_code
def yX2_noPairs : MethodName := ⟨RX2, "noPairs", "(III)Z"⟩
def dkwX2_noPairs_1 : List UInt8 := [182, 0, 83, 153, 0, 7, 4, 167, 0, 4, 3, 172]
abbrev dktX2_noPairs_1 : List UInt8 := dkwX2_noPairs_1 ++ []
def dkwX2_noPairs_0 : List UInt8 := [42, 27, 29, 182, 0, 136, 154, 0, 23, 42, 28, 184, 0, 191, 154, 0, 7, 4, 167, 0, 4, 3, 5]
abbrev dktX2_noPairs_0 : List UInt8 := dkwX2_noPairs_0 ++ dktX2_noPairs_1
theorem dksX2_noPairs_0 : cX2_noPairs.data.toList.drop 0 = dktX2_noPairs_0 := by decide +kernel
theorem dksX2_noPairs_1 : cX2_noPairs.data.toList.drop 23 = dktX2_noPairs_1 := dk_seg dksX2_noPairs_0 23 rfl rfl
theorem dX2_noPairs_0 : decode cX2_noPairs 0 = .ok (.aload_n 0, 1) := dk_42 (dk_at dksX2_noPairs_0 0 rfl rfl)
theorem dX2_noPairs_1 : decode cX2_noPairs 1 = .ok (.iload_n 1, 1) := dk_27 (dk_at dksX2_noPairs_0 1 rfl rfl)
theorem dX2_noPairs_2 : decode cX2_noPairs 2 = .ok (.iload_n 3, 1) := dk_29 (dk_at dksX2_noPairs_0 2 rfl rfl)
theorem dX2_noPairs_3 : decode cX2_noPairs 3 = .ok (.invokevirtual 136, 3) := dk_182 0 136 (dk_at dksX2_noPairs_0 3 rfl rfl)
theorem dX2_noPairs_6 : decode cX2_noPairs 6 = .ok (.ifCond .ne 23, 3) := dk_154 0 23 (dk_at dksX2_noPairs_0 6 rfl rfl)
theorem dX2_noPairs_9 : decode cX2_noPairs 9 = .ok (.aload_n 0, 1) := dk_42 (dk_at dksX2_noPairs_0 9 rfl rfl)
theorem dX2_noPairs_10 : decode cX2_noPairs 10 = .ok (.iload_n 2, 1) := dk_28 (dk_at dksX2_noPairs_0 10 rfl rfl)
theorem dX2_noPairs_11 : decode cX2_noPairs 11 = .ok (.invokestatic 191, 3) := dk_184 0 191 (dk_at dksX2_noPairs_0 11 rfl rfl)
theorem dX2_noPairs_14 : decode cX2_noPairs 14 = .ok (.ifCond .ne 7, 3) := dk_154 0 7 (dk_at dksX2_noPairs_0 14 rfl rfl)
theorem dX2_noPairs_17 : decode cX2_noPairs 17 = .ok (.iconst 1, 1) := dk_4 (dk_at dksX2_noPairs_0 17 rfl rfl)
theorem dX2_noPairs_18 : decode cX2_noPairs 18 = .ok (.goto 4, 3) := dk_167 0 4 (dk_at dksX2_noPairs_0 18 rfl rfl)
theorem dX2_noPairs_21 : decode cX2_noPairs 21 = .ok (.iconst 0, 1) := dk_3 (dk_at dksX2_noPairs_0 21 rfl rfl)
theorem dX2_noPairs_22 : decode cX2_noPairs 22 = .ok (.iconst 2, 1) := dk_5 (dk_at dksX2_noPairs_0 22 rfl rfl)
theorem dX2_noPairs_23 : decode cX2_noPairs 23 = .ok (.invokevirtual 83, 3) := dk_182 0 83 (dk_at dksX2_noPairs_1 0 rfl rfl)
theorem dX2_noPairs_26 : decode cX2_noPairs 26 = .ok (.ifCond .eq 7, 3) := dk_153 0 7 (dk_at dksX2_noPairs_1 3 rfl rfl)
theorem dX2_noPairs_29 : decode cX2_noPairs 29 = .ok (.iconst 1, 1) := dk_4 (dk_at dksX2_noPairs_1 6 rfl rfl)
theorem dX2_noPairs_30 : decode cX2_noPairs 30 = .ok (.goto 4, 3) := dk_167 0 4 (dk_at dksX2_noPairs_1 7 rfl rfl)
theorem dX2_noPairs_33 : decode cX2_noPairs 33 = .ok (.iconst 0, 1) := dk_3 (dk_at dksX2_noPairs_1 10 rfl rfl)
theorem dX2_noPairs_34 : decode cX2_noPairs 34 = .ok (.ireturn, 1) := dk_172 (dk_at dksX2_noPairs_1 11 rfl rfl)
abbrev cX2_isRule : ByteArray := prog_15_method_48_code
def yX2_isRule : MethodName := ⟨RX2, "isRule", "(I)Z"⟩
def dkwX2_isRule_0 : List UInt8 := [26, 3, 5, 184, 0, 105, 172]
abbrev dktX2_isRule_0 : List UInt8 := dkwX2_isRule_0 ++ []
theorem dksX2_isRule_0 : cX2_isRule.data.toList.drop 0 = dktX2_isRule_0 := by decide +kernel
theorem dX2_isRule_0 : decode cX2_isRule 0 = .ok (.iload_n 0, 1) := dk_26 (dk_at dksX2_isRule_0 0 rfl rfl)
theorem dX2_isRule_1 : decode cX2_isRule 1 = .ok (.iconst 0, 1) := dk_3 (dk_at dksX2_isRule_0 1 rfl rfl)
theorem dX2_isRule_2 : decode cX2_isRule 2 = .ok (.iconst 2, 1) := dk_5 (dk_at dksX2_isRule_0 2 rfl rfl)
theorem dX2_isRule_3 : decode cX2_isRule 3 = .ok (.invokestatic 105, 3) := dk_184 0 105 (dk_at dksX2_isRule_0 3 rfl rfl)
theorem dX2_isRule_6 : decode cX2_isRule 6 = .ok (.ireturn, 1) := dk_172 (dk_at dksX2_isRule_0 6 rfl rfl)
abbrev cX2_findsPairs : ByteArray := prog_15_method_47_code
def yX2_findsPairs : MethodName := ⟨RX2, "findsPairs", "(II)V"⟩
def dkwX2_findsPairs_11 : List UInt8 := [177]
abbrev dktX2_findsPairs_11 : List UInt8 := dkwX2_findsPairs_11 ++ []
def dkwX2_findsPairs_10 : List UInt8 := [167, 0, 4, 3, 128, 79, 132, 6, 1, 167, 255, 123, 132, 5, 1, 167, 255, 93, 132, 4, 1, 167, 255, 77]
abbrev dktX2_findsPairs_10 : List UInt8 := dkwX2_findsPairs_10 ++ dktX2_findsPairs_11
def dkwX2_findsPairs_9 : List UInt8 := [42, 180, 0, 65, 21, 4, 16, 16, 104, 21, 5, 96, 92, 46, 21, 7, 153, 0, 10, 4, 21, 6, 120]
abbrev dktX2_findsPairs_9 : List UInt8 := dkwX2_findsPairs_9 ++ dktX2_findsPairs_10
def dkwX2_findsPairs_8 : List UInt8 := [159, 0, 21, 42, 28, 21, 4, 21, 5, 21, 6, 182, 0, 187, 153, 0, 7, 4, 167, 0, 4, 3, 54, 7]
abbrev dktX2_findsPairs_8 : List UInt8 := dkwX2_findsPairs_8 ++ dktX2_findsPairs_9
def dkwX2_findsPairs_7 : List UInt8 := [180, 0, 53, 21, 5, 46, 21, 4, 184, 0, 145, 42, 180, 0, 53, 21, 6, 46, 21, 4, 184, 0, 145]
abbrev dktX2_findsPairs_7 : List UInt8 := dkwX2_findsPairs_7 ++ dktX2_findsPairs_8
def dkwX2_findsPairs_6 : List UInt8 := [184, 0, 145, 153, 0, 65, 42, 180, 0, 62, 21, 5, 51, 42, 180, 0, 62, 21, 6, 51, 159, 0, 48, 42]
abbrev dktX2_findsPairs_6 : List UInt8 := dkwX2_findsPairs_6 ++ dktX2_findsPairs_7
def dkwX2_findsPairs_5 : List UInt8 := [21, 4, 42, 180, 0, 28, 27, 46, 162, 0, 121, 29, 21, 5, 184, 0, 145, 153, 0, 74, 29, 21, 6]
abbrev dktX2_findsPairs_5 : List UInt8 := dkwX2_findsPairs_5 ++ dktX2_findsPairs_6
def dkwX2_findsPairs_4 : List UInt8 := [180, 0, 65, 21, 4, 16, 16, 104, 21, 5, 96, 3, 79, 3, 54, 6, 21, 6, 16, 16, 162, 0, 132]
abbrev dktX2_findsPairs_4 : List UInt8 := dkwX2_findsPairs_4 ++ dktX2_findsPairs_5
def dkwX2_findsPairs_3 : List UInt8 := [167, 255, 193, 3, 54, 4, 21, 4, 16, 8, 162, 0, 178, 3, 54, 5, 21, 5, 16, 16, 162, 0, 162, 42]
abbrev dktX2_findsPairs_3 : List UInt8 := dkwX2_findsPairs_3 ++ dktX2_findsPairs_4
def dkwX2_findsPairs_2 : List UInt8 := [27, 21, 4, 182, 0, 154, 79, 42, 180, 0, 59, 21, 4, 42, 27, 21, 4, 182, 0, 169, 79, 132, 4, 1]
abbrev dktX2_findsPairs_2 : List UInt8 := dkwX2_findsPairs_2 ++ dktX2_findsPairs_3
def dkwX2_findsPairs_1 : List UInt8 := [21, 4, 182, 0, 166, 84, 42, 180, 0, 56, 21, 4, 42, 180, 0, 148, 79, 42, 180, 0, 53, 21, 4, 42]
abbrev dktX2_findsPairs_1 : List UInt8 := dkwX2_findsPairs_1 ++ dktX2_findsPairs_2
def dkwX2_findsPairs_0 : List UInt8 := [42, 182, 0, 181, 62, 3, 54, 4, 21, 4, 16, 16, 162, 0, 62, 42, 180, 0, 62, 21, 4, 42, 27]
abbrev dktX2_findsPairs_0 : List UInt8 := dkwX2_findsPairs_0 ++ dktX2_findsPairs_1
theorem dksX2_findsPairs_0 : cX2_findsPairs.data.toList.drop 0 = dktX2_findsPairs_0 := by decide +kernel
theorem dksX2_findsPairs_1 : cX2_findsPairs.data.toList.drop 23 = dktX2_findsPairs_1 := dk_seg dksX2_findsPairs_0 23 rfl rfl
theorem dksX2_findsPairs_2 : cX2_findsPairs.data.toList.drop 47 = dktX2_findsPairs_2 := dk_seg dksX2_findsPairs_1 24 rfl rfl
theorem dksX2_findsPairs_3 : cX2_findsPairs.data.toList.drop 71 = dktX2_findsPairs_3 := dk_seg dksX2_findsPairs_2 24 rfl rfl
theorem dksX2_findsPairs_4 : cX2_findsPairs.data.toList.drop 95 = dktX2_findsPairs_4 := dk_seg dksX2_findsPairs_3 24 rfl rfl
theorem dksX2_findsPairs_5 : cX2_findsPairs.data.toList.drop 118 = dktX2_findsPairs_5 := dk_seg dksX2_findsPairs_4 23 rfl rfl
theorem dksX2_findsPairs_6 : cX2_findsPairs.data.toList.drop 141 = dktX2_findsPairs_6 := dk_seg dksX2_findsPairs_5 23 rfl rfl
theorem dksX2_findsPairs_7 : cX2_findsPairs.data.toList.drop 165 = dktX2_findsPairs_7 := dk_seg dksX2_findsPairs_6 24 rfl rfl
theorem dksX2_findsPairs_8 : cX2_findsPairs.data.toList.drop 188 = dktX2_findsPairs_8 := dk_seg dksX2_findsPairs_7 23 rfl rfl
theorem dksX2_findsPairs_9 : cX2_findsPairs.data.toList.drop 212 = dktX2_findsPairs_9 := dk_seg dksX2_findsPairs_8 24 rfl rfl
theorem dksX2_findsPairs_10 : cX2_findsPairs.data.toList.drop 235 = dktX2_findsPairs_10 := dk_seg dksX2_findsPairs_9 23 rfl rfl
theorem dksX2_findsPairs_11 : cX2_findsPairs.data.toList.drop 259 = dktX2_findsPairs_11 := dk_seg dksX2_findsPairs_10 24 rfl rfl
theorem dX2_findsPairs_0 : decode cX2_findsPairs 0 = .ok (.aload_n 0, 1) := dk_42 (dk_at dksX2_findsPairs_0 0 rfl rfl)
theorem dX2_findsPairs_1 : decode cX2_findsPairs 1 = .ok (.invokevirtual 181, 3) := dk_182 0 181 (dk_at dksX2_findsPairs_0 1 rfl rfl)
theorem dX2_findsPairs_4 : decode cX2_findsPairs 4 = .ok (.istore_n 3, 1) := dk_62 (dk_at dksX2_findsPairs_0 4 rfl rfl)
theorem dX2_findsPairs_5 : decode cX2_findsPairs 5 = .ok (.iconst 0, 1) := dk_3 (dk_at dksX2_findsPairs_0 5 rfl rfl)
theorem dX2_findsPairs_6 : decode cX2_findsPairs 6 = .ok (.istore 4, 2) := dk_54 4 (dk_at dksX2_findsPairs_0 6 rfl rfl)
theorem dX2_findsPairs_8 : decode cX2_findsPairs 8 = .ok (.iload 4, 2) := dk_21 4 (dk_at dksX2_findsPairs_0 8 rfl rfl)
theorem dX2_findsPairs_10 : decode cX2_findsPairs 10 = .ok (.bipush 16, 2) := dk_16 16 (dk_at dksX2_findsPairs_0 10 rfl rfl)
theorem dX2_findsPairs_12 : decode cX2_findsPairs 12 = .ok (.if_icmp .ge 62, 3) := dk_162 0 62 (dk_at dksX2_findsPairs_0 12 rfl rfl)
theorem dX2_findsPairs_15 : decode cX2_findsPairs 15 = .ok (.aload_n 0, 1) := dk_42 (dk_at dksX2_findsPairs_0 15 rfl rfl)
theorem dX2_findsPairs_16 : decode cX2_findsPairs 16 = .ok (.getfield 62, 3) := dk_180 0 62 (dk_at dksX2_findsPairs_0 16 rfl rfl)
theorem dX2_findsPairs_19 : decode cX2_findsPairs 19 = .ok (.iload 4, 2) := dk_21 4 (dk_at dksX2_findsPairs_0 19 rfl rfl)
theorem dX2_findsPairs_21 : decode cX2_findsPairs 21 = .ok (.aload_n 0, 1) := dk_42 (dk_at dksX2_findsPairs_0 21 rfl rfl)
theorem dX2_findsPairs_22 : decode cX2_findsPairs 22 = .ok (.iload_n 1, 1) := dk_27 (dk_at dksX2_findsPairs_0 22 rfl rfl)
theorem dX2_findsPairs_23 : decode cX2_findsPairs 23 = .ok (.iload 4, 2) := dk_21 4 (dk_at dksX2_findsPairs_1 0 rfl rfl)
theorem dX2_findsPairs_25 : decode cX2_findsPairs 25 = .ok (.invokevirtual 166, 3) := dk_182 0 166 (dk_at dksX2_findsPairs_1 2 rfl rfl)
theorem dX2_findsPairs_28 : decode cX2_findsPairs 28 = .ok (.bastore, 1) := dk_84 (dk_at dksX2_findsPairs_1 5 rfl rfl)
theorem dX2_findsPairs_29 : decode cX2_findsPairs 29 = .ok (.aload_n 0, 1) := dk_42 (dk_at dksX2_findsPairs_1 6 rfl rfl)
theorem dX2_findsPairs_30 : decode cX2_findsPairs 30 = .ok (.getfield 56, 3) := dk_180 0 56 (dk_at dksX2_findsPairs_1 7 rfl rfl)
theorem dX2_findsPairs_33 : decode cX2_findsPairs 33 = .ok (.iload 4, 2) := dk_21 4 (dk_at dksX2_findsPairs_1 10 rfl rfl)
theorem dX2_findsPairs_35 : decode cX2_findsPairs 35 = .ok (.aload_n 0, 1) := dk_42 (dk_at dksX2_findsPairs_1 12 rfl rfl)
theorem dX2_findsPairs_36 : decode cX2_findsPairs 36 = .ok (.getfield 148, 3) := dk_180 0 148 (dk_at dksX2_findsPairs_1 13 rfl rfl)
theorem dX2_findsPairs_39 : decode cX2_findsPairs 39 = .ok (.iastore, 1) := dk_79 (dk_at dksX2_findsPairs_1 16 rfl rfl)
theorem dX2_findsPairs_40 : decode cX2_findsPairs 40 = .ok (.aload_n 0, 1) := dk_42 (dk_at dksX2_findsPairs_1 17 rfl rfl)
theorem dX2_findsPairs_41 : decode cX2_findsPairs 41 = .ok (.getfield 53, 3) := dk_180 0 53 (dk_at dksX2_findsPairs_1 18 rfl rfl)
theorem dX2_findsPairs_44 : decode cX2_findsPairs 44 = .ok (.iload 4, 2) := dk_21 4 (dk_at dksX2_findsPairs_1 21 rfl rfl)
theorem dX2_findsPairs_46 : decode cX2_findsPairs 46 = .ok (.aload_n 0, 1) := dk_42 (dk_at dksX2_findsPairs_1 23 rfl rfl)
theorem dX2_findsPairs_47 : decode cX2_findsPairs 47 = .ok (.iload_n 1, 1) := dk_27 (dk_at dksX2_findsPairs_2 0 rfl rfl)
theorem dX2_findsPairs_48 : decode cX2_findsPairs 48 = .ok (.iload 4, 2) := dk_21 4 (dk_at dksX2_findsPairs_2 1 rfl rfl)
theorem dX2_findsPairs_50 : decode cX2_findsPairs 50 = .ok (.invokevirtual 154, 3) := dk_182 0 154 (dk_at dksX2_findsPairs_2 3 rfl rfl)
theorem dX2_findsPairs_53 : decode cX2_findsPairs 53 = .ok (.iastore, 1) := dk_79 (dk_at dksX2_findsPairs_2 6 rfl rfl)
theorem dX2_findsPairs_54 : decode cX2_findsPairs 54 = .ok (.aload_n 0, 1) := dk_42 (dk_at dksX2_findsPairs_2 7 rfl rfl)
theorem dX2_findsPairs_55 : decode cX2_findsPairs 55 = .ok (.getfield 59, 3) := dk_180 0 59 (dk_at dksX2_findsPairs_2 8 rfl rfl)
theorem dX2_findsPairs_58 : decode cX2_findsPairs 58 = .ok (.iload 4, 2) := dk_21 4 (dk_at dksX2_findsPairs_2 11 rfl rfl)
theorem dX2_findsPairs_60 : decode cX2_findsPairs 60 = .ok (.aload_n 0, 1) := dk_42 (dk_at dksX2_findsPairs_2 13 rfl rfl)
theorem dX2_findsPairs_61 : decode cX2_findsPairs 61 = .ok (.iload_n 1, 1) := dk_27 (dk_at dksX2_findsPairs_2 14 rfl rfl)
theorem dX2_findsPairs_62 : decode cX2_findsPairs 62 = .ok (.iload 4, 2) := dk_21 4 (dk_at dksX2_findsPairs_2 15 rfl rfl)
theorem dX2_findsPairs_64 : decode cX2_findsPairs 64 = .ok (.invokevirtual 169, 3) := dk_182 0 169 (dk_at dksX2_findsPairs_2 17 rfl rfl)
theorem dX2_findsPairs_67 : decode cX2_findsPairs 67 = .ok (.iastore, 1) := dk_79 (dk_at dksX2_findsPairs_2 20 rfl rfl)
theorem dX2_findsPairs_68 : decode cX2_findsPairs 68 = .ok (.iinc 4 1, 3) := dk_132 4 1 (dk_at dksX2_findsPairs_2 21 rfl rfl)
theorem dX2_findsPairs_71 : decode cX2_findsPairs 71 = .ok (.goto (-63), 3) := dk_167 255 193 (dk_at dksX2_findsPairs_3 0 rfl rfl)
theorem dX2_findsPairs_74 : decode cX2_findsPairs 74 = .ok (.iconst 0, 1) := dk_3 (dk_at dksX2_findsPairs_3 3 rfl rfl)
theorem dX2_findsPairs_75 : decode cX2_findsPairs 75 = .ok (.istore 4, 2) := dk_54 4 (dk_at dksX2_findsPairs_3 4 rfl rfl)
theorem dX2_findsPairs_77 : decode cX2_findsPairs 77 = .ok (.iload 4, 2) := dk_21 4 (dk_at dksX2_findsPairs_3 6 rfl rfl)
theorem dX2_findsPairs_79 : decode cX2_findsPairs 79 = .ok (.bipush 8, 2) := dk_16 8 (dk_at dksX2_findsPairs_3 8 rfl rfl)
theorem dX2_findsPairs_81 : decode cX2_findsPairs 81 = .ok (.if_icmp .ge 178, 3) := dk_162 0 178 (dk_at dksX2_findsPairs_3 10 rfl rfl)
theorem dX2_findsPairs_84 : decode cX2_findsPairs 84 = .ok (.iconst 0, 1) := dk_3 (dk_at dksX2_findsPairs_3 13 rfl rfl)
theorem dX2_findsPairs_85 : decode cX2_findsPairs 85 = .ok (.istore 5, 2) := dk_54 5 (dk_at dksX2_findsPairs_3 14 rfl rfl)
theorem dX2_findsPairs_87 : decode cX2_findsPairs 87 = .ok (.iload 5, 2) := dk_21 5 (dk_at dksX2_findsPairs_3 16 rfl rfl)
theorem dX2_findsPairs_89 : decode cX2_findsPairs 89 = .ok (.bipush 16, 2) := dk_16 16 (dk_at dksX2_findsPairs_3 18 rfl rfl)
theorem dX2_findsPairs_91 : decode cX2_findsPairs 91 = .ok (.if_icmp .ge 162, 3) := dk_162 0 162 (dk_at dksX2_findsPairs_3 20 rfl rfl)
theorem dX2_findsPairs_94 : decode cX2_findsPairs 94 = .ok (.aload_n 0, 1) := dk_42 (dk_at dksX2_findsPairs_3 23 rfl rfl)
theorem dX2_findsPairs_95 : decode cX2_findsPairs 95 = .ok (.getfield 65, 3) := dk_180 0 65 (dk_at dksX2_findsPairs_4 0 rfl rfl)
theorem dX2_findsPairs_98 : decode cX2_findsPairs 98 = .ok (.iload 4, 2) := dk_21 4 (dk_at dksX2_findsPairs_4 3 rfl rfl)
theorem dX2_findsPairs_100 : decode cX2_findsPairs 100 = .ok (.bipush 16, 2) := dk_16 16 (dk_at dksX2_findsPairs_4 5 rfl rfl)
theorem dX2_findsPairs_102 : decode cX2_findsPairs 102 = .ok (.imul, 1) := dk_104 (dk_at dksX2_findsPairs_4 7 rfl rfl)
theorem dX2_findsPairs_103 : decode cX2_findsPairs 103 = .ok (.iload 5, 2) := dk_21 5 (dk_at dksX2_findsPairs_4 8 rfl rfl)
theorem dX2_findsPairs_105 : decode cX2_findsPairs 105 = .ok (.iadd, 1) := dk_96 (dk_at dksX2_findsPairs_4 10 rfl rfl)
theorem dX2_findsPairs_106 : decode cX2_findsPairs 106 = .ok (.iconst 0, 1) := dk_3 (dk_at dksX2_findsPairs_4 11 rfl rfl)
theorem dX2_findsPairs_107 : decode cX2_findsPairs 107 = .ok (.iastore, 1) := dk_79 (dk_at dksX2_findsPairs_4 12 rfl rfl)
theorem dX2_findsPairs_108 : decode cX2_findsPairs 108 = .ok (.iconst 0, 1) := dk_3 (dk_at dksX2_findsPairs_4 13 rfl rfl)
theorem dX2_findsPairs_109 : decode cX2_findsPairs 109 = .ok (.istore 6, 2) := dk_54 6 (dk_at dksX2_findsPairs_4 14 rfl rfl)
theorem dX2_findsPairs_111 : decode cX2_findsPairs 111 = .ok (.iload 6, 2) := dk_21 6 (dk_at dksX2_findsPairs_4 16 rfl rfl)
theorem dX2_findsPairs_113 : decode cX2_findsPairs 113 = .ok (.bipush 16, 2) := dk_16 16 (dk_at dksX2_findsPairs_4 18 rfl rfl)
theorem dX2_findsPairs_115 : decode cX2_findsPairs 115 = .ok (.if_icmp .ge 132, 3) := dk_162 0 132 (dk_at dksX2_findsPairs_4 20 rfl rfl)
theorem dX2_findsPairs_118 : decode cX2_findsPairs 118 = .ok (.iload 4, 2) := dk_21 4 (dk_at dksX2_findsPairs_5 0 rfl rfl)
theorem dX2_findsPairs_120 : decode cX2_findsPairs 120 = .ok (.aload_n 0, 1) := dk_42 (dk_at dksX2_findsPairs_5 2 rfl rfl)
theorem dX2_findsPairs_121 : decode cX2_findsPairs 121 = .ok (.getfield 28, 3) := dk_180 0 28 (dk_at dksX2_findsPairs_5 3 rfl rfl)
theorem dX2_findsPairs_124 : decode cX2_findsPairs 124 = .ok (.iload_n 1, 1) := dk_27 (dk_at dksX2_findsPairs_5 6 rfl rfl)
theorem dX2_findsPairs_125 : decode cX2_findsPairs 125 = .ok (.iaload, 1) := dk_46 (dk_at dksX2_findsPairs_5 7 rfl rfl)
theorem dX2_findsPairs_126 : decode cX2_findsPairs 126 = .ok (.if_icmp .ge 121, 3) := dk_162 0 121 (dk_at dksX2_findsPairs_5 8 rfl rfl)
theorem dX2_findsPairs_129 : decode cX2_findsPairs 129 = .ok (.iload_n 3, 1) := dk_29 (dk_at dksX2_findsPairs_5 11 rfl rfl)
theorem dX2_findsPairs_130 : decode cX2_findsPairs 130 = .ok (.iload 5, 2) := dk_21 5 (dk_at dksX2_findsPairs_5 12 rfl rfl)
theorem dX2_findsPairs_132 : decode cX2_findsPairs 132 = .ok (.invokestatic 145, 3) := dk_184 0 145 (dk_at dksX2_findsPairs_5 14 rfl rfl)
theorem dX2_findsPairs_135 : decode cX2_findsPairs 135 = .ok (.ifCond .eq 74, 3) := dk_153 0 74 (dk_at dksX2_findsPairs_5 17 rfl rfl)
theorem dX2_findsPairs_138 : decode cX2_findsPairs 138 = .ok (.iload_n 3, 1) := dk_29 (dk_at dksX2_findsPairs_5 20 rfl rfl)
theorem dX2_findsPairs_139 : decode cX2_findsPairs 139 = .ok (.iload 6, 2) := dk_21 6 (dk_at dksX2_findsPairs_5 21 rfl rfl)
theorem dX2_findsPairs_141 : decode cX2_findsPairs 141 = .ok (.invokestatic 145, 3) := dk_184 0 145 (dk_at dksX2_findsPairs_6 0 rfl rfl)
theorem dX2_findsPairs_144 : decode cX2_findsPairs 144 = .ok (.ifCond .eq 65, 3) := dk_153 0 65 (dk_at dksX2_findsPairs_6 3 rfl rfl)
theorem dX2_findsPairs_147 : decode cX2_findsPairs 147 = .ok (.aload_n 0, 1) := dk_42 (dk_at dksX2_findsPairs_6 6 rfl rfl)
theorem dX2_findsPairs_148 : decode cX2_findsPairs 148 = .ok (.getfield 62, 3) := dk_180 0 62 (dk_at dksX2_findsPairs_6 7 rfl rfl)
theorem dX2_findsPairs_151 : decode cX2_findsPairs 151 = .ok (.iload 5, 2) := dk_21 5 (dk_at dksX2_findsPairs_6 10 rfl rfl)
theorem dX2_findsPairs_153 : decode cX2_findsPairs 153 = .ok (.baload, 1) := dk_51 (dk_at dksX2_findsPairs_6 12 rfl rfl)
theorem dX2_findsPairs_154 : decode cX2_findsPairs 154 = .ok (.aload_n 0, 1) := dk_42 (dk_at dksX2_findsPairs_6 13 rfl rfl)
theorem dX2_findsPairs_155 : decode cX2_findsPairs 155 = .ok (.getfield 62, 3) := dk_180 0 62 (dk_at dksX2_findsPairs_6 14 rfl rfl)
theorem dX2_findsPairs_158 : decode cX2_findsPairs 158 = .ok (.iload 6, 2) := dk_21 6 (dk_at dksX2_findsPairs_6 17 rfl rfl)
theorem dX2_findsPairs_160 : decode cX2_findsPairs 160 = .ok (.baload, 1) := dk_51 (dk_at dksX2_findsPairs_6 19 rfl rfl)
theorem dX2_findsPairs_161 : decode cX2_findsPairs 161 = .ok (.if_icmp .eq 48, 3) := dk_159 0 48 (dk_at dksX2_findsPairs_6 20 rfl rfl)
theorem dX2_findsPairs_164 : decode cX2_findsPairs 164 = .ok (.aload_n 0, 1) := dk_42 (dk_at dksX2_findsPairs_6 23 rfl rfl)
theorem dX2_findsPairs_165 : decode cX2_findsPairs 165 = .ok (.getfield 53, 3) := dk_180 0 53 (dk_at dksX2_findsPairs_7 0 rfl rfl)
theorem dX2_findsPairs_168 : decode cX2_findsPairs 168 = .ok (.iload 5, 2) := dk_21 5 (dk_at dksX2_findsPairs_7 3 rfl rfl)
theorem dX2_findsPairs_170 : decode cX2_findsPairs 170 = .ok (.iaload, 1) := dk_46 (dk_at dksX2_findsPairs_7 5 rfl rfl)
theorem dX2_findsPairs_171 : decode cX2_findsPairs 171 = .ok (.iload 4, 2) := dk_21 4 (dk_at dksX2_findsPairs_7 6 rfl rfl)
theorem dX2_findsPairs_173 : decode cX2_findsPairs 173 = .ok (.invokestatic 145, 3) := dk_184 0 145 (dk_at dksX2_findsPairs_7 8 rfl rfl)
theorem dX2_findsPairs_176 : decode cX2_findsPairs 176 = .ok (.aload_n 0, 1) := dk_42 (dk_at dksX2_findsPairs_7 11 rfl rfl)
theorem dX2_findsPairs_177 : decode cX2_findsPairs 177 = .ok (.getfield 53, 3) := dk_180 0 53 (dk_at dksX2_findsPairs_7 12 rfl rfl)
theorem dX2_findsPairs_180 : decode cX2_findsPairs 180 = .ok (.iload 6, 2) := dk_21 6 (dk_at dksX2_findsPairs_7 15 rfl rfl)
theorem dX2_findsPairs_182 : decode cX2_findsPairs 182 = .ok (.iaload, 1) := dk_46 (dk_at dksX2_findsPairs_7 17 rfl rfl)
theorem dX2_findsPairs_183 : decode cX2_findsPairs 183 = .ok (.iload 4, 2) := dk_21 4 (dk_at dksX2_findsPairs_7 18 rfl rfl)
theorem dX2_findsPairs_185 : decode cX2_findsPairs 185 = .ok (.invokestatic 145, 3) := dk_184 0 145 (dk_at dksX2_findsPairs_7 20 rfl rfl)
theorem dX2_findsPairs_188 : decode cX2_findsPairs 188 = .ok (.if_icmp .eq 21, 3) := dk_159 0 21 (dk_at dksX2_findsPairs_8 0 rfl rfl)
theorem dX2_findsPairs_191 : decode cX2_findsPairs 191 = .ok (.aload_n 0, 1) := dk_42 (dk_at dksX2_findsPairs_8 3 rfl rfl)
theorem dX2_findsPairs_192 : decode cX2_findsPairs 192 = .ok (.iload_n 2, 1) := dk_28 (dk_at dksX2_findsPairs_8 4 rfl rfl)
theorem dX2_findsPairs_193 : decode cX2_findsPairs 193 = .ok (.iload 4, 2) := dk_21 4 (dk_at dksX2_findsPairs_8 5 rfl rfl)
theorem dX2_findsPairs_195 : decode cX2_findsPairs 195 = .ok (.iload 5, 2) := dk_21 5 (dk_at dksX2_findsPairs_8 7 rfl rfl)
theorem dX2_findsPairs_197 : decode cX2_findsPairs 197 = .ok (.iload 6, 2) := dk_21 6 (dk_at dksX2_findsPairs_8 9 rfl rfl)
theorem dX2_findsPairs_199 : decode cX2_findsPairs 199 = .ok (.invokevirtual 187, 3) := dk_182 0 187 (dk_at dksX2_findsPairs_8 11 rfl rfl)
theorem dX2_findsPairs_202 : decode cX2_findsPairs 202 = .ok (.ifCond .eq 7, 3) := dk_153 0 7 (dk_at dksX2_findsPairs_8 14 rfl rfl)
theorem dX2_findsPairs_205 : decode cX2_findsPairs 205 = .ok (.iconst 1, 1) := dk_4 (dk_at dksX2_findsPairs_8 17 rfl rfl)
theorem dX2_findsPairs_206 : decode cX2_findsPairs 206 = .ok (.goto 4, 3) := dk_167 0 4 (dk_at dksX2_findsPairs_8 18 rfl rfl)
theorem dX2_findsPairs_209 : decode cX2_findsPairs 209 = .ok (.iconst 0, 1) := dk_3 (dk_at dksX2_findsPairs_8 21 rfl rfl)
theorem dX2_findsPairs_210 : decode cX2_findsPairs 210 = .ok (.istore 7, 2) := dk_54 7 (dk_at dksX2_findsPairs_8 22 rfl rfl)
theorem dX2_findsPairs_212 : decode cX2_findsPairs 212 = .ok (.aload_n 0, 1) := dk_42 (dk_at dksX2_findsPairs_9 0 rfl rfl)
theorem dX2_findsPairs_213 : decode cX2_findsPairs 213 = .ok (.getfield 65, 3) := dk_180 0 65 (dk_at dksX2_findsPairs_9 1 rfl rfl)
theorem dX2_findsPairs_216 : decode cX2_findsPairs 216 = .ok (.iload 4, 2) := dk_21 4 (dk_at dksX2_findsPairs_9 4 rfl rfl)
theorem dX2_findsPairs_218 : decode cX2_findsPairs 218 = .ok (.bipush 16, 2) := dk_16 16 (dk_at dksX2_findsPairs_9 6 rfl rfl)
theorem dX2_findsPairs_220 : decode cX2_findsPairs 220 = .ok (.imul, 1) := dk_104 (dk_at dksX2_findsPairs_9 8 rfl rfl)
theorem dX2_findsPairs_221 : decode cX2_findsPairs 221 = .ok (.iload 5, 2) := dk_21 5 (dk_at dksX2_findsPairs_9 9 rfl rfl)
theorem dX2_findsPairs_223 : decode cX2_findsPairs 223 = .ok (.iadd, 1) := dk_96 (dk_at dksX2_findsPairs_9 11 rfl rfl)
theorem dX2_findsPairs_224 : decode cX2_findsPairs 224 = .ok (.dup2, 1) := dk_92 (dk_at dksX2_findsPairs_9 12 rfl rfl)
theorem dX2_findsPairs_225 : decode cX2_findsPairs 225 = .ok (.iaload, 1) := dk_46 (dk_at dksX2_findsPairs_9 13 rfl rfl)
theorem dX2_findsPairs_226 : decode cX2_findsPairs 226 = .ok (.iload 7, 2) := dk_21 7 (dk_at dksX2_findsPairs_9 14 rfl rfl)
theorem dX2_findsPairs_228 : decode cX2_findsPairs 228 = .ok (.ifCond .eq 10, 3) := dk_153 0 10 (dk_at dksX2_findsPairs_9 16 rfl rfl)
theorem dX2_findsPairs_231 : decode cX2_findsPairs 231 = .ok (.iconst 1, 1) := dk_4 (dk_at dksX2_findsPairs_9 19 rfl rfl)
theorem dX2_findsPairs_232 : decode cX2_findsPairs 232 = .ok (.iload 6, 2) := dk_21 6 (dk_at dksX2_findsPairs_9 20 rfl rfl)
theorem dX2_findsPairs_234 : decode cX2_findsPairs 234 = .ok (.ishl, 1) := dk_120 (dk_at dksX2_findsPairs_9 22 rfl rfl)
theorem dX2_findsPairs_235 : decode cX2_findsPairs 235 = .ok (.goto 4, 3) := dk_167 0 4 (dk_at dksX2_findsPairs_10 0 rfl rfl)
theorem dX2_findsPairs_238 : decode cX2_findsPairs 238 = .ok (.iconst 0, 1) := dk_3 (dk_at dksX2_findsPairs_10 3 rfl rfl)
theorem dX2_findsPairs_239 : decode cX2_findsPairs 239 = .ok (.ior, 1) := dk_128 (dk_at dksX2_findsPairs_10 4 rfl rfl)
theorem dX2_findsPairs_240 : decode cX2_findsPairs 240 = .ok (.iastore, 1) := dk_79 (dk_at dksX2_findsPairs_10 5 rfl rfl)
theorem dX2_findsPairs_241 : decode cX2_findsPairs 241 = .ok (.iinc 6 1, 3) := dk_132 6 1 (dk_at dksX2_findsPairs_10 6 rfl rfl)
theorem dX2_findsPairs_244 : decode cX2_findsPairs 244 = .ok (.goto (-133), 3) := dk_167 255 123 (dk_at dksX2_findsPairs_10 9 rfl rfl)
theorem dX2_findsPairs_247 : decode cX2_findsPairs 247 = .ok (.iinc 5 1, 3) := dk_132 5 1 (dk_at dksX2_findsPairs_10 12 rfl rfl)
theorem dX2_findsPairs_250 : decode cX2_findsPairs 250 = .ok (.goto (-163), 3) := dk_167 255 93 (dk_at dksX2_findsPairs_10 15 rfl rfl)
theorem dX2_findsPairs_253 : decode cX2_findsPairs 253 = .ok (.iinc 4 1, 3) := dk_132 4 1 (dk_at dksX2_findsPairs_10 18 rfl rfl)
theorem dX2_findsPairs_256 : decode cX2_findsPairs 256 = .ok (.goto (-179), 3) := dk_167 255 77 (dk_at dksX2_findsPairs_10 21 rfl rfl)
theorem dX2_findsPairs_259 : decode cX2_findsPairs 259 = .ok (.return_, 1) := dk_177 (dk_at dksX2_findsPairs_11 0 rfl rfl)
abbrev cX2_areBy : ByteArray := prog_15_method_46_code
def yX2_areBy : MethodName := ⟨RX2, "areBy", "(IIII)Z"⟩
def dkwX2_areBy_5 : List UInt8 := [153, 0, 7, 4, 167, 0, 4, 3, 172]
abbrev dktX2_areBy_5 : List UInt8 := dkwX2_areBy_5 ++ []
def dkwX2_areBy_4 : List UInt8 := [42, 180, 0, 59, 29, 46, 28, 184, 0, 145, 153, 0, 21, 42, 180, 0, 59, 21, 4, 46, 28, 184, 0, 145]
abbrev dktX2_areBy_4 : List UInt8 := dkwX2_areBy_4 ++ dktX2_areBy_5
def dkwX2_areBy_3 : List UInt8 := [42, 180, 0, 56, 29, 46, 126, 42, 180, 0, 56, 21, 4, 46, 126, 154, 0, 7, 4, 167, 0, 4, 3, 172]
abbrev dktX2_areBy_3 : List UInt8 := dkwX2_areBy_3 ++ dktX2_areBy_4
def dkwX2_areBy_2 : List UInt8 := [46, 28, 184, 0, 145, 153, 0, 41, 42, 180, 0, 56, 21, 4, 46, 28, 184, 0, 145, 153, 0, 27, 21, 5]
abbrev dktX2_areBy_2 : List UInt8 := dkwX2_areBy_2 ++ dktX2_areBy_3
def dkwX2_areBy_1 : List UInt8 := [154, 0, 14, 21, 5, 154, 0, 7, 4, 167, 0, 4, 3, 172, 27, 4, 160, 0, 56, 42, 180, 0, 56, 29]
abbrev dktX2_areBy_1 : List UInt8 := dkwX2_areBy_1 ++ dktX2_areBy_2
def dkwX2_areBy_0 : List UInt8 := [42, 180, 0, 53, 29, 46, 42, 180, 0, 53, 21, 4, 46, 130, 4, 28, 120, 2, 130, 126, 54, 5, 27]
abbrev dktX2_areBy_0 : List UInt8 := dkwX2_areBy_0 ++ dktX2_areBy_1
theorem dksX2_areBy_0 : cX2_areBy.data.toList.drop 0 = dktX2_areBy_0 := by decide +kernel
theorem dksX2_areBy_1 : cX2_areBy.data.toList.drop 23 = dktX2_areBy_1 := dk_seg dksX2_areBy_0 23 rfl rfl
theorem dksX2_areBy_2 : cX2_areBy.data.toList.drop 47 = dktX2_areBy_2 := dk_seg dksX2_areBy_1 24 rfl rfl
theorem dksX2_areBy_3 : cX2_areBy.data.toList.drop 71 = dktX2_areBy_3 := dk_seg dksX2_areBy_2 24 rfl rfl
theorem dksX2_areBy_4 : cX2_areBy.data.toList.drop 95 = dktX2_areBy_4 := dk_seg dksX2_areBy_3 24 rfl rfl
theorem dksX2_areBy_5 : cX2_areBy.data.toList.drop 119 = dktX2_areBy_5 := dk_seg dksX2_areBy_4 24 rfl rfl
theorem dX2_areBy_0 : decode cX2_areBy 0 = .ok (.aload_n 0, 1) := dk_42 (dk_at dksX2_areBy_0 0 rfl rfl)
theorem dX2_areBy_1 : decode cX2_areBy 1 = .ok (.getfield 53, 3) := dk_180 0 53 (dk_at dksX2_areBy_0 1 rfl rfl)
theorem dX2_areBy_4 : decode cX2_areBy 4 = .ok (.iload_n 3, 1) := dk_29 (dk_at dksX2_areBy_0 4 rfl rfl)
theorem dX2_areBy_5 : decode cX2_areBy 5 = .ok (.iaload, 1) := dk_46 (dk_at dksX2_areBy_0 5 rfl rfl)
theorem dX2_areBy_6 : decode cX2_areBy 6 = .ok (.aload_n 0, 1) := dk_42 (dk_at dksX2_areBy_0 6 rfl rfl)
theorem dX2_areBy_7 : decode cX2_areBy 7 = .ok (.getfield 53, 3) := dk_180 0 53 (dk_at dksX2_areBy_0 7 rfl rfl)
theorem dX2_areBy_10 : decode cX2_areBy 10 = .ok (.iload 4, 2) := dk_21 4 (dk_at dksX2_areBy_0 10 rfl rfl)
theorem dX2_areBy_12 : decode cX2_areBy 12 = .ok (.iaload, 1) := dk_46 (dk_at dksX2_areBy_0 12 rfl rfl)
theorem dX2_areBy_13 : decode cX2_areBy 13 = .ok (.ixor, 1) := dk_130 (dk_at dksX2_areBy_0 13 rfl rfl)
theorem dX2_areBy_14 : decode cX2_areBy 14 = .ok (.iconst 1, 1) := dk_4 (dk_at dksX2_areBy_0 14 rfl rfl)
theorem dX2_areBy_15 : decode cX2_areBy 15 = .ok (.iload_n 2, 1) := dk_28 (dk_at dksX2_areBy_0 15 rfl rfl)
theorem dX2_areBy_16 : decode cX2_areBy 16 = .ok (.ishl, 1) := dk_120 (dk_at dksX2_areBy_0 16 rfl rfl)
theorem dX2_areBy_17 : decode cX2_areBy 17 = .ok (.iconst (-1), 1) := dk_2 (dk_at dksX2_areBy_0 17 rfl rfl)
theorem dX2_areBy_18 : decode cX2_areBy 18 = .ok (.ixor, 1) := dk_130 (dk_at dksX2_areBy_0 18 rfl rfl)
theorem dX2_areBy_19 : decode cX2_areBy 19 = .ok (.iand, 1) := dk_126 (dk_at dksX2_areBy_0 19 rfl rfl)
theorem dX2_areBy_20 : decode cX2_areBy 20 = .ok (.istore 5, 2) := dk_54 5 (dk_at dksX2_areBy_0 20 rfl rfl)
theorem dX2_areBy_22 : decode cX2_areBy 22 = .ok (.iload_n 1, 1) := dk_27 (dk_at dksX2_areBy_0 22 rfl rfl)
theorem dX2_areBy_23 : decode cX2_areBy 23 = .ok (.ifCond .ne 14, 3) := dk_154 0 14 (dk_at dksX2_areBy_1 0 rfl rfl)
theorem dX2_areBy_26 : decode cX2_areBy 26 = .ok (.iload 5, 2) := dk_21 5 (dk_at dksX2_areBy_1 3 rfl rfl)
theorem dX2_areBy_28 : decode cX2_areBy 28 = .ok (.ifCond .ne 7, 3) := dk_154 0 7 (dk_at dksX2_areBy_1 5 rfl rfl)
theorem dX2_areBy_31 : decode cX2_areBy 31 = .ok (.iconst 1, 1) := dk_4 (dk_at dksX2_areBy_1 8 rfl rfl)
theorem dX2_areBy_32 : decode cX2_areBy 32 = .ok (.goto 4, 3) := dk_167 0 4 (dk_at dksX2_areBy_1 9 rfl rfl)
theorem dX2_areBy_35 : decode cX2_areBy 35 = .ok (.iconst 0, 1) := dk_3 (dk_at dksX2_areBy_1 12 rfl rfl)
theorem dX2_areBy_36 : decode cX2_areBy 36 = .ok (.ireturn, 1) := dk_172 (dk_at dksX2_areBy_1 13 rfl rfl)
theorem dX2_areBy_37 : decode cX2_areBy 37 = .ok (.iload_n 1, 1) := dk_27 (dk_at dksX2_areBy_1 14 rfl rfl)
theorem dX2_areBy_38 : decode cX2_areBy 38 = .ok (.iconst 1, 1) := dk_4 (dk_at dksX2_areBy_1 15 rfl rfl)
theorem dX2_areBy_39 : decode cX2_areBy 39 = .ok (.if_icmp .ne 56, 3) := dk_160 0 56 (dk_at dksX2_areBy_1 16 rfl rfl)
theorem dX2_areBy_42 : decode cX2_areBy 42 = .ok (.aload_n 0, 1) := dk_42 (dk_at dksX2_areBy_1 19 rfl rfl)
theorem dX2_areBy_43 : decode cX2_areBy 43 = .ok (.getfield 56, 3) := dk_180 0 56 (dk_at dksX2_areBy_1 20 rfl rfl)
theorem dX2_areBy_46 : decode cX2_areBy 46 = .ok (.iload_n 3, 1) := dk_29 (dk_at dksX2_areBy_1 23 rfl rfl)
theorem dX2_areBy_47 : decode cX2_areBy 47 = .ok (.iaload, 1) := dk_46 (dk_at dksX2_areBy_2 0 rfl rfl)
theorem dX2_areBy_48 : decode cX2_areBy 48 = .ok (.iload_n 2, 1) := dk_28 (dk_at dksX2_areBy_2 1 rfl rfl)
theorem dX2_areBy_49 : decode cX2_areBy 49 = .ok (.invokestatic 145, 3) := dk_184 0 145 (dk_at dksX2_areBy_2 2 rfl rfl)
theorem dX2_areBy_52 : decode cX2_areBy 52 = .ok (.ifCond .eq 41, 3) := dk_153 0 41 (dk_at dksX2_areBy_2 5 rfl rfl)
theorem dX2_areBy_55 : decode cX2_areBy 55 = .ok (.aload_n 0, 1) := dk_42 (dk_at dksX2_areBy_2 8 rfl rfl)
theorem dX2_areBy_56 : decode cX2_areBy 56 = .ok (.getfield 56, 3) := dk_180 0 56 (dk_at dksX2_areBy_2 9 rfl rfl)
theorem dX2_areBy_59 : decode cX2_areBy 59 = .ok (.iload 4, 2) := dk_21 4 (dk_at dksX2_areBy_2 12 rfl rfl)
theorem dX2_areBy_61 : decode cX2_areBy 61 = .ok (.iaload, 1) := dk_46 (dk_at dksX2_areBy_2 14 rfl rfl)
theorem dX2_areBy_62 : decode cX2_areBy 62 = .ok (.iload_n 2, 1) := dk_28 (dk_at dksX2_areBy_2 15 rfl rfl)
theorem dX2_areBy_63 : decode cX2_areBy 63 = .ok (.invokestatic 145, 3) := dk_184 0 145 (dk_at dksX2_areBy_2 16 rfl rfl)
theorem dX2_areBy_66 : decode cX2_areBy 66 = .ok (.ifCond .eq 27, 3) := dk_153 0 27 (dk_at dksX2_areBy_2 19 rfl rfl)
theorem dX2_areBy_69 : decode cX2_areBy 69 = .ok (.iload 5, 2) := dk_21 5 (dk_at dksX2_areBy_2 22 rfl rfl)
theorem dX2_areBy_71 : decode cX2_areBy 71 = .ok (.aload_n 0, 1) := dk_42 (dk_at dksX2_areBy_3 0 rfl rfl)
theorem dX2_areBy_72 : decode cX2_areBy 72 = .ok (.getfield 56, 3) := dk_180 0 56 (dk_at dksX2_areBy_3 1 rfl rfl)
theorem dX2_areBy_75 : decode cX2_areBy 75 = .ok (.iload_n 3, 1) := dk_29 (dk_at dksX2_areBy_3 4 rfl rfl)
theorem dX2_areBy_76 : decode cX2_areBy 76 = .ok (.iaload, 1) := dk_46 (dk_at dksX2_areBy_3 5 rfl rfl)
theorem dX2_areBy_77 : decode cX2_areBy 77 = .ok (.iand, 1) := dk_126 (dk_at dksX2_areBy_3 6 rfl rfl)
theorem dX2_areBy_78 : decode cX2_areBy 78 = .ok (.aload_n 0, 1) := dk_42 (dk_at dksX2_areBy_3 7 rfl rfl)
theorem dX2_areBy_79 : decode cX2_areBy 79 = .ok (.getfield 56, 3) := dk_180 0 56 (dk_at dksX2_areBy_3 8 rfl rfl)
theorem dX2_areBy_82 : decode cX2_areBy 82 = .ok (.iload 4, 2) := dk_21 4 (dk_at dksX2_areBy_3 11 rfl rfl)
theorem dX2_areBy_84 : decode cX2_areBy 84 = .ok (.iaload, 1) := dk_46 (dk_at dksX2_areBy_3 13 rfl rfl)
theorem dX2_areBy_85 : decode cX2_areBy 85 = .ok (.iand, 1) := dk_126 (dk_at dksX2_areBy_3 14 rfl rfl)
theorem dX2_areBy_86 : decode cX2_areBy 86 = .ok (.ifCond .ne 7, 3) := dk_154 0 7 (dk_at dksX2_areBy_3 15 rfl rfl)
theorem dX2_areBy_89 : decode cX2_areBy 89 = .ok (.iconst 1, 1) := dk_4 (dk_at dksX2_areBy_3 18 rfl rfl)
theorem dX2_areBy_90 : decode cX2_areBy 90 = .ok (.goto 4, 3) := dk_167 0 4 (dk_at dksX2_areBy_3 19 rfl rfl)
theorem dX2_areBy_93 : decode cX2_areBy 93 = .ok (.iconst 0, 1) := dk_3 (dk_at dksX2_areBy_3 22 rfl rfl)
theorem dX2_areBy_94 : decode cX2_areBy 94 = .ok (.ireturn, 1) := dk_172 (dk_at dksX2_areBy_3 23 rfl rfl)
theorem dX2_areBy_95 : decode cX2_areBy 95 = .ok (.aload_n 0, 1) := dk_42 (dk_at dksX2_areBy_4 0 rfl rfl)
theorem dX2_areBy_96 : decode cX2_areBy 96 = .ok (.getfield 59, 3) := dk_180 0 59 (dk_at dksX2_areBy_4 1 rfl rfl)
theorem dX2_areBy_99 : decode cX2_areBy 99 = .ok (.iload_n 3, 1) := dk_29 (dk_at dksX2_areBy_4 4 rfl rfl)
theorem dX2_areBy_100 : decode cX2_areBy 100 = .ok (.iaload, 1) := dk_46 (dk_at dksX2_areBy_4 5 rfl rfl)
theorem dX2_areBy_101 : decode cX2_areBy 101 = .ok (.iload_n 2, 1) := dk_28 (dk_at dksX2_areBy_4 6 rfl rfl)
theorem dX2_areBy_102 : decode cX2_areBy 102 = .ok (.invokestatic 145, 3) := dk_184 0 145 (dk_at dksX2_areBy_4 7 rfl rfl)
theorem dX2_areBy_105 : decode cX2_areBy 105 = .ok (.ifCond .eq 21, 3) := dk_153 0 21 (dk_at dksX2_areBy_4 10 rfl rfl)
theorem dX2_areBy_108 : decode cX2_areBy 108 = .ok (.aload_n 0, 1) := dk_42 (dk_at dksX2_areBy_4 13 rfl rfl)
theorem dX2_areBy_109 : decode cX2_areBy 109 = .ok (.getfield 59, 3) := dk_180 0 59 (dk_at dksX2_areBy_4 14 rfl rfl)
theorem dX2_areBy_112 : decode cX2_areBy 112 = .ok (.iload 4, 2) := dk_21 4 (dk_at dksX2_areBy_4 17 rfl rfl)
theorem dX2_areBy_114 : decode cX2_areBy 114 = .ok (.iaload, 1) := dk_46 (dk_at dksX2_areBy_4 19 rfl rfl)
theorem dX2_areBy_115 : decode cX2_areBy 115 = .ok (.iload_n 2, 1) := dk_28 (dk_at dksX2_areBy_4 20 rfl rfl)
theorem dX2_areBy_116 : decode cX2_areBy 116 = .ok (.invokestatic 145, 3) := dk_184 0 145 (dk_at dksX2_areBy_4 21 rfl rfl)
theorem dX2_areBy_119 : decode cX2_areBy 119 = .ok (.ifCond .eq 7, 3) := dk_153 0 7 (dk_at dksX2_areBy_5 0 rfl rfl)
theorem dX2_areBy_122 : decode cX2_areBy 122 = .ok (.iconst 1, 1) := dk_4 (dk_at dksX2_areBy_5 3 rfl rfl)
theorem dX2_areBy_123 : decode cX2_areBy 123 = .ok (.goto 4, 3) := dk_167 0 4 (dk_at dksX2_areBy_5 4 rfl rfl)
theorem dX2_areBy_126 : decode cX2_areBy 126 = .ok (.iconst 0, 1) := dk_3 (dk_at dksX2_areBy_5 7 rfl rfl)
theorem dX2_areBy_127 : decode cX2_areBy 127 = .ok (.ireturn, 1) := dk_172 (dk_at dksX2_areBy_5 8 rfl rfl)
abbrev cX2_pairs : ByteArray := prog_15_method_52_code
def yX2_pairs : MethodName := ⟨RX2, "pairs", "(III)I"⟩
def dkwX2_pairs_2 : List UInt8 := [96, 54, 4, 132, 5, 1, 167, 255, 226, 21, 4, 5, 108, 172]
abbrev dktX2_pairs_2 : List UInt8 := dkwX2_pairs_2 ++ []
def dkwX2_pairs_1 : List UInt8 := [21, 5, 16, 16, 162, 0, 29, 21, 4, 42, 180, 0, 65, 29, 16, 16, 104, 21, 5, 96, 46, 184, 0, 184]
abbrev dktX2_pairs_1 : List UInt8 := dkwX2_pairs_1 ++ dktX2_pairs_2
def dkwX2_pairs_0 : List UInt8 := [42, 27, 28, 29, 182, 0, 194, 153, 0, 5, 3, 172, 42, 27, 28, 182, 0, 197, 3, 54, 4, 3, 54, 5]
abbrev dktX2_pairs_0 : List UInt8 := dkwX2_pairs_0 ++ dktX2_pairs_1
theorem dksX2_pairs_0 : cX2_pairs.data.toList.drop 0 = dktX2_pairs_0 := by decide +kernel
theorem dksX2_pairs_1 : cX2_pairs.data.toList.drop 24 = dktX2_pairs_1 := dk_seg dksX2_pairs_0 24 rfl rfl
theorem dksX2_pairs_2 : cX2_pairs.data.toList.drop 48 = dktX2_pairs_2 := dk_seg dksX2_pairs_1 24 rfl rfl
theorem dX2_pairs_0 : decode cX2_pairs 0 = .ok (.aload_n 0, 1) := dk_42 (dk_at dksX2_pairs_0 0 rfl rfl)
theorem dX2_pairs_1 : decode cX2_pairs 1 = .ok (.iload_n 1, 1) := dk_27 (dk_at dksX2_pairs_0 1 rfl rfl)
theorem dX2_pairs_2 : decode cX2_pairs 2 = .ok (.iload_n 2, 1) := dk_28 (dk_at dksX2_pairs_0 2 rfl rfl)
theorem dX2_pairs_3 : decode cX2_pairs 3 = .ok (.iload_n 3, 1) := dk_29 (dk_at dksX2_pairs_0 3 rfl rfl)
theorem dX2_pairs_4 : decode cX2_pairs 4 = .ok (.invokevirtual 194, 3) := dk_182 0 194 (dk_at dksX2_pairs_0 4 rfl rfl)
theorem dX2_pairs_7 : decode cX2_pairs 7 = .ok (.ifCond .eq 5, 3) := dk_153 0 5 (dk_at dksX2_pairs_0 7 rfl rfl)
theorem dX2_pairs_10 : decode cX2_pairs 10 = .ok (.iconst 0, 1) := dk_3 (dk_at dksX2_pairs_0 10 rfl rfl)
theorem dX2_pairs_11 : decode cX2_pairs 11 = .ok (.ireturn, 1) := dk_172 (dk_at dksX2_pairs_0 11 rfl rfl)
theorem dX2_pairs_12 : decode cX2_pairs 12 = .ok (.aload_n 0, 1) := dk_42 (dk_at dksX2_pairs_0 12 rfl rfl)
theorem dX2_pairs_13 : decode cX2_pairs 13 = .ok (.iload_n 1, 1) := dk_27 (dk_at dksX2_pairs_0 13 rfl rfl)
theorem dX2_pairs_14 : decode cX2_pairs 14 = .ok (.iload_n 2, 1) := dk_28 (dk_at dksX2_pairs_0 14 rfl rfl)
theorem dX2_pairs_15 : decode cX2_pairs 15 = .ok (.invokevirtual 197, 3) := dk_182 0 197 (dk_at dksX2_pairs_0 15 rfl rfl)
theorem dX2_pairs_18 : decode cX2_pairs 18 = .ok (.iconst 0, 1) := dk_3 (dk_at dksX2_pairs_0 18 rfl rfl)
theorem dX2_pairs_19 : decode cX2_pairs 19 = .ok (.istore 4, 2) := dk_54 4 (dk_at dksX2_pairs_0 19 rfl rfl)
theorem dX2_pairs_21 : decode cX2_pairs 21 = .ok (.iconst 0, 1) := dk_3 (dk_at dksX2_pairs_0 21 rfl rfl)
theorem dX2_pairs_22 : decode cX2_pairs 22 = .ok (.istore 5, 2) := dk_54 5 (dk_at dksX2_pairs_0 22 rfl rfl)
theorem dX2_pairs_24 : decode cX2_pairs 24 = .ok (.iload 5, 2) := dk_21 5 (dk_at dksX2_pairs_1 0 rfl rfl)
theorem dX2_pairs_26 : decode cX2_pairs 26 = .ok (.bipush 16, 2) := dk_16 16 (dk_at dksX2_pairs_1 2 rfl rfl)
theorem dX2_pairs_28 : decode cX2_pairs 28 = .ok (.if_icmp .ge 29, 3) := dk_162 0 29 (dk_at dksX2_pairs_1 4 rfl rfl)
theorem dX2_pairs_31 : decode cX2_pairs 31 = .ok (.iload 4, 2) := dk_21 4 (dk_at dksX2_pairs_1 7 rfl rfl)
theorem dX2_pairs_33 : decode cX2_pairs 33 = .ok (.aload_n 0, 1) := dk_42 (dk_at dksX2_pairs_1 9 rfl rfl)
theorem dX2_pairs_34 : decode cX2_pairs 34 = .ok (.getfield 65, 3) := dk_180 0 65 (dk_at dksX2_pairs_1 10 rfl rfl)
theorem dX2_pairs_37 : decode cX2_pairs 37 = .ok (.iload_n 3, 1) := dk_29 (dk_at dksX2_pairs_1 13 rfl rfl)
theorem dX2_pairs_38 : decode cX2_pairs 38 = .ok (.bipush 16, 2) := dk_16 16 (dk_at dksX2_pairs_1 14 rfl rfl)
theorem dX2_pairs_40 : decode cX2_pairs 40 = .ok (.imul, 1) := dk_104 (dk_at dksX2_pairs_1 16 rfl rfl)
theorem dX2_pairs_41 : decode cX2_pairs 41 = .ok (.iload 5, 2) := dk_21 5 (dk_at dksX2_pairs_1 17 rfl rfl)
theorem dX2_pairs_43 : decode cX2_pairs 43 = .ok (.iadd, 1) := dk_96 (dk_at dksX2_pairs_1 19 rfl rfl)
theorem dX2_pairs_44 : decode cX2_pairs 44 = .ok (.iaload, 1) := dk_46 (dk_at dksX2_pairs_1 20 rfl rfl)
theorem dX2_pairs_45 : decode cX2_pairs 45 = .ok (.invokestatic 184, 3) := dk_184 0 184 (dk_at dksX2_pairs_1 21 rfl rfl)
theorem dX2_pairs_48 : decode cX2_pairs 48 = .ok (.iadd, 1) := dk_96 (dk_at dksX2_pairs_2 0 rfl rfl)
theorem dX2_pairs_49 : decode cX2_pairs 49 = .ok (.istore 4, 2) := dk_54 4 (dk_at dksX2_pairs_2 1 rfl rfl)
theorem dX2_pairs_51 : decode cX2_pairs 51 = .ok (.iinc 5 1, 3) := dk_132 5 1 (dk_at dksX2_pairs_2 3 rfl rfl)
theorem dX2_pairs_54 : decode cX2_pairs 54 = .ok (.goto (-30), 3) := dk_167 255 226 (dk_at dksX2_pairs_2 6 rfl rfl)
theorem dX2_pairs_57 : decode cX2_pairs 57 = .ok (.iload 4, 2) := dk_21 4 (dk_at dksX2_pairs_2 9 rfl rfl)
theorem dX2_pairs_59 : decode cX2_pairs 59 = .ok (.iconst 2, 1) := dk_5 (dk_at dksX2_pairs_2 11 rfl rfl)
theorem dX2_pairs_60 : decode cX2_pairs 60 = .ok (.idiv, 1) := dk_108 (dk_at dksX2_pairs_2 12 rfl rfl)
theorem dX2_pairs_61 : decode cX2_pairs 61 = .ok (.ireturn, 1) := dk_172 (dk_at dksX2_pairs_2 13 rfl rfl)
abbrev cX2_pairAt : ByteArray := prog_15_method_53_code
def yX2_pairAt : MethodName := ⟨RX2, "pairAt", "(IIII)I"⟩
def dkwX2_pairAt_4 : List UInt8 := [167, 255, 188, 42, 6, 181, 0, 68, 3, 172]
abbrev dktX2_pairAt_4 : List UInt8 := dkwX2_pairAt_4 ++ []
def dkwX2_pairAt_3 : List UInt8 := [21, 8, 184, 0, 145, 153, 0, 14, 21, 5, 154, 0, 6, 21, 6, 172, 132, 5, 255, 132, 6, 1]
abbrev dktX2_pairAt_3 : List UInt8 := dkwX2_pairAt_3 ++ dktX2_pairAt_4
def dkwX2_pairAt_2 : List UInt8 := [16, 16, 112, 54, 8, 21, 7, 21, 8, 162, 0, 34, 42, 180, 0, 65, 29, 16, 16, 104, 21, 7, 96, 46]
abbrev dktX2_pairAt_2 : List UInt8 := dkwX2_pairAt_2 ++ dktX2_pairAt_3
def dkwX2_pairAt_1 : List UInt8 := [54, 6, 21, 6, 17, 1, 0, 162, 0, 66, 21, 4, 155, 0, 61, 21, 6, 16, 16, 108, 54, 7, 21, 6]
abbrev dktX2_pairAt_1 : List UInt8 := dkwX2_pairAt_1 ++ dktX2_pairAt_2
def dkwX2_pairAt_0 : List UInt8 := [42, 27, 28, 29, 182, 0, 194, 153, 0, 5, 3, 172, 42, 27, 28, 182, 0, 197, 21, 4, 54, 5, 3]
abbrev dktX2_pairAt_0 : List UInt8 := dkwX2_pairAt_0 ++ dktX2_pairAt_1
theorem dksX2_pairAt_0 : cX2_pairAt.data.toList.drop 0 = dktX2_pairAt_0 := by decide +kernel
theorem dksX2_pairAt_1 : cX2_pairAt.data.toList.drop 23 = dktX2_pairAt_1 := dk_seg dksX2_pairAt_0 23 rfl rfl
theorem dksX2_pairAt_2 : cX2_pairAt.data.toList.drop 47 = dktX2_pairAt_2 := dk_seg dksX2_pairAt_1 24 rfl rfl
theorem dksX2_pairAt_3 : cX2_pairAt.data.toList.drop 71 = dktX2_pairAt_3 := dk_seg dksX2_pairAt_2 24 rfl rfl
theorem dksX2_pairAt_4 : cX2_pairAt.data.toList.drop 93 = dktX2_pairAt_4 := dk_seg dksX2_pairAt_3 22 rfl rfl
theorem dX2_pairAt_0 : decode cX2_pairAt 0 = .ok (.aload_n 0, 1) := dk_42 (dk_at dksX2_pairAt_0 0 rfl rfl)
theorem dX2_pairAt_1 : decode cX2_pairAt 1 = .ok (.iload_n 1, 1) := dk_27 (dk_at dksX2_pairAt_0 1 rfl rfl)
theorem dX2_pairAt_2 : decode cX2_pairAt 2 = .ok (.iload_n 2, 1) := dk_28 (dk_at dksX2_pairAt_0 2 rfl rfl)
theorem dX2_pairAt_3 : decode cX2_pairAt 3 = .ok (.iload_n 3, 1) := dk_29 (dk_at dksX2_pairAt_0 3 rfl rfl)
theorem dX2_pairAt_4 : decode cX2_pairAt 4 = .ok (.invokevirtual 194, 3) := dk_182 0 194 (dk_at dksX2_pairAt_0 4 rfl rfl)
theorem dX2_pairAt_7 : decode cX2_pairAt 7 = .ok (.ifCond .eq 5, 3) := dk_153 0 5 (dk_at dksX2_pairAt_0 7 rfl rfl)
theorem dX2_pairAt_10 : decode cX2_pairAt 10 = .ok (.iconst 0, 1) := dk_3 (dk_at dksX2_pairAt_0 10 rfl rfl)
theorem dX2_pairAt_11 : decode cX2_pairAt 11 = .ok (.ireturn, 1) := dk_172 (dk_at dksX2_pairAt_0 11 rfl rfl)
theorem dX2_pairAt_12 : decode cX2_pairAt 12 = .ok (.aload_n 0, 1) := dk_42 (dk_at dksX2_pairAt_0 12 rfl rfl)
theorem dX2_pairAt_13 : decode cX2_pairAt 13 = .ok (.iload_n 1, 1) := dk_27 (dk_at dksX2_pairAt_0 13 rfl rfl)
theorem dX2_pairAt_14 : decode cX2_pairAt 14 = .ok (.iload_n 2, 1) := dk_28 (dk_at dksX2_pairAt_0 14 rfl rfl)
theorem dX2_pairAt_15 : decode cX2_pairAt 15 = .ok (.invokevirtual 197, 3) := dk_182 0 197 (dk_at dksX2_pairAt_0 15 rfl rfl)
theorem dX2_pairAt_18 : decode cX2_pairAt 18 = .ok (.iload 4, 2) := dk_21 4 (dk_at dksX2_pairAt_0 18 rfl rfl)
theorem dX2_pairAt_20 : decode cX2_pairAt 20 = .ok (.istore 5, 2) := dk_54 5 (dk_at dksX2_pairAt_0 20 rfl rfl)
theorem dX2_pairAt_22 : decode cX2_pairAt 22 = .ok (.iconst 0, 1) := dk_3 (dk_at dksX2_pairAt_0 22 rfl rfl)
theorem dX2_pairAt_23 : decode cX2_pairAt 23 = .ok (.istore 6, 2) := dk_54 6 (dk_at dksX2_pairAt_1 0 rfl rfl)
theorem dX2_pairAt_25 : decode cX2_pairAt 25 = .ok (.iload 6, 2) := dk_21 6 (dk_at dksX2_pairAt_1 2 rfl rfl)
theorem dX2_pairAt_27 : decode cX2_pairAt 27 = .ok (.sipush 256, 3) := dk_17 1 0 (dk_at dksX2_pairAt_1 4 rfl rfl)
theorem dX2_pairAt_30 : decode cX2_pairAt 30 = .ok (.if_icmp .ge 66, 3) := dk_162 0 66 (dk_at dksX2_pairAt_1 7 rfl rfl)
theorem dX2_pairAt_33 : decode cX2_pairAt 33 = .ok (.iload 4, 2) := dk_21 4 (dk_at dksX2_pairAt_1 10 rfl rfl)
theorem dX2_pairAt_35 : decode cX2_pairAt 35 = .ok (.ifCond .lt 61, 3) := dk_155 0 61 (dk_at dksX2_pairAt_1 12 rfl rfl)
theorem dX2_pairAt_38 : decode cX2_pairAt 38 = .ok (.iload 6, 2) := dk_21 6 (dk_at dksX2_pairAt_1 15 rfl rfl)
theorem dX2_pairAt_40 : decode cX2_pairAt 40 = .ok (.bipush 16, 2) := dk_16 16 (dk_at dksX2_pairAt_1 17 rfl rfl)
theorem dX2_pairAt_42 : decode cX2_pairAt 42 = .ok (.idiv, 1) := dk_108 (dk_at dksX2_pairAt_1 19 rfl rfl)
theorem dX2_pairAt_43 : decode cX2_pairAt 43 = .ok (.istore 7, 2) := dk_54 7 (dk_at dksX2_pairAt_1 20 rfl rfl)
theorem dX2_pairAt_45 : decode cX2_pairAt 45 = .ok (.iload 6, 2) := dk_21 6 (dk_at dksX2_pairAt_1 22 rfl rfl)
theorem dX2_pairAt_47 : decode cX2_pairAt 47 = .ok (.bipush 16, 2) := dk_16 16 (dk_at dksX2_pairAt_2 0 rfl rfl)
theorem dX2_pairAt_49 : decode cX2_pairAt 49 = .ok (.irem, 1) := dk_112 (dk_at dksX2_pairAt_2 2 rfl rfl)
theorem dX2_pairAt_50 : decode cX2_pairAt 50 = .ok (.istore 8, 2) := dk_54 8 (dk_at dksX2_pairAt_2 3 rfl rfl)
theorem dX2_pairAt_52 : decode cX2_pairAt 52 = .ok (.iload 7, 2) := dk_21 7 (dk_at dksX2_pairAt_2 5 rfl rfl)
theorem dX2_pairAt_54 : decode cX2_pairAt 54 = .ok (.iload 8, 2) := dk_21 8 (dk_at dksX2_pairAt_2 7 rfl rfl)
theorem dX2_pairAt_56 : decode cX2_pairAt 56 = .ok (.if_icmp .ge 34, 3) := dk_162 0 34 (dk_at dksX2_pairAt_2 9 rfl rfl)
theorem dX2_pairAt_59 : decode cX2_pairAt 59 = .ok (.aload_n 0, 1) := dk_42 (dk_at dksX2_pairAt_2 12 rfl rfl)
theorem dX2_pairAt_60 : decode cX2_pairAt 60 = .ok (.getfield 65, 3) := dk_180 0 65 (dk_at dksX2_pairAt_2 13 rfl rfl)
theorem dX2_pairAt_63 : decode cX2_pairAt 63 = .ok (.iload_n 3, 1) := dk_29 (dk_at dksX2_pairAt_2 16 rfl rfl)
theorem dX2_pairAt_64 : decode cX2_pairAt 64 = .ok (.bipush 16, 2) := dk_16 16 (dk_at dksX2_pairAt_2 17 rfl rfl)
theorem dX2_pairAt_66 : decode cX2_pairAt 66 = .ok (.imul, 1) := dk_104 (dk_at dksX2_pairAt_2 19 rfl rfl)
theorem dX2_pairAt_67 : decode cX2_pairAt 67 = .ok (.iload 7, 2) := dk_21 7 (dk_at dksX2_pairAt_2 20 rfl rfl)
theorem dX2_pairAt_69 : decode cX2_pairAt 69 = .ok (.iadd, 1) := dk_96 (dk_at dksX2_pairAt_2 22 rfl rfl)
theorem dX2_pairAt_70 : decode cX2_pairAt 70 = .ok (.iaload, 1) := dk_46 (dk_at dksX2_pairAt_2 23 rfl rfl)
theorem dX2_pairAt_71 : decode cX2_pairAt 71 = .ok (.iload 8, 2) := dk_21 8 (dk_at dksX2_pairAt_3 0 rfl rfl)
theorem dX2_pairAt_73 : decode cX2_pairAt 73 = .ok (.invokestatic 145, 3) := dk_184 0 145 (dk_at dksX2_pairAt_3 2 rfl rfl)
theorem dX2_pairAt_76 : decode cX2_pairAt 76 = .ok (.ifCond .eq 14, 3) := dk_153 0 14 (dk_at dksX2_pairAt_3 5 rfl rfl)
theorem dX2_pairAt_79 : decode cX2_pairAt 79 = .ok (.iload 5, 2) := dk_21 5 (dk_at dksX2_pairAt_3 8 rfl rfl)
theorem dX2_pairAt_81 : decode cX2_pairAt 81 = .ok (.ifCond .ne 6, 3) := dk_154 0 6 (dk_at dksX2_pairAt_3 10 rfl rfl)
theorem dX2_pairAt_84 : decode cX2_pairAt 84 = .ok (.iload 6, 2) := dk_21 6 (dk_at dksX2_pairAt_3 13 rfl rfl)
theorem dX2_pairAt_86 : decode cX2_pairAt 86 = .ok (.ireturn, 1) := dk_172 (dk_at dksX2_pairAt_3 15 rfl rfl)
theorem dX2_pairAt_87 : decode cX2_pairAt 87 = .ok (.iinc 5 (-1), 3) := dk_132 5 255 (dk_at dksX2_pairAt_3 16 rfl rfl)
theorem dX2_pairAt_90 : decode cX2_pairAt 90 = .ok (.iinc 6 1, 3) := dk_132 6 1 (dk_at dksX2_pairAt_3 19 rfl rfl)
theorem dX2_pairAt_93 : decode cX2_pairAt 93 = .ok (.goto (-68), 3) := dk_167 255 188 (dk_at dksX2_pairAt_4 0 rfl rfl)
theorem dX2_pairAt_96 : decode cX2_pairAt 96 = .ok (.aload_n 0, 1) := dk_42 (dk_at dksX2_pairAt_4 3 rfl rfl)
theorem dX2_pairAt_97 : decode cX2_pairAt 97 = .ok (.iconst 3, 1) := dk_6 (dk_at dksX2_pairAt_4 4 rfl rfl)
theorem dX2_pairAt_98 : decode cX2_pairAt 98 = .ok (.putfield 68, 3) := dk_181 0 68 (dk_at dksX2_pairAt_4 5 rfl rfl)
theorem dX2_pairAt_101 : decode cX2_pairAt 101 = .ok (.iconst 0, 1) := dk_3 (dk_at dksX2_pairAt_4 8 rfl rfl)
theorem dX2_pairAt_102 : decode cX2_pairAt 102 = .ok (.ireturn, 1) := dk_172 (dk_at dksX2_pairAt_4 9 rfl rfl)
abbrev cX2_possible : ByteArray := prog_15_method_55_code
def yX2_possible : MethodName := ⟨RX2, "possible", "(II)I"⟩
def dkwX2_possible_0 : List UInt8 := [42, 27, 28, 182, 0, 201, 153, 0, 5, 3, 172, 42, 27, 28, 182, 0, 197, 42, 18, 204, 182, 0, 205, 172]
abbrev dktX2_possible_0 : List UInt8 := dkwX2_possible_0 ++ []
theorem dksX2_possible_0 : cX2_possible.data.toList.drop 0 = dktX2_possible_0 := by decide +kernel
theorem dX2_possible_0 : decode cX2_possible 0 = .ok (.aload_n 0, 1) := dk_42 (dk_at dksX2_possible_0 0 rfl rfl)
theorem dX2_possible_1 : decode cX2_possible 1 = .ok (.iload_n 1, 1) := dk_27 (dk_at dksX2_possible_0 1 rfl rfl)
theorem dX2_possible_2 : decode cX2_possible 2 = .ok (.iload_n 2, 1) := dk_28 (dk_at dksX2_possible_0 2 rfl rfl)
theorem dX2_possible_3 : decode cX2_possible 3 = .ok (.invokevirtual 201, 3) := dk_182 0 201 (dk_at dksX2_possible_0 3 rfl rfl)
theorem dX2_possible_6 : decode cX2_possible 6 = .ok (.ifCond .eq 5, 3) := dk_153 0 5 (dk_at dksX2_possible_0 6 rfl rfl)
theorem dX2_possible_9 : decode cX2_possible 9 = .ok (.iconst 0, 1) := dk_3 (dk_at dksX2_possible_0 9 rfl rfl)
theorem dX2_possible_10 : decode cX2_possible 10 = .ok (.ireturn, 1) := dk_172 (dk_at dksX2_possible_0 10 rfl rfl)
theorem dX2_possible_11 : decode cX2_possible 11 = .ok (.aload_n 0, 1) := dk_42 (dk_at dksX2_possible_0 11 rfl rfl)
theorem dX2_possible_12 : decode cX2_possible 12 = .ok (.iload_n 1, 1) := dk_27 (dk_at dksX2_possible_0 12 rfl rfl)
theorem dX2_possible_13 : decode cX2_possible 13 = .ok (.iload_n 2, 1) := dk_28 (dk_at dksX2_possible_0 13 rfl rfl)
theorem dX2_possible_14 : decode cX2_possible 14 = .ok (.invokevirtual 197, 3) := dk_182 0 197 (dk_at dksX2_possible_0 14 rfl rfl)
theorem dX2_possible_17 : decode cX2_possible 17 = .ok (.aload_n 0, 1) := dk_42 (dk_at dksX2_possible_0 17 rfl rfl)
theorem dX2_possible_18 : decode cX2_possible 18 = .ok (.ldc 204, 2) := dk_18 204 (dk_at dksX2_possible_0 18 rfl rfl)
theorem dX2_possible_20 : decode cX2_possible 20 = .ok (.invokevirtual 205, 3) := dk_182 0 205 (dk_at dksX2_possible_0 20 rfl rfl)
theorem dX2_possible_23 : decode cX2_possible 23 = .ok (.ireturn, 1) := dk_172 (dk_at dksX2_possible_0 23 rfl rfl)
abbrev cX2_noRule : ByteArray := prog_15_method_49_code
def yX2_noRule : MethodName := ⟨RX2, "noRule", "(II)Z"⟩
def dkwX2_noRule_1 : List UInt8 := [182, 0, 83, 153, 0, 7, 4, 167, 0, 4, 3, 172]
abbrev dktX2_noRule_1 : List UInt8 := dkwX2_noRule_1 ++ []
def dkwX2_noRule_0 : List UInt8 := [42, 27, 182, 0, 133, 154, 0, 23, 42, 28, 184, 0, 191, 154, 0, 7, 4, 167, 0, 4, 3, 5]
abbrev dktX2_noRule_0 : List UInt8 := dkwX2_noRule_0 ++ dktX2_noRule_1
theorem dksX2_noRule_0 : cX2_noRule.data.toList.drop 0 = dktX2_noRule_0 := by decide +kernel
theorem dksX2_noRule_1 : cX2_noRule.data.toList.drop 22 = dktX2_noRule_1 := dk_seg dksX2_noRule_0 22 rfl rfl
theorem dX2_noRule_0 : decode cX2_noRule 0 = .ok (.aload_n 0, 1) := dk_42 (dk_at dksX2_noRule_0 0 rfl rfl)
theorem dX2_noRule_1 : decode cX2_noRule 1 = .ok (.iload_n 1, 1) := dk_27 (dk_at dksX2_noRule_0 1 rfl rfl)
theorem dX2_noRule_2 : decode cX2_noRule 2 = .ok (.invokevirtual 133, 3) := dk_182 0 133 (dk_at dksX2_noRule_0 2 rfl rfl)
theorem dX2_noRule_5 : decode cX2_noRule 5 = .ok (.ifCond .ne 23, 3) := dk_154 0 23 (dk_at dksX2_noRule_0 5 rfl rfl)
theorem dX2_noRule_8 : decode cX2_noRule 8 = .ok (.aload_n 0, 1) := dk_42 (dk_at dksX2_noRule_0 8 rfl rfl)
theorem dX2_noRule_9 : decode cX2_noRule 9 = .ok (.iload_n 2, 1) := dk_28 (dk_at dksX2_noRule_0 9 rfl rfl)
theorem dX2_noRule_10 : decode cX2_noRule 10 = .ok (.invokestatic 191, 3) := dk_184 0 191 (dk_at dksX2_noRule_0 10 rfl rfl)
theorem dX2_noRule_13 : decode cX2_noRule 13 = .ok (.ifCond .ne 7, 3) := dk_154 0 7 (dk_at dksX2_noRule_0 13 rfl rfl)
theorem dX2_noRule_16 : decode cX2_noRule 16 = .ok (.iconst 1, 1) := dk_4 (dk_at dksX2_noRule_0 16 rfl rfl)
theorem dX2_noRule_17 : decode cX2_noRule 17 = .ok (.goto 4, 3) := dk_167 0 4 (dk_at dksX2_noRule_0 17 rfl rfl)
theorem dX2_noRule_20 : decode cX2_noRule 20 = .ok (.iconst 0, 1) := dk_3 (dk_at dksX2_noRule_0 20 rfl rfl)
theorem dX2_noRule_21 : decode cX2_noRule 21 = .ok (.iconst 2, 1) := dk_5 (dk_at dksX2_noRule_0 21 rfl rfl)
theorem dX2_noRule_22 : decode cX2_noRule 22 = .ok (.invokevirtual 83, 3) := dk_182 0 83 (dk_at dksX2_noRule_1 0 rfl rfl)
theorem dX2_noRule_25 : decode cX2_noRule 25 = .ok (.ifCond .eq 7, 3) := dk_153 0 7 (dk_at dksX2_noRule_1 3 rfl rfl)
theorem dX2_noRule_28 : decode cX2_noRule 28 = .ok (.iconst 1, 1) := dk_4 (dk_at dksX2_noRule_1 6 rfl rfl)
theorem dX2_noRule_29 : decode cX2_noRule 29 = .ok (.goto 4, 3) := dk_167 0 4 (dk_at dksX2_noRule_1 7 rfl rfl)
theorem dX2_noRule_32 : decode cX2_noRule 32 = .ok (.iconst 0, 1) := dk_3 (dk_at dksX2_noRule_1 10 rfl rfl)
theorem dX2_noRule_33 : decode cX2_noRule 33 = .ok (.ireturn, 1) := dk_172 (dk_at dksX2_noRule_1 11 rfl rfl)
abbrev cX2_coveredBy : ByteArray := prog_15_method_54_code
def yX2_coveredBy : MethodName := ⟨RX2, "coveredBy", "(I)I"⟩
def dkwX2_coveredBy_2 : List UInt8 := [29, 120, 167, 0, 4, 3, 128, 61, 132, 4, 1, 167, 255, 210, 132, 3, 1, 167, 255, 195, 28, 172]
abbrev dktX2_coveredBy_2 : List UInt8 := dkwX2_coveredBy_2 ++ []
def dkwX2_coveredBy_1 : List UInt8 := [184, 0, 145, 153, 0, 26, 42, 180, 0, 65, 29, 16, 16, 104, 21, 4, 96, 46, 27, 126, 153, 0, 9, 4]
abbrev dktX2_coveredBy_1 : List UInt8 := dkwX2_coveredBy_1 ++ dktX2_coveredBy_2
def dkwX2_coveredBy_0 : List UInt8 := [3, 61, 3, 62, 29, 16, 8, 162, 0, 61, 3, 54, 4, 21, 4, 16, 16, 162, 0, 45, 28, 27, 21, 4]
abbrev dktX2_coveredBy_0 : List UInt8 := dkwX2_coveredBy_0 ++ dktX2_coveredBy_1
theorem dksX2_coveredBy_0 : cX2_coveredBy.data.toList.drop 0 = dktX2_coveredBy_0 := by decide +kernel
theorem dksX2_coveredBy_1 : cX2_coveredBy.data.toList.drop 24 = dktX2_coveredBy_1 := dk_seg dksX2_coveredBy_0 24 rfl rfl
theorem dksX2_coveredBy_2 : cX2_coveredBy.data.toList.drop 48 = dktX2_coveredBy_2 := dk_seg dksX2_coveredBy_1 24 rfl rfl
theorem dX2_coveredBy_0 : decode cX2_coveredBy 0 = .ok (.iconst 0, 1) := dk_3 (dk_at dksX2_coveredBy_0 0 rfl rfl)
theorem dX2_coveredBy_1 : decode cX2_coveredBy 1 = .ok (.istore_n 2, 1) := dk_61 (dk_at dksX2_coveredBy_0 1 rfl rfl)
theorem dX2_coveredBy_2 : decode cX2_coveredBy 2 = .ok (.iconst 0, 1) := dk_3 (dk_at dksX2_coveredBy_0 2 rfl rfl)
theorem dX2_coveredBy_3 : decode cX2_coveredBy 3 = .ok (.istore_n 3, 1) := dk_62 (dk_at dksX2_coveredBy_0 3 rfl rfl)
theorem dX2_coveredBy_4 : decode cX2_coveredBy 4 = .ok (.iload_n 3, 1) := dk_29 (dk_at dksX2_coveredBy_0 4 rfl rfl)
theorem dX2_coveredBy_5 : decode cX2_coveredBy 5 = .ok (.bipush 8, 2) := dk_16 8 (dk_at dksX2_coveredBy_0 5 rfl rfl)
theorem dX2_coveredBy_7 : decode cX2_coveredBy 7 = .ok (.if_icmp .ge 61, 3) := dk_162 0 61 (dk_at dksX2_coveredBy_0 7 rfl rfl)
theorem dX2_coveredBy_10 : decode cX2_coveredBy 10 = .ok (.iconst 0, 1) := dk_3 (dk_at dksX2_coveredBy_0 10 rfl rfl)
theorem dX2_coveredBy_11 : decode cX2_coveredBy 11 = .ok (.istore 4, 2) := dk_54 4 (dk_at dksX2_coveredBy_0 11 rfl rfl)
theorem dX2_coveredBy_13 : decode cX2_coveredBy 13 = .ok (.iload 4, 2) := dk_21 4 (dk_at dksX2_coveredBy_0 13 rfl rfl)
theorem dX2_coveredBy_15 : decode cX2_coveredBy 15 = .ok (.bipush 16, 2) := dk_16 16 (dk_at dksX2_coveredBy_0 15 rfl rfl)
theorem dX2_coveredBy_17 : decode cX2_coveredBy 17 = .ok (.if_icmp .ge 45, 3) := dk_162 0 45 (dk_at dksX2_coveredBy_0 17 rfl rfl)
theorem dX2_coveredBy_20 : decode cX2_coveredBy 20 = .ok (.iload_n 2, 1) := dk_28 (dk_at dksX2_coveredBy_0 20 rfl rfl)
theorem dX2_coveredBy_21 : decode cX2_coveredBy 21 = .ok (.iload_n 1, 1) := dk_27 (dk_at dksX2_coveredBy_0 21 rfl rfl)
theorem dX2_coveredBy_22 : decode cX2_coveredBy 22 = .ok (.iload 4, 2) := dk_21 4 (dk_at dksX2_coveredBy_0 22 rfl rfl)
theorem dX2_coveredBy_24 : decode cX2_coveredBy 24 = .ok (.invokestatic 145, 3) := dk_184 0 145 (dk_at dksX2_coveredBy_1 0 rfl rfl)
theorem dX2_coveredBy_27 : decode cX2_coveredBy 27 = .ok (.ifCond .eq 26, 3) := dk_153 0 26 (dk_at dksX2_coveredBy_1 3 rfl rfl)
theorem dX2_coveredBy_30 : decode cX2_coveredBy 30 = .ok (.aload_n 0, 1) := dk_42 (dk_at dksX2_coveredBy_1 6 rfl rfl)
theorem dX2_coveredBy_31 : decode cX2_coveredBy 31 = .ok (.getfield 65, 3) := dk_180 0 65 (dk_at dksX2_coveredBy_1 7 rfl rfl)
theorem dX2_coveredBy_34 : decode cX2_coveredBy 34 = .ok (.iload_n 3, 1) := dk_29 (dk_at dksX2_coveredBy_1 10 rfl rfl)
theorem dX2_coveredBy_35 : decode cX2_coveredBy 35 = .ok (.bipush 16, 2) := dk_16 16 (dk_at dksX2_coveredBy_1 11 rfl rfl)
theorem dX2_coveredBy_37 : decode cX2_coveredBy 37 = .ok (.imul, 1) := dk_104 (dk_at dksX2_coveredBy_1 13 rfl rfl)
theorem dX2_coveredBy_38 : decode cX2_coveredBy 38 = .ok (.iload 4, 2) := dk_21 4 (dk_at dksX2_coveredBy_1 14 rfl rfl)
theorem dX2_coveredBy_40 : decode cX2_coveredBy 40 = .ok (.iadd, 1) := dk_96 (dk_at dksX2_coveredBy_1 16 rfl rfl)
theorem dX2_coveredBy_41 : decode cX2_coveredBy 41 = .ok (.iaload, 1) := dk_46 (dk_at dksX2_coveredBy_1 17 rfl rfl)
theorem dX2_coveredBy_42 : decode cX2_coveredBy 42 = .ok (.iload_n 1, 1) := dk_27 (dk_at dksX2_coveredBy_1 18 rfl rfl)
theorem dX2_coveredBy_43 : decode cX2_coveredBy 43 = .ok (.iand, 1) := dk_126 (dk_at dksX2_coveredBy_1 19 rfl rfl)
theorem dX2_coveredBy_44 : decode cX2_coveredBy 44 = .ok (.ifCond .eq 9, 3) := dk_153 0 9 (dk_at dksX2_coveredBy_1 20 rfl rfl)
theorem dX2_coveredBy_47 : decode cX2_coveredBy 47 = .ok (.iconst 1, 1) := dk_4 (dk_at dksX2_coveredBy_1 23 rfl rfl)
theorem dX2_coveredBy_48 : decode cX2_coveredBy 48 = .ok (.iload_n 3, 1) := dk_29 (dk_at dksX2_coveredBy_2 0 rfl rfl)
theorem dX2_coveredBy_49 : decode cX2_coveredBy 49 = .ok (.ishl, 1) := dk_120 (dk_at dksX2_coveredBy_2 1 rfl rfl)
theorem dX2_coveredBy_50 : decode cX2_coveredBy 50 = .ok (.goto 4, 3) := dk_167 0 4 (dk_at dksX2_coveredBy_2 2 rfl rfl)
theorem dX2_coveredBy_53 : decode cX2_coveredBy 53 = .ok (.iconst 0, 1) := dk_3 (dk_at dksX2_coveredBy_2 5 rfl rfl)
theorem dX2_coveredBy_54 : decode cX2_coveredBy 54 = .ok (.ior, 1) := dk_128 (dk_at dksX2_coveredBy_2 6 rfl rfl)
theorem dX2_coveredBy_55 : decode cX2_coveredBy 55 = .ok (.istore_n 2, 1) := dk_61 (dk_at dksX2_coveredBy_2 7 rfl rfl)
theorem dX2_coveredBy_56 : decode cX2_coveredBy 56 = .ok (.iinc 4 1, 3) := dk_132 4 1 (dk_at dksX2_coveredBy_2 8 rfl rfl)
theorem dX2_coveredBy_59 : decode cX2_coveredBy 59 = .ok (.goto (-46), 3) := dk_167 255 210 (dk_at dksX2_coveredBy_2 11 rfl rfl)
theorem dX2_coveredBy_62 : decode cX2_coveredBy 62 = .ok (.iinc 3 1, 3) := dk_132 3 1 (dk_at dksX2_coveredBy_2 14 rfl rfl)
theorem dX2_coveredBy_65 : decode cX2_coveredBy 65 = .ok (.goto (-61), 3) := dk_167 255 195 (dk_at dksX2_coveredBy_2 17 rfl rfl)
theorem dX2_coveredBy_68 : decode cX2_coveredBy 68 = .ok (.iload_n 2, 1) := dk_28 (dk_at dksX2_coveredBy_2 20 rfl rfl)
theorem dX2_coveredBy_69 : decode cX2_coveredBy 69 = .ok (.ireturn, 1) := dk_172 (dk_at dksX2_coveredBy_2 21 rfl rfl)
abbrev cX2_addTest : ByteArray := prog_15_method_56_code
def yX2_addTest : MethodName := ⟨RX2, "addTest", "(II)I"⟩
def dkwX2_addTest_2 : List UInt8 := [180, 0, 31, 27, 92, 46, 4, 28, 120, 128, 79, 42, 180, 0, 31, 27, 46, 184, 0, 184, 172]
abbrev dktX2_addTest_2 : List UInt8 := dkwX2_addTest_2 ++ []
def dkwX2_addTest_1 : List UInt8 := [28, 182, 0, 172, 154, 0, 7, 4, 167, 0, 4, 3, 6, 182, 0, 83, 153, 0, 5, 3, 172, 42]
abbrev dktX2_addTest_1 : List UInt8 := dkwX2_addTest_1 ++ dktX2_addTest_2
def dkwX2_addTest_0 : List UInt8 := [42, 27, 28, 182, 0, 163, 154, 0, 37, 42, 42, 180, 0, 31, 27, 46, 28, 184, 0, 145, 154, 0, 11, 42]
abbrev dktX2_addTest_0 : List UInt8 := dkwX2_addTest_0 ++ dktX2_addTest_1
theorem dksX2_addTest_0 : cX2_addTest.data.toList.drop 0 = dktX2_addTest_0 := by decide +kernel
theorem dksX2_addTest_1 : cX2_addTest.data.toList.drop 24 = dktX2_addTest_1 := dk_seg dksX2_addTest_0 24 rfl rfl
theorem dksX2_addTest_2 : cX2_addTest.data.toList.drop 46 = dktX2_addTest_2 := dk_seg dksX2_addTest_1 22 rfl rfl
theorem dX2_addTest_0 : decode cX2_addTest 0 = .ok (.aload_n 0, 1) := dk_42 (dk_at dksX2_addTest_0 0 rfl rfl)
theorem dX2_addTest_1 : decode cX2_addTest 1 = .ok (.iload_n 1, 1) := dk_27 (dk_at dksX2_addTest_0 1 rfl rfl)
theorem dX2_addTest_2 : decode cX2_addTest 2 = .ok (.iload_n 2, 1) := dk_28 (dk_at dksX2_addTest_0 2 rfl rfl)
theorem dX2_addTest_3 : decode cX2_addTest 3 = .ok (.invokevirtual 163, 3) := dk_182 0 163 (dk_at dksX2_addTest_0 3 rfl rfl)
theorem dX2_addTest_6 : decode cX2_addTest 6 = .ok (.ifCond .ne 37, 3) := dk_154 0 37 (dk_at dksX2_addTest_0 6 rfl rfl)
theorem dX2_addTest_9 : decode cX2_addTest 9 = .ok (.aload_n 0, 1) := dk_42 (dk_at dksX2_addTest_0 9 rfl rfl)
theorem dX2_addTest_10 : decode cX2_addTest 10 = .ok (.aload_n 0, 1) := dk_42 (dk_at dksX2_addTest_0 10 rfl rfl)
theorem dX2_addTest_11 : decode cX2_addTest 11 = .ok (.getfield 31, 3) := dk_180 0 31 (dk_at dksX2_addTest_0 11 rfl rfl)
theorem dX2_addTest_14 : decode cX2_addTest 14 = .ok (.iload_n 1, 1) := dk_27 (dk_at dksX2_addTest_0 14 rfl rfl)
theorem dX2_addTest_15 : decode cX2_addTest 15 = .ok (.iaload, 1) := dk_46 (dk_at dksX2_addTest_0 15 rfl rfl)
theorem dX2_addTest_16 : decode cX2_addTest 16 = .ok (.iload_n 2, 1) := dk_28 (dk_at dksX2_addTest_0 16 rfl rfl)
theorem dX2_addTest_17 : decode cX2_addTest 17 = .ok (.invokestatic 145, 3) := dk_184 0 145 (dk_at dksX2_addTest_0 17 rfl rfl)
theorem dX2_addTest_20 : decode cX2_addTest 20 = .ok (.ifCond .ne 11, 3) := dk_154 0 11 (dk_at dksX2_addTest_0 20 rfl rfl)
theorem dX2_addTest_23 : decode cX2_addTest 23 = .ok (.aload_n 0, 1) := dk_42 (dk_at dksX2_addTest_0 23 rfl rfl)
theorem dX2_addTest_24 : decode cX2_addTest 24 = .ok (.iload_n 2, 1) := dk_28 (dk_at dksX2_addTest_1 0 rfl rfl)
theorem dX2_addTest_25 : decode cX2_addTest 25 = .ok (.invokevirtual 172, 3) := dk_182 0 172 (dk_at dksX2_addTest_1 1 rfl rfl)
theorem dX2_addTest_28 : decode cX2_addTest 28 = .ok (.ifCond .ne 7, 3) := dk_154 0 7 (dk_at dksX2_addTest_1 4 rfl rfl)
theorem dX2_addTest_31 : decode cX2_addTest 31 = .ok (.iconst 1, 1) := dk_4 (dk_at dksX2_addTest_1 7 rfl rfl)
theorem dX2_addTest_32 : decode cX2_addTest 32 = .ok (.goto 4, 3) := dk_167 0 4 (dk_at dksX2_addTest_1 8 rfl rfl)
theorem dX2_addTest_35 : decode cX2_addTest 35 = .ok (.iconst 0, 1) := dk_3 (dk_at dksX2_addTest_1 11 rfl rfl)
theorem dX2_addTest_36 : decode cX2_addTest 36 = .ok (.iconst 3, 1) := dk_6 (dk_at dksX2_addTest_1 12 rfl rfl)
theorem dX2_addTest_37 : decode cX2_addTest 37 = .ok (.invokevirtual 83, 3) := dk_182 0 83 (dk_at dksX2_addTest_1 13 rfl rfl)
theorem dX2_addTest_40 : decode cX2_addTest 40 = .ok (.ifCond .eq 5, 3) := dk_153 0 5 (dk_at dksX2_addTest_1 16 rfl rfl)
theorem dX2_addTest_43 : decode cX2_addTest 43 = .ok (.iconst 0, 1) := dk_3 (dk_at dksX2_addTest_1 19 rfl rfl)
theorem dX2_addTest_44 : decode cX2_addTest 44 = .ok (.ireturn, 1) := dk_172 (dk_at dksX2_addTest_1 20 rfl rfl)
theorem dX2_addTest_45 : decode cX2_addTest 45 = .ok (.aload_n 0, 1) := dk_42 (dk_at dksX2_addTest_1 21 rfl rfl)
theorem dX2_addTest_46 : decode cX2_addTest 46 = .ok (.getfield 31, 3) := dk_180 0 31 (dk_at dksX2_addTest_2 0 rfl rfl)
theorem dX2_addTest_49 : decode cX2_addTest 49 = .ok (.iload_n 1, 1) := dk_27 (dk_at dksX2_addTest_2 3 rfl rfl)
theorem dX2_addTest_50 : decode cX2_addTest 50 = .ok (.dup2, 1) := dk_92 (dk_at dksX2_addTest_2 4 rfl rfl)
theorem dX2_addTest_51 : decode cX2_addTest 51 = .ok (.iaload, 1) := dk_46 (dk_at dksX2_addTest_2 5 rfl rfl)
theorem dX2_addTest_52 : decode cX2_addTest 52 = .ok (.iconst 1, 1) := dk_4 (dk_at dksX2_addTest_2 6 rfl rfl)
theorem dX2_addTest_53 : decode cX2_addTest 53 = .ok (.iload_n 2, 1) := dk_28 (dk_at dksX2_addTest_2 7 rfl rfl)
theorem dX2_addTest_54 : decode cX2_addTest 54 = .ok (.ishl, 1) := dk_120 (dk_at dksX2_addTest_2 8 rfl rfl)
theorem dX2_addTest_55 : decode cX2_addTest 55 = .ok (.ior, 1) := dk_128 (dk_at dksX2_addTest_2 9 rfl rfl)
theorem dX2_addTest_56 : decode cX2_addTest 56 = .ok (.iastore, 1) := dk_79 (dk_at dksX2_addTest_2 10 rfl rfl)
theorem dX2_addTest_57 : decode cX2_addTest 57 = .ok (.aload_n 0, 1) := dk_42 (dk_at dksX2_addTest_2 11 rfl rfl)
theorem dX2_addTest_58 : decode cX2_addTest 58 = .ok (.getfield 31, 3) := dk_180 0 31 (dk_at dksX2_addTest_2 12 rfl rfl)
theorem dX2_addTest_61 : decode cX2_addTest 61 = .ok (.iload_n 1, 1) := dk_27 (dk_at dksX2_addTest_2 15 rfl rfl)
theorem dX2_addTest_62 : decode cX2_addTest 62 = .ok (.iaload, 1) := dk_46 (dk_at dksX2_addTest_2 16 rfl rfl)
theorem dX2_addTest_63 : decode cX2_addTest 63 = .ok (.invokestatic 184, 3) := dk_184 0 184 (dk_at dksX2_addTest_2 17 rfl rfl)
theorem dX2_addTest_66 : decode cX2_addTest 66 = .ok (.ireturn, 1) := dk_172 (dk_at dksX2_addTest_2 20 rfl rfl)
abbrev cX2_removeTest : ByteArray := prog_15_method_57_code
def yX2_removeTest : MethodName := ⟨RX2, "removeTest", "(II)I"⟩
def dkwX2_removeTest_2 : List UInt8 := [130, 126, 79, 42, 180, 0, 31, 27, 46, 184, 0, 184, 172]
abbrev dktX2_removeTest_2 : List UInt8 := dkwX2_removeTest_2 ++ []
def dkwX2_removeTest_1 : List UInt8 := [167, 0, 4, 3, 6, 182, 0, 83, 153, 0, 5, 3, 172, 42, 180, 0, 31, 27, 92, 46, 4, 28, 120, 2]
abbrev dktX2_removeTest_1 : List UInt8 := dkwX2_removeTest_1 ++ dktX2_removeTest_2
def dkwX2_removeTest_0 : List UInt8 := [42, 27, 28, 182, 0, 163, 154, 0, 29, 42, 42, 180, 0, 31, 27, 46, 28, 184, 0, 145, 154, 0, 7, 4]
abbrev dktX2_removeTest_0 : List UInt8 := dkwX2_removeTest_0 ++ dktX2_removeTest_1
theorem dksX2_removeTest_0 : cX2_removeTest.data.toList.drop 0 = dktX2_removeTest_0 := by decide +kernel
theorem dksX2_removeTest_1 : cX2_removeTest.data.toList.drop 24 = dktX2_removeTest_1 := dk_seg dksX2_removeTest_0 24 rfl rfl
theorem dksX2_removeTest_2 : cX2_removeTest.data.toList.drop 48 = dktX2_removeTest_2 := dk_seg dksX2_removeTest_1 24 rfl rfl
theorem dX2_removeTest_0 : decode cX2_removeTest 0 = .ok (.aload_n 0, 1) := dk_42 (dk_at dksX2_removeTest_0 0 rfl rfl)
theorem dX2_removeTest_1 : decode cX2_removeTest 1 = .ok (.iload_n 1, 1) := dk_27 (dk_at dksX2_removeTest_0 1 rfl rfl)
theorem dX2_removeTest_2 : decode cX2_removeTest 2 = .ok (.iload_n 2, 1) := dk_28 (dk_at dksX2_removeTest_0 2 rfl rfl)
theorem dX2_removeTest_3 : decode cX2_removeTest 3 = .ok (.invokevirtual 163, 3) := dk_182 0 163 (dk_at dksX2_removeTest_0 3 rfl rfl)
theorem dX2_removeTest_6 : decode cX2_removeTest 6 = .ok (.ifCond .ne 29, 3) := dk_154 0 29 (dk_at dksX2_removeTest_0 6 rfl rfl)
theorem dX2_removeTest_9 : decode cX2_removeTest 9 = .ok (.aload_n 0, 1) := dk_42 (dk_at dksX2_removeTest_0 9 rfl rfl)
theorem dX2_removeTest_10 : decode cX2_removeTest 10 = .ok (.aload_n 0, 1) := dk_42 (dk_at dksX2_removeTest_0 10 rfl rfl)
theorem dX2_removeTest_11 : decode cX2_removeTest 11 = .ok (.getfield 31, 3) := dk_180 0 31 (dk_at dksX2_removeTest_0 11 rfl rfl)
theorem dX2_removeTest_14 : decode cX2_removeTest 14 = .ok (.iload_n 1, 1) := dk_27 (dk_at dksX2_removeTest_0 14 rfl rfl)
theorem dX2_removeTest_15 : decode cX2_removeTest 15 = .ok (.iaload, 1) := dk_46 (dk_at dksX2_removeTest_0 15 rfl rfl)
theorem dX2_removeTest_16 : decode cX2_removeTest 16 = .ok (.iload_n 2, 1) := dk_28 (dk_at dksX2_removeTest_0 16 rfl rfl)
theorem dX2_removeTest_17 : decode cX2_removeTest 17 = .ok (.invokestatic 145, 3) := dk_184 0 145 (dk_at dksX2_removeTest_0 17 rfl rfl)
theorem dX2_removeTest_20 : decode cX2_removeTest 20 = .ok (.ifCond .ne 7, 3) := dk_154 0 7 (dk_at dksX2_removeTest_0 20 rfl rfl)
theorem dX2_removeTest_23 : decode cX2_removeTest 23 = .ok (.iconst 1, 1) := dk_4 (dk_at dksX2_removeTest_0 23 rfl rfl)
theorem dX2_removeTest_24 : decode cX2_removeTest 24 = .ok (.goto 4, 3) := dk_167 0 4 (dk_at dksX2_removeTest_1 0 rfl rfl)
theorem dX2_removeTest_27 : decode cX2_removeTest 27 = .ok (.iconst 0, 1) := dk_3 (dk_at dksX2_removeTest_1 3 rfl rfl)
theorem dX2_removeTest_28 : decode cX2_removeTest 28 = .ok (.iconst 3, 1) := dk_6 (dk_at dksX2_removeTest_1 4 rfl rfl)
theorem dX2_removeTest_29 : decode cX2_removeTest 29 = .ok (.invokevirtual 83, 3) := dk_182 0 83 (dk_at dksX2_removeTest_1 5 rfl rfl)
theorem dX2_removeTest_32 : decode cX2_removeTest 32 = .ok (.ifCond .eq 5, 3) := dk_153 0 5 (dk_at dksX2_removeTest_1 8 rfl rfl)
theorem dX2_removeTest_35 : decode cX2_removeTest 35 = .ok (.iconst 0, 1) := dk_3 (dk_at dksX2_removeTest_1 11 rfl rfl)
theorem dX2_removeTest_36 : decode cX2_removeTest 36 = .ok (.ireturn, 1) := dk_172 (dk_at dksX2_removeTest_1 12 rfl rfl)
theorem dX2_removeTest_37 : decode cX2_removeTest 37 = .ok (.aload_n 0, 1) := dk_42 (dk_at dksX2_removeTest_1 13 rfl rfl)
theorem dX2_removeTest_38 : decode cX2_removeTest 38 = .ok (.getfield 31, 3) := dk_180 0 31 (dk_at dksX2_removeTest_1 14 rfl rfl)
theorem dX2_removeTest_41 : decode cX2_removeTest 41 = .ok (.iload_n 1, 1) := dk_27 (dk_at dksX2_removeTest_1 17 rfl rfl)
theorem dX2_removeTest_42 : decode cX2_removeTest 42 = .ok (.dup2, 1) := dk_92 (dk_at dksX2_removeTest_1 18 rfl rfl)
theorem dX2_removeTest_43 : decode cX2_removeTest 43 = .ok (.iaload, 1) := dk_46 (dk_at dksX2_removeTest_1 19 rfl rfl)
theorem dX2_removeTest_44 : decode cX2_removeTest 44 = .ok (.iconst 1, 1) := dk_4 (dk_at dksX2_removeTest_1 20 rfl rfl)
theorem dX2_removeTest_45 : decode cX2_removeTest 45 = .ok (.iload_n 2, 1) := dk_28 (dk_at dksX2_removeTest_1 21 rfl rfl)
theorem dX2_removeTest_46 : decode cX2_removeTest 46 = .ok (.ishl, 1) := dk_120 (dk_at dksX2_removeTest_1 22 rfl rfl)
theorem dX2_removeTest_47 : decode cX2_removeTest 47 = .ok (.iconst (-1), 1) := dk_2 (dk_at dksX2_removeTest_1 23 rfl rfl)
theorem dX2_removeTest_48 : decode cX2_removeTest 48 = .ok (.ixor, 1) := dk_130 (dk_at dksX2_removeTest_2 0 rfl rfl)
theorem dX2_removeTest_49 : decode cX2_removeTest 49 = .ok (.iand, 1) := dk_126 (dk_at dksX2_removeTest_2 1 rfl rfl)
theorem dX2_removeTest_50 : decode cX2_removeTest 50 = .ok (.iastore, 1) := dk_79 (dk_at dksX2_removeTest_2 2 rfl rfl)
theorem dX2_removeTest_51 : decode cX2_removeTest 51 = .ok (.aload_n 0, 1) := dk_42 (dk_at dksX2_removeTest_2 3 rfl rfl)
theorem dX2_removeTest_52 : decode cX2_removeTest 52 = .ok (.getfield 31, 3) := dk_180 0 31 (dk_at dksX2_removeTest_2 4 rfl rfl)
theorem dX2_removeTest_55 : decode cX2_removeTest 55 = .ok (.iload_n 1, 1) := dk_27 (dk_at dksX2_removeTest_2 7 rfl rfl)
theorem dX2_removeTest_56 : decode cX2_removeTest 56 = .ok (.iaload, 1) := dk_46 (dk_at dksX2_removeTest_2 8 rfl rfl)
theorem dX2_removeTest_57 : decode cX2_removeTest 57 = .ok (.invokestatic 184, 3) := dk_184 0 184 (dk_at dksX2_removeTest_2 9 rfl rfl)
theorem dX2_removeTest_60 : decode cX2_removeTest 60 = .ok (.ireturn, 1) := dk_172 (dk_at dksX2_removeTest_2 12 rfl rfl)
abbrev cX2_tests : ByteArray := prog_15_method_58_code
def yX2_tests : MethodName := ⟨RX2, "tests", "(I)I"⟩
def dkwX2_tests_0 : List UInt8 := [42, 27, 182, 0, 133, 153, 0, 7, 3, 167, 0, 9, 42, 180, 0, 31, 27, 46, 172]
abbrev dktX2_tests_0 : List UInt8 := dkwX2_tests_0 ++ []
theorem dksX2_tests_0 : cX2_tests.data.toList.drop 0 = dktX2_tests_0 := by decide +kernel
theorem dX2_tests_0 : decode cX2_tests 0 = .ok (.aload_n 0, 1) := dk_42 (dk_at dksX2_tests_0 0 rfl rfl)
theorem dX2_tests_1 : decode cX2_tests 1 = .ok (.iload_n 1, 1) := dk_27 (dk_at dksX2_tests_0 1 rfl rfl)
theorem dX2_tests_2 : decode cX2_tests 2 = .ok (.invokevirtual 133, 3) := dk_182 0 133 (dk_at dksX2_tests_0 2 rfl rfl)
theorem dX2_tests_5 : decode cX2_tests 5 = .ok (.ifCond .eq 7, 3) := dk_153 0 7 (dk_at dksX2_tests_0 5 rfl rfl)
theorem dX2_tests_8 : decode cX2_tests 8 = .ok (.iconst 0, 1) := dk_3 (dk_at dksX2_tests_0 8 rfl rfl)
theorem dX2_tests_9 : decode cX2_tests 9 = .ok (.goto 9, 3) := dk_167 0 9 (dk_at dksX2_tests_0 9 rfl rfl)
theorem dX2_tests_12 : decode cX2_tests 12 = .ok (.aload_n 0, 1) := dk_42 (dk_at dksX2_tests_0 12 rfl rfl)
theorem dX2_tests_13 : decode cX2_tests 13 = .ok (.getfield 31, 3) := dk_180 0 31 (dk_at dksX2_tests_0 13 rfl rfl)
theorem dX2_tests_16 : decode cX2_tests 16 = .ok (.iload_n 1, 1) := dk_27 (dk_at dksX2_tests_0 16 rfl rfl)
theorem dX2_tests_17 : decode cX2_tests 17 = .ok (.iaload, 1) := dk_46 (dk_at dksX2_tests_0 17 rfl rfl)
theorem dX2_tests_18 : decode cX2_tests 18 = .ok (.ireturn, 1) := dk_172 (dk_at dksX2_tests_0 18 rfl rfl)
abbrev cX2_outcomes : ByteArray := prog_15_method_59_code
def yX2_outcomes : MethodName := ⟨RX2, "outcomes", "(I)I"⟩
def dkwX2_outcomes_2 : List UInt8 := [167, 0, 8, 4, 167, 0, 4, 3, 128, 61, 132, 3, 1, 167, 255, 213, 28, 172]
abbrev dktX2_outcomes_2 : List UInt8 := dkwX2_outcomes_2 ++ []
def dkwX2_outcomes_1 : List UInt8 := [180, 0, 31, 27, 46, 29, 184, 0, 145, 153, 0, 20, 42, 27, 29, 182, 0, 166, 153, 0, 7, 5]
abbrev dktX2_outcomes_1 : List UInt8 := dkwX2_outcomes_1 ++ dktX2_outcomes_2
def dkwX2_outcomes_0 : List UInt8 := [42, 27, 182, 0, 133, 153, 0, 5, 3, 172, 3, 61, 3, 62, 29, 16, 16, 162, 0, 43, 28, 42]
abbrev dktX2_outcomes_0 : List UInt8 := dkwX2_outcomes_0 ++ dktX2_outcomes_1
theorem dksX2_outcomes_0 : cX2_outcomes.data.toList.drop 0 = dktX2_outcomes_0 := by decide +kernel
theorem dksX2_outcomes_1 : cX2_outcomes.data.toList.drop 22 = dktX2_outcomes_1 := dk_seg dksX2_outcomes_0 22 rfl rfl
theorem dksX2_outcomes_2 : cX2_outcomes.data.toList.drop 44 = dktX2_outcomes_2 := dk_seg dksX2_outcomes_1 22 rfl rfl
theorem dX2_outcomes_0 : decode cX2_outcomes 0 = .ok (.aload_n 0, 1) := dk_42 (dk_at dksX2_outcomes_0 0 rfl rfl)
theorem dX2_outcomes_1 : decode cX2_outcomes 1 = .ok (.iload_n 1, 1) := dk_27 (dk_at dksX2_outcomes_0 1 rfl rfl)
theorem dX2_outcomes_2 : decode cX2_outcomes 2 = .ok (.invokevirtual 133, 3) := dk_182 0 133 (dk_at dksX2_outcomes_0 2 rfl rfl)
theorem dX2_outcomes_5 : decode cX2_outcomes 5 = .ok (.ifCond .eq 5, 3) := dk_153 0 5 (dk_at dksX2_outcomes_0 5 rfl rfl)
theorem dX2_outcomes_8 : decode cX2_outcomes 8 = .ok (.iconst 0, 1) := dk_3 (dk_at dksX2_outcomes_0 8 rfl rfl)
theorem dX2_outcomes_9 : decode cX2_outcomes 9 = .ok (.ireturn, 1) := dk_172 (dk_at dksX2_outcomes_0 9 rfl rfl)
theorem dX2_outcomes_10 : decode cX2_outcomes 10 = .ok (.iconst 0, 1) := dk_3 (dk_at dksX2_outcomes_0 10 rfl rfl)
theorem dX2_outcomes_11 : decode cX2_outcomes 11 = .ok (.istore_n 2, 1) := dk_61 (dk_at dksX2_outcomes_0 11 rfl rfl)
theorem dX2_outcomes_12 : decode cX2_outcomes 12 = .ok (.iconst 0, 1) := dk_3 (dk_at dksX2_outcomes_0 12 rfl rfl)
theorem dX2_outcomes_13 : decode cX2_outcomes 13 = .ok (.istore_n 3, 1) := dk_62 (dk_at dksX2_outcomes_0 13 rfl rfl)
theorem dX2_outcomes_14 : decode cX2_outcomes 14 = .ok (.iload_n 3, 1) := dk_29 (dk_at dksX2_outcomes_0 14 rfl rfl)
theorem dX2_outcomes_15 : decode cX2_outcomes 15 = .ok (.bipush 16, 2) := dk_16 16 (dk_at dksX2_outcomes_0 15 rfl rfl)
theorem dX2_outcomes_17 : decode cX2_outcomes 17 = .ok (.if_icmp .ge 43, 3) := dk_162 0 43 (dk_at dksX2_outcomes_0 17 rfl rfl)
theorem dX2_outcomes_20 : decode cX2_outcomes 20 = .ok (.iload_n 2, 1) := dk_28 (dk_at dksX2_outcomes_0 20 rfl rfl)
theorem dX2_outcomes_21 : decode cX2_outcomes 21 = .ok (.aload_n 0, 1) := dk_42 (dk_at dksX2_outcomes_0 21 rfl rfl)
theorem dX2_outcomes_22 : decode cX2_outcomes 22 = .ok (.getfield 31, 3) := dk_180 0 31 (dk_at dksX2_outcomes_1 0 rfl rfl)
theorem dX2_outcomes_25 : decode cX2_outcomes 25 = .ok (.iload_n 1, 1) := dk_27 (dk_at dksX2_outcomes_1 3 rfl rfl)
theorem dX2_outcomes_26 : decode cX2_outcomes 26 = .ok (.iaload, 1) := dk_46 (dk_at dksX2_outcomes_1 4 rfl rfl)
theorem dX2_outcomes_27 : decode cX2_outcomes 27 = .ok (.iload_n 3, 1) := dk_29 (dk_at dksX2_outcomes_1 5 rfl rfl)
theorem dX2_outcomes_28 : decode cX2_outcomes 28 = .ok (.invokestatic 145, 3) := dk_184 0 145 (dk_at dksX2_outcomes_1 6 rfl rfl)
theorem dX2_outcomes_31 : decode cX2_outcomes 31 = .ok (.ifCond .eq 20, 3) := dk_153 0 20 (dk_at dksX2_outcomes_1 9 rfl rfl)
theorem dX2_outcomes_34 : decode cX2_outcomes 34 = .ok (.aload_n 0, 1) := dk_42 (dk_at dksX2_outcomes_1 12 rfl rfl)
theorem dX2_outcomes_35 : decode cX2_outcomes 35 = .ok (.iload_n 1, 1) := dk_27 (dk_at dksX2_outcomes_1 13 rfl rfl)
theorem dX2_outcomes_36 : decode cX2_outcomes 36 = .ok (.iload_n 3, 1) := dk_29 (dk_at dksX2_outcomes_1 14 rfl rfl)
theorem dX2_outcomes_37 : decode cX2_outcomes 37 = .ok (.invokevirtual 166, 3) := dk_182 0 166 (dk_at dksX2_outcomes_1 15 rfl rfl)
theorem dX2_outcomes_40 : decode cX2_outcomes 40 = .ok (.ifCond .eq 7, 3) := dk_153 0 7 (dk_at dksX2_outcomes_1 18 rfl rfl)
theorem dX2_outcomes_43 : decode cX2_outcomes 43 = .ok (.iconst 2, 1) := dk_5 (dk_at dksX2_outcomes_1 21 rfl rfl)
theorem dX2_outcomes_44 : decode cX2_outcomes 44 = .ok (.goto 8, 3) := dk_167 0 8 (dk_at dksX2_outcomes_2 0 rfl rfl)
theorem dX2_outcomes_47 : decode cX2_outcomes 47 = .ok (.iconst 1, 1) := dk_4 (dk_at dksX2_outcomes_2 3 rfl rfl)
theorem dX2_outcomes_48 : decode cX2_outcomes 48 = .ok (.goto 4, 3) := dk_167 0 4 (dk_at dksX2_outcomes_2 4 rfl rfl)
theorem dX2_outcomes_51 : decode cX2_outcomes 51 = .ok (.iconst 0, 1) := dk_3 (dk_at dksX2_outcomes_2 7 rfl rfl)
theorem dX2_outcomes_52 : decode cX2_outcomes 52 = .ok (.ior, 1) := dk_128 (dk_at dksX2_outcomes_2 8 rfl rfl)
theorem dX2_outcomes_53 : decode cX2_outcomes 53 = .ok (.istore_n 2, 1) := dk_61 (dk_at dksX2_outcomes_2 9 rfl rfl)
theorem dX2_outcomes_54 : decode cX2_outcomes 54 = .ok (.iinc 3 1, 3) := dk_132 3 1 (dk_at dksX2_outcomes_2 10 rfl rfl)
theorem dX2_outcomes_57 : decode cX2_outcomes 57 = .ok (.goto (-43), 3) := dk_167 255 213 (dk_at dksX2_outcomes_2 13 rfl rfl)
theorem dX2_outcomes_60 : decode cX2_outcomes 60 = .ok (.iload_n 2, 1) := dk_28 (dk_at dksX2_outcomes_2 16 rfl rfl)
theorem dX2_outcomes_61 : decode cX2_outcomes 61 = .ok (.ireturn, 1) := dk_172 (dk_at dksX2_outcomes_2 17 rfl rfl)
abbrev cX2_seenBoth : ByteArray := prog_15_method_60_code
def yX2_seenBoth : MethodName := ⟨RX2, "seenBoth", "(I)I"⟩
def dkwX2_seenBoth_3 : List UInt8 := [182, 0, 154, 2, 130, 126, 128, 62, 132, 4, 1, 167, 255, 191, 28, 29, 126, 172]
abbrev dktX2_seenBoth_3 : List UInt8 := dkwX2_seenBoth_3 ++ []
def dkwX2_seenBoth_2 : List UInt8 := [42, 180, 0, 148, 42, 27, 21, 4, 182, 0, 154, 126, 128, 61, 29, 42, 180, 0, 148, 42, 27, 21, 4]
abbrev dktX2_seenBoth_2 : List UInt8 := dkwX2_seenBoth_2 ++ dktX2_seenBoth_3
def dkwX2_seenBoth_1 : List UInt8 := [42, 180, 0, 31, 27, 46, 21, 4, 184, 0, 145, 153, 0, 44, 42, 27, 21, 4, 182, 0, 166, 54, 5, 28]
abbrev dktX2_seenBoth_1 : List UInt8 := dkwX2_seenBoth_1 ++ dktX2_seenBoth_2
def dkwX2_seenBoth_0 : List UInt8 := [42, 27, 182, 0, 133, 153, 0, 5, 3, 172, 3, 61, 3, 62, 3, 54, 4, 21, 4, 16, 16, 162, 0, 64]
abbrev dktX2_seenBoth_0 : List UInt8 := dkwX2_seenBoth_0 ++ dktX2_seenBoth_1
theorem dksX2_seenBoth_0 : cX2_seenBoth.data.toList.drop 0 = dktX2_seenBoth_0 := by decide +kernel
theorem dksX2_seenBoth_1 : cX2_seenBoth.data.toList.drop 24 = dktX2_seenBoth_1 := dk_seg dksX2_seenBoth_0 24 rfl rfl
theorem dksX2_seenBoth_2 : cX2_seenBoth.data.toList.drop 48 = dktX2_seenBoth_2 := dk_seg dksX2_seenBoth_1 24 rfl rfl
theorem dksX2_seenBoth_3 : cX2_seenBoth.data.toList.drop 71 = dktX2_seenBoth_3 := dk_seg dksX2_seenBoth_2 23 rfl rfl
theorem dX2_seenBoth_0 : decode cX2_seenBoth 0 = .ok (.aload_n 0, 1) := dk_42 (dk_at dksX2_seenBoth_0 0 rfl rfl)
theorem dX2_seenBoth_1 : decode cX2_seenBoth 1 = .ok (.iload_n 1, 1) := dk_27 (dk_at dksX2_seenBoth_0 1 rfl rfl)
theorem dX2_seenBoth_2 : decode cX2_seenBoth 2 = .ok (.invokevirtual 133, 3) := dk_182 0 133 (dk_at dksX2_seenBoth_0 2 rfl rfl)
theorem dX2_seenBoth_5 : decode cX2_seenBoth 5 = .ok (.ifCond .eq 5, 3) := dk_153 0 5 (dk_at dksX2_seenBoth_0 5 rfl rfl)
theorem dX2_seenBoth_8 : decode cX2_seenBoth 8 = .ok (.iconst 0, 1) := dk_3 (dk_at dksX2_seenBoth_0 8 rfl rfl)
theorem dX2_seenBoth_9 : decode cX2_seenBoth 9 = .ok (.ireturn, 1) := dk_172 (dk_at dksX2_seenBoth_0 9 rfl rfl)
theorem dX2_seenBoth_10 : decode cX2_seenBoth 10 = .ok (.iconst 0, 1) := dk_3 (dk_at dksX2_seenBoth_0 10 rfl rfl)
theorem dX2_seenBoth_11 : decode cX2_seenBoth 11 = .ok (.istore_n 2, 1) := dk_61 (dk_at dksX2_seenBoth_0 11 rfl rfl)
theorem dX2_seenBoth_12 : decode cX2_seenBoth 12 = .ok (.iconst 0, 1) := dk_3 (dk_at dksX2_seenBoth_0 12 rfl rfl)
theorem dX2_seenBoth_13 : decode cX2_seenBoth 13 = .ok (.istore_n 3, 1) := dk_62 (dk_at dksX2_seenBoth_0 13 rfl rfl)
theorem dX2_seenBoth_14 : decode cX2_seenBoth 14 = .ok (.iconst 0, 1) := dk_3 (dk_at dksX2_seenBoth_0 14 rfl rfl)
theorem dX2_seenBoth_15 : decode cX2_seenBoth 15 = .ok (.istore 4, 2) := dk_54 4 (dk_at dksX2_seenBoth_0 15 rfl rfl)
theorem dX2_seenBoth_17 : decode cX2_seenBoth 17 = .ok (.iload 4, 2) := dk_21 4 (dk_at dksX2_seenBoth_0 17 rfl rfl)
theorem dX2_seenBoth_19 : decode cX2_seenBoth 19 = .ok (.bipush 16, 2) := dk_16 16 (dk_at dksX2_seenBoth_0 19 rfl rfl)
theorem dX2_seenBoth_21 : decode cX2_seenBoth 21 = .ok (.if_icmp .ge 64, 3) := dk_162 0 64 (dk_at dksX2_seenBoth_0 21 rfl rfl)
theorem dX2_seenBoth_24 : decode cX2_seenBoth 24 = .ok (.aload_n 0, 1) := dk_42 (dk_at dksX2_seenBoth_1 0 rfl rfl)
theorem dX2_seenBoth_25 : decode cX2_seenBoth 25 = .ok (.getfield 31, 3) := dk_180 0 31 (dk_at dksX2_seenBoth_1 1 rfl rfl)
theorem dX2_seenBoth_28 : decode cX2_seenBoth 28 = .ok (.iload_n 1, 1) := dk_27 (dk_at dksX2_seenBoth_1 4 rfl rfl)
theorem dX2_seenBoth_29 : decode cX2_seenBoth 29 = .ok (.iaload, 1) := dk_46 (dk_at dksX2_seenBoth_1 5 rfl rfl)
theorem dX2_seenBoth_30 : decode cX2_seenBoth 30 = .ok (.iload 4, 2) := dk_21 4 (dk_at dksX2_seenBoth_1 6 rfl rfl)
theorem dX2_seenBoth_32 : decode cX2_seenBoth 32 = .ok (.invokestatic 145, 3) := dk_184 0 145 (dk_at dksX2_seenBoth_1 8 rfl rfl)
theorem dX2_seenBoth_35 : decode cX2_seenBoth 35 = .ok (.ifCond .eq 44, 3) := dk_153 0 44 (dk_at dksX2_seenBoth_1 11 rfl rfl)
theorem dX2_seenBoth_38 : decode cX2_seenBoth 38 = .ok (.aload_n 0, 1) := dk_42 (dk_at dksX2_seenBoth_1 14 rfl rfl)
theorem dX2_seenBoth_39 : decode cX2_seenBoth 39 = .ok (.iload_n 1, 1) := dk_27 (dk_at dksX2_seenBoth_1 15 rfl rfl)
theorem dX2_seenBoth_40 : decode cX2_seenBoth 40 = .ok (.iload 4, 2) := dk_21 4 (dk_at dksX2_seenBoth_1 16 rfl rfl)
theorem dX2_seenBoth_42 : decode cX2_seenBoth 42 = .ok (.invokevirtual 166, 3) := dk_182 0 166 (dk_at dksX2_seenBoth_1 18 rfl rfl)
theorem dX2_seenBoth_45 : decode cX2_seenBoth 45 = .ok (.istore 5, 2) := dk_54 5 (dk_at dksX2_seenBoth_1 21 rfl rfl)
theorem dX2_seenBoth_47 : decode cX2_seenBoth 47 = .ok (.iload_n 2, 1) := dk_28 (dk_at dksX2_seenBoth_1 23 rfl rfl)
theorem dX2_seenBoth_48 : decode cX2_seenBoth 48 = .ok (.aload_n 0, 1) := dk_42 (dk_at dksX2_seenBoth_2 0 rfl rfl)
theorem dX2_seenBoth_49 : decode cX2_seenBoth 49 = .ok (.getfield 148, 3) := dk_180 0 148 (dk_at dksX2_seenBoth_2 1 rfl rfl)
theorem dX2_seenBoth_52 : decode cX2_seenBoth 52 = .ok (.aload_n 0, 1) := dk_42 (dk_at dksX2_seenBoth_2 4 rfl rfl)
theorem dX2_seenBoth_53 : decode cX2_seenBoth 53 = .ok (.iload_n 1, 1) := dk_27 (dk_at dksX2_seenBoth_2 5 rfl rfl)
theorem dX2_seenBoth_54 : decode cX2_seenBoth 54 = .ok (.iload 4, 2) := dk_21 4 (dk_at dksX2_seenBoth_2 6 rfl rfl)
theorem dX2_seenBoth_56 : decode cX2_seenBoth 56 = .ok (.invokevirtual 154, 3) := dk_182 0 154 (dk_at dksX2_seenBoth_2 8 rfl rfl)
theorem dX2_seenBoth_59 : decode cX2_seenBoth 59 = .ok (.iand, 1) := dk_126 (dk_at dksX2_seenBoth_2 11 rfl rfl)
theorem dX2_seenBoth_60 : decode cX2_seenBoth 60 = .ok (.ior, 1) := dk_128 (dk_at dksX2_seenBoth_2 12 rfl rfl)
theorem dX2_seenBoth_61 : decode cX2_seenBoth 61 = .ok (.istore_n 2, 1) := dk_61 (dk_at dksX2_seenBoth_2 13 rfl rfl)
theorem dX2_seenBoth_62 : decode cX2_seenBoth 62 = .ok (.iload_n 3, 1) := dk_29 (dk_at dksX2_seenBoth_2 14 rfl rfl)
theorem dX2_seenBoth_63 : decode cX2_seenBoth 63 = .ok (.aload_n 0, 1) := dk_42 (dk_at dksX2_seenBoth_2 15 rfl rfl)
theorem dX2_seenBoth_64 : decode cX2_seenBoth 64 = .ok (.getfield 148, 3) := dk_180 0 148 (dk_at dksX2_seenBoth_2 16 rfl rfl)
theorem dX2_seenBoth_67 : decode cX2_seenBoth 67 = .ok (.aload_n 0, 1) := dk_42 (dk_at dksX2_seenBoth_2 19 rfl rfl)
theorem dX2_seenBoth_68 : decode cX2_seenBoth 68 = .ok (.iload_n 1, 1) := dk_27 (dk_at dksX2_seenBoth_2 20 rfl rfl)
theorem dX2_seenBoth_69 : decode cX2_seenBoth 69 = .ok (.iload 4, 2) := dk_21 4 (dk_at dksX2_seenBoth_2 21 rfl rfl)
theorem dX2_seenBoth_71 : decode cX2_seenBoth 71 = .ok (.invokevirtual 154, 3) := dk_182 0 154 (dk_at dksX2_seenBoth_3 0 rfl rfl)
theorem dX2_seenBoth_74 : decode cX2_seenBoth 74 = .ok (.iconst (-1), 1) := dk_2 (dk_at dksX2_seenBoth_3 3 rfl rfl)
theorem dX2_seenBoth_75 : decode cX2_seenBoth 75 = .ok (.ixor, 1) := dk_130 (dk_at dksX2_seenBoth_3 4 rfl rfl)
theorem dX2_seenBoth_76 : decode cX2_seenBoth 76 = .ok (.iand, 1) := dk_126 (dk_at dksX2_seenBoth_3 5 rfl rfl)
theorem dX2_seenBoth_77 : decode cX2_seenBoth 77 = .ok (.ior, 1) := dk_128 (dk_at dksX2_seenBoth_3 6 rfl rfl)
theorem dX2_seenBoth_78 : decode cX2_seenBoth 78 = .ok (.istore_n 3, 1) := dk_62 (dk_at dksX2_seenBoth_3 7 rfl rfl)
theorem dX2_seenBoth_79 : decode cX2_seenBoth 79 = .ok (.iinc 4 1, 3) := dk_132 4 1 (dk_at dksX2_seenBoth_3 8 rfl rfl)
theorem dX2_seenBoth_82 : decode cX2_seenBoth 82 = .ok (.goto (-65), 3) := dk_167 255 191 (dk_at dksX2_seenBoth_3 11 rfl rfl)
theorem dX2_seenBoth_85 : decode cX2_seenBoth 85 = .ok (.iload_n 2, 1) := dk_28 (dk_at dksX2_seenBoth_3 14 rfl rfl)
theorem dX2_seenBoth_86 : decode cX2_seenBoth 86 = .ok (.iload_n 3, 1) := dk_29 (dk_at dksX2_seenBoth_3 15 rfl rfl)
theorem dX2_seenBoth_87 : decode cX2_seenBoth 87 = .ok (.iand, 1) := dk_126 (dk_at dksX2_seenBoth_3 16 rfl rfl)
theorem dX2_seenBoth_88 : decode cX2_seenBoth 88 = .ok (.ireturn, 1) := dk_172 (dk_at dksX2_seenBoth_3 17 rfl rfl)
abbrev cX2_covered : ByteArray := prog_15_method_61_code
def yX2_covered : MethodName := ⟨RX2, "covered", "(II)I"⟩
def dkwX2_covered_1 : List UInt8 := [182, 0, 205, 172]
abbrev dktX2_covered_1 : List UInt8 := dkwX2_covered_1 ++ []
def dkwX2_covered_0 : List UInt8 := [42, 27, 28, 182, 0, 201, 153, 0, 5, 3, 172, 42, 27, 28, 182, 0, 197, 42, 42, 180, 0, 31, 27, 46]
abbrev dktX2_covered_0 : List UInt8 := dkwX2_covered_0 ++ dktX2_covered_1
theorem dksX2_covered_0 : cX2_covered.data.toList.drop 0 = dktX2_covered_0 := by decide +kernel
theorem dksX2_covered_1 : cX2_covered.data.toList.drop 24 = dktX2_covered_1 := dk_seg dksX2_covered_0 24 rfl rfl
theorem dX2_covered_0 : decode cX2_covered 0 = .ok (.aload_n 0, 1) := dk_42 (dk_at dksX2_covered_0 0 rfl rfl)
theorem dX2_covered_1 : decode cX2_covered 1 = .ok (.iload_n 1, 1) := dk_27 (dk_at dksX2_covered_0 1 rfl rfl)
theorem dX2_covered_2 : decode cX2_covered 2 = .ok (.iload_n 2, 1) := dk_28 (dk_at dksX2_covered_0 2 rfl rfl)
theorem dX2_covered_3 : decode cX2_covered 3 = .ok (.invokevirtual 201, 3) := dk_182 0 201 (dk_at dksX2_covered_0 3 rfl rfl)
theorem dX2_covered_6 : decode cX2_covered 6 = .ok (.ifCond .eq 5, 3) := dk_153 0 5 (dk_at dksX2_covered_0 6 rfl rfl)
theorem dX2_covered_9 : decode cX2_covered 9 = .ok (.iconst 0, 1) := dk_3 (dk_at dksX2_covered_0 9 rfl rfl)
theorem dX2_covered_10 : decode cX2_covered 10 = .ok (.ireturn, 1) := dk_172 (dk_at dksX2_covered_0 10 rfl rfl)
theorem dX2_covered_11 : decode cX2_covered 11 = .ok (.aload_n 0, 1) := dk_42 (dk_at dksX2_covered_0 11 rfl rfl)
theorem dX2_covered_12 : decode cX2_covered 12 = .ok (.iload_n 1, 1) := dk_27 (dk_at dksX2_covered_0 12 rfl rfl)
theorem dX2_covered_13 : decode cX2_covered 13 = .ok (.iload_n 2, 1) := dk_28 (dk_at dksX2_covered_0 13 rfl rfl)
theorem dX2_covered_14 : decode cX2_covered 14 = .ok (.invokevirtual 197, 3) := dk_182 0 197 (dk_at dksX2_covered_0 14 rfl rfl)
theorem dX2_covered_17 : decode cX2_covered 17 = .ok (.aload_n 0, 1) := dk_42 (dk_at dksX2_covered_0 17 rfl rfl)
theorem dX2_covered_18 : decode cX2_covered 18 = .ok (.aload_n 0, 1) := dk_42 (dk_at dksX2_covered_0 18 rfl rfl)
theorem dX2_covered_19 : decode cX2_covered 19 = .ok (.getfield 31, 3) := dk_180 0 31 (dk_at dksX2_covered_0 19 rfl rfl)
theorem dX2_covered_22 : decode cX2_covered 22 = .ok (.iload_n 1, 1) := dk_27 (dk_at dksX2_covered_0 22 rfl rfl)
theorem dX2_covered_23 : decode cX2_covered 23 = .ok (.iaload, 1) := dk_46 (dk_at dksX2_covered_0 23 rfl rfl)
theorem dX2_covered_24 : decode cX2_covered 24 = .ok (.invokevirtual 205, 3) := dk_182 0 205 (dk_at dksX2_covered_1 0 rfl rfl)
theorem dX2_covered_27 : decode cX2_covered 27 = .ok (.ireturn, 1) := dk_172 (dk_at dksX2_covered_1 3 rfl rfl)
abbrev cX2_suggest : ByteArray := prog_15_method_62_code
def yX2_suggest : MethodName := ⟨RX2, "suggest", "(II)I"⟩
def dkwX2_suggest_5 : List UInt8 := [167, 255, 178, 21, 4, 172]
abbrev dktX2_suggest_5 : List UInt8 := dkwX2_suggest_5 ++ []
def dkwX2_suggest_4 : List UInt8 := [180, 0, 31, 27, 46, 4, 21, 5, 120, 128, 182, 0, 205, 184, 0, 184, 62, 21, 5, 54, 4, 132, 5, 1]
abbrev dktX2_suggest_4 : List UInt8 := dkwX2_suggest_4 ++ dktX2_suggest_5
def dkwX2_suggest_3 : List UInt8 := [180, 0, 31, 27, 46, 4, 21, 5, 120, 128, 182, 0, 205, 184, 0, 184, 29, 164, 0, 26, 42, 42]
abbrev dktX2_suggest_3 : List UInt8 := dkwX2_suggest_3 ++ dktX2_suggest_4
def dkwX2_suggest_2 : List UInt8 := [182, 0, 172, 153, 0, 62, 42, 180, 0, 31, 27, 46, 21, 5, 184, 0, 145, 154, 0, 48, 42, 42]
abbrev dktX2_suggest_2 : List UInt8 := dkwX2_suggest_2 ++ dktX2_suggest_3
def dkwX2_suggest_1 : List UInt8 := [182, 0, 205, 184, 0, 184, 62, 2, 54, 4, 3, 54, 5, 21, 5, 16, 16, 162, 0, 77, 42, 21, 5]
abbrev dktX2_suggest_1 : List UInt8 := dkwX2_suggest_1 ++ dktX2_suggest_2
def dkwX2_suggest_0 : List UInt8 := [42, 27, 28, 182, 0, 201, 153, 0, 5, 3, 172, 42, 27, 28, 182, 0, 197, 42, 42, 180, 0, 31, 27, 46]
abbrev dktX2_suggest_0 : List UInt8 := dkwX2_suggest_0 ++ dktX2_suggest_1
theorem dksX2_suggest_0 : cX2_suggest.data.toList.drop 0 = dktX2_suggest_0 := by decide +kernel
theorem dksX2_suggest_1 : cX2_suggest.data.toList.drop 24 = dktX2_suggest_1 := dk_seg dksX2_suggest_0 24 rfl rfl
theorem dksX2_suggest_2 : cX2_suggest.data.toList.drop 47 = dktX2_suggest_2 := dk_seg dksX2_suggest_1 23 rfl rfl
theorem dksX2_suggest_3 : cX2_suggest.data.toList.drop 69 = dktX2_suggest_3 := dk_seg dksX2_suggest_2 22 rfl rfl
theorem dksX2_suggest_4 : cX2_suggest.data.toList.drop 91 = dktX2_suggest_4 := dk_seg dksX2_suggest_3 22 rfl rfl
theorem dksX2_suggest_5 : cX2_suggest.data.toList.drop 115 = dktX2_suggest_5 := dk_seg dksX2_suggest_4 24 rfl rfl
theorem dX2_suggest_0 : decode cX2_suggest 0 = .ok (.aload_n 0, 1) := dk_42 (dk_at dksX2_suggest_0 0 rfl rfl)
theorem dX2_suggest_1 : decode cX2_suggest 1 = .ok (.iload_n 1, 1) := dk_27 (dk_at dksX2_suggest_0 1 rfl rfl)
theorem dX2_suggest_2 : decode cX2_suggest 2 = .ok (.iload_n 2, 1) := dk_28 (dk_at dksX2_suggest_0 2 rfl rfl)
theorem dX2_suggest_3 : decode cX2_suggest 3 = .ok (.invokevirtual 201, 3) := dk_182 0 201 (dk_at dksX2_suggest_0 3 rfl rfl)
theorem dX2_suggest_6 : decode cX2_suggest 6 = .ok (.ifCond .eq 5, 3) := dk_153 0 5 (dk_at dksX2_suggest_0 6 rfl rfl)
theorem dX2_suggest_9 : decode cX2_suggest 9 = .ok (.iconst 0, 1) := dk_3 (dk_at dksX2_suggest_0 9 rfl rfl)
theorem dX2_suggest_10 : decode cX2_suggest 10 = .ok (.ireturn, 1) := dk_172 (dk_at dksX2_suggest_0 10 rfl rfl)
theorem dX2_suggest_11 : decode cX2_suggest 11 = .ok (.aload_n 0, 1) := dk_42 (dk_at dksX2_suggest_0 11 rfl rfl)
theorem dX2_suggest_12 : decode cX2_suggest 12 = .ok (.iload_n 1, 1) := dk_27 (dk_at dksX2_suggest_0 12 rfl rfl)
theorem dX2_suggest_13 : decode cX2_suggest 13 = .ok (.iload_n 2, 1) := dk_28 (dk_at dksX2_suggest_0 13 rfl rfl)
theorem dX2_suggest_14 : decode cX2_suggest 14 = .ok (.invokevirtual 197, 3) := dk_182 0 197 (dk_at dksX2_suggest_0 14 rfl rfl)
theorem dX2_suggest_17 : decode cX2_suggest 17 = .ok (.aload_n 0, 1) := dk_42 (dk_at dksX2_suggest_0 17 rfl rfl)
theorem dX2_suggest_18 : decode cX2_suggest 18 = .ok (.aload_n 0, 1) := dk_42 (dk_at dksX2_suggest_0 18 rfl rfl)
theorem dX2_suggest_19 : decode cX2_suggest 19 = .ok (.getfield 31, 3) := dk_180 0 31 (dk_at dksX2_suggest_0 19 rfl rfl)
theorem dX2_suggest_22 : decode cX2_suggest 22 = .ok (.iload_n 1, 1) := dk_27 (dk_at dksX2_suggest_0 22 rfl rfl)
theorem dX2_suggest_23 : decode cX2_suggest 23 = .ok (.iaload, 1) := dk_46 (dk_at dksX2_suggest_0 23 rfl rfl)
theorem dX2_suggest_24 : decode cX2_suggest 24 = .ok (.invokevirtual 205, 3) := dk_182 0 205 (dk_at dksX2_suggest_1 0 rfl rfl)
theorem dX2_suggest_27 : decode cX2_suggest 27 = .ok (.invokestatic 184, 3) := dk_184 0 184 (dk_at dksX2_suggest_1 3 rfl rfl)
theorem dX2_suggest_30 : decode cX2_suggest 30 = .ok (.istore_n 3, 1) := dk_62 (dk_at dksX2_suggest_1 6 rfl rfl)
theorem dX2_suggest_31 : decode cX2_suggest 31 = .ok (.iconst (-1), 1) := dk_2 (dk_at dksX2_suggest_1 7 rfl rfl)
theorem dX2_suggest_32 : decode cX2_suggest 32 = .ok (.istore 4, 2) := dk_54 4 (dk_at dksX2_suggest_1 8 rfl rfl)
theorem dX2_suggest_34 : decode cX2_suggest 34 = .ok (.iconst 0, 1) := dk_3 (dk_at dksX2_suggest_1 10 rfl rfl)
theorem dX2_suggest_35 : decode cX2_suggest 35 = .ok (.istore 5, 2) := dk_54 5 (dk_at dksX2_suggest_1 11 rfl rfl)
theorem dX2_suggest_37 : decode cX2_suggest 37 = .ok (.iload 5, 2) := dk_21 5 (dk_at dksX2_suggest_1 13 rfl rfl)
theorem dX2_suggest_39 : decode cX2_suggest 39 = .ok (.bipush 16, 2) := dk_16 16 (dk_at dksX2_suggest_1 15 rfl rfl)
theorem dX2_suggest_41 : decode cX2_suggest 41 = .ok (.if_icmp .ge 77, 3) := dk_162 0 77 (dk_at dksX2_suggest_1 17 rfl rfl)
theorem dX2_suggest_44 : decode cX2_suggest 44 = .ok (.aload_n 0, 1) := dk_42 (dk_at dksX2_suggest_1 20 rfl rfl)
theorem dX2_suggest_45 : decode cX2_suggest 45 = .ok (.iload 5, 2) := dk_21 5 (dk_at dksX2_suggest_1 21 rfl rfl)
theorem dX2_suggest_47 : decode cX2_suggest 47 = .ok (.invokevirtual 172, 3) := dk_182 0 172 (dk_at dksX2_suggest_2 0 rfl rfl)
theorem dX2_suggest_50 : decode cX2_suggest 50 = .ok (.ifCond .eq 62, 3) := dk_153 0 62 (dk_at dksX2_suggest_2 3 rfl rfl)
theorem dX2_suggest_53 : decode cX2_suggest 53 = .ok (.aload_n 0, 1) := dk_42 (dk_at dksX2_suggest_2 6 rfl rfl)
theorem dX2_suggest_54 : decode cX2_suggest 54 = .ok (.getfield 31, 3) := dk_180 0 31 (dk_at dksX2_suggest_2 7 rfl rfl)
theorem dX2_suggest_57 : decode cX2_suggest 57 = .ok (.iload_n 1, 1) := dk_27 (dk_at dksX2_suggest_2 10 rfl rfl)
theorem dX2_suggest_58 : decode cX2_suggest 58 = .ok (.iaload, 1) := dk_46 (dk_at dksX2_suggest_2 11 rfl rfl)
theorem dX2_suggest_59 : decode cX2_suggest 59 = .ok (.iload 5, 2) := dk_21 5 (dk_at dksX2_suggest_2 12 rfl rfl)
theorem dX2_suggest_61 : decode cX2_suggest 61 = .ok (.invokestatic 145, 3) := dk_184 0 145 (dk_at dksX2_suggest_2 14 rfl rfl)
theorem dX2_suggest_64 : decode cX2_suggest 64 = .ok (.ifCond .ne 48, 3) := dk_154 0 48 (dk_at dksX2_suggest_2 17 rfl rfl)
theorem dX2_suggest_67 : decode cX2_suggest 67 = .ok (.aload_n 0, 1) := dk_42 (dk_at dksX2_suggest_2 20 rfl rfl)
theorem dX2_suggest_68 : decode cX2_suggest 68 = .ok (.aload_n 0, 1) := dk_42 (dk_at dksX2_suggest_2 21 rfl rfl)
theorem dX2_suggest_69 : decode cX2_suggest 69 = .ok (.getfield 31, 3) := dk_180 0 31 (dk_at dksX2_suggest_3 0 rfl rfl)
theorem dX2_suggest_72 : decode cX2_suggest 72 = .ok (.iload_n 1, 1) := dk_27 (dk_at dksX2_suggest_3 3 rfl rfl)
theorem dX2_suggest_73 : decode cX2_suggest 73 = .ok (.iaload, 1) := dk_46 (dk_at dksX2_suggest_3 4 rfl rfl)
theorem dX2_suggest_74 : decode cX2_suggest 74 = .ok (.iconst 1, 1) := dk_4 (dk_at dksX2_suggest_3 5 rfl rfl)
theorem dX2_suggest_75 : decode cX2_suggest 75 = .ok (.iload 5, 2) := dk_21 5 (dk_at dksX2_suggest_3 6 rfl rfl)
theorem dX2_suggest_77 : decode cX2_suggest 77 = .ok (.ishl, 1) := dk_120 (dk_at dksX2_suggest_3 8 rfl rfl)
theorem dX2_suggest_78 : decode cX2_suggest 78 = .ok (.ior, 1) := dk_128 (dk_at dksX2_suggest_3 9 rfl rfl)
theorem dX2_suggest_79 : decode cX2_suggest 79 = .ok (.invokevirtual 205, 3) := dk_182 0 205 (dk_at dksX2_suggest_3 10 rfl rfl)
theorem dX2_suggest_82 : decode cX2_suggest 82 = .ok (.invokestatic 184, 3) := dk_184 0 184 (dk_at dksX2_suggest_3 13 rfl rfl)
theorem dX2_suggest_85 : decode cX2_suggest 85 = .ok (.iload_n 3, 1) := dk_29 (dk_at dksX2_suggest_3 16 rfl rfl)
theorem dX2_suggest_86 : decode cX2_suggest 86 = .ok (.if_icmp .le 26, 3) := dk_164 0 26 (dk_at dksX2_suggest_3 17 rfl rfl)
theorem dX2_suggest_89 : decode cX2_suggest 89 = .ok (.aload_n 0, 1) := dk_42 (dk_at dksX2_suggest_3 20 rfl rfl)
theorem dX2_suggest_90 : decode cX2_suggest 90 = .ok (.aload_n 0, 1) := dk_42 (dk_at dksX2_suggest_3 21 rfl rfl)
theorem dX2_suggest_91 : decode cX2_suggest 91 = .ok (.getfield 31, 3) := dk_180 0 31 (dk_at dksX2_suggest_4 0 rfl rfl)
theorem dX2_suggest_94 : decode cX2_suggest 94 = .ok (.iload_n 1, 1) := dk_27 (dk_at dksX2_suggest_4 3 rfl rfl)
theorem dX2_suggest_95 : decode cX2_suggest 95 = .ok (.iaload, 1) := dk_46 (dk_at dksX2_suggest_4 4 rfl rfl)
theorem dX2_suggest_96 : decode cX2_suggest 96 = .ok (.iconst 1, 1) := dk_4 (dk_at dksX2_suggest_4 5 rfl rfl)
theorem dX2_suggest_97 : decode cX2_suggest 97 = .ok (.iload 5, 2) := dk_21 5 (dk_at dksX2_suggest_4 6 rfl rfl)
theorem dX2_suggest_99 : decode cX2_suggest 99 = .ok (.ishl, 1) := dk_120 (dk_at dksX2_suggest_4 8 rfl rfl)
theorem dX2_suggest_100 : decode cX2_suggest 100 = .ok (.ior, 1) := dk_128 (dk_at dksX2_suggest_4 9 rfl rfl)
theorem dX2_suggest_101 : decode cX2_suggest 101 = .ok (.invokevirtual 205, 3) := dk_182 0 205 (dk_at dksX2_suggest_4 10 rfl rfl)
theorem dX2_suggest_104 : decode cX2_suggest 104 = .ok (.invokestatic 184, 3) := dk_184 0 184 (dk_at dksX2_suggest_4 13 rfl rfl)
theorem dX2_suggest_107 : decode cX2_suggest 107 = .ok (.istore_n 3, 1) := dk_62 (dk_at dksX2_suggest_4 16 rfl rfl)
theorem dX2_suggest_108 : decode cX2_suggest 108 = .ok (.iload 5, 2) := dk_21 5 (dk_at dksX2_suggest_4 17 rfl rfl)
theorem dX2_suggest_110 : decode cX2_suggest 110 = .ok (.istore 4, 2) := dk_54 4 (dk_at dksX2_suggest_4 19 rfl rfl)
theorem dX2_suggest_112 : decode cX2_suggest 112 = .ok (.iinc 5 1, 3) := dk_132 5 1 (dk_at dksX2_suggest_4 21 rfl rfl)
theorem dX2_suggest_115 : decode cX2_suggest 115 = .ok (.goto (-78), 3) := dk_167 255 178 (dk_at dksX2_suggest_5 0 rfl rfl)
theorem dX2_suggest_118 : decode cX2_suggest 118 = .ok (.iload 4, 2) := dk_21 4 (dk_at dksX2_suggest_5 3 rfl rfl)
theorem dX2_suggest_120 : decode cX2_suggest 120 = .ok (.ireturn, 1) := dk_172 (dk_at dksX2_suggest_5 5 rfl rfl)
abbrev cX2_least : ByteArray := prog_15_method_64_code
def yX2_least : MethodName := ⟨RX2, "least", "(II)I"⟩
def dkwX2_least_1 : List UInt8 := [182, 0, 209, 172]
abbrev dktX2_least_1 : List UInt8 := dkwX2_least_1 ++ []
def dkwX2_least_0 : List UInt8 := [42, 27, 28, 182, 0, 201, 153, 0, 5, 3, 172, 42, 27, 28, 182, 0, 197, 42, 42, 182, 0, 181, 3]
abbrev dktX2_least_0 : List UInt8 := dkwX2_least_0 ++ dktX2_least_1
theorem dksX2_least_0 : cX2_least.data.toList.drop 0 = dktX2_least_0 := by decide +kernel
theorem dksX2_least_1 : cX2_least.data.toList.drop 23 = dktX2_least_1 := dk_seg dksX2_least_0 23 rfl rfl
theorem dX2_least_0 : decode cX2_least 0 = .ok (.aload_n 0, 1) := dk_42 (dk_at dksX2_least_0 0 rfl rfl)
theorem dX2_least_1 : decode cX2_least 1 = .ok (.iload_n 1, 1) := dk_27 (dk_at dksX2_least_0 1 rfl rfl)
theorem dX2_least_2 : decode cX2_least 2 = .ok (.iload_n 2, 1) := dk_28 (dk_at dksX2_least_0 2 rfl rfl)
theorem dX2_least_3 : decode cX2_least 3 = .ok (.invokevirtual 201, 3) := dk_182 0 201 (dk_at dksX2_least_0 3 rfl rfl)
theorem dX2_least_6 : decode cX2_least 6 = .ok (.ifCond .eq 5, 3) := dk_153 0 5 (dk_at dksX2_least_0 6 rfl rfl)
theorem dX2_least_9 : decode cX2_least 9 = .ok (.iconst 0, 1) := dk_3 (dk_at dksX2_least_0 9 rfl rfl)
theorem dX2_least_10 : decode cX2_least 10 = .ok (.ireturn, 1) := dk_172 (dk_at dksX2_least_0 10 rfl rfl)
theorem dX2_least_11 : decode cX2_least 11 = .ok (.aload_n 0, 1) := dk_42 (dk_at dksX2_least_0 11 rfl rfl)
theorem dX2_least_12 : decode cX2_least 12 = .ok (.iload_n 1, 1) := dk_27 (dk_at dksX2_least_0 12 rfl rfl)
theorem dX2_least_13 : decode cX2_least 13 = .ok (.iload_n 2, 1) := dk_28 (dk_at dksX2_least_0 13 rfl rfl)
theorem dX2_least_14 : decode cX2_least 14 = .ok (.invokevirtual 197, 3) := dk_182 0 197 (dk_at dksX2_least_0 14 rfl rfl)
theorem dX2_least_17 : decode cX2_least 17 = .ok (.aload_n 0, 1) := dk_42 (dk_at dksX2_least_0 17 rfl rfl)
theorem dX2_least_18 : decode cX2_least 18 = .ok (.aload_n 0, 1) := dk_42 (dk_at dksX2_least_0 18 rfl rfl)
theorem dX2_least_19 : decode cX2_least 19 = .ok (.invokevirtual 181, 3) := dk_182 0 181 (dk_at dksX2_least_0 19 rfl rfl)
theorem dX2_least_22 : decode cX2_least 22 = .ok (.iconst 0, 1) := dk_3 (dk_at dksX2_least_0 22 rfl rfl)
theorem dX2_least_23 : decode cX2_least 23 = .ok (.invokevirtual 209, 3) := dk_182 0 209 (dk_at dksX2_least_1 0 rfl rfl)
theorem dX2_least_26 : decode cX2_least 26 = .ok (.ireturn, 1) := dk_172 (dk_at dksX2_least_1 3 rfl rfl)
abbrev cX2_smallest : ByteArray := prog_15_method_63_code
def yX2_smallest : MethodName := ⟨RX2, "smallest", "(II)I"⟩
def dkwX2_smallest_3 : List UInt8 := [21, 4, 172]
abbrev dktX2_smallest_3 : List UInt8 := dkwX2_smallest_3 ++ []
def dkwX2_smallest_2 : List UInt8 := [182, 0, 205, 29, 160, 0, 14, 21, 6, 54, 4, 21, 6, 184, 0, 184, 54, 5, 132, 6, 1, 167, 255, 204]
abbrev dktX2_smallest_2 : List UInt8 := dkwX2_smallest_2 ++ dktX2_smallest_3
def dkwX2_smallest_1 : List UInt8 := [21, 6, 27, 2, 130, 126, 154, 0, 36, 21, 6, 184, 0, 184, 21, 5, 162, 0, 26, 42, 21, 6, 28, 128]
abbrev dktX2_smallest_1 : List UInt8 := dkwX2_smallest_1 ++ dktX2_smallest_2
def dkwX2_smallest_0 : List UInt8 := [42, 18, 204, 182, 0, 205, 62, 2, 54, 4, 16, 17, 54, 5, 3, 54, 6, 21, 6, 18, 208, 162, 0, 51]
abbrev dktX2_smallest_0 : List UInt8 := dkwX2_smallest_0 ++ dktX2_smallest_1
theorem dksX2_smallest_0 : cX2_smallest.data.toList.drop 0 = dktX2_smallest_0 := by decide +kernel
theorem dksX2_smallest_1 : cX2_smallest.data.toList.drop 24 = dktX2_smallest_1 := dk_seg dksX2_smallest_0 24 rfl rfl
theorem dksX2_smallest_2 : cX2_smallest.data.toList.drop 48 = dktX2_smallest_2 := dk_seg dksX2_smallest_1 24 rfl rfl
theorem dksX2_smallest_3 : cX2_smallest.data.toList.drop 72 = dktX2_smallest_3 := dk_seg dksX2_smallest_2 24 rfl rfl
theorem dX2_smallest_0 : decode cX2_smallest 0 = .ok (.aload_n 0, 1) := dk_42 (dk_at dksX2_smallest_0 0 rfl rfl)
theorem dX2_smallest_1 : decode cX2_smallest 1 = .ok (.ldc 204, 2) := dk_18 204 (dk_at dksX2_smallest_0 1 rfl rfl)
theorem dX2_smallest_3 : decode cX2_smallest 3 = .ok (.invokevirtual 205, 3) := dk_182 0 205 (dk_at dksX2_smallest_0 3 rfl rfl)
theorem dX2_smallest_6 : decode cX2_smallest 6 = .ok (.istore_n 3, 1) := dk_62 (dk_at dksX2_smallest_0 6 rfl rfl)
theorem dX2_smallest_7 : decode cX2_smallest 7 = .ok (.iconst (-1), 1) := dk_2 (dk_at dksX2_smallest_0 7 rfl rfl)
theorem dX2_smallest_8 : decode cX2_smallest 8 = .ok (.istore 4, 2) := dk_54 4 (dk_at dksX2_smallest_0 8 rfl rfl)
theorem dX2_smallest_10 : decode cX2_smallest 10 = .ok (.bipush 17, 2) := dk_16 17 (dk_at dksX2_smallest_0 10 rfl rfl)
theorem dX2_smallest_12 : decode cX2_smallest 12 = .ok (.istore 5, 2) := dk_54 5 (dk_at dksX2_smallest_0 12 rfl rfl)
theorem dX2_smallest_14 : decode cX2_smallest 14 = .ok (.iconst 0, 1) := dk_3 (dk_at dksX2_smallest_0 14 rfl rfl)
theorem dX2_smallest_15 : decode cX2_smallest 15 = .ok (.istore 6, 2) := dk_54 6 (dk_at dksX2_smallest_0 15 rfl rfl)
theorem dX2_smallest_17 : decode cX2_smallest 17 = .ok (.iload 6, 2) := dk_21 6 (dk_at dksX2_smallest_0 17 rfl rfl)
theorem dX2_smallest_19 : decode cX2_smallest 19 = .ok (.ldc 208, 2) := dk_18 208 (dk_at dksX2_smallest_0 19 rfl rfl)
theorem dX2_smallest_21 : decode cX2_smallest 21 = .ok (.if_icmp .ge 51, 3) := dk_162 0 51 (dk_at dksX2_smallest_0 21 rfl rfl)
theorem dX2_smallest_24 : decode cX2_smallest 24 = .ok (.iload 6, 2) := dk_21 6 (dk_at dksX2_smallest_1 0 rfl rfl)
theorem dX2_smallest_26 : decode cX2_smallest 26 = .ok (.iload_n 1, 1) := dk_27 (dk_at dksX2_smallest_1 2 rfl rfl)
theorem dX2_smallest_27 : decode cX2_smallest 27 = .ok (.iconst (-1), 1) := dk_2 (dk_at dksX2_smallest_1 3 rfl rfl)
theorem dX2_smallest_28 : decode cX2_smallest 28 = .ok (.ixor, 1) := dk_130 (dk_at dksX2_smallest_1 4 rfl rfl)
theorem dX2_smallest_29 : decode cX2_smallest 29 = .ok (.iand, 1) := dk_126 (dk_at dksX2_smallest_1 5 rfl rfl)
theorem dX2_smallest_30 : decode cX2_smallest 30 = .ok (.ifCond .ne 36, 3) := dk_154 0 36 (dk_at dksX2_smallest_1 6 rfl rfl)
theorem dX2_smallest_33 : decode cX2_smallest 33 = .ok (.iload 6, 2) := dk_21 6 (dk_at dksX2_smallest_1 9 rfl rfl)
theorem dX2_smallest_35 : decode cX2_smallest 35 = .ok (.invokestatic 184, 3) := dk_184 0 184 (dk_at dksX2_smallest_1 11 rfl rfl)
theorem dX2_smallest_38 : decode cX2_smallest 38 = .ok (.iload 5, 2) := dk_21 5 (dk_at dksX2_smallest_1 14 rfl rfl)
theorem dX2_smallest_40 : decode cX2_smallest 40 = .ok (.if_icmp .ge 26, 3) := dk_162 0 26 (dk_at dksX2_smallest_1 16 rfl rfl)
theorem dX2_smallest_43 : decode cX2_smallest 43 = .ok (.aload_n 0, 1) := dk_42 (dk_at dksX2_smallest_1 19 rfl rfl)
theorem dX2_smallest_44 : decode cX2_smallest 44 = .ok (.iload 6, 2) := dk_21 6 (dk_at dksX2_smallest_1 20 rfl rfl)
theorem dX2_smallest_46 : decode cX2_smallest 46 = .ok (.iload_n 2, 1) := dk_28 (dk_at dksX2_smallest_1 22 rfl rfl)
theorem dX2_smallest_47 : decode cX2_smallest 47 = .ok (.ior, 1) := dk_128 (dk_at dksX2_smallest_1 23 rfl rfl)
theorem dX2_smallest_48 : decode cX2_smallest 48 = .ok (.invokevirtual 205, 3) := dk_182 0 205 (dk_at dksX2_smallest_2 0 rfl rfl)
theorem dX2_smallest_51 : decode cX2_smallest 51 = .ok (.iload_n 3, 1) := dk_29 (dk_at dksX2_smallest_2 3 rfl rfl)
theorem dX2_smallest_52 : decode cX2_smallest 52 = .ok (.if_icmp .ne 14, 3) := dk_160 0 14 (dk_at dksX2_smallest_2 4 rfl rfl)
theorem dX2_smallest_55 : decode cX2_smallest 55 = .ok (.iload 6, 2) := dk_21 6 (dk_at dksX2_smallest_2 7 rfl rfl)
theorem dX2_smallest_57 : decode cX2_smallest 57 = .ok (.istore 4, 2) := dk_54 4 (dk_at dksX2_smallest_2 9 rfl rfl)
theorem dX2_smallest_59 : decode cX2_smallest 59 = .ok (.iload 6, 2) := dk_21 6 (dk_at dksX2_smallest_2 11 rfl rfl)
theorem dX2_smallest_61 : decode cX2_smallest 61 = .ok (.invokestatic 184, 3) := dk_184 0 184 (dk_at dksX2_smallest_2 13 rfl rfl)
theorem dX2_smallest_64 : decode cX2_smallest 64 = .ok (.istore 5, 2) := dk_54 5 (dk_at dksX2_smallest_2 16 rfl rfl)
theorem dX2_smallest_66 : decode cX2_smallest 66 = .ok (.iinc 6 1, 3) := dk_132 6 1 (dk_at dksX2_smallest_2 18 rfl rfl)
theorem dX2_smallest_69 : decode cX2_smallest 69 = .ok (.goto (-52), 3) := dk_167 255 204 (dk_at dksX2_smallest_2 21 rfl rfl)
theorem dX2_smallest_72 : decode cX2_smallest 72 = .ok (.iload 4, 2) := dk_21 4 (dk_at dksX2_smallest_3 0 rfl rfl)
theorem dX2_smallest_74 : decode cX2_smallest 74 = .ok (.ireturn, 1) := dk_172 (dk_at dksX2_smallest_3 2 rfl rfl)
abbrev cX2_completion : ByteArray := prog_15_method_65_code
def yX2_completion : MethodName := ⟨RX2, "completion", "(II)I"⟩
def dkwX2_completion_1 : List UInt8 := [180, 0, 31, 27, 46, 2, 130, 126, 42, 180, 0, 31, 27, 46, 182, 0, 209, 172]
abbrev dktX2_completion_1 : List UInt8 := dkwX2_completion_1 ++ []
def dkwX2_completion_0 : List UInt8 := [42, 27, 28, 182, 0, 201, 153, 0, 5, 3, 172, 42, 27, 28, 182, 0, 197, 42, 42, 182, 0, 181, 42]
abbrev dktX2_completion_0 : List UInt8 := dkwX2_completion_0 ++ dktX2_completion_1
theorem dksX2_completion_0 : cX2_completion.data.toList.drop 0 = dktX2_completion_0 := by decide +kernel
theorem dksX2_completion_1 : cX2_completion.data.toList.drop 23 = dktX2_completion_1 := dk_seg dksX2_completion_0 23 rfl rfl
theorem dX2_completion_0 : decode cX2_completion 0 = .ok (.aload_n 0, 1) := dk_42 (dk_at dksX2_completion_0 0 rfl rfl)
theorem dX2_completion_1 : decode cX2_completion 1 = .ok (.iload_n 1, 1) := dk_27 (dk_at dksX2_completion_0 1 rfl rfl)
theorem dX2_completion_2 : decode cX2_completion 2 = .ok (.iload_n 2, 1) := dk_28 (dk_at dksX2_completion_0 2 rfl rfl)
theorem dX2_completion_3 : decode cX2_completion 3 = .ok (.invokevirtual 201, 3) := dk_182 0 201 (dk_at dksX2_completion_0 3 rfl rfl)
theorem dX2_completion_6 : decode cX2_completion 6 = .ok (.ifCond .eq 5, 3) := dk_153 0 5 (dk_at dksX2_completion_0 6 rfl rfl)
theorem dX2_completion_9 : decode cX2_completion 9 = .ok (.iconst 0, 1) := dk_3 (dk_at dksX2_completion_0 9 rfl rfl)
theorem dX2_completion_10 : decode cX2_completion 10 = .ok (.ireturn, 1) := dk_172 (dk_at dksX2_completion_0 10 rfl rfl)
theorem dX2_completion_11 : decode cX2_completion 11 = .ok (.aload_n 0, 1) := dk_42 (dk_at dksX2_completion_0 11 rfl rfl)
theorem dX2_completion_12 : decode cX2_completion 12 = .ok (.iload_n 1, 1) := dk_27 (dk_at dksX2_completion_0 12 rfl rfl)
theorem dX2_completion_13 : decode cX2_completion 13 = .ok (.iload_n 2, 1) := dk_28 (dk_at dksX2_completion_0 13 rfl rfl)
theorem dX2_completion_14 : decode cX2_completion 14 = .ok (.invokevirtual 197, 3) := dk_182 0 197 (dk_at dksX2_completion_0 14 rfl rfl)
theorem dX2_completion_17 : decode cX2_completion 17 = .ok (.aload_n 0, 1) := dk_42 (dk_at dksX2_completion_0 17 rfl rfl)
theorem dX2_completion_18 : decode cX2_completion 18 = .ok (.aload_n 0, 1) := dk_42 (dk_at dksX2_completion_0 18 rfl rfl)
theorem dX2_completion_19 : decode cX2_completion 19 = .ok (.invokevirtual 181, 3) := dk_182 0 181 (dk_at dksX2_completion_0 19 rfl rfl)
theorem dX2_completion_22 : decode cX2_completion 22 = .ok (.aload_n 0, 1) := dk_42 (dk_at dksX2_completion_0 22 rfl rfl)
theorem dX2_completion_23 : decode cX2_completion 23 = .ok (.getfield 31, 3) := dk_180 0 31 (dk_at dksX2_completion_1 0 rfl rfl)
theorem dX2_completion_26 : decode cX2_completion 26 = .ok (.iload_n 1, 1) := dk_27 (dk_at dksX2_completion_1 3 rfl rfl)
theorem dX2_completion_27 : decode cX2_completion 27 = .ok (.iaload, 1) := dk_46 (dk_at dksX2_completion_1 4 rfl rfl)
theorem dX2_completion_28 : decode cX2_completion 28 = .ok (.iconst (-1), 1) := dk_2 (dk_at dksX2_completion_1 5 rfl rfl)
theorem dX2_completion_29 : decode cX2_completion 29 = .ok (.ixor, 1) := dk_130 (dk_at dksX2_completion_1 6 rfl rfl)
theorem dX2_completion_30 : decode cX2_completion 30 = .ok (.iand, 1) := dk_126 (dk_at dksX2_completion_1 7 rfl rfl)
theorem dX2_completion_31 : decode cX2_completion 31 = .ok (.aload_n 0, 1) := dk_42 (dk_at dksX2_completion_1 8 rfl rfl)
theorem dX2_completion_32 : decode cX2_completion 32 = .ok (.getfield 31, 3) := dk_180 0 31 (dk_at dksX2_completion_1 9 rfl rfl)
theorem dX2_completion_35 : decode cX2_completion 35 = .ok (.iload_n 1, 1) := dk_27 (dk_at dksX2_completion_1 12 rfl rfl)
theorem dX2_completion_36 : decode cX2_completion 36 = .ok (.iaload, 1) := dk_46 (dk_at dksX2_completion_1 13 rfl rfl)
theorem dX2_completion_37 : decode cX2_completion 37 = .ok (.invokevirtual 209, 3) := dk_182 0 209 (dk_at dksX2_completion_1 14 rfl rfl)
theorem dX2_completion_40 : decode cX2_completion 40 = .ok (.ireturn, 1) := dk_172 (dk_at dksX2_completion_1 17 rfl rfl)
abbrev cX2_reduced : ByteArray := prog_15_method_66_code
def yX2_reduced : MethodName := ⟨RX2, "reduced", "(II)I"⟩
def dkwX2_reduced_3 : List UInt8 := [132, 5, 255, 167, 255, 218, 29, 172]
abbrev dktX2_reduced_3 : List UInt8 := dkwX2_reduced_3 ++ []
def dkwX2_reduced_2 : List UInt8 := [126, 182, 0, 205, 21, 4, 160, 0, 14, 29, 4, 21, 5, 120, 2, 130, 126, 167, 0, 4, 29, 62]
abbrev dktX2_reduced_2 : List UInt8 := dkwX2_reduced_2 ++ dktX2_reduced_3
def dkwX2_reduced_1 : List UInt8 := [42, 29, 182, 0, 205, 54, 4, 16, 15, 54, 5, 21, 5, 155, 0, 39, 42, 29, 4, 21, 5, 120, 2, 130]
abbrev dktX2_reduced_1 : List UInt8 := dkwX2_reduced_1 ++ dktX2_reduced_2
def dkwX2_reduced_0 : List UInt8 := [42, 27, 28, 182, 0, 201, 153, 0, 5, 3, 172, 42, 27, 28, 182, 0, 197, 42, 180, 0, 31, 27, 46, 62]
abbrev dktX2_reduced_0 : List UInt8 := dkwX2_reduced_0 ++ dktX2_reduced_1
theorem dksX2_reduced_0 : cX2_reduced.data.toList.drop 0 = dktX2_reduced_0 := by decide +kernel
theorem dksX2_reduced_1 : cX2_reduced.data.toList.drop 24 = dktX2_reduced_1 := dk_seg dksX2_reduced_0 24 rfl rfl
theorem dksX2_reduced_2 : cX2_reduced.data.toList.drop 48 = dktX2_reduced_2 := dk_seg dksX2_reduced_1 24 rfl rfl
theorem dksX2_reduced_3 : cX2_reduced.data.toList.drop 70 = dktX2_reduced_3 := dk_seg dksX2_reduced_2 22 rfl rfl
theorem dX2_reduced_0 : decode cX2_reduced 0 = .ok (.aload_n 0, 1) := dk_42 (dk_at dksX2_reduced_0 0 rfl rfl)
theorem dX2_reduced_1 : decode cX2_reduced 1 = .ok (.iload_n 1, 1) := dk_27 (dk_at dksX2_reduced_0 1 rfl rfl)
theorem dX2_reduced_2 : decode cX2_reduced 2 = .ok (.iload_n 2, 1) := dk_28 (dk_at dksX2_reduced_0 2 rfl rfl)
theorem dX2_reduced_3 : decode cX2_reduced 3 = .ok (.invokevirtual 201, 3) := dk_182 0 201 (dk_at dksX2_reduced_0 3 rfl rfl)
theorem dX2_reduced_6 : decode cX2_reduced 6 = .ok (.ifCond .eq 5, 3) := dk_153 0 5 (dk_at dksX2_reduced_0 6 rfl rfl)
theorem dX2_reduced_9 : decode cX2_reduced 9 = .ok (.iconst 0, 1) := dk_3 (dk_at dksX2_reduced_0 9 rfl rfl)
theorem dX2_reduced_10 : decode cX2_reduced 10 = .ok (.ireturn, 1) := dk_172 (dk_at dksX2_reduced_0 10 rfl rfl)
theorem dX2_reduced_11 : decode cX2_reduced 11 = .ok (.aload_n 0, 1) := dk_42 (dk_at dksX2_reduced_0 11 rfl rfl)
theorem dX2_reduced_12 : decode cX2_reduced 12 = .ok (.iload_n 1, 1) := dk_27 (dk_at dksX2_reduced_0 12 rfl rfl)
theorem dX2_reduced_13 : decode cX2_reduced 13 = .ok (.iload_n 2, 1) := dk_28 (dk_at dksX2_reduced_0 13 rfl rfl)
theorem dX2_reduced_14 : decode cX2_reduced 14 = .ok (.invokevirtual 197, 3) := dk_182 0 197 (dk_at dksX2_reduced_0 14 rfl rfl)
theorem dX2_reduced_17 : decode cX2_reduced 17 = .ok (.aload_n 0, 1) := dk_42 (dk_at dksX2_reduced_0 17 rfl rfl)
theorem dX2_reduced_18 : decode cX2_reduced 18 = .ok (.getfield 31, 3) := dk_180 0 31 (dk_at dksX2_reduced_0 18 rfl rfl)
theorem dX2_reduced_21 : decode cX2_reduced 21 = .ok (.iload_n 1, 1) := dk_27 (dk_at dksX2_reduced_0 21 rfl rfl)
theorem dX2_reduced_22 : decode cX2_reduced 22 = .ok (.iaload, 1) := dk_46 (dk_at dksX2_reduced_0 22 rfl rfl)
theorem dX2_reduced_23 : decode cX2_reduced 23 = .ok (.istore_n 3, 1) := dk_62 (dk_at dksX2_reduced_0 23 rfl rfl)
theorem dX2_reduced_24 : decode cX2_reduced 24 = .ok (.aload_n 0, 1) := dk_42 (dk_at dksX2_reduced_1 0 rfl rfl)
theorem dX2_reduced_25 : decode cX2_reduced 25 = .ok (.iload_n 3, 1) := dk_29 (dk_at dksX2_reduced_1 1 rfl rfl)
theorem dX2_reduced_26 : decode cX2_reduced 26 = .ok (.invokevirtual 205, 3) := dk_182 0 205 (dk_at dksX2_reduced_1 2 rfl rfl)
theorem dX2_reduced_29 : decode cX2_reduced 29 = .ok (.istore 4, 2) := dk_54 4 (dk_at dksX2_reduced_1 5 rfl rfl)
theorem dX2_reduced_31 : decode cX2_reduced 31 = .ok (.bipush 15, 2) := dk_16 15 (dk_at dksX2_reduced_1 7 rfl rfl)
theorem dX2_reduced_33 : decode cX2_reduced 33 = .ok (.istore 5, 2) := dk_54 5 (dk_at dksX2_reduced_1 9 rfl rfl)
theorem dX2_reduced_35 : decode cX2_reduced 35 = .ok (.iload 5, 2) := dk_21 5 (dk_at dksX2_reduced_1 11 rfl rfl)
theorem dX2_reduced_37 : decode cX2_reduced 37 = .ok (.ifCond .lt 39, 3) := dk_155 0 39 (dk_at dksX2_reduced_1 13 rfl rfl)
theorem dX2_reduced_40 : decode cX2_reduced 40 = .ok (.aload_n 0, 1) := dk_42 (dk_at dksX2_reduced_1 16 rfl rfl)
theorem dX2_reduced_41 : decode cX2_reduced 41 = .ok (.iload_n 3, 1) := dk_29 (dk_at dksX2_reduced_1 17 rfl rfl)
theorem dX2_reduced_42 : decode cX2_reduced 42 = .ok (.iconst 1, 1) := dk_4 (dk_at dksX2_reduced_1 18 rfl rfl)
theorem dX2_reduced_43 : decode cX2_reduced 43 = .ok (.iload 5, 2) := dk_21 5 (dk_at dksX2_reduced_1 19 rfl rfl)
theorem dX2_reduced_45 : decode cX2_reduced 45 = .ok (.ishl, 1) := dk_120 (dk_at dksX2_reduced_1 21 rfl rfl)
theorem dX2_reduced_46 : decode cX2_reduced 46 = .ok (.iconst (-1), 1) := dk_2 (dk_at dksX2_reduced_1 22 rfl rfl)
theorem dX2_reduced_47 : decode cX2_reduced 47 = .ok (.ixor, 1) := dk_130 (dk_at dksX2_reduced_1 23 rfl rfl)
theorem dX2_reduced_48 : decode cX2_reduced 48 = .ok (.iand, 1) := dk_126 (dk_at dksX2_reduced_2 0 rfl rfl)
theorem dX2_reduced_49 : decode cX2_reduced 49 = .ok (.invokevirtual 205, 3) := dk_182 0 205 (dk_at dksX2_reduced_2 1 rfl rfl)
theorem dX2_reduced_52 : decode cX2_reduced 52 = .ok (.iload 4, 2) := dk_21 4 (dk_at dksX2_reduced_2 4 rfl rfl)
theorem dX2_reduced_54 : decode cX2_reduced 54 = .ok (.if_icmp .ne 14, 3) := dk_160 0 14 (dk_at dksX2_reduced_2 6 rfl rfl)
theorem dX2_reduced_57 : decode cX2_reduced 57 = .ok (.iload_n 3, 1) := dk_29 (dk_at dksX2_reduced_2 9 rfl rfl)
theorem dX2_reduced_58 : decode cX2_reduced 58 = .ok (.iconst 1, 1) := dk_4 (dk_at dksX2_reduced_2 10 rfl rfl)
theorem dX2_reduced_59 : decode cX2_reduced 59 = .ok (.iload 5, 2) := dk_21 5 (dk_at dksX2_reduced_2 11 rfl rfl)
theorem dX2_reduced_61 : decode cX2_reduced 61 = .ok (.ishl, 1) := dk_120 (dk_at dksX2_reduced_2 13 rfl rfl)
theorem dX2_reduced_62 : decode cX2_reduced 62 = .ok (.iconst (-1), 1) := dk_2 (dk_at dksX2_reduced_2 14 rfl rfl)
theorem dX2_reduced_63 : decode cX2_reduced 63 = .ok (.ixor, 1) := dk_130 (dk_at dksX2_reduced_2 15 rfl rfl)
theorem dX2_reduced_64 : decode cX2_reduced 64 = .ok (.iand, 1) := dk_126 (dk_at dksX2_reduced_2 16 rfl rfl)
theorem dX2_reduced_65 : decode cX2_reduced 65 = .ok (.goto 4, 3) := dk_167 0 4 (dk_at dksX2_reduced_2 17 rfl rfl)
theorem dX2_reduced_68 : decode cX2_reduced 68 = .ok (.iload_n 3, 1) := dk_29 (dk_at dksX2_reduced_2 20 rfl rfl)
theorem dX2_reduced_69 : decode cX2_reduced 69 = .ok (.istore_n 3, 1) := dk_62 (dk_at dksX2_reduced_2 21 rfl rfl)
theorem dX2_reduced_70 : decode cX2_reduced 70 = .ok (.iinc 5 (-1), 3) := dk_132 5 255 (dk_at dksX2_reduced_3 0 rfl rfl)
theorem dX2_reduced_73 : decode cX2_reduced 73 = .ok (.goto (-38), 3) := dk_167 255 218 (dk_at dksX2_reduced_3 3 rfl rfl)
theorem dX2_reduced_76 : decode cX2_reduced 76 = .ok (.iload_n 3, 1) := dk_29 (dk_at dksX2_reduced_3 6 rfl rfl)
theorem dX2_reduced_77 : decode cX2_reduced 77 = .ok (.ireturn, 1) := dk_172 (dk_at dksX2_reduced_3 7 rfl rfl)
abbrev cX2_tableErrors : ByteArray := prog_15_method_67_code
def yX2_tableErrors : MethodName := ⟨RX2, "tableErrors", "(I)I"⟩
def dkwX2_tableErrors_6 : List UInt8 := [167, 0, 4, 4, 96, 61, 132, 7, 1, 167, 255, 186, 132, 3, 1, 167, 255, 112, 28, 172]
abbrev dktX2_tableErrors_6 : List UInt8 := dkwX2_tableErrors_6 ++ []
def dkwX2_tableErrors_5 : List UInt8 := [159, 0, 7, 4, 167, 0, 4, 3, 54, 8, 28, 21, 8, 21, 6, 21, 7, 184, 0, 145, 160, 0, 7, 3]
abbrev dktX2_tableErrors_5 : List UInt8 := dkwX2_tableErrors_5 ++ dktX2_tableErrors_6
def dkwX2_tableErrors_4 : List UInt8 := [42, 180, 0, 22, 27, 46, 4, 100, 42, 27, 29, 182, 0, 154, 4, 21, 7, 120, 130, 182, 0, 151, 21, 4]
abbrev dktX2_tableErrors_4 : List UInt8 := dkwX2_tableErrors_4 ++ dktX2_tableErrors_5
def dkwX2_tableErrors_3 : List UInt8 := [2, 130, 126, 184, 0, 184, 96, 61, 3, 54, 7, 21, 7, 42, 180, 0, 28, 27, 46, 162, 0, 65, 42, 27]
abbrev dktX2_tableErrors_3 : List UInt8 := dkwX2_tableErrors_3 ++ dktX2_tableErrors_4
def dkwX2_tableErrors_2 : List UInt8 := [42, 27, 29, 182, 0, 154, 182, 0, 157, 160, 0, 7, 3, 167, 0, 4, 4, 96, 61, 28, 21, 6, 21, 5]
abbrev dktX2_tableErrors_2 : List UInt8 := dkwX2_tableErrors_2 ++ dktX2_tableErrors_3
def dkwX2_tableErrors_1 : List UInt8 := [182, 0, 166, 54, 4, 42, 180, 0, 148, 54, 5, 42, 27, 29, 182, 0, 169, 54, 6, 28, 21, 4, 42, 27]
abbrev dktX2_tableErrors_1 : List UInt8 := dkwX2_tableErrors_1 ++ dktX2_tableErrors_2
def dkwX2_tableErrors_0 : List UInt8 := [42, 27, 182, 0, 133, 153, 0, 5, 3, 172, 3, 61, 3, 62, 29, 16, 16, 162, 0, 144, 42, 27, 29]
abbrev dktX2_tableErrors_0 : List UInt8 := dkwX2_tableErrors_0 ++ dktX2_tableErrors_1
theorem dksX2_tableErrors_0 : cX2_tableErrors.data.toList.drop 0 = dktX2_tableErrors_0 := by decide +kernel
theorem dksX2_tableErrors_1 : cX2_tableErrors.data.toList.drop 23 = dktX2_tableErrors_1 := dk_seg dksX2_tableErrors_0 23 rfl rfl
theorem dksX2_tableErrors_2 : cX2_tableErrors.data.toList.drop 47 = dktX2_tableErrors_2 := dk_seg dksX2_tableErrors_1 24 rfl rfl
theorem dksX2_tableErrors_3 : cX2_tableErrors.data.toList.drop 71 = dktX2_tableErrors_3 := dk_seg dksX2_tableErrors_2 24 rfl rfl
theorem dksX2_tableErrors_4 : cX2_tableErrors.data.toList.drop 95 = dktX2_tableErrors_4 := dk_seg dksX2_tableErrors_3 24 rfl rfl
theorem dksX2_tableErrors_5 : cX2_tableErrors.data.toList.drop 119 = dktX2_tableErrors_5 := dk_seg dksX2_tableErrors_4 24 rfl rfl
theorem dksX2_tableErrors_6 : cX2_tableErrors.data.toList.drop 143 = dktX2_tableErrors_6 := dk_seg dksX2_tableErrors_5 24 rfl rfl
theorem dX2_tableErrors_0 : decode cX2_tableErrors 0 = .ok (.aload_n 0, 1) := dk_42 (dk_at dksX2_tableErrors_0 0 rfl rfl)
theorem dX2_tableErrors_1 : decode cX2_tableErrors 1 = .ok (.iload_n 1, 1) := dk_27 (dk_at dksX2_tableErrors_0 1 rfl rfl)
theorem dX2_tableErrors_2 : decode cX2_tableErrors 2 = .ok (.invokevirtual 133, 3) := dk_182 0 133 (dk_at dksX2_tableErrors_0 2 rfl rfl)
theorem dX2_tableErrors_5 : decode cX2_tableErrors 5 = .ok (.ifCond .eq 5, 3) := dk_153 0 5 (dk_at dksX2_tableErrors_0 5 rfl rfl)
theorem dX2_tableErrors_8 : decode cX2_tableErrors 8 = .ok (.iconst 0, 1) := dk_3 (dk_at dksX2_tableErrors_0 8 rfl rfl)
theorem dX2_tableErrors_9 : decode cX2_tableErrors 9 = .ok (.ireturn, 1) := dk_172 (dk_at dksX2_tableErrors_0 9 rfl rfl)
theorem dX2_tableErrors_10 : decode cX2_tableErrors 10 = .ok (.iconst 0, 1) := dk_3 (dk_at dksX2_tableErrors_0 10 rfl rfl)
theorem dX2_tableErrors_11 : decode cX2_tableErrors 11 = .ok (.istore_n 2, 1) := dk_61 (dk_at dksX2_tableErrors_0 11 rfl rfl)
theorem dX2_tableErrors_12 : decode cX2_tableErrors 12 = .ok (.iconst 0, 1) := dk_3 (dk_at dksX2_tableErrors_0 12 rfl rfl)
theorem dX2_tableErrors_13 : decode cX2_tableErrors 13 = .ok (.istore_n 3, 1) := dk_62 (dk_at dksX2_tableErrors_0 13 rfl rfl)
theorem dX2_tableErrors_14 : decode cX2_tableErrors 14 = .ok (.iload_n 3, 1) := dk_29 (dk_at dksX2_tableErrors_0 14 rfl rfl)
theorem dX2_tableErrors_15 : decode cX2_tableErrors 15 = .ok (.bipush 16, 2) := dk_16 16 (dk_at dksX2_tableErrors_0 15 rfl rfl)
theorem dX2_tableErrors_17 : decode cX2_tableErrors 17 = .ok (.if_icmp .ge 144, 3) := dk_162 0 144 (dk_at dksX2_tableErrors_0 17 rfl rfl)
theorem dX2_tableErrors_20 : decode cX2_tableErrors 20 = .ok (.aload_n 0, 1) := dk_42 (dk_at dksX2_tableErrors_0 20 rfl rfl)
theorem dX2_tableErrors_21 : decode cX2_tableErrors 21 = .ok (.iload_n 1, 1) := dk_27 (dk_at dksX2_tableErrors_0 21 rfl rfl)
theorem dX2_tableErrors_22 : decode cX2_tableErrors 22 = .ok (.iload_n 3, 1) := dk_29 (dk_at dksX2_tableErrors_0 22 rfl rfl)
theorem dX2_tableErrors_23 : decode cX2_tableErrors 23 = .ok (.invokevirtual 166, 3) := dk_182 0 166 (dk_at dksX2_tableErrors_1 0 rfl rfl)
theorem dX2_tableErrors_26 : decode cX2_tableErrors 26 = .ok (.istore 4, 2) := dk_54 4 (dk_at dksX2_tableErrors_1 3 rfl rfl)
theorem dX2_tableErrors_28 : decode cX2_tableErrors 28 = .ok (.aload_n 0, 1) := dk_42 (dk_at dksX2_tableErrors_1 5 rfl rfl)
theorem dX2_tableErrors_29 : decode cX2_tableErrors 29 = .ok (.getfield 148, 3) := dk_180 0 148 (dk_at dksX2_tableErrors_1 6 rfl rfl)
theorem dX2_tableErrors_32 : decode cX2_tableErrors 32 = .ok (.istore 5, 2) := dk_54 5 (dk_at dksX2_tableErrors_1 9 rfl rfl)
theorem dX2_tableErrors_34 : decode cX2_tableErrors 34 = .ok (.aload_n 0, 1) := dk_42 (dk_at dksX2_tableErrors_1 11 rfl rfl)
theorem dX2_tableErrors_35 : decode cX2_tableErrors 35 = .ok (.iload_n 1, 1) := dk_27 (dk_at dksX2_tableErrors_1 12 rfl rfl)
theorem dX2_tableErrors_36 : decode cX2_tableErrors 36 = .ok (.iload_n 3, 1) := dk_29 (dk_at dksX2_tableErrors_1 13 rfl rfl)
theorem dX2_tableErrors_37 : decode cX2_tableErrors 37 = .ok (.invokevirtual 169, 3) := dk_182 0 169 (dk_at dksX2_tableErrors_1 14 rfl rfl)
theorem dX2_tableErrors_40 : decode cX2_tableErrors 40 = .ok (.istore 6, 2) := dk_54 6 (dk_at dksX2_tableErrors_1 17 rfl rfl)
theorem dX2_tableErrors_42 : decode cX2_tableErrors 42 = .ok (.iload_n 2, 1) := dk_28 (dk_at dksX2_tableErrors_1 19 rfl rfl)
theorem dX2_tableErrors_43 : decode cX2_tableErrors 43 = .ok (.iload 4, 2) := dk_21 4 (dk_at dksX2_tableErrors_1 20 rfl rfl)
theorem dX2_tableErrors_45 : decode cX2_tableErrors 45 = .ok (.aload_n 0, 1) := dk_42 (dk_at dksX2_tableErrors_1 22 rfl rfl)
theorem dX2_tableErrors_46 : decode cX2_tableErrors 46 = .ok (.iload_n 1, 1) := dk_27 (dk_at dksX2_tableErrors_1 23 rfl rfl)
theorem dX2_tableErrors_47 : decode cX2_tableErrors 47 = .ok (.aload_n 0, 1) := dk_42 (dk_at dksX2_tableErrors_2 0 rfl rfl)
theorem dX2_tableErrors_48 : decode cX2_tableErrors 48 = .ok (.iload_n 1, 1) := dk_27 (dk_at dksX2_tableErrors_2 1 rfl rfl)
theorem dX2_tableErrors_49 : decode cX2_tableErrors 49 = .ok (.iload_n 3, 1) := dk_29 (dk_at dksX2_tableErrors_2 2 rfl rfl)
theorem dX2_tableErrors_50 : decode cX2_tableErrors 50 = .ok (.invokevirtual 154, 3) := dk_182 0 154 (dk_at dksX2_tableErrors_2 3 rfl rfl)
theorem dX2_tableErrors_53 : decode cX2_tableErrors 53 = .ok (.invokevirtual 157, 3) := dk_182 0 157 (dk_at dksX2_tableErrors_2 6 rfl rfl)
theorem dX2_tableErrors_56 : decode cX2_tableErrors 56 = .ok (.if_icmp .ne 7, 3) := dk_160 0 7 (dk_at dksX2_tableErrors_2 9 rfl rfl)
theorem dX2_tableErrors_59 : decode cX2_tableErrors 59 = .ok (.iconst 0, 1) := dk_3 (dk_at dksX2_tableErrors_2 12 rfl rfl)
theorem dX2_tableErrors_60 : decode cX2_tableErrors 60 = .ok (.goto 4, 3) := dk_167 0 4 (dk_at dksX2_tableErrors_2 13 rfl rfl)
theorem dX2_tableErrors_63 : decode cX2_tableErrors 63 = .ok (.iconst 1, 1) := dk_4 (dk_at dksX2_tableErrors_2 16 rfl rfl)
theorem dX2_tableErrors_64 : decode cX2_tableErrors 64 = .ok (.iadd, 1) := dk_96 (dk_at dksX2_tableErrors_2 17 rfl rfl)
theorem dX2_tableErrors_65 : decode cX2_tableErrors 65 = .ok (.istore_n 2, 1) := dk_61 (dk_at dksX2_tableErrors_2 18 rfl rfl)
theorem dX2_tableErrors_66 : decode cX2_tableErrors 66 = .ok (.iload_n 2, 1) := dk_28 (dk_at dksX2_tableErrors_2 19 rfl rfl)
theorem dX2_tableErrors_67 : decode cX2_tableErrors 67 = .ok (.iload 6, 2) := dk_21 6 (dk_at dksX2_tableErrors_2 20 rfl rfl)
theorem dX2_tableErrors_69 : decode cX2_tableErrors 69 = .ok (.iload 5, 2) := dk_21 5 (dk_at dksX2_tableErrors_2 22 rfl rfl)
theorem dX2_tableErrors_71 : decode cX2_tableErrors 71 = .ok (.iconst (-1), 1) := dk_2 (dk_at dksX2_tableErrors_3 0 rfl rfl)
theorem dX2_tableErrors_72 : decode cX2_tableErrors 72 = .ok (.ixor, 1) := dk_130 (dk_at dksX2_tableErrors_3 1 rfl rfl)
theorem dX2_tableErrors_73 : decode cX2_tableErrors 73 = .ok (.iand, 1) := dk_126 (dk_at dksX2_tableErrors_3 2 rfl rfl)
theorem dX2_tableErrors_74 : decode cX2_tableErrors 74 = .ok (.invokestatic 184, 3) := dk_184 0 184 (dk_at dksX2_tableErrors_3 3 rfl rfl)
theorem dX2_tableErrors_77 : decode cX2_tableErrors 77 = .ok (.iadd, 1) := dk_96 (dk_at dksX2_tableErrors_3 6 rfl rfl)
theorem dX2_tableErrors_78 : decode cX2_tableErrors 78 = .ok (.istore_n 2, 1) := dk_61 (dk_at dksX2_tableErrors_3 7 rfl rfl)
theorem dX2_tableErrors_79 : decode cX2_tableErrors 79 = .ok (.iconst 0, 1) := dk_3 (dk_at dksX2_tableErrors_3 8 rfl rfl)
theorem dX2_tableErrors_80 : decode cX2_tableErrors 80 = .ok (.istore 7, 2) := dk_54 7 (dk_at dksX2_tableErrors_3 9 rfl rfl)
theorem dX2_tableErrors_82 : decode cX2_tableErrors 82 = .ok (.iload 7, 2) := dk_21 7 (dk_at dksX2_tableErrors_3 11 rfl rfl)
theorem dX2_tableErrors_84 : decode cX2_tableErrors 84 = .ok (.aload_n 0, 1) := dk_42 (dk_at dksX2_tableErrors_3 13 rfl rfl)
theorem dX2_tableErrors_85 : decode cX2_tableErrors 85 = .ok (.getfield 28, 3) := dk_180 0 28 (dk_at dksX2_tableErrors_3 14 rfl rfl)
theorem dX2_tableErrors_88 : decode cX2_tableErrors 88 = .ok (.iload_n 1, 1) := dk_27 (dk_at dksX2_tableErrors_3 17 rfl rfl)
theorem dX2_tableErrors_89 : decode cX2_tableErrors 89 = .ok (.iaload, 1) := dk_46 (dk_at dksX2_tableErrors_3 18 rfl rfl)
theorem dX2_tableErrors_90 : decode cX2_tableErrors 90 = .ok (.if_icmp .ge 65, 3) := dk_162 0 65 (dk_at dksX2_tableErrors_3 19 rfl rfl)
theorem dX2_tableErrors_93 : decode cX2_tableErrors 93 = .ok (.aload_n 0, 1) := dk_42 (dk_at dksX2_tableErrors_3 22 rfl rfl)
theorem dX2_tableErrors_94 : decode cX2_tableErrors 94 = .ok (.iload_n 1, 1) := dk_27 (dk_at dksX2_tableErrors_3 23 rfl rfl)
theorem dX2_tableErrors_95 : decode cX2_tableErrors 95 = .ok (.aload_n 0, 1) := dk_42 (dk_at dksX2_tableErrors_4 0 rfl rfl)
theorem dX2_tableErrors_96 : decode cX2_tableErrors 96 = .ok (.getfield 22, 3) := dk_180 0 22 (dk_at dksX2_tableErrors_4 1 rfl rfl)
theorem dX2_tableErrors_99 : decode cX2_tableErrors 99 = .ok (.iload_n 1, 1) := dk_27 (dk_at dksX2_tableErrors_4 4 rfl rfl)
theorem dX2_tableErrors_100 : decode cX2_tableErrors 100 = .ok (.iaload, 1) := dk_46 (dk_at dksX2_tableErrors_4 5 rfl rfl)
theorem dX2_tableErrors_101 : decode cX2_tableErrors 101 = .ok (.iconst 1, 1) := dk_4 (dk_at dksX2_tableErrors_4 6 rfl rfl)
theorem dX2_tableErrors_102 : decode cX2_tableErrors 102 = .ok (.isub, 1) := dk_100 (dk_at dksX2_tableErrors_4 7 rfl rfl)
theorem dX2_tableErrors_103 : decode cX2_tableErrors 103 = .ok (.aload_n 0, 1) := dk_42 (dk_at dksX2_tableErrors_4 8 rfl rfl)
theorem dX2_tableErrors_104 : decode cX2_tableErrors 104 = .ok (.iload_n 1, 1) := dk_27 (dk_at dksX2_tableErrors_4 9 rfl rfl)
theorem dX2_tableErrors_105 : decode cX2_tableErrors 105 = .ok (.iload_n 3, 1) := dk_29 (dk_at dksX2_tableErrors_4 10 rfl rfl)
theorem dX2_tableErrors_106 : decode cX2_tableErrors 106 = .ok (.invokevirtual 154, 3) := dk_182 0 154 (dk_at dksX2_tableErrors_4 11 rfl rfl)
theorem dX2_tableErrors_109 : decode cX2_tableErrors 109 = .ok (.iconst 1, 1) := dk_4 (dk_at dksX2_tableErrors_4 14 rfl rfl)
theorem dX2_tableErrors_110 : decode cX2_tableErrors 110 = .ok (.iload 7, 2) := dk_21 7 (dk_at dksX2_tableErrors_4 15 rfl rfl)
theorem dX2_tableErrors_112 : decode cX2_tableErrors 112 = .ok (.ishl, 1) := dk_120 (dk_at dksX2_tableErrors_4 17 rfl rfl)
theorem dX2_tableErrors_113 : decode cX2_tableErrors 113 = .ok (.ixor, 1) := dk_130 (dk_at dksX2_tableErrors_4 18 rfl rfl)
theorem dX2_tableErrors_114 : decode cX2_tableErrors 114 = .ok (.invokevirtual 151, 3) := dk_182 0 151 (dk_at dksX2_tableErrors_4 19 rfl rfl)
theorem dX2_tableErrors_117 : decode cX2_tableErrors 117 = .ok (.iload 4, 2) := dk_21 4 (dk_at dksX2_tableErrors_4 22 rfl rfl)
theorem dX2_tableErrors_119 : decode cX2_tableErrors 119 = .ok (.if_icmp .eq 7, 3) := dk_159 0 7 (dk_at dksX2_tableErrors_5 0 rfl rfl)
theorem dX2_tableErrors_122 : decode cX2_tableErrors 122 = .ok (.iconst 1, 1) := dk_4 (dk_at dksX2_tableErrors_5 3 rfl rfl)
theorem dX2_tableErrors_123 : decode cX2_tableErrors 123 = .ok (.goto 4, 3) := dk_167 0 4 (dk_at dksX2_tableErrors_5 4 rfl rfl)
theorem dX2_tableErrors_126 : decode cX2_tableErrors 126 = .ok (.iconst 0, 1) := dk_3 (dk_at dksX2_tableErrors_5 7 rfl rfl)
theorem dX2_tableErrors_127 : decode cX2_tableErrors 127 = .ok (.istore 8, 2) := dk_54 8 (dk_at dksX2_tableErrors_5 8 rfl rfl)
theorem dX2_tableErrors_129 : decode cX2_tableErrors 129 = .ok (.iload_n 2, 1) := dk_28 (dk_at dksX2_tableErrors_5 10 rfl rfl)
theorem dX2_tableErrors_130 : decode cX2_tableErrors 130 = .ok (.iload 8, 2) := dk_21 8 (dk_at dksX2_tableErrors_5 11 rfl rfl)
theorem dX2_tableErrors_132 : decode cX2_tableErrors 132 = .ok (.iload 6, 2) := dk_21 6 (dk_at dksX2_tableErrors_5 13 rfl rfl)
theorem dX2_tableErrors_134 : decode cX2_tableErrors 134 = .ok (.iload 7, 2) := dk_21 7 (dk_at dksX2_tableErrors_5 15 rfl rfl)
theorem dX2_tableErrors_136 : decode cX2_tableErrors 136 = .ok (.invokestatic 145, 3) := dk_184 0 145 (dk_at dksX2_tableErrors_5 17 rfl rfl)
theorem dX2_tableErrors_139 : decode cX2_tableErrors 139 = .ok (.if_icmp .ne 7, 3) := dk_160 0 7 (dk_at dksX2_tableErrors_5 20 rfl rfl)
theorem dX2_tableErrors_142 : decode cX2_tableErrors 142 = .ok (.iconst 0, 1) := dk_3 (dk_at dksX2_tableErrors_5 23 rfl rfl)
theorem dX2_tableErrors_143 : decode cX2_tableErrors 143 = .ok (.goto 4, 3) := dk_167 0 4 (dk_at dksX2_tableErrors_6 0 rfl rfl)
theorem dX2_tableErrors_146 : decode cX2_tableErrors 146 = .ok (.iconst 1, 1) := dk_4 (dk_at dksX2_tableErrors_6 3 rfl rfl)
theorem dX2_tableErrors_147 : decode cX2_tableErrors 147 = .ok (.iadd, 1) := dk_96 (dk_at dksX2_tableErrors_6 4 rfl rfl)
theorem dX2_tableErrors_148 : decode cX2_tableErrors 148 = .ok (.istore_n 2, 1) := dk_61 (dk_at dksX2_tableErrors_6 5 rfl rfl)
theorem dX2_tableErrors_149 : decode cX2_tableErrors 149 = .ok (.iinc 7 1, 3) := dk_132 7 1 (dk_at dksX2_tableErrors_6 6 rfl rfl)
theorem dX2_tableErrors_152 : decode cX2_tableErrors 152 = .ok (.goto (-70), 3) := dk_167 255 186 (dk_at dksX2_tableErrors_6 9 rfl rfl)
theorem dX2_tableErrors_155 : decode cX2_tableErrors 155 = .ok (.iinc 3 1, 3) := dk_132 3 1 (dk_at dksX2_tableErrors_6 12 rfl rfl)
theorem dX2_tableErrors_158 : decode cX2_tableErrors 158 = .ok (.goto (-144), 3) := dk_167 255 112 (dk_at dksX2_tableErrors_6 15 rfl rfl)
theorem dX2_tableErrors_161 : decode cX2_tableErrors 161 = .ok (.iload_n 2, 1) := dk_28 (dk_at dksX2_tableErrors_6 18 rfl rfl)
theorem dX2_tableErrors_162 : decode cX2_tableErrors 162 = .ok (.ireturn, 1) := dk_172 (dk_at dksX2_tableErrors_6 19 rfl rfl)
abbrev cX2_meanAsked : ByteArray := prog_15_method_68_code
def yX2_meanAsked : MethodName := ⟨RX2, "meanAsked", "(I)D"⟩
def dkwX2_meanAsked_3 : List UInt8 := [29, 135, 111, 175]
abbrev dktX2_meanAsked_3 : List UInt8 := dkwX2_meanAsked_3 ++ []
def dkwX2_meanAsked_2 : List UInt8 := [184, 0, 184, 96, 61, 132, 3, 1, 132, 4, 1, 167, 255, 215, 29, 154, 0, 7, 14, 167, 0, 8, 28, 135]
abbrev dktX2_meanAsked_2 : List UInt8 := dkwX2_meanAsked_2 ++ dktX2_meanAsked_3
def dkwX2_meanAsked_1 : List UInt8 := [42, 21, 4, 182, 0, 172, 153, 0, 25, 42, 27, 21, 4, 182, 0, 166, 54, 5, 28, 42, 180, 0, 148]
abbrev dktX2_meanAsked_1 : List UInt8 := dkwX2_meanAsked_1 ++ dktX2_meanAsked_2
def dkwX2_meanAsked_0 : List UInt8 := [42, 27, 182, 0, 133, 153, 0, 5, 14, 175, 3, 61, 3, 62, 3, 54, 4, 21, 4, 16, 16, 162, 0, 40]
abbrev dktX2_meanAsked_0 : List UInt8 := dkwX2_meanAsked_0 ++ dktX2_meanAsked_1
theorem dksX2_meanAsked_0 : cX2_meanAsked.data.toList.drop 0 = dktX2_meanAsked_0 := by decide +kernel
theorem dksX2_meanAsked_1 : cX2_meanAsked.data.toList.drop 24 = dktX2_meanAsked_1 := dk_seg dksX2_meanAsked_0 24 rfl rfl
theorem dksX2_meanAsked_2 : cX2_meanAsked.data.toList.drop 47 = dktX2_meanAsked_2 := dk_seg dksX2_meanAsked_1 23 rfl rfl
theorem dksX2_meanAsked_3 : cX2_meanAsked.data.toList.drop 71 = dktX2_meanAsked_3 := dk_seg dksX2_meanAsked_2 24 rfl rfl
theorem dX2_meanAsked_0 : decode cX2_meanAsked 0 = .ok (.aload_n 0, 1) := dk_42 (dk_at dksX2_meanAsked_0 0 rfl rfl)
theorem dX2_meanAsked_1 : decode cX2_meanAsked 1 = .ok (.iload_n 1, 1) := dk_27 (dk_at dksX2_meanAsked_0 1 rfl rfl)
theorem dX2_meanAsked_2 : decode cX2_meanAsked 2 = .ok (.invokevirtual 133, 3) := dk_182 0 133 (dk_at dksX2_meanAsked_0 2 rfl rfl)
theorem dX2_meanAsked_5 : decode cX2_meanAsked 5 = .ok (.ifCond .eq 5, 3) := dk_153 0 5 (dk_at dksX2_meanAsked_0 5 rfl rfl)
theorem dX2_meanAsked_8 : decode cX2_meanAsked 8 = .ok (.dconst 0, 1) := dk_14 (dk_at dksX2_meanAsked_0 8 rfl rfl)
theorem dX2_meanAsked_9 : decode cX2_meanAsked 9 = .ok (.dreturn, 1) := dk_175 (dk_at dksX2_meanAsked_0 9 rfl rfl)
theorem dX2_meanAsked_10 : decode cX2_meanAsked 10 = .ok (.iconst 0, 1) := dk_3 (dk_at dksX2_meanAsked_0 10 rfl rfl)
theorem dX2_meanAsked_11 : decode cX2_meanAsked 11 = .ok (.istore_n 2, 1) := dk_61 (dk_at dksX2_meanAsked_0 11 rfl rfl)
theorem dX2_meanAsked_12 : decode cX2_meanAsked 12 = .ok (.iconst 0, 1) := dk_3 (dk_at dksX2_meanAsked_0 12 rfl rfl)
theorem dX2_meanAsked_13 : decode cX2_meanAsked 13 = .ok (.istore_n 3, 1) := dk_62 (dk_at dksX2_meanAsked_0 13 rfl rfl)
theorem dX2_meanAsked_14 : decode cX2_meanAsked 14 = .ok (.iconst 0, 1) := dk_3 (dk_at dksX2_meanAsked_0 14 rfl rfl)
theorem dX2_meanAsked_15 : decode cX2_meanAsked 15 = .ok (.istore 4, 2) := dk_54 4 (dk_at dksX2_meanAsked_0 15 rfl rfl)
theorem dX2_meanAsked_17 : decode cX2_meanAsked 17 = .ok (.iload 4, 2) := dk_21 4 (dk_at dksX2_meanAsked_0 17 rfl rfl)
theorem dX2_meanAsked_19 : decode cX2_meanAsked 19 = .ok (.bipush 16, 2) := dk_16 16 (dk_at dksX2_meanAsked_0 19 rfl rfl)
theorem dX2_meanAsked_21 : decode cX2_meanAsked 21 = .ok (.if_icmp .ge 40, 3) := dk_162 0 40 (dk_at dksX2_meanAsked_0 21 rfl rfl)
theorem dX2_meanAsked_24 : decode cX2_meanAsked 24 = .ok (.aload_n 0, 1) := dk_42 (dk_at dksX2_meanAsked_1 0 rfl rfl)
theorem dX2_meanAsked_25 : decode cX2_meanAsked 25 = .ok (.iload 4, 2) := dk_21 4 (dk_at dksX2_meanAsked_1 1 rfl rfl)
theorem dX2_meanAsked_27 : decode cX2_meanAsked 27 = .ok (.invokevirtual 172, 3) := dk_182 0 172 (dk_at dksX2_meanAsked_1 3 rfl rfl)
theorem dX2_meanAsked_30 : decode cX2_meanAsked 30 = .ok (.ifCond .eq 25, 3) := dk_153 0 25 (dk_at dksX2_meanAsked_1 6 rfl rfl)
theorem dX2_meanAsked_33 : decode cX2_meanAsked 33 = .ok (.aload_n 0, 1) := dk_42 (dk_at dksX2_meanAsked_1 9 rfl rfl)
theorem dX2_meanAsked_34 : decode cX2_meanAsked 34 = .ok (.iload_n 1, 1) := dk_27 (dk_at dksX2_meanAsked_1 10 rfl rfl)
theorem dX2_meanAsked_35 : decode cX2_meanAsked 35 = .ok (.iload 4, 2) := dk_21 4 (dk_at dksX2_meanAsked_1 11 rfl rfl)
theorem dX2_meanAsked_37 : decode cX2_meanAsked 37 = .ok (.invokevirtual 166, 3) := dk_182 0 166 (dk_at dksX2_meanAsked_1 13 rfl rfl)
theorem dX2_meanAsked_40 : decode cX2_meanAsked 40 = .ok (.istore 5, 2) := dk_54 5 (dk_at dksX2_meanAsked_1 16 rfl rfl)
theorem dX2_meanAsked_42 : decode cX2_meanAsked 42 = .ok (.iload_n 2, 1) := dk_28 (dk_at dksX2_meanAsked_1 18 rfl rfl)
theorem dX2_meanAsked_43 : decode cX2_meanAsked 43 = .ok (.aload_n 0, 1) := dk_42 (dk_at dksX2_meanAsked_1 19 rfl rfl)
theorem dX2_meanAsked_44 : decode cX2_meanAsked 44 = .ok (.getfield 148, 3) := dk_180 0 148 (dk_at dksX2_meanAsked_1 20 rfl rfl)
theorem dX2_meanAsked_47 : decode cX2_meanAsked 47 = .ok (.invokestatic 184, 3) := dk_184 0 184 (dk_at dksX2_meanAsked_2 0 rfl rfl)
theorem dX2_meanAsked_50 : decode cX2_meanAsked 50 = .ok (.iadd, 1) := dk_96 (dk_at dksX2_meanAsked_2 3 rfl rfl)
theorem dX2_meanAsked_51 : decode cX2_meanAsked 51 = .ok (.istore_n 2, 1) := dk_61 (dk_at dksX2_meanAsked_2 4 rfl rfl)
theorem dX2_meanAsked_52 : decode cX2_meanAsked 52 = .ok (.iinc 3 1, 3) := dk_132 3 1 (dk_at dksX2_meanAsked_2 5 rfl rfl)
theorem dX2_meanAsked_55 : decode cX2_meanAsked 55 = .ok (.iinc 4 1, 3) := dk_132 4 1 (dk_at dksX2_meanAsked_2 8 rfl rfl)
theorem dX2_meanAsked_58 : decode cX2_meanAsked 58 = .ok (.goto (-41), 3) := dk_167 255 215 (dk_at dksX2_meanAsked_2 11 rfl rfl)
theorem dX2_meanAsked_61 : decode cX2_meanAsked 61 = .ok (.iload_n 3, 1) := dk_29 (dk_at dksX2_meanAsked_2 14 rfl rfl)
theorem dX2_meanAsked_62 : decode cX2_meanAsked 62 = .ok (.ifCond .ne 7, 3) := dk_154 0 7 (dk_at dksX2_meanAsked_2 15 rfl rfl)
theorem dX2_meanAsked_65 : decode cX2_meanAsked 65 = .ok (.dconst 0, 1) := dk_14 (dk_at dksX2_meanAsked_2 18 rfl rfl)
theorem dX2_meanAsked_66 : decode cX2_meanAsked 66 = .ok (.goto 8, 3) := dk_167 0 8 (dk_at dksX2_meanAsked_2 19 rfl rfl)
theorem dX2_meanAsked_69 : decode cX2_meanAsked 69 = .ok (.iload_n 2, 1) := dk_28 (dk_at dksX2_meanAsked_2 22 rfl rfl)
theorem dX2_meanAsked_70 : decode cX2_meanAsked 70 = .ok (.i2d, 1) := dk_135 (dk_at dksX2_meanAsked_2 23 rfl rfl)
theorem dX2_meanAsked_71 : decode cX2_meanAsked 71 = .ok (.iload_n 3, 1) := dk_29 (dk_at dksX2_meanAsked_3 0 rfl rfl)
theorem dX2_meanAsked_72 : decode cX2_meanAsked 72 = .ok (.i2d, 1) := dk_135 (dk_at dksX2_meanAsked_3 1 rfl rfl)
theorem dX2_meanAsked_73 : decode cX2_meanAsked 73 = .ok (.ddiv, 1) := dk_111 (dk_at dksX2_meanAsked_3 2 rfl rfl)
theorem dX2_meanAsked_74 : decode cX2_meanAsked 74 = .ok (.dreturn, 1) := dk_175 (dk_at dksX2_meanAsked_3 3 rfl rfl)
abbrev cX2_coverage : ByteArray := prog_15_method_69_code
def yX2_coverage : MethodName := ⟨RX2, "coverage", "(II)F"⟩
def dkwX2_coverage_2 : List UInt8 := [184, 0, 184, 134, 29, 134, 110, 174]
abbrev dktX2_coverage_2 : List UInt8 := dkwX2_coverage_2 ++ []
def dkwX2_coverage_1 : List UInt8 := [184, 0, 184, 62, 29, 154, 0, 7, 12, 167, 0, 20, 42, 42, 180, 0, 31, 27, 46, 182, 0, 205]
abbrev dktX2_coverage_1 : List UInt8 := dkwX2_coverage_1 ++ dktX2_coverage_2
def dkwX2_coverage_0 : List UInt8 := [42, 27, 28, 182, 0, 201, 153, 0, 5, 11, 174, 42, 27, 28, 182, 0, 197, 42, 18, 204, 182, 0, 205]
abbrev dktX2_coverage_0 : List UInt8 := dkwX2_coverage_0 ++ dktX2_coverage_1
theorem dksX2_coverage_0 : cX2_coverage.data.toList.drop 0 = dktX2_coverage_0 := by decide +kernel
theorem dksX2_coverage_1 : cX2_coverage.data.toList.drop 23 = dktX2_coverage_1 := dk_seg dksX2_coverage_0 23 rfl rfl
theorem dksX2_coverage_2 : cX2_coverage.data.toList.drop 45 = dktX2_coverage_2 := dk_seg dksX2_coverage_1 22 rfl rfl
theorem dX2_coverage_0 : decode cX2_coverage 0 = .ok (.aload_n 0, 1) := dk_42 (dk_at dksX2_coverage_0 0 rfl rfl)
theorem dX2_coverage_1 : decode cX2_coverage 1 = .ok (.iload_n 1, 1) := dk_27 (dk_at dksX2_coverage_0 1 rfl rfl)
theorem dX2_coverage_2 : decode cX2_coverage 2 = .ok (.iload_n 2, 1) := dk_28 (dk_at dksX2_coverage_0 2 rfl rfl)
theorem dX2_coverage_3 : decode cX2_coverage 3 = .ok (.invokevirtual 201, 3) := dk_182 0 201 (dk_at dksX2_coverage_0 3 rfl rfl)
theorem dX2_coverage_6 : decode cX2_coverage 6 = .ok (.ifCond .eq 5, 3) := dk_153 0 5 (dk_at dksX2_coverage_0 6 rfl rfl)
theorem dX2_coverage_9 : decode cX2_coverage 9 = .ok (.fconst 0, 1) := dk_11 (dk_at dksX2_coverage_0 9 rfl rfl)
theorem dX2_coverage_10 : decode cX2_coverage 10 = .ok (.freturn, 1) := dk_174 (dk_at dksX2_coverage_0 10 rfl rfl)
theorem dX2_coverage_11 : decode cX2_coverage 11 = .ok (.aload_n 0, 1) := dk_42 (dk_at dksX2_coverage_0 11 rfl rfl)
theorem dX2_coverage_12 : decode cX2_coverage 12 = .ok (.iload_n 1, 1) := dk_27 (dk_at dksX2_coverage_0 12 rfl rfl)
theorem dX2_coverage_13 : decode cX2_coverage 13 = .ok (.iload_n 2, 1) := dk_28 (dk_at dksX2_coverage_0 13 rfl rfl)
theorem dX2_coverage_14 : decode cX2_coverage 14 = .ok (.invokevirtual 197, 3) := dk_182 0 197 (dk_at dksX2_coverage_0 14 rfl rfl)
theorem dX2_coverage_17 : decode cX2_coverage 17 = .ok (.aload_n 0, 1) := dk_42 (dk_at dksX2_coverage_0 17 rfl rfl)
theorem dX2_coverage_18 : decode cX2_coverage 18 = .ok (.ldc 204, 2) := dk_18 204 (dk_at dksX2_coverage_0 18 rfl rfl)
theorem dX2_coverage_20 : decode cX2_coverage 20 = .ok (.invokevirtual 205, 3) := dk_182 0 205 (dk_at dksX2_coverage_0 20 rfl rfl)
theorem dX2_coverage_23 : decode cX2_coverage 23 = .ok (.invokestatic 184, 3) := dk_184 0 184 (dk_at dksX2_coverage_1 0 rfl rfl)
theorem dX2_coverage_26 : decode cX2_coverage 26 = .ok (.istore_n 3, 1) := dk_62 (dk_at dksX2_coverage_1 3 rfl rfl)
theorem dX2_coverage_27 : decode cX2_coverage 27 = .ok (.iload_n 3, 1) := dk_29 (dk_at dksX2_coverage_1 4 rfl rfl)
theorem dX2_coverage_28 : decode cX2_coverage 28 = .ok (.ifCond .ne 7, 3) := dk_154 0 7 (dk_at dksX2_coverage_1 5 rfl rfl)
theorem dX2_coverage_31 : decode cX2_coverage 31 = .ok (.fconst 1, 1) := dk_12 (dk_at dksX2_coverage_1 8 rfl rfl)
theorem dX2_coverage_32 : decode cX2_coverage 32 = .ok (.goto 20, 3) := dk_167 0 20 (dk_at dksX2_coverage_1 9 rfl rfl)
theorem dX2_coverage_35 : decode cX2_coverage 35 = .ok (.aload_n 0, 1) := dk_42 (dk_at dksX2_coverage_1 12 rfl rfl)
theorem dX2_coverage_36 : decode cX2_coverage 36 = .ok (.aload_n 0, 1) := dk_42 (dk_at dksX2_coverage_1 13 rfl rfl)
theorem dX2_coverage_37 : decode cX2_coverage 37 = .ok (.getfield 31, 3) := dk_180 0 31 (dk_at dksX2_coverage_1 14 rfl rfl)
theorem dX2_coverage_40 : decode cX2_coverage 40 = .ok (.iload_n 1, 1) := dk_27 (dk_at dksX2_coverage_1 17 rfl rfl)
theorem dX2_coverage_41 : decode cX2_coverage 41 = .ok (.iaload, 1) := dk_46 (dk_at dksX2_coverage_1 18 rfl rfl)
theorem dX2_coverage_42 : decode cX2_coverage 42 = .ok (.invokevirtual 205, 3) := dk_182 0 205 (dk_at dksX2_coverage_1 19 rfl rfl)
theorem dX2_coverage_45 : decode cX2_coverage 45 = .ok (.invokestatic 184, 3) := dk_184 0 184 (dk_at dksX2_coverage_2 0 rfl rfl)
theorem dX2_coverage_48 : decode cX2_coverage 48 = .ok (.i2f, 1) := dk_134 (dk_at dksX2_coverage_2 3 rfl rfl)
theorem dX2_coverage_49 : decode cX2_coverage 49 = .ok (.iload_n 3, 1) := dk_29 (dk_at dksX2_coverage_2 4 rfl rfl)
theorem dX2_coverage_50 : decode cX2_coverage 50 = .ok (.i2f, 1) := dk_134 (dk_at dksX2_coverage_2 5 rfl rfl)
theorem dX2_coverage_51 : decode cX2_coverage 51 = .ok (.fdiv, 1) := dk_110 (dk_at dksX2_coverage_2 6 rfl rfl)
theorem dX2_coverage_52 : decode cX2_coverage 52 = .ok (.freturn, 1) := dk_174 (dk_at dksX2_coverage_2 7 rfl rfl)
theorem q62 : (Jvm.Cond.initialized "ConditionWiseModel") ∈ lw_all := lw_g (lw_at lw_m1 8 rfl) rfl
theorem q717 : (Jvm.Cond.selects "ConditionWiseModel" ({ cls := "java/lang/Object", name := "getClass", desc := "()Ljava/lang/Class;" } : Jvm.MethodName) ({ cls := "java/lang/Object", name := "getClass", desc := "()Ljava/lang/Class;" } : Jvm.MethodName)) ∈ lw_all := lw_g (lw_at lw_m3 183 rfl) rfl
theorem q1779 : (Jvm.Cond.instantiable "ConditionWiseModel" (26 : Nat)) ∈ lw_all := lw_g (lw_at lw_m8 45 rfl) rfl
theorem q1781 : (Jvm.Cond.instanceMethod ({ cls := "ConditionWiseModel", name := "<init>", desc := "()V" } : Jvm.MethodName)) ∈ lw_all := lw_g (lw_at lw_m8 47 rfl) rfl
theorem q1782 : (Jvm.Cond.code ({ cls := "ConditionWiseModel", name := "<init>", desc := "()V" } : Jvm.MethodName) prog_15_method_1_code (1 : Nat) (Option.none : Option Jvm.ClassFile.FieldType)) ∈ lw_all := lw_g (lw_at lw_m8 48 rfl) rfl
theorem q1783 : (Jvm.Cond.methodLink "ConditionWiseModel" (1 : Nat) ({ cls := "java/lang/Object", name := "<init>", desc := "()V" } : Jvm.MethodName)) ∈ lw_all := lw_g (lw_at lw_m8 49 rfl) rfl
theorem q1784 : (Jvm.Cond.fieldLink "ConditionWiseModel" (68 : Nat) "ConditionWiseModel" "thrown" "I") ∈ lw_all := lw_g (lw_at lw_m8 50 rfl) rfl
theorem q1785 : (Jvm.Cond.fieldLink "ConditionWiseModel" (9 : Nat) "ConditionWiseModel" "text" "[I") ∈ lw_all := lw_g (lw_at lw_m8 51 rfl) rfl
theorem q1786 : (Jvm.Cond.fieldLink "ConditionWiseModel" (80 : Nat) "ConditionWiseModel" "textMany" "I") ∈ lw_all := lw_g (lw_at lw_m8 52 rfl) rfl
theorem q1787 : (Jvm.Cond.fieldLink "ConditionWiseModel" (102 : Nat) "ConditionWiseModel" "decisions" "I") ∈ lw_all := lw_g (lw_at lw_m8 53 rfl) rfl
theorem q1788 : (Jvm.Cond.fieldLink "ConditionWiseModel" (13 : Nat) "ConditionWiseModel" "kind" "[I") ∈ lw_all := lw_g (lw_at lw_m8 54 rfl) rfl
theorem q1789 : (Jvm.Cond.fieldLink "ConditionWiseModel" (16 : Nat) "ConditionWiseModel" "one" "[I") ∈ lw_all := lw_g (lw_at lw_m8 55 rfl) rfl
theorem q1790 : (Jvm.Cond.fieldLink "ConditionWiseModel" (19 : Nat) "ConditionWiseModel" "other" "[I") ∈ lw_all := lw_g (lw_at lw_m8 56 rfl) rfl
theorem q1791 : (Jvm.Cond.fieldLink "ConditionWiseModel" (22 : Nat) "ConditionWiseModel" "partMany" "[I") ∈ lw_all := lw_g (lw_at lw_m8 57 rfl) rfl
theorem q1792 : (Jvm.Cond.fieldLink "ConditionWiseModel" (25 : Nat) "ConditionWiseModel" "letter" "[I") ∈ lw_all := lw_g (lw_at lw_m8 58 rfl) rfl
theorem q1793 : (Jvm.Cond.fieldLink "ConditionWiseModel" (28 : Nat) "ConditionWiseModel" "conditionMany" "[I") ∈ lw_all := lw_g (lw_at lw_m8 59 rfl) rfl
theorem q1794 : (Jvm.Cond.fieldLink "ConditionWiseModel" (31 : Nat) "ConditionWiseModel" "test" "[I") ∈ lw_all := lw_g (lw_at lw_m8 60 rfl) rfl
theorem q1795 : (Jvm.Cond.fieldLink "ConditionWiseModel" (34 : Nat) "ConditionWiseModel" "firstLetter" "[I") ∈ lw_all := lw_g (lw_at lw_m8 61 rfl) rfl
theorem q1796 : (Jvm.Cond.fieldLink "ConditionWiseModel" (37 : Nat) "ConditionWiseModel" "firstValue" "[I") ∈ lw_all := lw_g (lw_at lw_m8 62 rfl) rfl
theorem q1797 : (Jvm.Cond.fieldLink "ConditionWiseModel" (40 : Nat) "ConditionWiseModel" "secondLetter" "[I") ∈ lw_all := lw_g (lw_at lw_m8 63 rfl) rfl
theorem q1798 : (Jvm.Cond.fieldLink "ConditionWiseModel" (43 : Nat) "ConditionWiseModel" "secondValue" "[I") ∈ lw_all := lw_g (lw_at lw_m8 64 rfl) rfl
theorem q1799 : (Jvm.Cond.fieldLink "ConditionWiseModel" (175 : Nat) "ConditionWiseModel" "forbidden" "I") ∈ lw_all := lw_g (lw_at lw_m8 65 rfl) rfl
theorem q1800 : (Jvm.Cond.fieldLink "ConditionWiseModel" (91 : Nat) "ConditionWiseModel" "at" "I") ∈ lw_all := lw_g (lw_at lw_m8 66 rfl) rfl
theorem q1801 : (Jvm.Cond.fieldLink "ConditionWiseModel" (94 : Nat) "ConditionWiseModel" "faults" "Z") ∈ lw_all := lw_g (lw_at lw_m8 67 rfl) rfl
theorem q1802 : (Jvm.Cond.fieldLink "ConditionWiseModel" (46 : Nat) "ConditionWiseModel" "deep" "[I") ∈ lw_all := lw_g (lw_at lw_m8 68 rfl) rfl
theorem q1803 : (Jvm.Cond.fieldLink "ConditionWiseModel" (49 : Nat) "ConditionWiseModel" "truth" "[Z") ∈ lw_all := lw_g (lw_at lw_m8 69 rfl) rfl
theorem q1804 : (Jvm.Cond.fieldLink "ConditionWiseModel" (148 : Nat) "ConditionWiseModel" "asked" "I") ∈ lw_all := lw_g (lw_at lw_m8 70 rfl) rfl
theorem q1805 : (Jvm.Cond.fieldLink "ConditionWiseModel" (53 : Nat) "ConditionWiseModel" "valuesIn" "[I") ∈ lw_all := lw_g (lw_at lw_m8 71 rfl) rfl
theorem q1806 : (Jvm.Cond.fieldLink "ConditionWiseModel" (56 : Nat) "ConditionWiseModel" "askedIn" "[I") ∈ lw_all := lw_g (lw_at lw_m8 72 rfl) rfl
theorem q1807 : (Jvm.Cond.fieldLink "ConditionWiseModel" (59 : Nat) "ConditionWiseModel" "decidingIn" "[I") ∈ lw_all := lw_g (lw_at lw_m8 73 rfl) rfl
theorem q1808 : (Jvm.Cond.fieldLink "ConditionWiseModel" (62 : Nat) "ConditionWiseModel" "outcomeIn" "[Z") ∈ lw_all := lw_g (lw_at lw_m8 74 rfl) rfl
theorem q1809 : (Jvm.Cond.fieldLink "ConditionWiseModel" (65 : Nat) "ConditionWiseModel" "pairSet" "[I") ∈ lw_all := lw_g (lw_at lw_m8 75 rfl) rfl
theorem q1810 : (Jvm.Cond.lays "ConditionWiseModel" "ConditionWiseModel" "thrown" "I") ∈ lw_all := lw_g (lw_at lw_m8 76 rfl) rfl
theorem q1811 : (Jvm.Cond.soleField "ConditionWiseModel" "thrown") ∈ lw_all := lw_g (lw_at lw_m8 77 rfl) rfl
theorem q1812 : (Jvm.Cond.laysFinal "ConditionWiseModel" "ConditionWiseModel" "text" "[I") ∈ lw_all := lw_g (lw_at lw_m8 78 rfl) rfl
theorem q1813 : (Jvm.Cond.soleField "ConditionWiseModel" "text") ∈ lw_all := lw_g (lw_at lw_m8 79 rfl) rfl
theorem q1814 : (Jvm.Cond.lays "ConditionWiseModel" "ConditionWiseModel" "textMany" "I") ∈ lw_all := lw_g (lw_at lw_m8 80 rfl) rfl
theorem q1815 : (Jvm.Cond.soleField "ConditionWiseModel" "textMany") ∈ lw_all := lw_g (lw_at lw_m8 81 rfl) rfl
theorem q1816 : (Jvm.Cond.lays "ConditionWiseModel" "ConditionWiseModel" "decisions" "I") ∈ lw_all := lw_g (lw_at lw_m8 82 rfl) rfl
theorem q1817 : (Jvm.Cond.soleField "ConditionWiseModel" "decisions") ∈ lw_all := lw_g (lw_at lw_m8 83 rfl) rfl
theorem q1818 : (Jvm.Cond.laysFinal "ConditionWiseModel" "ConditionWiseModel" "kind" "[I") ∈ lw_all := lw_g (lw_at lw_m8 84 rfl) rfl
theorem q1819 : (Jvm.Cond.soleField "ConditionWiseModel" "kind") ∈ lw_all := lw_g (lw_at lw_m8 85 rfl) rfl
theorem q1820 : (Jvm.Cond.laysFinal "ConditionWiseModel" "ConditionWiseModel" "one" "[I") ∈ lw_all := lw_g (lw_at lw_m8 86 rfl) rfl
theorem q1821 : (Jvm.Cond.soleField "ConditionWiseModel" "one") ∈ lw_all := lw_g (lw_at lw_m8 87 rfl) rfl
theorem q1822 : (Jvm.Cond.laysFinal "ConditionWiseModel" "ConditionWiseModel" "other" "[I") ∈ lw_all := lw_g (lw_at lw_m8 88 rfl) rfl
theorem q1823 : (Jvm.Cond.soleField "ConditionWiseModel" "other") ∈ lw_all := lw_g (lw_at lw_m8 89 rfl) rfl
theorem q1824 : (Jvm.Cond.laysFinal "ConditionWiseModel" "ConditionWiseModel" "partMany" "[I") ∈ lw_all := lw_g (lw_at lw_m8 90 rfl) rfl
theorem q1825 : (Jvm.Cond.soleField "ConditionWiseModel" "partMany") ∈ lw_all := lw_g (lw_at lw_m8 91 rfl) rfl
theorem q1826 : (Jvm.Cond.laysFinal "ConditionWiseModel" "ConditionWiseModel" "letter" "[I") ∈ lw_all := lw_g (lw_at lw_m8 92 rfl) rfl
theorem q1827 : (Jvm.Cond.soleField "ConditionWiseModel" "letter") ∈ lw_all := lw_g (lw_at lw_m8 93 rfl) rfl
theorem q1828 : (Jvm.Cond.laysFinal "ConditionWiseModel" "ConditionWiseModel" "conditionMany" "[I") ∈ lw_all := lw_g (lw_at lw_m8 94 rfl) rfl
theorem q1829 : (Jvm.Cond.soleField "ConditionWiseModel" "conditionMany") ∈ lw_all := lw_g (lw_at lw_m8 95 rfl) rfl
theorem q1830 : (Jvm.Cond.laysFinal "ConditionWiseModel" "ConditionWiseModel" "test" "[I") ∈ lw_all := lw_g (lw_at lw_m8 96 rfl) rfl
theorem q1831 : (Jvm.Cond.soleField "ConditionWiseModel" "test") ∈ lw_all := lw_g (lw_at lw_m8 97 rfl) rfl
theorem q1832 : (Jvm.Cond.laysFinal "ConditionWiseModel" "ConditionWiseModel" "firstLetter" "[I") ∈ lw_all := lw_g (lw_at lw_m8 98 rfl) rfl
theorem q1833 : (Jvm.Cond.soleField "ConditionWiseModel" "firstLetter") ∈ lw_all := lw_g (lw_at lw_m8 99 rfl) rfl
theorem q1834 : (Jvm.Cond.laysFinal "ConditionWiseModel" "ConditionWiseModel" "firstValue" "[I") ∈ lw_all := lw_g (lw_at lw_m8 100 rfl) rfl
theorem q1835 : (Jvm.Cond.soleField "ConditionWiseModel" "firstValue") ∈ lw_all := lw_g (lw_at lw_m8 101 rfl) rfl
theorem q1836 : (Jvm.Cond.laysFinal "ConditionWiseModel" "ConditionWiseModel" "secondLetter" "[I") ∈ lw_all := lw_g (lw_at lw_m8 102 rfl) rfl
theorem q1837 : (Jvm.Cond.soleField "ConditionWiseModel" "secondLetter") ∈ lw_all := lw_g (lw_at lw_m8 103 rfl) rfl
theorem q1838 : (Jvm.Cond.laysFinal "ConditionWiseModel" "ConditionWiseModel" "secondValue" "[I") ∈ lw_all := lw_g (lw_at lw_m8 104 rfl) rfl
theorem q1839 : (Jvm.Cond.soleField "ConditionWiseModel" "secondValue") ∈ lw_all := lw_g (lw_at lw_m8 105 rfl) rfl
theorem q1840 : (Jvm.Cond.lays "ConditionWiseModel" "ConditionWiseModel" "forbidden" "I") ∈ lw_all := lw_g (lw_at lw_m8 106 rfl) rfl
theorem q1841 : (Jvm.Cond.soleField "ConditionWiseModel" "forbidden") ∈ lw_all := lw_g (lw_at lw_m8 107 rfl) rfl
theorem q1842 : (Jvm.Cond.lays "ConditionWiseModel" "ConditionWiseModel" "at" "I") ∈ lw_all := lw_g (lw_at lw_m8 108 rfl) rfl
theorem q1843 : (Jvm.Cond.soleField "ConditionWiseModel" "at") ∈ lw_all := lw_g (lw_at lw_m8 109 rfl) rfl
theorem q1844 : (Jvm.Cond.lays "ConditionWiseModel" "ConditionWiseModel" "faults" "Z") ∈ lw_all := lw_g (lw_at lw_m8 110 rfl) rfl
theorem q1845 : (Jvm.Cond.soleField "ConditionWiseModel" "faults") ∈ lw_all := lw_g (lw_at lw_m8 111 rfl) rfl
theorem q1846 : (Jvm.Cond.laysFinal "ConditionWiseModel" "ConditionWiseModel" "deep" "[I") ∈ lw_all := lw_g (lw_at lw_m8 112 rfl) rfl
theorem q1847 : (Jvm.Cond.soleField "ConditionWiseModel" "deep") ∈ lw_all := lw_g (lw_at lw_m8 113 rfl) rfl
theorem q1848 : (Jvm.Cond.laysFinal "ConditionWiseModel" "ConditionWiseModel" "truth" "[Z") ∈ lw_all := lw_g (lw_at lw_m8 114 rfl) rfl
theorem q1849 : (Jvm.Cond.soleField "ConditionWiseModel" "truth") ∈ lw_all := lw_g (lw_at lw_m8 115 rfl) rfl
theorem q1850 : (Jvm.Cond.lays "ConditionWiseModel" "ConditionWiseModel" "asked" "I") ∈ lw_all := lw_g (lw_at lw_m8 116 rfl) rfl
theorem q1851 : (Jvm.Cond.soleField "ConditionWiseModel" "asked") ∈ lw_all := lw_g (lw_at lw_m8 117 rfl) rfl
theorem q1852 : (Jvm.Cond.laysFinal "ConditionWiseModel" "ConditionWiseModel" "valuesIn" "[I") ∈ lw_all := lw_g (lw_at lw_m8 118 rfl) rfl
theorem q1853 : (Jvm.Cond.soleField "ConditionWiseModel" "valuesIn") ∈ lw_all := lw_g (lw_at lw_m8 119 rfl) rfl
theorem q1854 : (Jvm.Cond.laysFinal "ConditionWiseModel" "ConditionWiseModel" "askedIn" "[I") ∈ lw_all := lw_g (lw_at lw_m8 120 rfl) rfl
theorem q1855 : (Jvm.Cond.soleField "ConditionWiseModel" "askedIn") ∈ lw_all := lw_g (lw_at lw_m8 121 rfl) rfl
theorem q1856 : (Jvm.Cond.laysFinal "ConditionWiseModel" "ConditionWiseModel" "decidingIn" "[I") ∈ lw_all := lw_g (lw_at lw_m8 122 rfl) rfl
theorem q1857 : (Jvm.Cond.soleField "ConditionWiseModel" "decidingIn") ∈ lw_all := lw_g (lw_at lw_m8 123 rfl) rfl
theorem q1858 : (Jvm.Cond.laysFinal "ConditionWiseModel" "ConditionWiseModel" "outcomeIn" "[Z") ∈ lw_all := lw_g (lw_at lw_m8 124 rfl) rfl
theorem q1859 : (Jvm.Cond.soleField "ConditionWiseModel" "outcomeIn") ∈ lw_all := lw_g (lw_at lw_m8 125 rfl) rfl
theorem q1860 : (Jvm.Cond.laysFinal "ConditionWiseModel" "ConditionWiseModel" "pairSet" "[I") ∈ lw_all := lw_g (lw_at lw_m8 126 rfl) rfl
theorem q1861 : (Jvm.Cond.soleField "ConditionWiseModel" "pairSet") ∈ lw_all := lw_g (lw_at lw_m8 127 rfl) rfl
theorem q1862 : (Jvm.Cond.superclass "ConditionWiseModel" "java/lang/Object") ∈ lw_all := lw_g (lw_at lw_m8 128 rfl) rfl
theorem q1864 : (Jvm.Cond.instanceMethod ({ cls := "ConditionWiseModel", name := "thrown", desc := "()I" } : Jvm.MethodName)) ∈ lw_all := lw_g (lw_at lw_m8 130 rfl) rfl
theorem q1865 : (Jvm.Cond.selects "ConditionWiseModel" ({ cls := "ConditionWiseModel", name := "thrown", desc := "()I" } : Jvm.MethodName) ({ cls := "ConditionWiseModel", name := "thrown", desc := "()I" } : Jvm.MethodName)) ∈ lw_all := lw_g (lw_at lw_m8 131 rfl) rfl
theorem q1866 : (Jvm.Cond.code ({ cls := "ConditionWiseModel", name := "thrown", desc := "()I" } : Jvm.MethodName) prog_15_method_2_code (1 : Nat) (Option.some Jvm.ClassFile.FieldType.int)) ∈ lw_all := lw_g (lw_at lw_m8 132 rfl) rfl
theorem q1868 : (Jvm.Cond.instanceMethod ({ cls := "ConditionWiseModel", name := "put", desc := "(III)I" } : Jvm.MethodName)) ∈ lw_all := lw_g (lw_at lw_m8 134 rfl) rfl
theorem q1869 : (Jvm.Cond.selects "ConditionWiseModel" ({ cls := "ConditionWiseModel", name := "put", desc := "(III)I" } : Jvm.MethodName) ({ cls := "ConditionWiseModel", name := "put", desc := "(III)I" } : Jvm.MethodName)) ∈ lw_all := lw_g (lw_at lw_m8 135 rfl) rfl
theorem q1870 : (Jvm.Cond.code ({ cls := "ConditionWiseModel", name := "put", desc := "(III)I" } : Jvm.MethodName) prog_15_method_9_code (8 : Nat) (Option.some Jvm.ClassFile.FieldType.int)) ∈ lw_all := lw_g (lw_at lw_m8 136 rfl) rfl
theorem q1871 : (Jvm.Cond.methodLink "ConditionWiseModel" (72 : Nat) ({ cls := "ConditionWiseModel", name := "byteOf", desc := "(IIII)I" } : Jvm.MethodName)) ∈ lw_all := lw_g (lw_at lw_m8 137 rfl) rfl
theorem q1872 : (Jvm.Cond.static ({ cls := "ConditionWiseModel", name := "byteOf", desc := "(IIII)I" } : Jvm.MethodName)) ∈ lw_all := lw_g (lw_at lw_m8 138 rfl) rfl
theorem q1873 : (Jvm.Cond.code ({ cls := "ConditionWiseModel", name := "byteOf", desc := "(IIII)I" } : Jvm.MethodName) prog_15_method_10_code (5 : Nat) (Option.some Jvm.ClassFile.FieldType.int)) ∈ lw_all := lw_g (lw_at lw_m8 139 rfl) rfl
theorem q1874 : (Jvm.Cond.methodLink "ConditionWiseModel" (76 : Nat) ({ cls := "ConditionWiseModel", name := "wrong", desc := "(Z)Z" } : Jvm.MethodName)) ∈ lw_all := lw_g (lw_at lw_m8 140 rfl) rfl
theorem q1875 : (Jvm.Cond.privateMethod ({ cls := "ConditionWiseModel", name := "wrong", desc := "(Z)Z" } : Jvm.MethodName)) ∈ lw_tbl := lw_at lw_m8 141 rfl
theorem q1876 : (Jvm.Cond.instanceMethod ({ cls := "ConditionWiseModel", name := "wrong", desc := "(Z)Z" } : Jvm.MethodName)) ∈ lw_all := lw_g (lw_at lw_m8 142 rfl) rfl
theorem q1877 : (Jvm.Cond.code ({ cls := "ConditionWiseModel", name := "wrong", desc := "(Z)Z" } : Jvm.MethodName) prog_15_method_4_code (2 : Nat) (Option.some Jvm.ClassFile.FieldType.boolean)) ∈ lw_all := lw_g (lw_at lw_m8 143 rfl) rfl
theorem q1878 : (Jvm.Cond.methodLink "ConditionWiseModel" (83 : Nat) ({ cls := "ConditionWiseModel", name := "throwsIf", desc := "(ZI)Z" } : Jvm.MethodName)) ∈ lw_all := lw_g (lw_at lw_m8 144 rfl) rfl
theorem q1879 : (Jvm.Cond.privateMethod ({ cls := "ConditionWiseModel", name := "throwsIf", desc := "(ZI)Z" } : Jvm.MethodName)) ∈ lw_tbl := lw_at lw_m8 145 rfl
theorem q1880 : (Jvm.Cond.instanceMethod ({ cls := "ConditionWiseModel", name := "throwsIf", desc := "(ZI)Z" } : Jvm.MethodName)) ∈ lw_all := lw_g (lw_at lw_m8 146 rfl) rfl
theorem q1881 : (Jvm.Cond.code ({ cls := "ConditionWiseModel", name := "throwsIf", desc := "(ZI)Z" } : Jvm.MethodName) prog_15_method_5_code (3 : Nat) (Option.some Jvm.ClassFile.FieldType.boolean)) ∈ lw_all := lw_g (lw_at lw_m8 147 rfl) rfl
theorem q1883 : (Jvm.Cond.instanceMethod ({ cls := "ConditionWiseModel", name := "clear", desc := "()I" } : Jvm.MethodName)) ∈ lw_all := lw_g (lw_at lw_m8 149 rfl) rfl
theorem q1884 : (Jvm.Cond.selects "ConditionWiseModel" ({ cls := "ConditionWiseModel", name := "clear", desc := "()I" } : Jvm.MethodName) ({ cls := "ConditionWiseModel", name := "clear", desc := "()I" } : Jvm.MethodName)) ∈ lw_all := lw_g (lw_at lw_m8 150 rfl) rfl
theorem q1885 : (Jvm.Cond.code ({ cls := "ConditionWiseModel", name := "clear", desc := "()I" } : Jvm.MethodName) prog_15_method_11_code (2 : Nat) (Option.some Jvm.ClassFile.FieldType.int)) ∈ lw_all := lw_g (lw_at lw_m8 151 rfl) rfl
theorem q1886 : (Jvm.Cond.methodLink "ConditionWiseModel" (87 : Nat) ({ cls := "ConditionWiseModel", name := "tells", desc := "(I)I" } : Jvm.MethodName)) ∈ lw_all := lw_g (lw_at lw_m8 152 rfl) rfl
theorem q1887 : (Jvm.Cond.privateMethod ({ cls := "ConditionWiseModel", name := "tells", desc := "(I)I" } : Jvm.MethodName)) ∈ lw_tbl := lw_at lw_m8 153 rfl
theorem q1888 : (Jvm.Cond.instanceMethod ({ cls := "ConditionWiseModel", name := "tells", desc := "(I)I" } : Jvm.MethodName)) ∈ lw_all := lw_g (lw_at lw_m8 154 rfl) rfl
theorem q1889 : (Jvm.Cond.code ({ cls := "ConditionWiseModel", name := "tells", desc := "(I)I" } : Jvm.MethodName) prog_15_method_6_code (2 : Nat) (Option.some Jvm.ClassFile.FieldType.int)) ∈ lw_all := lw_g (lw_at lw_m8 155 rfl) rfl
theorem q1891 : (Jvm.Cond.instanceMethod ({ cls := "ConditionWiseModel", name := "read", desc := "()I" } : Jvm.MethodName)) ∈ lw_all := lw_g (lw_at lw_m8 157 rfl) rfl
theorem q1892 : (Jvm.Cond.selects "ConditionWiseModel" ({ cls := "ConditionWiseModel", name := "read", desc := "()I" } : Jvm.MethodName) ({ cls := "ConditionWiseModel", name := "read", desc := "()I" } : Jvm.MethodName)) ∈ lw_all := lw_g (lw_at lw_m8 158 rfl) rfl
theorem q1893 : (Jvm.Cond.code ({ cls := "ConditionWiseModel", name := "read", desc := "()I" } : Jvm.MethodName) prog_15_method_18_code (2 : Nat) (Option.some Jvm.ClassFile.FieldType.int)) ∈ lw_all := lw_g (lw_at lw_m8 159 rfl) rfl
theorem q1894 : (Jvm.Cond.methodLink "ConditionWiseModel" (123 : Nat) ({ cls := "ConditionWiseModel", name := "reads", desc := "(I)I" } : Jvm.MethodName)) ∈ lw_all := lw_g (lw_at lw_m8 160 rfl) rfl
theorem q1895 : (Jvm.Cond.privateMethod ({ cls := "ConditionWiseModel", name := "reads", desc := "(I)I" } : Jvm.MethodName)) ∈ lw_tbl := lw_at lw_m8 161 rfl
theorem q1896 : (Jvm.Cond.instanceMethod ({ cls := "ConditionWiseModel", name := "reads", desc := "(I)I" } : Jvm.MethodName)) ∈ lw_all := lw_g (lw_at lw_m8 162 rfl) rfl
theorem q1897 : (Jvm.Cond.code ({ cls := "ConditionWiseModel", name := "reads", desc := "(I)I" } : Jvm.MethodName) prog_15_method_17_code (5 : Nat) (Option.some Jvm.ClassFile.FieldType.int)) ∈ lw_all := lw_g (lw_at lw_m8 163 rfl) rfl
theorem q1898 : (Jvm.Cond.methodLink "ConditionWiseModel" (117 : Nat) ({ cls := "ConditionWiseModel", name := "readsOne", desc := "()I" } : Jvm.MethodName)) ∈ lw_all := lw_g (lw_at lw_m8 164 rfl) rfl
theorem q1899 : (Jvm.Cond.privateMethod ({ cls := "ConditionWiseModel", name := "readsOne", desc := "()I" } : Jvm.MethodName)) ∈ lw_tbl := lw_at lw_m8 165 rfl
theorem q1900 : (Jvm.Cond.instanceMethod ({ cls := "ConditionWiseModel", name := "readsOne", desc := "()I" } : Jvm.MethodName)) ∈ lw_all := lw_g (lw_at lw_m8 166 rfl) rfl
theorem q1901 : (Jvm.Cond.code ({ cls := "ConditionWiseModel", name := "readsOne", desc := "()I" } : Jvm.MethodName) prog_15_method_16_code (2 : Nat) (Option.some Jvm.ClassFile.FieldType.int)) ∈ lw_all := lw_g (lw_at lw_m8 167 rfl) rfl
theorem q1902 : (Jvm.Cond.methodLink "ConditionWiseModel" (113 : Nat) ({ cls := "ConditionWiseModel", name := "takes", desc := "(I)Z" } : Jvm.MethodName)) ∈ lw_all := lw_g (lw_at lw_m8 168 rfl) rfl
theorem q1903 : (Jvm.Cond.privateMethod ({ cls := "ConditionWiseModel", name := "takes", desc := "(I)Z" } : Jvm.MethodName)) ∈ lw_tbl := lw_at lw_m8 169 rfl
theorem q1904 : (Jvm.Cond.instanceMethod ({ cls := "ConditionWiseModel", name := "takes", desc := "(I)Z" } : Jvm.MethodName)) ∈ lw_all := lw_g (lw_at lw_m8 170 rfl) rfl
theorem q1905 : (Jvm.Cond.code ({ cls := "ConditionWiseModel", name := "takes", desc := "(I)Z" } : Jvm.MethodName) prog_15_method_13_code (3 : Nat) (Option.some Jvm.ClassFile.FieldType.boolean)) ∈ lw_all := lw_g (lw_at lw_m8 171 rfl) rfl
theorem q1906 : (Jvm.Cond.methodLink "ConditionWiseModel" (98 : Nat) ({ cls := "ConditionWiseModel", name := "next", desc := "()I" } : Jvm.MethodName)) ∈ lw_all := lw_g (lw_at lw_m8 172 rfl) rfl
theorem q1907 : (Jvm.Cond.privateMethod ({ cls := "ConditionWiseModel", name := "next", desc := "()I" } : Jvm.MethodName)) ∈ lw_tbl := lw_at lw_m8 173 rfl
theorem q1908 : (Jvm.Cond.instanceMethod ({ cls := "ConditionWiseModel", name := "next", desc := "()I" } : Jvm.MethodName)) ∈ lw_all := lw_g (lw_at lw_m8 174 rfl) rfl
theorem q1909 : (Jvm.Cond.code ({ cls := "ConditionWiseModel", name := "next", desc := "()I" } : Jvm.MethodName) prog_15_method_12_code (1 : Nat) (Option.some Jvm.ClassFile.FieldType.int)) ∈ lw_all := lw_g (lw_at lw_m8 175 rfl) rfl
theorem q1910 : (Jvm.Cond.methodLink "ConditionWiseModel" (109 : Nat) ({ cls := "ConditionWiseModel", name := "makes", desc := "(III)I" } : Jvm.MethodName)) ∈ lw_all := lw_g (lw_at lw_m8 176 rfl) rfl
theorem q1911 : (Jvm.Cond.privateMethod ({ cls := "ConditionWiseModel", name := "makes", desc := "(III)I" } : Jvm.MethodName)) ∈ lw_tbl := lw_at lw_m8 177 rfl
theorem q1912 : (Jvm.Cond.instanceMethod ({ cls := "ConditionWiseModel", name := "makes", desc := "(III)I" } : Jvm.MethodName)) ∈ lw_all := lw_g (lw_at lw_m8 178 rfl) rfl
theorem q1913 : (Jvm.Cond.code ({ cls := "ConditionWiseModel", name := "makes", desc := "(III)I" } : Jvm.MethodName) prog_15_method_14_code (5 : Nat) (Option.some Jvm.ClassFile.FieldType.int)) ∈ lw_all := lw_g (lw_at lw_m8 179 rfl) rfl
theorem q1914 : (Jvm.Cond.methodLink "ConditionWiseModel" (120 : Nat) ({ cls := "ConditionWiseModel", name := "readsLetter", desc := "()I" } : Jvm.MethodName)) ∈ lw_all := lw_g (lw_at lw_m8 180 rfl) rfl
theorem q1915 : (Jvm.Cond.privateMethod ({ cls := "ConditionWiseModel", name := "readsLetter", desc := "()I" } : Jvm.MethodName)) ∈ lw_tbl := lw_at lw_m8 181 rfl
theorem q1916 : (Jvm.Cond.instanceMethod ({ cls := "ConditionWiseModel", name := "readsLetter", desc := "()I" } : Jvm.MethodName)) ∈ lw_all := lw_g (lw_at lw_m8 182 rfl) rfl
theorem q1917 : (Jvm.Cond.code ({ cls := "ConditionWiseModel", name := "readsLetter", desc := "()I" } : Jvm.MethodName) prog_15_method_15_code (2 : Nat) (Option.some Jvm.ClassFile.FieldType.int)) ∈ lw_all := lw_g (lw_at lw_m8 183 rfl) rfl
theorem q1918 : (Jvm.Cond.methodLink "ConditionWiseModel" (105 : Nat) ({ cls := "ConditionWiseModel", name := "in", desc := "(III)Z" } : Jvm.MethodName)) ∈ lw_all := lw_g (lw_at lw_m8 184 rfl) rfl
theorem q1919 : (Jvm.Cond.static ({ cls := "ConditionWiseModel", name := "in", desc := "(III)Z" } : Jvm.MethodName)) ∈ lw_all := lw_g (lw_at lw_m8 185 rfl) rfl
theorem q1920 : (Jvm.Cond.code ({ cls := "ConditionWiseModel", name := "in", desc := "(III)Z" } : Jvm.MethodName) prog_15_method_3_code (3 : Nat) (Option.some Jvm.ClassFile.FieldType.boolean)) ∈ lw_all := lw_g (lw_at lw_m8 186 rfl) rfl
theorem q1922 : (Jvm.Cond.instanceMethod ({ cls := "ConditionWiseModel", name := "decisions", desc := "()I" } : Jvm.MethodName)) ∈ lw_all := lw_g (lw_at lw_m8 188 rfl) rfl
theorem q1923 : (Jvm.Cond.selects "ConditionWiseModel" ({ cls := "ConditionWiseModel", name := "decisions", desc := "()I" } : Jvm.MethodName) ({ cls := "ConditionWiseModel", name := "decisions", desc := "()I" } : Jvm.MethodName)) ∈ lw_all := lw_g (lw_at lw_m8 189 rfl) rfl
theorem q1924 : (Jvm.Cond.code ({ cls := "ConditionWiseModel", name := "decisions", desc := "()I" } : Jvm.MethodName) prog_15_method_19_code (1 : Nat) (Option.some Jvm.ClassFile.FieldType.int)) ∈ lw_all := lw_g (lw_at lw_m8 190 rfl) rfl
theorem q1926 : (Jvm.Cond.instanceMethod ({ cls := "ConditionWiseModel", name := "length", desc := "()I" } : Jvm.MethodName)) ∈ lw_all := lw_g (lw_at lw_m8 192 rfl) rfl
theorem q1927 : (Jvm.Cond.selects "ConditionWiseModel" ({ cls := "ConditionWiseModel", name := "length", desc := "()I" } : Jvm.MethodName) ({ cls := "ConditionWiseModel", name := "length", desc := "()I" } : Jvm.MethodName)) ∈ lw_all := lw_g (lw_at lw_m8 193 rfl) rfl
theorem q1928 : (Jvm.Cond.code ({ cls := "ConditionWiseModel", name := "length", desc := "()I" } : Jvm.MethodName) prog_15_method_20_code (1 : Nat) (Option.some Jvm.ClassFile.FieldType.int)) ∈ lw_all := lw_g (lw_at lw_m8 194 rfl) rfl
theorem q1930 : (Jvm.Cond.instanceMethod ({ cls := "ConditionWiseModel", name := "conditions", desc := "(I)I" } : Jvm.MethodName)) ∈ lw_all := lw_g (lw_at lw_m8 196 rfl) rfl
theorem q1931 : (Jvm.Cond.selects "ConditionWiseModel" ({ cls := "ConditionWiseModel", name := "conditions", desc := "(I)I" } : Jvm.MethodName) ({ cls := "ConditionWiseModel", name := "conditions", desc := "(I)I" } : Jvm.MethodName)) ∈ lw_all := lw_g (lw_at lw_m8 197 rfl) rfl
theorem q1932 : (Jvm.Cond.code ({ cls := "ConditionWiseModel", name := "conditions", desc := "(I)I" } : Jvm.MethodName) prog_15_method_25_code (2 : Nat) (Option.some Jvm.ClassFile.FieldType.int)) ∈ lw_all := lw_g (lw_at lw_m8 198 rfl) rfl
theorem q1933 : (Jvm.Cond.methodLink "ConditionWiseModel" (133 : Nat) ({ cls := "ConditionWiseModel", name := "noDecision", desc := "(I)Z" } : Jvm.MethodName)) ∈ lw_all := lw_g (lw_at lw_m8 199 rfl) rfl
theorem q1934 : (Jvm.Cond.privateMethod ({ cls := "ConditionWiseModel", name := "noDecision", desc := "(I)Z" } : Jvm.MethodName)) ∈ lw_tbl := lw_at lw_m8 200 rfl
theorem q1935 : (Jvm.Cond.instanceMethod ({ cls := "ConditionWiseModel", name := "noDecision", desc := "(I)Z" } : Jvm.MethodName)) ∈ lw_all := lw_g (lw_at lw_m8 201 rfl) rfl
theorem q1936 : (Jvm.Cond.code ({ cls := "ConditionWiseModel", name := "noDecision", desc := "(I)Z" } : Jvm.MethodName) prog_15_method_22_code (2 : Nat) (Option.some Jvm.ClassFile.FieldType.boolean)) ∈ lw_all := lw_g (lw_at lw_m8 202 rfl) rfl
theorem q1937 : (Jvm.Cond.methodLink "ConditionWiseModel" (126 : Nat) ({ cls := "ConditionWiseModel", name := "isDecision", desc := "(I)Z" } : Jvm.MethodName)) ∈ lw_all := lw_g (lw_at lw_m8 203 rfl) rfl
theorem q1938 : (Jvm.Cond.privateMethod ({ cls := "ConditionWiseModel", name := "isDecision", desc := "(I)Z" } : Jvm.MethodName)) ∈ lw_tbl := lw_at lw_m8 204 rfl
theorem q1939 : (Jvm.Cond.instanceMethod ({ cls := "ConditionWiseModel", name := "isDecision", desc := "(I)Z" } : Jvm.MethodName)) ∈ lw_all := lw_g (lw_at lw_m8 205 rfl) rfl
theorem q1940 : (Jvm.Cond.code ({ cls := "ConditionWiseModel", name := "isDecision", desc := "(I)Z" } : Jvm.MethodName) prog_15_method_21_code (2 : Nat) (Option.some Jvm.ClassFile.FieldType.boolean)) ∈ lw_all := lw_g (lw_at lw_m8 206 rfl) rfl
theorem q1942 : (Jvm.Cond.instanceMethod ({ cls := "ConditionWiseModel", name := "letterOf", desc := "(II)I" } : Jvm.MethodName)) ∈ lw_all := lw_g (lw_at lw_m8 208 rfl) rfl
theorem q1943 : (Jvm.Cond.selects "ConditionWiseModel" ({ cls := "ConditionWiseModel", name := "letterOf", desc := "(II)I" } : Jvm.MethodName) ({ cls := "ConditionWiseModel", name := "letterOf", desc := "(II)I" } : Jvm.MethodName)) ∈ lw_all := lw_g (lw_at lw_m8 209 rfl) rfl
theorem q1944 : (Jvm.Cond.code ({ cls := "ConditionWiseModel", name := "letterOf", desc := "(II)I" } : Jvm.MethodName) prog_15_method_26_code (3 : Nat) (Option.some Jvm.ClassFile.FieldType.int)) ∈ lw_all := lw_g (lw_at lw_m8 210 rfl) rfl
theorem q1945 : (Jvm.Cond.methodLink "ConditionWiseModel" (136 : Nat) ({ cls := "ConditionWiseModel", name := "noCondition", desc := "(II)Z" } : Jvm.MethodName)) ∈ lw_all := lw_g (lw_at lw_m8 211 rfl) rfl
theorem q1946 : (Jvm.Cond.privateMethod ({ cls := "ConditionWiseModel", name := "noCondition", desc := "(II)Z" } : Jvm.MethodName)) ∈ lw_tbl := lw_at lw_m8 212 rfl
theorem q1947 : (Jvm.Cond.instanceMethod ({ cls := "ConditionWiseModel", name := "noCondition", desc := "(II)Z" } : Jvm.MethodName)) ∈ lw_all := lw_g (lw_at lw_m8 213 rfl) rfl
theorem q1948 : (Jvm.Cond.code ({ cls := "ConditionWiseModel", name := "noCondition", desc := "(II)Z" } : Jvm.MethodName) prog_15_method_24_code (3 : Nat) (Option.some Jvm.ClassFile.FieldType.boolean)) ∈ lw_all := lw_g (lw_at lw_m8 214 rfl) rfl
theorem q1949 : (Jvm.Cond.methodLink "ConditionWiseModel" (129 : Nat) ({ cls := "ConditionWiseModel", name := "isCondition", desc := "(II)Z" } : Jvm.MethodName)) ∈ lw_all := lw_g (lw_at lw_m8 215 rfl) rfl
theorem q1950 : (Jvm.Cond.privateMethod ({ cls := "ConditionWiseModel", name := "isCondition", desc := "(II)Z" } : Jvm.MethodName)) ∈ lw_tbl := lw_at lw_m8 216 rfl
theorem q1951 : (Jvm.Cond.instanceMethod ({ cls := "ConditionWiseModel", name := "isCondition", desc := "(II)Z" } : Jvm.MethodName)) ∈ lw_all := lw_g (lw_at lw_m8 217 rfl) rfl
theorem q1952 : (Jvm.Cond.code ({ cls := "ConditionWiseModel", name := "isCondition", desc := "(II)Z" } : Jvm.MethodName) prog_15_method_23_code (3 : Nat) (Option.some Jvm.ClassFile.FieldType.boolean)) ∈ lw_all := lw_g (lw_at lw_m8 218 rfl) rfl
theorem q1954 : (Jvm.Cond.instanceMethod ({ cls := "ConditionWiseModel", name := "coupled", desc := "(I)I" } : Jvm.MethodName)) ∈ lw_all := lw_g (lw_at lw_m8 220 rfl) rfl
theorem q1955 : (Jvm.Cond.selects "ConditionWiseModel" ({ cls := "ConditionWiseModel", name := "coupled", desc := "(I)I" } : Jvm.MethodName) ({ cls := "ConditionWiseModel", name := "coupled", desc := "(I)I" } : Jvm.MethodName)) ∈ lw_all := lw_g (lw_at lw_m8 221 rfl) rfl
theorem q1956 : (Jvm.Cond.code ({ cls := "ConditionWiseModel", name := "coupled", desc := "(I)I" } : Jvm.MethodName) prog_15_method_27_code (5 : Nat) (Option.some Jvm.ClassFile.FieldType.int)) ∈ lw_all := lw_g (lw_at lw_m8 222 rfl) rfl
theorem q1958 : (Jvm.Cond.instanceMethod ({ cls := "ConditionWiseModel", name := "depth", desc := "(I)I" } : Jvm.MethodName)) ∈ lw_all := lw_g (lw_at lw_m8 224 rfl) rfl
theorem q1959 : (Jvm.Cond.selects "ConditionWiseModel" ({ cls := "ConditionWiseModel", name := "depth", desc := "(I)I" } : Jvm.MethodName) ({ cls := "ConditionWiseModel", name := "depth", desc := "(I)I" } : Jvm.MethodName)) ∈ lw_all := lw_g (lw_at lw_m8 225 rfl) rfl
theorem q1960 : (Jvm.Cond.code ({ cls := "ConditionWiseModel", name := "depth", desc := "(I)I" } : Jvm.MethodName) prog_15_method_28_code (4 : Nat) (Option.some Jvm.ClassFile.FieldType.int)) ∈ lw_all := lw_g (lw_at lw_m8 226 rfl) rfl
theorem q1961 : (Jvm.Cond.methodLink "ConditionWiseModel" (139 : Nat) ({ cls := "java/lang/Math", name := "max", desc := "(II)I" } : Jvm.MethodName)) ∈ lw_all := lw_g (lw_at lw_m8 227 rfl) rfl
theorem q1963 : (Jvm.Cond.instanceMethod ({ cls := "ConditionWiseModel", name := "outcome", desc := "(II)Z" } : Jvm.MethodName)) ∈ lw_all := lw_g (lw_at lw_m8 229 rfl) rfl
theorem q1964 : (Jvm.Cond.selects "ConditionWiseModel" ({ cls := "ConditionWiseModel", name := "outcome", desc := "(II)Z" } : Jvm.MethodName) ({ cls := "ConditionWiseModel", name := "outcome", desc := "(II)Z" } : Jvm.MethodName)) ∈ lw_all := lw_g (lw_at lw_m8 230 rfl) rfl
theorem q1965 : (Jvm.Cond.code ({ cls := "ConditionWiseModel", name := "outcome", desc := "(II)Z" } : Jvm.MethodName) prog_15_method_36_code (3 : Nat) (Option.some Jvm.ClassFile.FieldType.boolean)) ∈ lw_all := lw_g (lw_at lw_m8 231 rfl) rfl
theorem q1966 : (Jvm.Cond.methodLink "ConditionWiseModel" (163 : Nat) ({ cls := "ConditionWiseModel", name := "noVector", desc := "(II)Z" } : Jvm.MethodName)) ∈ lw_all := lw_g (lw_at lw_m8 232 rfl) rfl
theorem q1967 : (Jvm.Cond.privateMethod ({ cls := "ConditionWiseModel", name := "noVector", desc := "(II)Z" } : Jvm.MethodName)) ∈ lw_tbl := lw_at lw_m8 233 rfl
theorem q1968 : (Jvm.Cond.instanceMethod ({ cls := "ConditionWiseModel", name := "noVector", desc := "(II)Z" } : Jvm.MethodName)) ∈ lw_all := lw_g (lw_at lw_m8 234 rfl) rfl
theorem q1969 : (Jvm.Cond.code ({ cls := "ConditionWiseModel", name := "noVector", desc := "(II)Z" } : Jvm.MethodName) prog_15_method_35_code (3 : Nat) (Option.some Jvm.ClassFile.FieldType.boolean)) ∈ lw_all := lw_g (lw_at lw_m8 235 rfl) rfl
theorem q1970 : (Jvm.Cond.methodLink "ConditionWiseModel" (160 : Nat) ({ cls := "ConditionWiseModel", name := "isVector", desc := "(I)Z" } : Jvm.MethodName)) ∈ lw_all := lw_g (lw_at lw_m8 236 rfl) rfl
theorem q1971 : (Jvm.Cond.static ({ cls := "ConditionWiseModel", name := "isVector", desc := "(I)Z" } : Jvm.MethodName)) ∈ lw_all := lw_g (lw_at lw_m8 237 rfl) rfl
theorem q1972 : (Jvm.Cond.code ({ cls := "ConditionWiseModel", name := "isVector", desc := "(I)Z" } : Jvm.MethodName) prog_15_method_34_code (1 : Nat) (Option.some Jvm.ClassFile.FieldType.boolean)) ∈ lw_all := lw_g (lw_at lw_m8 238 rfl) rfl
theorem q1973 : (Jvm.Cond.methodLink "ConditionWiseModel" (166 : Nat) ({ cls := "ConditionWiseModel", name := "walksAll", desc := "(II)Z" } : Jvm.MethodName)) ∈ lw_all := lw_g (lw_at lw_m8 239 rfl) rfl
theorem q1974 : (Jvm.Cond.privateMethod ({ cls := "ConditionWiseModel", name := "walksAll", desc := "(II)Z" } : Jvm.MethodName)) ∈ lw_tbl := lw_at lw_m9 0 rfl
theorem q1975 : (Jvm.Cond.instanceMethod ({ cls := "ConditionWiseModel", name := "walksAll", desc := "(II)Z" } : Jvm.MethodName)) ∈ lw_all := lw_g (lw_at lw_m9 1 rfl) rfl
theorem q1976 : (Jvm.Cond.code ({ cls := "ConditionWiseModel", name := "walksAll", desc := "(II)Z" } : Jvm.MethodName) prog_15_method_32_code (3 : Nat) (Option.some Jvm.ClassFile.FieldType.boolean)) ∈ lw_all := lw_g (lw_at lw_m9 2 rfl) rfl
theorem q1977 : (Jvm.Cond.methodLink "ConditionWiseModel" (154 : Nat) ({ cls := "ConditionWiseModel", name := "values", desc := "(II)I" } : Jvm.MethodName)) ∈ lw_all := lw_g (lw_at lw_m9 3 rfl) rfl
theorem q1978 : (Jvm.Cond.privateMethod ({ cls := "ConditionWiseModel", name := "values", desc := "(II)I" } : Jvm.MethodName)) ∈ lw_tbl := lw_at lw_m9 4 rfl
theorem q1979 : (Jvm.Cond.instanceMethod ({ cls := "ConditionWiseModel", name := "values", desc := "(II)I" } : Jvm.MethodName)) ∈ lw_all := lw_g (lw_at lw_m9 5 rfl) rfl
theorem q1980 : (Jvm.Cond.code ({ cls := "ConditionWiseModel", name := "values", desc := "(II)I" } : Jvm.MethodName) prog_15_method_29_code (5 : Nat) (Option.some Jvm.ClassFile.FieldType.int)) ∈ lw_all := lw_g (lw_at lw_m9 6 rfl) rfl
theorem q1981 : (Jvm.Cond.methodLink "ConditionWiseModel" (145 : Nat) ({ cls := "ConditionWiseModel", name := "has", desc := "(II)Z" } : Jvm.MethodName)) ∈ lw_all := lw_g (lw_at lw_m9 7 rfl) rfl
theorem q1982 : (Jvm.Cond.static ({ cls := "ConditionWiseModel", name := "has", desc := "(II)Z" } : Jvm.MethodName)) ∈ lw_all := lw_g (lw_at lw_m9 8 rfl) rfl
theorem q1983 : (Jvm.Cond.code ({ cls := "ConditionWiseModel", name := "has", desc := "(II)Z" } : Jvm.MethodName) prog_15_method_7_code (2 : Nat) (Option.some Jvm.ClassFile.FieldType.boolean)) ∈ lw_all := lw_g (lw_at lw_m9 9 rfl) rfl
theorem q1984 : (Jvm.Cond.methodLink "ConditionWiseModel" (151 : Nat) ({ cls := "ConditionWiseModel", name := "walks", desc := "(III)Z" } : Jvm.MethodName)) ∈ lw_all := lw_g (lw_at lw_m9 10 rfl) rfl
theorem q1985 : (Jvm.Cond.privateMethod ({ cls := "ConditionWiseModel", name := "walks", desc := "(III)Z" } : Jvm.MethodName)) ∈ lw_tbl := lw_at lw_m9 11 rfl
theorem q1986 : (Jvm.Cond.instanceMethod ({ cls := "ConditionWiseModel", name := "walks", desc := "(III)Z" } : Jvm.MethodName)) ∈ lw_all := lw_g (lw_at lw_m9 12 rfl) rfl
theorem q1987 : (Jvm.Cond.code ({ cls := "ConditionWiseModel", name := "walks", desc := "(III)Z" } : Jvm.MethodName) prog_15_method_31_code (7 : Nat) (Option.some Jvm.ClassFile.FieldType.boolean)) ∈ lw_all := lw_g (lw_at lw_m9 13 rfl) rfl
theorem q1989 : (Jvm.Cond.instanceMethod ({ cls := "ConditionWiseModel", name := "state", desc := "(III)I" } : Jvm.MethodName)) ∈ lw_all := lw_g (lw_at lw_m9 15 rfl) rfl
theorem q1990 : (Jvm.Cond.selects "ConditionWiseModel" ({ cls := "ConditionWiseModel", name := "state", desc := "(III)I" } : Jvm.MethodName) ({ cls := "ConditionWiseModel", name := "state", desc := "(III)I" } : Jvm.MethodName)) ∈ lw_all := lw_g (lw_at lw_m9 16 rfl) rfl
theorem q1991 : (Jvm.Cond.code ({ cls := "ConditionWiseModel", name := "state", desc := "(III)I" } : Jvm.MethodName) prog_15_method_37_code (5 : Nat) (Option.some Jvm.ClassFile.FieldType.int)) ∈ lw_all := lw_g (lw_at lw_m9 17 rfl) rfl
theorem q1993 : (Jvm.Cond.instanceMethod ({ cls := "ConditionWiseModel", name := "deciding", desc := "(II)I" } : Jvm.MethodName)) ∈ lw_all := lw_g (lw_at lw_m9 19 rfl) rfl
theorem q1994 : (Jvm.Cond.selects "ConditionWiseModel" ({ cls := "ConditionWiseModel", name := "deciding", desc := "(II)I" } : Jvm.MethodName) ({ cls := "ConditionWiseModel", name := "deciding", desc := "(II)I" } : Jvm.MethodName)) ∈ lw_all := lw_g (lw_at lw_m9 20 rfl) rfl
theorem q1995 : (Jvm.Cond.code ({ cls := "ConditionWiseModel", name := "deciding", desc := "(II)I" } : Jvm.MethodName) prog_15_method_38_code (3 : Nat) (Option.some Jvm.ClassFile.FieldType.int)) ∈ lw_all := lw_g (lw_at lw_m9 21 rfl) rfl
theorem q1996 : (Jvm.Cond.methodLink "ConditionWiseModel" (169 : Nat) ({ cls := "ConditionWiseModel", name := "decidesIn", desc := "(II)I" } : Jvm.MethodName)) ∈ lw_all := lw_g (lw_at lw_m9 22 rfl) rfl
theorem q1997 : (Jvm.Cond.privateMethod ({ cls := "ConditionWiseModel", name := "decidesIn", desc := "(II)I" } : Jvm.MethodName)) ∈ lw_tbl := lw_at lw_m9 23 rfl
theorem q1998 : (Jvm.Cond.instanceMethod ({ cls := "ConditionWiseModel", name := "decidesIn", desc := "(II)I" } : Jvm.MethodName)) ∈ lw_all := lw_g (lw_at lw_m9 24 rfl) rfl
theorem q1999 : (Jvm.Cond.code ({ cls := "ConditionWiseModel", name := "decidesIn", desc := "(II)I" } : Jvm.MethodName) prog_15_method_33_code (7 : Nat) (Option.some Jvm.ClassFile.FieldType.int)) ∈ lw_all := lw_g (lw_at lw_m9 25 rfl) rfl
theorem q2000 : (Jvm.Cond.methodLink "ConditionWiseModel" (157 : Nat) ({ cls := "ConditionWiseModel", name := "whole", desc := "(II)Z" } : Jvm.MethodName)) ∈ lw_all := lw_g (lw_at lw_m9 26 rfl) rfl
theorem q2001 : (Jvm.Cond.privateMethod ({ cls := "ConditionWiseModel", name := "whole", desc := "(II)Z" } : Jvm.MethodName)) ∈ lw_tbl := lw_at lw_m9 27 rfl
theorem q2002 : (Jvm.Cond.instanceMethod ({ cls := "ConditionWiseModel", name := "whole", desc := "(II)Z" } : Jvm.MethodName)) ∈ lw_all := lw_g (lw_at lw_m9 28 rfl) rfl
theorem q2003 : (Jvm.Cond.code ({ cls := "ConditionWiseModel", name := "whole", desc := "(II)Z" } : Jvm.MethodName) prog_15_method_30_code (7 : Nat) (Option.some Jvm.ClassFile.FieldType.boolean)) ∈ lw_all := lw_g (lw_at lw_m9 29 rfl) rfl
theorem q2005 : (Jvm.Cond.instanceMethod ({ cls := "ConditionWiseModel", name := "isSame", desc := "(II)Z" } : Jvm.MethodName)) ∈ lw_all := lw_g (lw_at lw_m9 31 rfl) rfl
theorem q2006 : (Jvm.Cond.selects "ConditionWiseModel" ({ cls := "ConditionWiseModel", name := "isSame", desc := "(II)Z" } : Jvm.MethodName) ({ cls := "ConditionWiseModel", name := "isSame", desc := "(II)Z" } : Jvm.MethodName)) ∈ lw_all := lw_g (lw_at lw_m9 32 rfl) rfl
theorem q2007 : (Jvm.Cond.code ({ cls := "ConditionWiseModel", name := "isSame", desc := "(II)Z" } : Jvm.MethodName) prog_15_method_39_code (4 : Nat) (Option.some Jvm.ClassFile.FieldType.boolean)) ∈ lw_all := lw_g (lw_at lw_m9 33 rfl) rfl
theorem q2008 : (Jvm.Cond.methodLink "ConditionWiseModel" (172 : Nat) ({ cls := "ConditionWiseModel", name := "isAllowed", desc := "(I)Z" } : Jvm.MethodName)) ∈ lw_all := lw_g (lw_at lw_m9 34 rfl) rfl
theorem q2009 : (Jvm.Cond.privateMethod ({ cls := "ConditionWiseModel", name := "isAllowed", desc := "(I)Z" } : Jvm.MethodName)) ∈ lw_tbl := lw_at lw_m9 35 rfl
theorem q2010 : (Jvm.Cond.instanceMethod ({ cls := "ConditionWiseModel", name := "isAllowed", desc := "(I)Z" } : Jvm.MethodName)) ∈ lw_all := lw_g (lw_at lw_m9 36 rfl) rfl
theorem q2011 : (Jvm.Cond.code ({ cls := "ConditionWiseModel", name := "isAllowed", desc := "(I)Z" } : Jvm.MethodName) prog_15_method_41_code (3 : Nat) (Option.some Jvm.ClassFile.FieldType.boolean)) ∈ lw_all := lw_g (lw_at lw_m9 37 rfl) rfl
theorem q2012 : (Jvm.Cond.methodLink "ConditionWiseModel" (178 : Nat) ({ cls := "ConditionWiseModel", name := "bit", desc := "(II)I" } : Jvm.MethodName)) ∈ lw_all := lw_g (lw_at lw_m9 38 rfl) rfl
theorem q2013 : (Jvm.Cond.static ({ cls := "ConditionWiseModel", name := "bit", desc := "(II)I" } : Jvm.MethodName)) ∈ lw_all := lw_g (lw_at lw_m9 39 rfl) rfl
theorem q2014 : (Jvm.Cond.code ({ cls := "ConditionWiseModel", name := "bit", desc := "(II)I" } : Jvm.MethodName) prog_15_method_40_code (2 : Nat) (Option.some Jvm.ClassFile.FieldType.int)) ∈ lw_all := lw_g (lw_at lw_m9 40 rfl) rfl
theorem q2016 : (Jvm.Cond.instanceMethod ({ cls := "ConditionWiseModel", name := "forbid", desc := "(IZIZ)I" } : Jvm.MethodName)) ∈ lw_all := lw_g (lw_at lw_m9 42 rfl) rfl
theorem q2017 : (Jvm.Cond.selects "ConditionWiseModel" ({ cls := "ConditionWiseModel", name := "forbid", desc := "(IZIZ)I" } : Jvm.MethodName) ({ cls := "ConditionWiseModel", name := "forbid", desc := "(IZIZ)I" } : Jvm.MethodName)) ∈ lw_all := lw_g (lw_at lw_m9 43 rfl) rfl
theorem q2018 : (Jvm.Cond.code ({ cls := "ConditionWiseModel", name := "forbid", desc := "(IZIZ)I" } : Jvm.MethodName) prog_15_method_43_code (5 : Nat) (Option.some Jvm.ClassFile.FieldType.int)) ∈ lw_all := lw_g (lw_at lw_m9 44 rfl) rfl
theorem q2020 : (Jvm.Cond.instanceMethod ({ cls := "ConditionWiseModel", name := "permit", desc := "(I)I" } : Jvm.MethodName)) ∈ lw_all := lw_g (lw_at lw_m9 46 rfl) rfl
theorem q2021 : (Jvm.Cond.selects "ConditionWiseModel" ({ cls := "ConditionWiseModel", name := "permit", desc := "(I)I" } : Jvm.MethodName) ({ cls := "ConditionWiseModel", name := "permit", desc := "(I)I" } : Jvm.MethodName)) ∈ lw_all := lw_g (lw_at lw_m9 47 rfl) rfl
theorem q2022 : (Jvm.Cond.code ({ cls := "ConditionWiseModel", name := "permit", desc := "(I)I" } : Jvm.MethodName) prog_15_method_44_code (3 : Nat) (Option.some Jvm.ClassFile.FieldType.int)) ∈ lw_all := lw_g (lw_at lw_m9 48 rfl) rfl
theorem q2023 : (Jvm.Cond.methodLink "ConditionWiseModel" (181 : Nat) ({ cls := "ConditionWiseModel", name := "allowedSet", desc := "()I" } : Jvm.MethodName)) ∈ lw_all := lw_g (lw_at lw_m9 49 rfl) rfl
theorem q2024 : (Jvm.Cond.privateMethod ({ cls := "ConditionWiseModel", name := "allowedSet", desc := "()I" } : Jvm.MethodName)) ∈ lw_tbl := lw_at lw_m9 50 rfl
theorem q2025 : (Jvm.Cond.instanceMethod ({ cls := "ConditionWiseModel", name := "allowedSet", desc := "()I" } : Jvm.MethodName)) ∈ lw_all := lw_g (lw_at lw_m9 51 rfl) rfl
theorem q2026 : (Jvm.Cond.code ({ cls := "ConditionWiseModel", name := "allowedSet", desc := "()I" } : Jvm.MethodName) prog_15_method_42_code (3 : Nat) (Option.some Jvm.ClassFile.FieldType.int)) ∈ lw_all := lw_g (lw_at lw_m9 52 rfl) rfl
theorem q2027 : (Jvm.Cond.methodLink "ConditionWiseModel" (184 : Nat) ({ cls := "ConditionWiseModel", name := "size", desc := "(I)I" } : Jvm.MethodName)) ∈ lw_all := lw_g (lw_at lw_m9 53 rfl) rfl
theorem q2028 : (Jvm.Cond.static ({ cls := "ConditionWiseModel", name := "size", desc := "(I)I" } : Jvm.MethodName)) ∈ lw_all := lw_g (lw_at lw_m9 54 rfl) rfl
theorem q2029 : (Jvm.Cond.code ({ cls := "ConditionWiseModel", name := "size", desc := "(I)I" } : Jvm.MethodName) prog_15_method_8_code (3 : Nat) (Option.some Jvm.ClassFile.FieldType.int)) ∈ lw_all := lw_g (lw_at lw_m9 55 rfl) rfl
theorem q2031 : (Jvm.Cond.instanceMethod ({ cls := "ConditionWiseModel", name := "allowed", desc := "()I" } : Jvm.MethodName)) ∈ lw_all := lw_g (lw_at lw_m9 57 rfl) rfl
theorem q2032 : (Jvm.Cond.selects "ConditionWiseModel" ({ cls := "ConditionWiseModel", name := "allowed", desc := "()I" } : Jvm.MethodName) ({ cls := "ConditionWiseModel", name := "allowed", desc := "()I" } : Jvm.MethodName)) ∈ lw_all := lw_g (lw_at lw_m9 58 rfl) rfl
theorem q2033 : (Jvm.Cond.code ({ cls := "ConditionWiseModel", name := "allowed", desc := "()I" } : Jvm.MethodName) prog_15_method_45_code (1 : Nat) (Option.some Jvm.ClassFile.FieldType.int)) ∈ lw_all := lw_g (lw_at lw_m9 59 rfl) rfl
theorem q2035 : (Jvm.Cond.instanceMethod ({ cls := "ConditionWiseModel", name := "isPair", desc := "(IIIII)Z" } : Jvm.MethodName)) ∈ lw_all := lw_g (lw_at lw_m9 61 rfl) rfl
theorem q2036 : (Jvm.Cond.selects "ConditionWiseModel" ({ cls := "ConditionWiseModel", name := "isPair", desc := "(IIIII)Z" } : Jvm.MethodName) ({ cls := "ConditionWiseModel", name := "isPair", desc := "(IIIII)Z" } : Jvm.MethodName)) ∈ lw_all := lw_g (lw_at lw_m9 62 rfl) rfl
theorem q2037 : (Jvm.Cond.code ({ cls := "ConditionWiseModel", name := "isPair", desc := "(IIIII)Z" } : Jvm.MethodName) prog_15_method_51_code (6 : Nat) (Option.some Jvm.ClassFile.FieldType.boolean)) ∈ lw_all := lw_g (lw_at lw_m9 63 rfl) rfl
theorem q2038 : (Jvm.Cond.methodLink "ConditionWiseModel" (194 : Nat) ({ cls := "ConditionWiseModel", name := "noPairs", desc := "(III)Z" } : Jvm.MethodName)) ∈ lw_all := lw_g (lw_at lw_m9 64 rfl) rfl
theorem q2039 : (Jvm.Cond.privateMethod ({ cls := "ConditionWiseModel", name := "noPairs", desc := "(III)Z" } : Jvm.MethodName)) ∈ lw_tbl := lw_at lw_m9 65 rfl
theorem q2040 : (Jvm.Cond.instanceMethod ({ cls := "ConditionWiseModel", name := "noPairs", desc := "(III)Z" } : Jvm.MethodName)) ∈ lw_all := lw_g (lw_at lw_m9 66 rfl) rfl
theorem q2041 : (Jvm.Cond.code ({ cls := "ConditionWiseModel", name := "noPairs", desc := "(III)Z" } : Jvm.MethodName) prog_15_method_50_code (4 : Nat) (Option.some Jvm.ClassFile.FieldType.boolean)) ∈ lw_all := lw_g (lw_at lw_m9 67 rfl) rfl
theorem q2042 : (Jvm.Cond.methodLink "ConditionWiseModel" (191 : Nat) ({ cls := "ConditionWiseModel", name := "isRule", desc := "(I)Z" } : Jvm.MethodName)) ∈ lw_all := lw_g (lw_at lw_m9 68 rfl) rfl
theorem q2043 : (Jvm.Cond.static ({ cls := "ConditionWiseModel", name := "isRule", desc := "(I)Z" } : Jvm.MethodName)) ∈ lw_all := lw_g (lw_at lw_m9 69 rfl) rfl
theorem q2044 : (Jvm.Cond.code ({ cls := "ConditionWiseModel", name := "isRule", desc := "(I)Z" } : Jvm.MethodName) prog_15_method_48_code (1 : Nat) (Option.some Jvm.ClassFile.FieldType.boolean)) ∈ lw_all := lw_g (lw_at lw_m9 70 rfl) rfl
theorem q2045 : (Jvm.Cond.methodLink "ConditionWiseModel" (197 : Nat) ({ cls := "ConditionWiseModel", name := "findsPairs", desc := "(II)V" } : Jvm.MethodName)) ∈ lw_all := lw_g (lw_at lw_m9 71 rfl) rfl
theorem q2046 : (Jvm.Cond.privateMethod ({ cls := "ConditionWiseModel", name := "findsPairs", desc := "(II)V" } : Jvm.MethodName)) ∈ lw_tbl := lw_at lw_m9 72 rfl
theorem q2047 : (Jvm.Cond.instanceMethod ({ cls := "ConditionWiseModel", name := "findsPairs", desc := "(II)V" } : Jvm.MethodName)) ∈ lw_all := lw_g (lw_at lw_m9 73 rfl) rfl
theorem q2048 : (Jvm.Cond.code ({ cls := "ConditionWiseModel", name := "findsPairs", desc := "(II)V" } : Jvm.MethodName) prog_15_method_47_code (8 : Nat) (Option.none : Option Jvm.ClassFile.FieldType)) ∈ lw_all := lw_g (lw_at lw_m9 74 rfl) rfl
theorem q2049 : (Jvm.Cond.methodLink "ConditionWiseModel" (187 : Nat) ({ cls := "ConditionWiseModel", name := "areBy", desc := "(IIII)Z" } : Jvm.MethodName)) ∈ lw_all := lw_g (lw_at lw_m9 75 rfl) rfl
theorem q2050 : (Jvm.Cond.privateMethod ({ cls := "ConditionWiseModel", name := "areBy", desc := "(IIII)Z" } : Jvm.MethodName)) ∈ lw_tbl := lw_at lw_m9 76 rfl
theorem q2051 : (Jvm.Cond.instanceMethod ({ cls := "ConditionWiseModel", name := "areBy", desc := "(IIII)Z" } : Jvm.MethodName)) ∈ lw_all := lw_g (lw_at lw_m9 77 rfl) rfl
theorem q2052 : (Jvm.Cond.code ({ cls := "ConditionWiseModel", name := "areBy", desc := "(IIII)Z" } : Jvm.MethodName) prog_15_method_46_code (6 : Nat) (Option.some Jvm.ClassFile.FieldType.boolean)) ∈ lw_all := lw_g (lw_at lw_m9 78 rfl) rfl
theorem q2054 : (Jvm.Cond.instanceMethod ({ cls := "ConditionWiseModel", name := "pairs", desc := "(III)I" } : Jvm.MethodName)) ∈ lw_all := lw_g (lw_at lw_m9 80 rfl) rfl
theorem q2055 : (Jvm.Cond.selects "ConditionWiseModel" ({ cls := "ConditionWiseModel", name := "pairs", desc := "(III)I" } : Jvm.MethodName) ({ cls := "ConditionWiseModel", name := "pairs", desc := "(III)I" } : Jvm.MethodName)) ∈ lw_all := lw_g (lw_at lw_m9 81 rfl) rfl
theorem q2056 : (Jvm.Cond.code ({ cls := "ConditionWiseModel", name := "pairs", desc := "(III)I" } : Jvm.MethodName) prog_15_method_52_code (6 : Nat) (Option.some Jvm.ClassFile.FieldType.int)) ∈ lw_all := lw_g (lw_at lw_m9 82 rfl) rfl
theorem q2058 : (Jvm.Cond.instanceMethod ({ cls := "ConditionWiseModel", name := "pairAt", desc := "(IIII)I" } : Jvm.MethodName)) ∈ lw_all := lw_g (lw_at lw_m9 84 rfl) rfl
theorem q2059 : (Jvm.Cond.selects "ConditionWiseModel" ({ cls := "ConditionWiseModel", name := "pairAt", desc := "(IIII)I" } : Jvm.MethodName) ({ cls := "ConditionWiseModel", name := "pairAt", desc := "(IIII)I" } : Jvm.MethodName)) ∈ lw_all := lw_g (lw_at lw_m9 85 rfl) rfl
theorem q2060 : (Jvm.Cond.code ({ cls := "ConditionWiseModel", name := "pairAt", desc := "(IIII)I" } : Jvm.MethodName) prog_15_method_53_code (9 : Nat) (Option.some Jvm.ClassFile.FieldType.int)) ∈ lw_all := lw_g (lw_at lw_m9 86 rfl) rfl
theorem q2062 : (Jvm.Cond.instanceMethod ({ cls := "ConditionWiseModel", name := "possible", desc := "(II)I" } : Jvm.MethodName)) ∈ lw_all := lw_g (lw_at lw_m9 88 rfl) rfl
theorem q2063 : (Jvm.Cond.selects "ConditionWiseModel" ({ cls := "ConditionWiseModel", name := "possible", desc := "(II)I" } : Jvm.MethodName) ({ cls := "ConditionWiseModel", name := "possible", desc := "(II)I" } : Jvm.MethodName)) ∈ lw_all := lw_g (lw_at lw_m9 89 rfl) rfl
theorem q2064 : (Jvm.Cond.code ({ cls := "ConditionWiseModel", name := "possible", desc := "(II)I" } : Jvm.MethodName) prog_15_method_55_code (3 : Nat) (Option.some Jvm.ClassFile.FieldType.int)) ∈ lw_all := lw_g (lw_at lw_m9 90 rfl) rfl
theorem q2065 : (Jvm.Cond.methodLink "ConditionWiseModel" (201 : Nat) ({ cls := "ConditionWiseModel", name := "noRule", desc := "(II)Z" } : Jvm.MethodName)) ∈ lw_all := lw_g (lw_at lw_m9 91 rfl) rfl
theorem q2066 : (Jvm.Cond.privateMethod ({ cls := "ConditionWiseModel", name := "noRule", desc := "(II)Z" } : Jvm.MethodName)) ∈ lw_tbl := lw_at lw_m9 92 rfl
theorem q2067 : (Jvm.Cond.instanceMethod ({ cls := "ConditionWiseModel", name := "noRule", desc := "(II)Z" } : Jvm.MethodName)) ∈ lw_all := lw_g (lw_at lw_m9 93 rfl) rfl
theorem q2068 : (Jvm.Cond.code ({ cls := "ConditionWiseModel", name := "noRule", desc := "(II)Z" } : Jvm.MethodName) prog_15_method_49_code (3 : Nat) (Option.some Jvm.ClassFile.FieldType.boolean)) ∈ lw_all := lw_g (lw_at lw_m9 94 rfl) rfl
theorem q2069 : (Jvm.Cond.constant "ConditionWiseModel" (204 : Nat) (65535 : Int32)) ∈ lw_all := lw_g (lw_at lw_m9 95 rfl) rfl
theorem q2070 : (Jvm.Cond.methodLink "ConditionWiseModel" (205 : Nat) ({ cls := "ConditionWiseModel", name := "coveredBy", desc := "(I)I" } : Jvm.MethodName)) ∈ lw_all := lw_g (lw_at lw_m9 96 rfl) rfl
theorem q2071 : (Jvm.Cond.privateMethod ({ cls := "ConditionWiseModel", name := "coveredBy", desc := "(I)I" } : Jvm.MethodName)) ∈ lw_tbl := lw_at lw_m9 97 rfl
theorem q2072 : (Jvm.Cond.instanceMethod ({ cls := "ConditionWiseModel", name := "coveredBy", desc := "(I)I" } : Jvm.MethodName)) ∈ lw_all := lw_g (lw_at lw_m9 98 rfl) rfl
theorem q2073 : (Jvm.Cond.code ({ cls := "ConditionWiseModel", name := "coveredBy", desc := "(I)I" } : Jvm.MethodName) prog_15_method_54_code (5 : Nat) (Option.some Jvm.ClassFile.FieldType.int)) ∈ lw_all := lw_g (lw_at lw_m9 99 rfl) rfl
theorem q2075 : (Jvm.Cond.instanceMethod ({ cls := "ConditionWiseModel", name := "addTest", desc := "(II)I" } : Jvm.MethodName)) ∈ lw_all := lw_g (lw_at lw_m9 101 rfl) rfl
theorem q2076 : (Jvm.Cond.selects "ConditionWiseModel" ({ cls := "ConditionWiseModel", name := "addTest", desc := "(II)I" } : Jvm.MethodName) ({ cls := "ConditionWiseModel", name := "addTest", desc := "(II)I" } : Jvm.MethodName)) ∈ lw_all := lw_g (lw_at lw_m9 102 rfl) rfl
theorem q2077 : (Jvm.Cond.code ({ cls := "ConditionWiseModel", name := "addTest", desc := "(II)I" } : Jvm.MethodName) prog_15_method_56_code (3 : Nat) (Option.some Jvm.ClassFile.FieldType.int)) ∈ lw_all := lw_g (lw_at lw_m9 103 rfl) rfl
theorem q2079 : (Jvm.Cond.instanceMethod ({ cls := "ConditionWiseModel", name := "removeTest", desc := "(II)I" } : Jvm.MethodName)) ∈ lw_all := lw_g (lw_at lw_m9 105 rfl) rfl
theorem q2080 : (Jvm.Cond.selects "ConditionWiseModel" ({ cls := "ConditionWiseModel", name := "removeTest", desc := "(II)I" } : Jvm.MethodName) ({ cls := "ConditionWiseModel", name := "removeTest", desc := "(II)I" } : Jvm.MethodName)) ∈ lw_all := lw_g (lw_at lw_m9 106 rfl) rfl
theorem q2081 : (Jvm.Cond.code ({ cls := "ConditionWiseModel", name := "removeTest", desc := "(II)I" } : Jvm.MethodName) prog_15_method_57_code (3 : Nat) (Option.some Jvm.ClassFile.FieldType.int)) ∈ lw_all := lw_g (lw_at lw_m9 107 rfl) rfl
theorem q2083 : (Jvm.Cond.instanceMethod ({ cls := "ConditionWiseModel", name := "tests", desc := "(I)I" } : Jvm.MethodName)) ∈ lw_all := lw_g (lw_at lw_m9 109 rfl) rfl
theorem q2084 : (Jvm.Cond.selects "ConditionWiseModel" ({ cls := "ConditionWiseModel", name := "tests", desc := "(I)I" } : Jvm.MethodName) ({ cls := "ConditionWiseModel", name := "tests", desc := "(I)I" } : Jvm.MethodName)) ∈ lw_all := lw_g (lw_at lw_m9 110 rfl) rfl
theorem q2085 : (Jvm.Cond.code ({ cls := "ConditionWiseModel", name := "tests", desc := "(I)I" } : Jvm.MethodName) prog_15_method_58_code (2 : Nat) (Option.some Jvm.ClassFile.FieldType.int)) ∈ lw_all := lw_g (lw_at lw_m9 111 rfl) rfl
theorem q2087 : (Jvm.Cond.instanceMethod ({ cls := "ConditionWiseModel", name := "outcomes", desc := "(I)I" } : Jvm.MethodName)) ∈ lw_all := lw_g (lw_at lw_m9 113 rfl) rfl
theorem q2088 : (Jvm.Cond.selects "ConditionWiseModel" ({ cls := "ConditionWiseModel", name := "outcomes", desc := "(I)I" } : Jvm.MethodName) ({ cls := "ConditionWiseModel", name := "outcomes", desc := "(I)I" } : Jvm.MethodName)) ∈ lw_all := lw_g (lw_at lw_m9 114 rfl) rfl
theorem q2089 : (Jvm.Cond.code ({ cls := "ConditionWiseModel", name := "outcomes", desc := "(I)I" } : Jvm.MethodName) prog_15_method_59_code (4 : Nat) (Option.some Jvm.ClassFile.FieldType.int)) ∈ lw_all := lw_g (lw_at lw_m9 115 rfl) rfl
theorem q2091 : (Jvm.Cond.instanceMethod ({ cls := "ConditionWiseModel", name := "seenBoth", desc := "(I)I" } : Jvm.MethodName)) ∈ lw_all := lw_g (lw_at lw_m9 117 rfl) rfl
theorem q2092 : (Jvm.Cond.selects "ConditionWiseModel" ({ cls := "ConditionWiseModel", name := "seenBoth", desc := "(I)I" } : Jvm.MethodName) ({ cls := "ConditionWiseModel", name := "seenBoth", desc := "(I)I" } : Jvm.MethodName)) ∈ lw_all := lw_g (lw_at lw_m9 118 rfl) rfl
theorem q2093 : (Jvm.Cond.code ({ cls := "ConditionWiseModel", name := "seenBoth", desc := "(I)I" } : Jvm.MethodName) prog_15_method_60_code (6 : Nat) (Option.some Jvm.ClassFile.FieldType.int)) ∈ lw_all := lw_g (lw_at lw_m9 119 rfl) rfl
theorem q2095 : (Jvm.Cond.instanceMethod ({ cls := "ConditionWiseModel", name := "covered", desc := "(II)I" } : Jvm.MethodName)) ∈ lw_all := lw_g (lw_at lw_m9 121 rfl) rfl
theorem q2096 : (Jvm.Cond.selects "ConditionWiseModel" ({ cls := "ConditionWiseModel", name := "covered", desc := "(II)I" } : Jvm.MethodName) ({ cls := "ConditionWiseModel", name := "covered", desc := "(II)I" } : Jvm.MethodName)) ∈ lw_all := lw_g (lw_at lw_m9 122 rfl) rfl
theorem q2097 : (Jvm.Cond.code ({ cls := "ConditionWiseModel", name := "covered", desc := "(II)I" } : Jvm.MethodName) prog_15_method_61_code (3 : Nat) (Option.some Jvm.ClassFile.FieldType.int)) ∈ lw_all := lw_g (lw_at lw_m9 123 rfl) rfl
theorem q2099 : (Jvm.Cond.instanceMethod ({ cls := "ConditionWiseModel", name := "suggest", desc := "(II)I" } : Jvm.MethodName)) ∈ lw_all := lw_g (lw_at lw_m9 125 rfl) rfl
theorem q2100 : (Jvm.Cond.selects "ConditionWiseModel" ({ cls := "ConditionWiseModel", name := "suggest", desc := "(II)I" } : Jvm.MethodName) ({ cls := "ConditionWiseModel", name := "suggest", desc := "(II)I" } : Jvm.MethodName)) ∈ lw_all := lw_g (lw_at lw_m9 126 rfl) rfl
theorem q2101 : (Jvm.Cond.code ({ cls := "ConditionWiseModel", name := "suggest", desc := "(II)I" } : Jvm.MethodName) prog_15_method_62_code (6 : Nat) (Option.some Jvm.ClassFile.FieldType.int)) ∈ lw_all := lw_g (lw_at lw_m9 127 rfl) rfl
theorem q2103 : (Jvm.Cond.instanceMethod ({ cls := "ConditionWiseModel", name := "least", desc := "(II)I" } : Jvm.MethodName)) ∈ lw_all := lw_g (lw_at lw_m9 129 rfl) rfl
theorem q2104 : (Jvm.Cond.selects "ConditionWiseModel" ({ cls := "ConditionWiseModel", name := "least", desc := "(II)I" } : Jvm.MethodName) ({ cls := "ConditionWiseModel", name := "least", desc := "(II)I" } : Jvm.MethodName)) ∈ lw_all := lw_g (lw_at lw_m9 130 rfl) rfl
theorem q2105 : (Jvm.Cond.code ({ cls := "ConditionWiseModel", name := "least", desc := "(II)I" } : Jvm.MethodName) prog_15_method_64_code (3 : Nat) (Option.some Jvm.ClassFile.FieldType.int)) ∈ lw_all := lw_g (lw_at lw_m9 131 rfl) rfl
theorem q2106 : (Jvm.Cond.methodLink "ConditionWiseModel" (209 : Nat) ({ cls := "ConditionWiseModel", name := "smallest", desc := "(II)I" } : Jvm.MethodName)) ∈ lw_all := lw_g (lw_at lw_m9 132 rfl) rfl
theorem q2107 : (Jvm.Cond.privateMethod ({ cls := "ConditionWiseModel", name := "smallest", desc := "(II)I" } : Jvm.MethodName)) ∈ lw_tbl := lw_at lw_m9 133 rfl
theorem q2108 : (Jvm.Cond.instanceMethod ({ cls := "ConditionWiseModel", name := "smallest", desc := "(II)I" } : Jvm.MethodName)) ∈ lw_all := lw_g (lw_at lw_m9 134 rfl) rfl
theorem q2109 : (Jvm.Cond.code ({ cls := "ConditionWiseModel", name := "smallest", desc := "(II)I" } : Jvm.MethodName) prog_15_method_63_code (7 : Nat) (Option.some Jvm.ClassFile.FieldType.int)) ∈ lw_all := lw_g (lw_at lw_m9 135 rfl) rfl
theorem q2110 : (Jvm.Cond.constant "ConditionWiseModel" (208 : Nat) (65536 : Int32)) ∈ lw_all := lw_g (lw_at lw_m9 136 rfl) rfl
theorem q2112 : (Jvm.Cond.instanceMethod ({ cls := "ConditionWiseModel", name := "completion", desc := "(II)I" } : Jvm.MethodName)) ∈ lw_all := lw_g (lw_at lw_m9 138 rfl) rfl
theorem q2113 : (Jvm.Cond.selects "ConditionWiseModel" ({ cls := "ConditionWiseModel", name := "completion", desc := "(II)I" } : Jvm.MethodName) ({ cls := "ConditionWiseModel", name := "completion", desc := "(II)I" } : Jvm.MethodName)) ∈ lw_all := lw_g (lw_at lw_m9 139 rfl) rfl
theorem q2114 : (Jvm.Cond.code ({ cls := "ConditionWiseModel", name := "completion", desc := "(II)I" } : Jvm.MethodName) prog_15_method_65_code (3 : Nat) (Option.some Jvm.ClassFile.FieldType.int)) ∈ lw_all := lw_g (lw_at lw_m9 140 rfl) rfl
theorem q2116 : (Jvm.Cond.instanceMethod ({ cls := "ConditionWiseModel", name := "reduced", desc := "(II)I" } : Jvm.MethodName)) ∈ lw_all := lw_g (lw_at lw_m9 142 rfl) rfl
theorem q2117 : (Jvm.Cond.selects "ConditionWiseModel" ({ cls := "ConditionWiseModel", name := "reduced", desc := "(II)I" } : Jvm.MethodName) ({ cls := "ConditionWiseModel", name := "reduced", desc := "(II)I" } : Jvm.MethodName)) ∈ lw_all := lw_g (lw_at lw_m9 143 rfl) rfl
theorem q2118 : (Jvm.Cond.code ({ cls := "ConditionWiseModel", name := "reduced", desc := "(II)I" } : Jvm.MethodName) prog_15_method_66_code (6 : Nat) (Option.some Jvm.ClassFile.FieldType.int)) ∈ lw_all := lw_g (lw_at lw_m9 144 rfl) rfl
theorem q2120 : (Jvm.Cond.instanceMethod ({ cls := "ConditionWiseModel", name := "tableErrors", desc := "(I)I" } : Jvm.MethodName)) ∈ lw_all := lw_g (lw_at lw_m9 146 rfl) rfl
theorem q2121 : (Jvm.Cond.selects "ConditionWiseModel" ({ cls := "ConditionWiseModel", name := "tableErrors", desc := "(I)I" } : Jvm.MethodName) ({ cls := "ConditionWiseModel", name := "tableErrors", desc := "(I)I" } : Jvm.MethodName)) ∈ lw_all := lw_g (lw_at lw_m9 147 rfl) rfl
theorem q2122 : (Jvm.Cond.code ({ cls := "ConditionWiseModel", name := "tableErrors", desc := "(I)I" } : Jvm.MethodName) prog_15_method_67_code (9 : Nat) (Option.some Jvm.ClassFile.FieldType.int)) ∈ lw_all := lw_g (lw_at lw_m9 148 rfl) rfl
theorem q2124 : (Jvm.Cond.instanceMethod ({ cls := "ConditionWiseModel", name := "meanAsked", desc := "(I)D" } : Jvm.MethodName)) ∈ lw_all := lw_g (lw_at lw_m9 150 rfl) rfl
theorem q2125 : (Jvm.Cond.selects "ConditionWiseModel" ({ cls := "ConditionWiseModel", name := "meanAsked", desc := "(I)D" } : Jvm.MethodName) ({ cls := "ConditionWiseModel", name := "meanAsked", desc := "(I)D" } : Jvm.MethodName)) ∈ lw_all := lw_g (lw_at lw_m9 151 rfl) rfl
theorem q2126 : (Jvm.Cond.code ({ cls := "ConditionWiseModel", name := "meanAsked", desc := "(I)D" } : Jvm.MethodName) prog_15_method_68_code (6 : Nat) (Option.some Jvm.ClassFile.FieldType.double)) ∈ lw_all := lw_g (lw_at lw_m9 152 rfl) rfl
theorem q2128 : (Jvm.Cond.instanceMethod ({ cls := "ConditionWiseModel", name := "coverage", desc := "(II)F" } : Jvm.MethodName)) ∈ lw_all := lw_g (lw_at lw_m9 154 rfl) rfl
theorem q2129 : (Jvm.Cond.selects "ConditionWiseModel" ({ cls := "ConditionWiseModel", name := "coverage", desc := "(II)F" } : Jvm.MethodName) ({ cls := "ConditionWiseModel", name := "coverage", desc := "(II)F" } : Jvm.MethodName)) ∈ lw_all := lw_g (lw_at lw_m9 155 rfl) rfl
theorem q2130 : (Jvm.Cond.code ({ cls := "ConditionWiseModel", name := "coverage", desc := "(II)F" } : Jvm.MethodName) prog_15_method_69_code (4 : Nat) (Option.some Jvm.ClassFile.FieldType.float)) ∈ lw_all := lw_g (lw_at lw_m9 156 rfl) rfl
theorem q2150 : (Jvm.Cond.castable "ConditionWiseModel" "java/lang/Object") ∈ lw_tbl := lw_at lw_m9 176 rfl
theorem in_X2 : ∀ w ∈ wsX20, w ∈ lw_all := lw_in wsX20 [1810, 1812, 1814, 1816, 1818, 1820, 1822, 1824, 1826, 1828, 1830, 1832, 1834, 1836, 1838, 1840, 1842, 1844, 1846, 1848, 1850, 1852, 1854, 1856, 1858, 1860] (by decide +kernel) (by decide +kernel)
