/-! ConditionWise -/
set_option maxRecDepth 100000
def RX1 : String := "ConditionWise"
def TX1 : u_T := fun k => match k with
  | 0 => ("ConditionWise", "text", "Ljava/util/Deque;", true)
  | 1 => ("ConditionWise", "decisions", "Ljava/util/List;", true)
  | _ => ("ConditionWise", "prohibitions", "Ljava/util/LinkedList;", true)
def tyX1 : Nat → FieldType := fun k => match k with
  | 0 => .object "java/util/Deque"
  | 1 => .object "java/util/List"
  | _ => .object "java/util/LinkedList"
abbrev wsX10 : List Cond := u_ws RX1 TX1 3
theorem nmX1 : ∀ a, a < 3 → ∀ b, b < 3 → a ≠ b → (TX1 a).2.1 ≠ (TX1 b).2.1 := by decide +kernel
theorem tyX1_ok : ∀ k, k < 3 → parseFieldDescriptor (TX1 k).2.2.1 = some (tyX1 k) := by decide +kernel
abbrev cX1_init : ByteArray := prog_1_method_4_code
def yX1_init : MethodName := ⟨RX1, "<init>", "()V"⟩
def dkwX1_init_1 : List UInt8 := [181, 0, 28, 42, 187, 0, 32, 89, 183, 0, 34, 181, 0, 35, 177]
abbrev dktX1_init_1 : List UInt8 := dkwX1_init_1 ++ []
def dkwX1_init_0 : List UInt8 := [42, 183, 0, 15, 42, 187, 0, 18, 89, 183, 0, 20, 181, 0, 21, 42, 187, 0, 25, 89, 183, 0, 27]
abbrev dktX1_init_0 : List UInt8 := dkwX1_init_0 ++ dktX1_init_1
theorem dksX1_init_0 : cX1_init.data.toList.drop 0 = dktX1_init_0 := by decide +kernel
theorem dksX1_init_1 : cX1_init.data.toList.drop 23 = dktX1_init_1 := dk_seg dksX1_init_0 23 rfl rfl
theorem dX1_init_0 : decode cX1_init 0 = .ok (.aload_n 0, 1) := dk_42 (dk_at dksX1_init_0 0 rfl rfl)
theorem dX1_init_1 : decode cX1_init 1 = .ok (.invokespecial 15, 3) := dk_183 0 15 (dk_at dksX1_init_0 1 rfl rfl)
theorem dX1_init_4 : decode cX1_init 4 = .ok (.aload_n 0, 1) := dk_42 (dk_at dksX1_init_0 4 rfl rfl)
theorem dX1_init_5 : decode cX1_init 5 = .ok (.new 18, 3) := dk_187 0 18 (dk_at dksX1_init_0 5 rfl rfl)
theorem dX1_init_8 : decode cX1_init 8 = .ok (.dup, 1) := dk_89 (dk_at dksX1_init_0 8 rfl rfl)
theorem dX1_init_9 : decode cX1_init 9 = .ok (.invokespecial 20, 3) := dk_183 0 20 (dk_at dksX1_init_0 9 rfl rfl)
theorem dX1_init_12 : decode cX1_init 12 = .ok (.putfield 21, 3) := dk_181 0 21 (dk_at dksX1_init_0 12 rfl rfl)
theorem dX1_init_15 : decode cX1_init 15 = .ok (.aload_n 0, 1) := dk_42 (dk_at dksX1_init_0 15 rfl rfl)
theorem dX1_init_16 : decode cX1_init 16 = .ok (.new 25, 3) := dk_187 0 25 (dk_at dksX1_init_0 16 rfl rfl)
theorem dX1_init_19 : decode cX1_init 19 = .ok (.dup, 1) := dk_89 (dk_at dksX1_init_0 19 rfl rfl)
theorem dX1_init_20 : decode cX1_init 20 = .ok (.invokespecial 27, 3) := dk_183 0 27 (dk_at dksX1_init_0 20 rfl rfl)
theorem dX1_init_23 : decode cX1_init 23 = .ok (.putfield 28, 3) := dk_181 0 28 (dk_at dksX1_init_1 0 rfl rfl)
theorem dX1_init_26 : decode cX1_init 26 = .ok (.aload_n 0, 1) := dk_42 (dk_at dksX1_init_1 3 rfl rfl)
theorem dX1_init_27 : decode cX1_init 27 = .ok (.new 32, 3) := dk_187 0 32 (dk_at dksX1_init_1 4 rfl rfl)
theorem dX1_init_30 : decode cX1_init 30 = .ok (.dup, 1) := dk_89 (dk_at dksX1_init_1 7 rfl rfl)
theorem dX1_init_31 : decode cX1_init 31 = .ok (.invokespecial 34, 3) := dk_183 0 34 (dk_at dksX1_init_1 8 rfl rfl)
theorem dX1_init_34 : decode cX1_init 34 = .ok (.putfield 35, 3) := dk_181 0 35 (dk_at dksX1_init_1 11 rfl rfl)
theorem dX1_init_37 : decode cX1_init 37 = .ok (.return_, 1) := dk_177 (dk_at dksX1_init_1 14 rfl rfl)
abbrev cX1_clear : ByteArray := prog_1_method_7_code
def yX1_clear : MethodName := ⟨RX1, "clear", "()I"⟩
def dkwX1_clear_0 : List UInt8 := [42, 180, 0, 21, 185, 0, 47, 1, 0, 60, 42, 180, 0, 21, 185, 0, 66, 1, 0, 27, 172]
abbrev dktX1_clear_0 : List UInt8 := dkwX1_clear_0 ++ []
theorem dksX1_clear_0 : cX1_clear.data.toList.drop 0 = dktX1_clear_0 := by decide +kernel
theorem dX1_clear_0 : decode cX1_clear 0 = .ok (.aload_n 0, 1) := dk_42 (dk_at dksX1_clear_0 0 rfl rfl)
theorem dX1_clear_1 : decode cX1_clear 1 = .ok (.getfield 21, 3) := dk_180 0 21 (dk_at dksX1_clear_0 1 rfl rfl)
theorem dX1_clear_4 : decode cX1_clear 4 = .ok (.invokeinterface 47 1, 5) := by decide +kernel
theorem dX1_clear_9 : decode cX1_clear 9 = .ok (.istore_n 1, 1) := dk_60 (dk_at dksX1_clear_0 9 rfl rfl)
theorem dX1_clear_10 : decode cX1_clear 10 = .ok (.aload_n 0, 1) := dk_42 (dk_at dksX1_clear_0 10 rfl rfl)
theorem dX1_clear_11 : decode cX1_clear 11 = .ok (.getfield 21, 3) := dk_180 0 21 (dk_at dksX1_clear_0 11 rfl rfl)
theorem dX1_clear_14 : decode cX1_clear 14 = .ok (.invokeinterface 66 1, 5) := by decide +kernel
theorem dX1_clear_19 : decode cX1_clear 19 = .ok (.iload_n 1, 1) := dk_27 (dk_at dksX1_clear_0 19 rfl rfl)
theorem dX1_clear_20 : decode cX1_clear 20 = .ok (.ireturn, 1) := dk_172 (dk_at dksX1_clear_0 20 rfl rfl)
abbrev cX1_decisions : ByteArray := prog_1_method_9_code
def yX1_decisions : MethodName := ⟨RX1, "decisions", "()I"⟩
def dkwX1_decisions_0 : List UInt8 := [42, 180, 0, 28, 185, 0, 69, 1, 0, 172]
abbrev dktX1_decisions_0 : List UInt8 := dkwX1_decisions_0 ++ []
theorem dksX1_decisions_0 : cX1_decisions.data.toList.drop 0 = dktX1_decisions_0 := by decide +kernel
theorem dX1_decisions_0 : decode cX1_decisions 0 = .ok (.aload_n 0, 1) := dk_42 (dk_at dksX1_decisions_0 0 rfl rfl)
theorem dX1_decisions_1 : decode cX1_decisions 1 = .ok (.getfield 28, 3) := dk_180 0 28 (dk_at dksX1_decisions_0 1 rfl rfl)
theorem dX1_decisions_4 : decode cX1_decisions 4 = .ok (.invokeinterface 69 1, 5) := by decide +kernel
theorem dX1_decisions_9 : decode cX1_decisions 9 = .ok (.ireturn, 1) := dk_172 (dk_at dksX1_decisions_0 9 rfl rfl)
abbrev cX1_length : ByteArray := prog_1_method_10_code
def yX1_length : MethodName := ⟨RX1, "length", "()I"⟩
def dkwX1_length_0 : List UInt8 := [42, 180, 0, 21, 185, 0, 47, 1, 0, 172]
abbrev dktX1_length_0 : List UInt8 := dkwX1_length_0 ++ []
theorem dksX1_length_0 : cX1_length.data.toList.drop 0 = dktX1_length_0 := by decide +kernel
theorem dX1_length_0 : decode cX1_length 0 = .ok (.aload_n 0, 1) := dk_42 (dk_at dksX1_length_0 0 rfl rfl)
theorem dX1_length_1 : decode cX1_length 1 = .ok (.getfield 21, 3) := dk_180 0 21 (dk_at dksX1_length_0 1 rfl rfl)
theorem dX1_length_4 : decode cX1_length 4 = .ok (.invokeinterface 47 1, 5) := by decide +kernel
theorem dX1_length_9 : decode cX1_length 9 = .ok (.ireturn, 1) := dk_172 (dk_at dksX1_length_0 9 rfl rfl)
abbrev cX1_allowed : ByteArray := prog_1_method_25_code
def yX1_allowed : MethodName := ⟨RX1, "allowed", "()I"⟩
def dkwX1_allowed_1 : List UInt8 := [167, 0, 4, 3, 128, 60, 132, 2, 1, 167, 255, 229, 27, 172]
abbrev dktX1_allowed_1 : List UInt8 := dkwX1_allowed_1 ++ []
def dkwX1_allowed_0 : List UInt8 := [3, 60, 3, 61, 28, 16, 16, 162, 0, 27, 27, 42, 28, 182, 0, 139, 153, 0, 9, 4, 28, 120]
abbrev dktX1_allowed_0 : List UInt8 := dkwX1_allowed_0 ++ dktX1_allowed_1
theorem dksX1_allowed_0 : cX1_allowed.data.toList.drop 0 = dktX1_allowed_0 := by decide +kernel
theorem dksX1_allowed_1 : cX1_allowed.data.toList.drop 22 = dktX1_allowed_1 := dk_seg dksX1_allowed_0 22 rfl rfl
theorem dX1_allowed_0 : decode cX1_allowed 0 = .ok (.iconst 0, 1) := dk_3 (dk_at dksX1_allowed_0 0 rfl rfl)
theorem dX1_allowed_1 : decode cX1_allowed 1 = .ok (.istore_n 1, 1) := dk_60 (dk_at dksX1_allowed_0 1 rfl rfl)
theorem dX1_allowed_2 : decode cX1_allowed 2 = .ok (.iconst 0, 1) := dk_3 (dk_at dksX1_allowed_0 2 rfl rfl)
theorem dX1_allowed_3 : decode cX1_allowed 3 = .ok (.istore_n 2, 1) := dk_61 (dk_at dksX1_allowed_0 3 rfl rfl)
theorem dX1_allowed_4 : decode cX1_allowed 4 = .ok (.iload_n 2, 1) := dk_28 (dk_at dksX1_allowed_0 4 rfl rfl)
theorem dX1_allowed_5 : decode cX1_allowed 5 = .ok (.bipush 16, 2) := dk_16 16 (dk_at dksX1_allowed_0 5 rfl rfl)
theorem dX1_allowed_7 : decode cX1_allowed 7 = .ok (.if_icmp .ge 27, 3) := dk_162 0 27 (dk_at dksX1_allowed_0 7 rfl rfl)
theorem dX1_allowed_10 : decode cX1_allowed 10 = .ok (.iload_n 1, 1) := dk_27 (dk_at dksX1_allowed_0 10 rfl rfl)
theorem dX1_allowed_11 : decode cX1_allowed 11 = .ok (.aload_n 0, 1) := dk_42 (dk_at dksX1_allowed_0 11 rfl rfl)
theorem dX1_allowed_12 : decode cX1_allowed 12 = .ok (.iload_n 2, 1) := dk_28 (dk_at dksX1_allowed_0 12 rfl rfl)
theorem dX1_allowed_13 : decode cX1_allowed 13 = .ok (.invokevirtual 139, 3) := dk_182 0 139 (dk_at dksX1_allowed_0 13 rfl rfl)
theorem dX1_allowed_16 : decode cX1_allowed 16 = .ok (.ifCond .eq 9, 3) := dk_153 0 9 (dk_at dksX1_allowed_0 16 rfl rfl)
theorem dX1_allowed_19 : decode cX1_allowed 19 = .ok (.iconst 1, 1) := dk_4 (dk_at dksX1_allowed_0 19 rfl rfl)
theorem dX1_allowed_20 : decode cX1_allowed 20 = .ok (.iload_n 2, 1) := dk_28 (dk_at dksX1_allowed_0 20 rfl rfl)
theorem dX1_allowed_21 : decode cX1_allowed 21 = .ok (.ishl, 1) := dk_120 (dk_at dksX1_allowed_0 21 rfl rfl)
theorem dX1_allowed_22 : decode cX1_allowed 22 = .ok (.goto 4, 3) := dk_167 0 4 (dk_at dksX1_allowed_1 0 rfl rfl)
theorem dX1_allowed_25 : decode cX1_allowed 25 = .ok (.iconst 0, 1) := dk_3 (dk_at dksX1_allowed_1 3 rfl rfl)
theorem dX1_allowed_26 : decode cX1_allowed 26 = .ok (.ior, 1) := dk_128 (dk_at dksX1_allowed_1 4 rfl rfl)
theorem dX1_allowed_27 : decode cX1_allowed 27 = .ok (.istore_n 1, 1) := dk_60 (dk_at dksX1_allowed_1 5 rfl rfl)
theorem dX1_allowed_28 : decode cX1_allowed 28 = .ok (.iinc 2 1, 3) := dk_132 2 1 (dk_at dksX1_allowed_1 6 rfl rfl)
theorem dX1_allowed_31 : decode cX1_allowed 31 = .ok (.goto (-27), 3) := dk_167 255 229 (dk_at dksX1_allowed_1 9 rfl rfl)
theorem dX1_allowed_34 : decode cX1_allowed 34 = .ok (.iload_n 1, 1) := dk_27 (dk_at dksX1_allowed_1 12 rfl rfl)
theorem dX1_allowed_35 : decode cX1_allowed 35 = .ok (.ireturn, 1) := dk_172 (dk_at dksX1_allowed_1 13 rfl rfl)
abbrev cX1_isAllowed : ByteArray := prog_1_method_24_code
def yX1_isAllowed : MethodName := ⟨RX1, "isAllowed", "(I)Z"⟩
def dkwX1_isAllowed_1 : List UInt8 := [27, 182, 0, 162, 153, 0, 5, 3, 172, 132, 2, 1, 167, 255, 222, 4, 172]
abbrev dktX1_isAllowed_1 : List UInt8 := dkwX1_isAllowed_1 ++ []
def dkwX1_isAllowed_0 : List UInt8 := [3, 61, 28, 42, 180, 0, 35, 182, 0, 142, 162, 0, 29, 42, 180, 0, 35, 28, 182, 0, 161, 192, 0, 143]
abbrev dktX1_isAllowed_0 : List UInt8 := dkwX1_isAllowed_0 ++ dktX1_isAllowed_1
theorem dksX1_isAllowed_0 : cX1_isAllowed.data.toList.drop 0 = dktX1_isAllowed_0 := by decide +kernel
theorem dksX1_isAllowed_1 : cX1_isAllowed.data.toList.drop 24 = dktX1_isAllowed_1 := dk_seg dksX1_isAllowed_0 24 rfl rfl
theorem dX1_isAllowed_0 : decode cX1_isAllowed 0 = .ok (.iconst 0, 1) := dk_3 (dk_at dksX1_isAllowed_0 0 rfl rfl)
theorem dX1_isAllowed_1 : decode cX1_isAllowed 1 = .ok (.istore_n 2, 1) := dk_61 (dk_at dksX1_isAllowed_0 1 rfl rfl)
theorem dX1_isAllowed_2 : decode cX1_isAllowed 2 = .ok (.iload_n 2, 1) := dk_28 (dk_at dksX1_isAllowed_0 2 rfl rfl)
theorem dX1_isAllowed_3 : decode cX1_isAllowed 3 = .ok (.aload_n 0, 1) := dk_42 (dk_at dksX1_isAllowed_0 3 rfl rfl)
theorem dX1_isAllowed_4 : decode cX1_isAllowed 4 = .ok (.getfield 35, 3) := dk_180 0 35 (dk_at dksX1_isAllowed_0 4 rfl rfl)
theorem dX1_isAllowed_7 : decode cX1_isAllowed 7 = .ok (.invokevirtual 142, 3) := dk_182 0 142 (dk_at dksX1_isAllowed_0 7 rfl rfl)
theorem dX1_isAllowed_10 : decode cX1_isAllowed 10 = .ok (.if_icmp .ge 29, 3) := dk_162 0 29 (dk_at dksX1_isAllowed_0 10 rfl rfl)
theorem dX1_isAllowed_13 : decode cX1_isAllowed 13 = .ok (.aload_n 0, 1) := dk_42 (dk_at dksX1_isAllowed_0 13 rfl rfl)
theorem dX1_isAllowed_14 : decode cX1_isAllowed 14 = .ok (.getfield 35, 3) := dk_180 0 35 (dk_at dksX1_isAllowed_0 14 rfl rfl)
theorem dX1_isAllowed_17 : decode cX1_isAllowed 17 = .ok (.iload_n 2, 1) := dk_28 (dk_at dksX1_isAllowed_0 17 rfl rfl)
theorem dX1_isAllowed_18 : decode cX1_isAllowed 18 = .ok (.invokevirtual 161, 3) := dk_182 0 161 (dk_at dksX1_isAllowed_0 18 rfl rfl)
theorem dX1_isAllowed_21 : decode cX1_isAllowed 21 = .ok (.checkcast 143, 3) := dk_192 0 143 (dk_at dksX1_isAllowed_0 21 rfl rfl)
theorem dX1_isAllowed_24 : decode cX1_isAllowed 24 = .ok (.iload_n 1, 1) := dk_27 (dk_at dksX1_isAllowed_1 0 rfl rfl)
theorem dX1_isAllowed_25 : decode cX1_isAllowed 25 = .ok (.invokevirtual 162, 3) := dk_182 0 162 (dk_at dksX1_isAllowed_1 1 rfl rfl)
theorem dX1_isAllowed_28 : decode cX1_isAllowed 28 = .ok (.ifCond .eq 5, 3) := dk_153 0 5 (dk_at dksX1_isAllowed_1 4 rfl rfl)
theorem dX1_isAllowed_31 : decode cX1_isAllowed 31 = .ok (.iconst 0, 1) := dk_3 (dk_at dksX1_isAllowed_1 7 rfl rfl)
theorem dX1_isAllowed_32 : decode cX1_isAllowed 32 = .ok (.ireturn, 1) := dk_172 (dk_at dksX1_isAllowed_1 8 rfl rfl)
theorem dX1_isAllowed_33 : decode cX1_isAllowed 33 = .ok (.iinc 2 1, 3) := dk_132 2 1 (dk_at dksX1_isAllowed_1 9 rfl rfl)
theorem dX1_isAllowed_36 : decode cX1_isAllowed 36 = .ok (.goto (-34), 3) := dk_167 255 222 (dk_at dksX1_isAllowed_1 12 rfl rfl)
theorem dX1_isAllowed_39 : decode cX1_isAllowed 39 = .ok (.iconst 1, 1) := dk_4 (dk_at dksX1_isAllowed_1 15 rfl rfl)
theorem dX1_isAllowed_40 : decode cX1_isAllowed 40 = .ok (.ireturn, 1) := dk_172 (dk_at dksX1_isAllowed_1 16 rfl rfl)
abbrev cX1_put : ByteArray := prog_1_method_5_code
def yX1_put : MethodName := ⟨RX1, "put", "(III)I"⟩
def dkwX1_put_6 : List UInt8 := [184, 0, 56, 185, 0, 62, 2, 0, 132, 5, 1, 167, 255, 204, 42, 180, 0, 21, 185, 0, 47, 1, 0, 172]
abbrev dktX1_put_6 : List UInt8 := dkwX1_put_6 ++ []
def dkwX1_put_5 : List UInt8 := [28, 79, 89, 5, 29, 79, 184, 0, 39, 54, 6, 21, 6, 153, 0, 18, 42, 180, 0, 21, 21, 6, 146]
abbrev dktX1_put_5 : List UInt8 := dkwX1_put_5 ++ dktX1_put_6
def dkwX1_put_4 : List UInt8 := [184, 0, 53, 3, 54, 5, 21, 5, 16, 12, 162, 0, 51, 21, 5, 6, 188, 10, 89, 3, 27, 79, 89, 4]
abbrev dktX1_put_4 : List UInt8 := dkwX1_put_4 ++ dktX1_put_5
def dkwX1_put_3 : List UInt8 := [42, 180, 0, 21, 185, 0, 47, 1, 0, 21, 4, 96, 16, 40, 163, 0, 7, 4, 167, 0, 4, 3]
abbrev dktX1_put_3 : List UInt8 := dkwX1_put_3 ++ dktX1_put_4
def dkwX1_put_2 : List UInt8 := [184, 0, 43, 21, 4, 21, 6, 154, 0, 7, 3, 167, 0, 4, 4, 96, 54, 4, 132, 5, 1, 167, 255, 194]
abbrev dktX1_put_2 : List UInt8 := dkwX1_put_2 ++ dktX1_put_3
def dkwX1_put_1 : List UInt8 := [28, 79, 89, 5, 29, 79, 184, 0, 39, 54, 6, 21, 6, 16, 127, 163, 0, 7, 4, 167, 0, 4, 3]
abbrev dktX1_put_1 : List UInt8 := dkwX1_put_1 ++ dktX1_put_2
def dkwX1_put_0 : List UInt8 := [3, 54, 4, 3, 54, 5, 21, 5, 16, 12, 162, 0, 61, 21, 5, 6, 188, 10, 89, 3, 27, 79, 89, 4]
abbrev dktX1_put_0 : List UInt8 := dkwX1_put_0 ++ dktX1_put_1
theorem dksX1_put_0 : cX1_put.data.toList.drop 0 = dktX1_put_0 := by decide +kernel
theorem dksX1_put_1 : cX1_put.data.toList.drop 24 = dktX1_put_1 := dk_seg dksX1_put_0 24 rfl rfl
theorem dksX1_put_2 : cX1_put.data.toList.drop 47 = dktX1_put_2 := dk_seg dksX1_put_1 23 rfl rfl
theorem dksX1_put_3 : cX1_put.data.toList.drop 71 = dktX1_put_3 := dk_seg dksX1_put_2 24 rfl rfl
theorem dksX1_put_4 : cX1_put.data.toList.drop 93 = dktX1_put_4 := dk_seg dksX1_put_3 22 rfl rfl
theorem dksX1_put_5 : cX1_put.data.toList.drop 117 = dktX1_put_5 := dk_seg dksX1_put_4 24 rfl rfl
theorem dksX1_put_6 : cX1_put.data.toList.drop 140 = dktX1_put_6 := dk_seg dksX1_put_5 23 rfl rfl
theorem dX1_put_0 : decode cX1_put 0 = .ok (.iconst 0, 1) := dk_3 (dk_at dksX1_put_0 0 rfl rfl)
theorem dX1_put_1 : decode cX1_put 1 = .ok (.istore 4, 2) := dk_54 4 (dk_at dksX1_put_0 1 rfl rfl)
theorem dX1_put_3 : decode cX1_put 3 = .ok (.iconst 0, 1) := dk_3 (dk_at dksX1_put_0 3 rfl rfl)
theorem dX1_put_4 : decode cX1_put 4 = .ok (.istore 5, 2) := dk_54 5 (dk_at dksX1_put_0 4 rfl rfl)
theorem dX1_put_6 : decode cX1_put 6 = .ok (.iload 5, 2) := dk_21 5 (dk_at dksX1_put_0 6 rfl rfl)
theorem dX1_put_8 : decode cX1_put 8 = .ok (.bipush 12, 2) := dk_16 12 (dk_at dksX1_put_0 8 rfl rfl)
theorem dX1_put_10 : decode cX1_put 10 = .ok (.if_icmp .ge 61, 3) := dk_162 0 61 (dk_at dksX1_put_0 10 rfl rfl)
theorem dX1_put_13 : decode cX1_put 13 = .ok (.iload 5, 2) := dk_21 5 (dk_at dksX1_put_0 13 rfl rfl)
theorem dX1_put_15 : decode cX1_put 15 = .ok (.iconst 3, 1) := dk_6 (dk_at dksX1_put_0 15 rfl rfl)
theorem dX1_put_16 : decode cX1_put 16 = .ok (.newarray .int, 2) := dk_188_10 (dk_at dksX1_put_0 16 rfl rfl)
theorem dX1_put_18 : decode cX1_put 18 = .ok (.dup, 1) := dk_89 (dk_at dksX1_put_0 18 rfl rfl)
theorem dX1_put_19 : decode cX1_put 19 = .ok (.iconst 0, 1) := dk_3 (dk_at dksX1_put_0 19 rfl rfl)
theorem dX1_put_20 : decode cX1_put 20 = .ok (.iload_n 1, 1) := dk_27 (dk_at dksX1_put_0 20 rfl rfl)
theorem dX1_put_21 : decode cX1_put 21 = .ok (.iastore, 1) := dk_79 (dk_at dksX1_put_0 21 rfl rfl)
theorem dX1_put_22 : decode cX1_put 22 = .ok (.dup, 1) := dk_89 (dk_at dksX1_put_0 22 rfl rfl)
theorem dX1_put_23 : decode cX1_put 23 = .ok (.iconst 1, 1) := dk_4 (dk_at dksX1_put_0 23 rfl rfl)
theorem dX1_put_24 : decode cX1_put 24 = .ok (.iload_n 2, 1) := dk_28 (dk_at dksX1_put_1 0 rfl rfl)
theorem dX1_put_25 : decode cX1_put 25 = .ok (.iastore, 1) := dk_79 (dk_at dksX1_put_1 1 rfl rfl)
theorem dX1_put_26 : decode cX1_put 26 = .ok (.dup, 1) := dk_89 (dk_at dksX1_put_1 2 rfl rfl)
theorem dX1_put_27 : decode cX1_put 27 = .ok (.iconst 2, 1) := dk_5 (dk_at dksX1_put_1 3 rfl rfl)
theorem dX1_put_28 : decode cX1_put 28 = .ok (.iload_n 3, 1) := dk_29 (dk_at dksX1_put_1 4 rfl rfl)
theorem dX1_put_29 : decode cX1_put 29 = .ok (.iastore, 1) := dk_79 (dk_at dksX1_put_1 5 rfl rfl)
theorem dX1_put_30 : decode cX1_put 30 = .ok (.invokestatic 39, 3) := dk_184 0 39 (dk_at dksX1_put_1 6 rfl rfl)
theorem dX1_put_33 : decode cX1_put 33 = .ok (.istore 6, 2) := dk_54 6 (dk_at dksX1_put_1 9 rfl rfl)
theorem dX1_put_35 : decode cX1_put 35 = .ok (.iload 6, 2) := dk_21 6 (dk_at dksX1_put_1 11 rfl rfl)
theorem dX1_put_37 : decode cX1_put 37 = .ok (.bipush 127, 2) := dk_16 127 (dk_at dksX1_put_1 13 rfl rfl)
theorem dX1_put_39 : decode cX1_put 39 = .ok (.if_icmp .gt 7, 3) := dk_163 0 7 (dk_at dksX1_put_1 15 rfl rfl)
theorem dX1_put_42 : decode cX1_put 42 = .ok (.iconst 1, 1) := dk_4 (dk_at dksX1_put_1 18 rfl rfl)
theorem dX1_put_43 : decode cX1_put 43 = .ok (.goto 4, 3) := dk_167 0 4 (dk_at dksX1_put_1 19 rfl rfl)
theorem dX1_put_46 : decode cX1_put 46 = .ok (.iconst 0, 1) := dk_3 (dk_at dksX1_put_1 22 rfl rfl)
theorem dX1_put_47 : decode cX1_put 47 = .ok (.invokestatic 43, 3) := dk_184 0 43 (dk_at dksX1_put_2 0 rfl rfl)
theorem dX1_put_50 : decode cX1_put 50 = .ok (.iload 4, 2) := dk_21 4 (dk_at dksX1_put_2 3 rfl rfl)
theorem dX1_put_52 : decode cX1_put 52 = .ok (.iload 6, 2) := dk_21 6 (dk_at dksX1_put_2 5 rfl rfl)
theorem dX1_put_54 : decode cX1_put 54 = .ok (.ifCond .ne 7, 3) := dk_154 0 7 (dk_at dksX1_put_2 7 rfl rfl)
theorem dX1_put_57 : decode cX1_put 57 = .ok (.iconst 0, 1) := dk_3 (dk_at dksX1_put_2 10 rfl rfl)
theorem dX1_put_58 : decode cX1_put 58 = .ok (.goto 4, 3) := dk_167 0 4 (dk_at dksX1_put_2 11 rfl rfl)
theorem dX1_put_61 : decode cX1_put 61 = .ok (.iconst 1, 1) := dk_4 (dk_at dksX1_put_2 14 rfl rfl)
theorem dX1_put_62 : decode cX1_put 62 = .ok (.iadd, 1) := dk_96 (dk_at dksX1_put_2 15 rfl rfl)
theorem dX1_put_63 : decode cX1_put 63 = .ok (.istore 4, 2) := dk_54 4 (dk_at dksX1_put_2 16 rfl rfl)
theorem dX1_put_65 : decode cX1_put 65 = .ok (.iinc 5 1, 3) := dk_132 5 1 (dk_at dksX1_put_2 18 rfl rfl)
theorem dX1_put_68 : decode cX1_put 68 = .ok (.goto (-62), 3) := dk_167 255 194 (dk_at dksX1_put_2 21 rfl rfl)
theorem dX1_put_71 : decode cX1_put 71 = .ok (.aload_n 0, 1) := dk_42 (dk_at dksX1_put_3 0 rfl rfl)
theorem dX1_put_72 : decode cX1_put 72 = .ok (.getfield 21, 3) := dk_180 0 21 (dk_at dksX1_put_3 1 rfl rfl)
theorem dX1_put_75 : decode cX1_put 75 = .ok (.invokeinterface 47 1, 5) := by decide +kernel
theorem dX1_put_80 : decode cX1_put 80 = .ok (.iload 4, 2) := dk_21 4 (dk_at dksX1_put_3 9 rfl rfl)
theorem dX1_put_82 : decode cX1_put 82 = .ok (.iadd, 1) := dk_96 (dk_at dksX1_put_3 11 rfl rfl)
theorem dX1_put_83 : decode cX1_put 83 = .ok (.bipush 40, 2) := dk_16 40 (dk_at dksX1_put_3 12 rfl rfl)
theorem dX1_put_85 : decode cX1_put 85 = .ok (.if_icmp .gt 7, 3) := dk_163 0 7 (dk_at dksX1_put_3 14 rfl rfl)
theorem dX1_put_88 : decode cX1_put 88 = .ok (.iconst 1, 1) := dk_4 (dk_at dksX1_put_3 17 rfl rfl)
theorem dX1_put_89 : decode cX1_put 89 = .ok (.goto 4, 3) := dk_167 0 4 (dk_at dksX1_put_3 18 rfl rfl)
theorem dX1_put_92 : decode cX1_put 92 = .ok (.iconst 0, 1) := dk_3 (dk_at dksX1_put_3 21 rfl rfl)
theorem dX1_put_93 : decode cX1_put 93 = .ok (.invokestatic 53, 3) := dk_184 0 53 (dk_at dksX1_put_4 0 rfl rfl)
theorem dX1_put_96 : decode cX1_put 96 = .ok (.iconst 0, 1) := dk_3 (dk_at dksX1_put_4 3 rfl rfl)
theorem dX1_put_97 : decode cX1_put 97 = .ok (.istore 5, 2) := dk_54 5 (dk_at dksX1_put_4 4 rfl rfl)
theorem dX1_put_99 : decode cX1_put 99 = .ok (.iload 5, 2) := dk_21 5 (dk_at dksX1_put_4 6 rfl rfl)
theorem dX1_put_101 : decode cX1_put 101 = .ok (.bipush 12, 2) := dk_16 12 (dk_at dksX1_put_4 8 rfl rfl)
theorem dX1_put_103 : decode cX1_put 103 = .ok (.if_icmp .ge 51, 3) := dk_162 0 51 (dk_at dksX1_put_4 10 rfl rfl)
theorem dX1_put_106 : decode cX1_put 106 = .ok (.iload 5, 2) := dk_21 5 (dk_at dksX1_put_4 13 rfl rfl)
theorem dX1_put_108 : decode cX1_put 108 = .ok (.iconst 3, 1) := dk_6 (dk_at dksX1_put_4 15 rfl rfl)
theorem dX1_put_109 : decode cX1_put 109 = .ok (.newarray .int, 2) := dk_188_10 (dk_at dksX1_put_4 16 rfl rfl)
theorem dX1_put_111 : decode cX1_put 111 = .ok (.dup, 1) := dk_89 (dk_at dksX1_put_4 18 rfl rfl)
theorem dX1_put_112 : decode cX1_put 112 = .ok (.iconst 0, 1) := dk_3 (dk_at dksX1_put_4 19 rfl rfl)
theorem dX1_put_113 : decode cX1_put 113 = .ok (.iload_n 1, 1) := dk_27 (dk_at dksX1_put_4 20 rfl rfl)
theorem dX1_put_114 : decode cX1_put 114 = .ok (.iastore, 1) := dk_79 (dk_at dksX1_put_4 21 rfl rfl)
theorem dX1_put_115 : decode cX1_put 115 = .ok (.dup, 1) := dk_89 (dk_at dksX1_put_4 22 rfl rfl)
theorem dX1_put_116 : decode cX1_put 116 = .ok (.iconst 1, 1) := dk_4 (dk_at dksX1_put_4 23 rfl rfl)
theorem dX1_put_117 : decode cX1_put 117 = .ok (.iload_n 2, 1) := dk_28 (dk_at dksX1_put_5 0 rfl rfl)
theorem dX1_put_118 : decode cX1_put 118 = .ok (.iastore, 1) := dk_79 (dk_at dksX1_put_5 1 rfl rfl)
theorem dX1_put_119 : decode cX1_put 119 = .ok (.dup, 1) := dk_89 (dk_at dksX1_put_5 2 rfl rfl)
theorem dX1_put_120 : decode cX1_put 120 = .ok (.iconst 2, 1) := dk_5 (dk_at dksX1_put_5 3 rfl rfl)
theorem dX1_put_121 : decode cX1_put 121 = .ok (.iload_n 3, 1) := dk_29 (dk_at dksX1_put_5 4 rfl rfl)
theorem dX1_put_122 : decode cX1_put 122 = .ok (.iastore, 1) := dk_79 (dk_at dksX1_put_5 5 rfl rfl)
theorem dX1_put_123 : decode cX1_put 123 = .ok (.invokestatic 39, 3) := dk_184 0 39 (dk_at dksX1_put_5 6 rfl rfl)
theorem dX1_put_126 : decode cX1_put 126 = .ok (.istore 6, 2) := dk_54 6 (dk_at dksX1_put_5 9 rfl rfl)
theorem dX1_put_128 : decode cX1_put 128 = .ok (.iload 6, 2) := dk_21 6 (dk_at dksX1_put_5 11 rfl rfl)
theorem dX1_put_130 : decode cX1_put 130 = .ok (.ifCond .eq 18, 3) := dk_153 0 18 (dk_at dksX1_put_5 13 rfl rfl)
theorem dX1_put_133 : decode cX1_put 133 = .ok (.aload_n 0, 1) := dk_42 (dk_at dksX1_put_5 16 rfl rfl)
theorem dX1_put_134 : decode cX1_put 134 = .ok (.getfield 21, 3) := dk_180 0 21 (dk_at dksX1_put_5 17 rfl rfl)
theorem dX1_put_137 : decode cX1_put 137 = .ok (.iload 6, 2) := dk_21 6 (dk_at dksX1_put_5 20 rfl rfl)
theorem dX1_put_139 : decode cX1_put 139 = .ok (.i2c, 1) := dk_146 (dk_at dksX1_put_5 22 rfl rfl)
theorem dX1_put_140 : decode cX1_put 140 = .ok (.invokestatic 56, 3) := dk_184 0 56 (dk_at dksX1_put_6 0 rfl rfl)
theorem dX1_put_143 : decode cX1_put 143 = .ok (.invokeinterface 62 2, 5) := by decide +kernel
theorem dX1_put_148 : decode cX1_put 148 = .ok (.iinc 5 1, 3) := dk_132 5 1 (dk_at dksX1_put_6 8 rfl rfl)
theorem dX1_put_151 : decode cX1_put 151 = .ok (.goto (-52), 3) := dk_167 255 204 (dk_at dksX1_put_6 11 rfl rfl)
theorem dX1_put_154 : decode cX1_put 154 = .ok (.aload_n 0, 1) := dk_42 (dk_at dksX1_put_6 14 rfl rfl)
theorem dX1_put_155 : decode cX1_put 155 = .ok (.getfield 21, 3) := dk_180 0 21 (dk_at dksX1_put_6 15 rfl rfl)
theorem dX1_put_158 : decode cX1_put 158 = .ok (.invokeinterface 47 1, 5) := by decide +kernel
theorem dX1_put_163 : decode cX1_put 163 = .ok (.ireturn, 1) := dk_172 (dk_at dksX1_put_6 23 rfl rfl)
abbrev cX1_characterOf : ByteArray := prog_1_method_6_code
def yX1_characterOf : MethodName := ⟨RX1, "characterOf", "(I[I)I"⟩
def dkwX1_characterOf_0 : List UInt8 := [43, 26, 7, 108, 46, 16, 24, 16, 8, 26, 7, 112, 104, 100, 124, 17, 0, 255, 126, 172]
abbrev dktX1_characterOf_0 : List UInt8 := dkwX1_characterOf_0 ++ []
theorem dksX1_characterOf_0 : cX1_characterOf.data.toList.drop 0 = dktX1_characterOf_0 := by decide +kernel
theorem dX1_characterOf_0 : decode cX1_characterOf 0 = .ok (.aload_n 1, 1) := dk_43 (dk_at dksX1_characterOf_0 0 rfl rfl)
theorem dX1_characterOf_1 : decode cX1_characterOf 1 = .ok (.iload_n 0, 1) := dk_26 (dk_at dksX1_characterOf_0 1 rfl rfl)
theorem dX1_characterOf_2 : decode cX1_characterOf 2 = .ok (.iconst 4, 1) := dk_7 (dk_at dksX1_characterOf_0 2 rfl rfl)
theorem dX1_characterOf_3 : decode cX1_characterOf 3 = .ok (.idiv, 1) := dk_108 (dk_at dksX1_characterOf_0 3 rfl rfl)
theorem dX1_characterOf_4 : decode cX1_characterOf 4 = .ok (.iaload, 1) := dk_46 (dk_at dksX1_characterOf_0 4 rfl rfl)
theorem dX1_characterOf_5 : decode cX1_characterOf 5 = .ok (.bipush 24, 2) := dk_16 24 (dk_at dksX1_characterOf_0 5 rfl rfl)
theorem dX1_characterOf_7 : decode cX1_characterOf 7 = .ok (.bipush 8, 2) := dk_16 8 (dk_at dksX1_characterOf_0 7 rfl rfl)
theorem dX1_characterOf_9 : decode cX1_characterOf 9 = .ok (.iload_n 0, 1) := dk_26 (dk_at dksX1_characterOf_0 9 rfl rfl)
theorem dX1_characterOf_10 : decode cX1_characterOf 10 = .ok (.iconst 4, 1) := dk_7 (dk_at dksX1_characterOf_0 10 rfl rfl)
theorem dX1_characterOf_11 : decode cX1_characterOf 11 = .ok (.irem, 1) := dk_112 (dk_at dksX1_characterOf_0 11 rfl rfl)
theorem dX1_characterOf_12 : decode cX1_characterOf 12 = .ok (.imul, 1) := dk_104 (dk_at dksX1_characterOf_0 12 rfl rfl)
theorem dX1_characterOf_13 : decode cX1_characterOf 13 = .ok (.isub, 1) := dk_100 (dk_at dksX1_characterOf_0 13 rfl rfl)
theorem dX1_characterOf_14 : decode cX1_characterOf 14 = .ok (.iushr, 1) := dk_124 (dk_at dksX1_characterOf_0 14 rfl rfl)
theorem dX1_characterOf_15 : decode cX1_characterOf 15 = .ok (.sipush 255, 3) := dk_17 0 255 (dk_at dksX1_characterOf_0 15 rfl rfl)
theorem dX1_characterOf_18 : decode cX1_characterOf 18 = .ok (.iand, 1) := dk_126 (dk_at dksX1_characterOf_0 18 rfl rfl)
theorem dX1_characterOf_19 : decode cX1_characterOf 19 = .ok (.ireturn, 1) := dk_172 (dk_at dksX1_characterOf_0 19 rfl rfl)
abbrev cX1_checkArgument : ByteArray := prog_1_method_2_code
def yX1_checkArgument : MethodName := ⟨RX1, "checkArgument", "(Z)V"⟩
def dkwX1_checkArgument_0 : List UInt8 := [26, 154, 0, 11, 187, 0, 9, 89, 183, 0, 11, 191, 177]
abbrev dktX1_checkArgument_0 : List UInt8 := dkwX1_checkArgument_0 ++ []
theorem dksX1_checkArgument_0 : cX1_checkArgument.data.toList.drop 0 = dktX1_checkArgument_0 := by decide +kernel
theorem dX1_checkArgument_0 : decode cX1_checkArgument 0 = .ok (.iload_n 0, 1) := dk_26 (dk_at dksX1_checkArgument_0 0 rfl rfl)
theorem dX1_checkArgument_1 : decode cX1_checkArgument 1 = .ok (.ifCond .ne 11, 3) := dk_154 0 11 (dk_at dksX1_checkArgument_0 1 rfl rfl)
theorem dX1_checkArgument_4 : decode cX1_checkArgument 4 = .ok (.new 9, 3) := dk_187 0 9 (dk_at dksX1_checkArgument_0 4 rfl rfl)
theorem dX1_checkArgument_7 : decode cX1_checkArgument 7 = .ok (.dup, 1) := dk_89 (dk_at dksX1_checkArgument_0 7 rfl rfl)
theorem dX1_checkArgument_8 : decode cX1_checkArgument 8 = .ok (.invokespecial 11, 3) := dk_183 0 11 (dk_at dksX1_checkArgument_0 8 rfl rfl)
theorem dX1_checkArgument_11 : decode cX1_checkArgument 11 = .ok (.athrow, 1) := dk_191 (dk_at dksX1_checkArgument_0 11 rfl rfl)
theorem dX1_checkArgument_12 : decode cX1_checkArgument 12 = .ok (.return_, 1) := dk_177 (dk_at dksX1_checkArgument_0 12 rfl rfl)
abbrev cX1_checkState : ByteArray := prog_1_method_3_code
def yX1_checkState : MethodName := ⟨RX1, "checkState", "(Z)V"⟩
def dkwX1_checkState_0 : List UInt8 := [26, 154, 0, 11, 187, 0, 12, 89, 183, 0, 14, 191, 177]
abbrev dktX1_checkState_0 : List UInt8 := dkwX1_checkState_0 ++ []
theorem dksX1_checkState_0 : cX1_checkState.data.toList.drop 0 = dktX1_checkState_0 := by decide +kernel
theorem dX1_checkState_0 : decode cX1_checkState 0 = .ok (.iload_n 0, 1) := dk_26 (dk_at dksX1_checkState_0 0 rfl rfl)
theorem dX1_checkState_1 : decode cX1_checkState 1 = .ok (.ifCond .ne 11, 3) := dk_154 0 11 (dk_at dksX1_checkState_0 1 rfl rfl)
theorem dX1_checkState_4 : decode cX1_checkState 4 = .ok (.new 12, 3) := dk_187 0 12 (dk_at dksX1_checkState_0 4 rfl rfl)
theorem dX1_checkState_7 : decode cX1_checkState 7 = .ok (.dup, 1) := dk_89 (dk_at dksX1_checkState_0 7 rfl rfl)
theorem dX1_checkState_8 : decode cX1_checkState 8 = .ok (.invokespecial 14, 3) := dk_183 0 14 (dk_at dksX1_checkState_0 8 rfl rfl)
theorem dX1_checkState_11 : decode cX1_checkState 11 = .ok (.athrow, 1) := dk_191 (dk_at dksX1_checkState_0 11 rfl rfl)
theorem dX1_checkState_12 : decode cX1_checkState 12 = .ok (.return_, 1) := dk_177 (dk_at dksX1_checkState_0 12 rfl rfl)
abbrev cX1_read : ByteArray := prog_1_method_8_code
def yX1_read : MethodName := ⟨RX1, "read", "()I"⟩
def dkwX1_read_4 : List UInt8 := [180, 0, 21, 185, 0, 66, 1, 0, 29, 172, 58, 4, 42, 180, 0, 21, 185, 0, 66, 1, 0, 25, 4, 191]
abbrev dktX1_read_4 : List UInt8 := dkwX1_read_4 ++ []
def dkwX1_read_3 : List UInt8 := [4, 100, 62, 42, 180, 0, 21, 185, 0, 66, 1, 0, 29, 172, 77, 16, 254, 44, 180, 0, 95, 100, 62, 42]
abbrev dktX1_read_3 : List UInt8 := dkwX1_read_3 ++ dktX1_read_4
def dkwX1_read_2 : List UInt8 := [89, 44, 43, 180, 0, 83, 183, 0, 86, 185, 0, 89, 2, 0, 87, 42, 180, 0, 28, 185, 0, 69, 1, 0]
abbrev dktX1_read_2 : List UInt8 := dkwX1_read_2 ++ dktX1_read_3
def dkwX1_read_1 : List UInt8 := [187, 0, 72, 89, 42, 180, 0, 21, 183, 0, 74, 76, 43, 182, 0, 77, 77, 42, 180, 0, 28, 187, 0, 81]
abbrev dktX1_read_1 : List UInt8 := dkwX1_read_1 ++ dktX1_read_2
def dkwX1_read_0 : List UInt8 := [42, 180, 0, 28, 185, 0, 69, 1, 0, 16, 6, 162, 0, 7, 4, 167, 0, 4, 3, 184, 0, 53]
abbrev dktX1_read_0 : List UInt8 := dkwX1_read_0 ++ dktX1_read_1
theorem dksX1_read_0 : cX1_read.data.toList.drop 0 = dktX1_read_0 := by decide +kernel
theorem dksX1_read_1 : cX1_read.data.toList.drop 22 = dktX1_read_1 := dk_seg dksX1_read_0 22 rfl rfl
theorem dksX1_read_2 : cX1_read.data.toList.drop 46 = dktX1_read_2 := dk_seg dksX1_read_1 24 rfl rfl
theorem dksX1_read_3 : cX1_read.data.toList.drop 70 = dktX1_read_3 := dk_seg dksX1_read_2 24 rfl rfl
theorem dksX1_read_4 : cX1_read.data.toList.drop 94 = dktX1_read_4 := dk_seg dksX1_read_3 24 rfl rfl
theorem dX1_read_0 : decode cX1_read 0 = .ok (.aload_n 0, 1) := dk_42 (dk_at dksX1_read_0 0 rfl rfl)
theorem dX1_read_1 : decode cX1_read 1 = .ok (.getfield 28, 3) := dk_180 0 28 (dk_at dksX1_read_0 1 rfl rfl)
theorem dX1_read_4 : decode cX1_read 4 = .ok (.invokeinterface 69 1, 5) := by decide +kernel
theorem dX1_read_9 : decode cX1_read 9 = .ok (.bipush 6, 2) := dk_16 6 (dk_at dksX1_read_0 9 rfl rfl)
theorem dX1_read_11 : decode cX1_read 11 = .ok (.if_icmp .ge 7, 3) := dk_162 0 7 (dk_at dksX1_read_0 11 rfl rfl)
theorem dX1_read_14 : decode cX1_read 14 = .ok (.iconst 1, 1) := dk_4 (dk_at dksX1_read_0 14 rfl rfl)
theorem dX1_read_15 : decode cX1_read 15 = .ok (.goto 4, 3) := dk_167 0 4 (dk_at dksX1_read_0 15 rfl rfl)
theorem dX1_read_18 : decode cX1_read 18 = .ok (.iconst 0, 1) := dk_3 (dk_at dksX1_read_0 18 rfl rfl)
theorem dX1_read_19 : decode cX1_read 19 = .ok (.invokestatic 53, 3) := dk_184 0 53 (dk_at dksX1_read_0 19 rfl rfl)
theorem dX1_read_22 : decode cX1_read 22 = .ok (.new 72, 3) := dk_187 0 72 (dk_at dksX1_read_1 0 rfl rfl)
theorem dX1_read_25 : decode cX1_read 25 = .ok (.dup, 1) := dk_89 (dk_at dksX1_read_1 3 rfl rfl)
theorem dX1_read_26 : decode cX1_read 26 = .ok (.aload_n 0, 1) := dk_42 (dk_at dksX1_read_1 4 rfl rfl)
theorem dX1_read_27 : decode cX1_read 27 = .ok (.getfield 21, 3) := dk_180 0 21 (dk_at dksX1_read_1 5 rfl rfl)
theorem dX1_read_30 : decode cX1_read 30 = .ok (.invokespecial 74, 3) := dk_183 0 74 (dk_at dksX1_read_1 8 rfl rfl)
theorem dX1_read_33 : decode cX1_read 33 = .ok (.astore_n 1, 1) := dk_76 (dk_at dksX1_read_1 11 rfl rfl)
theorem dX1_read_34 : decode cX1_read 34 = .ok (.aload_n 1, 1) := dk_43 (dk_at dksX1_read_1 12 rfl rfl)
theorem dX1_read_35 : decode cX1_read 35 = .ok (.invokevirtual 77, 3) := dk_182 0 77 (dk_at dksX1_read_1 13 rfl rfl)
theorem dX1_read_38 : decode cX1_read 38 = .ok (.astore_n 2, 1) := dk_77 (dk_at dksX1_read_1 16 rfl rfl)
theorem dX1_read_39 : decode cX1_read 39 = .ok (.aload_n 0, 1) := dk_42 (dk_at dksX1_read_1 17 rfl rfl)
theorem dX1_read_40 : decode cX1_read 40 = .ok (.getfield 28, 3) := dk_180 0 28 (dk_at dksX1_read_1 18 rfl rfl)
theorem dX1_read_43 : decode cX1_read 43 = .ok (.new 81, 3) := dk_187 0 81 (dk_at dksX1_read_1 21 rfl rfl)
theorem dX1_read_46 : decode cX1_read 46 = .ok (.dup, 1) := dk_89 (dk_at dksX1_read_2 0 rfl rfl)
theorem dX1_read_47 : decode cX1_read 47 = .ok (.aload_n 2, 1) := dk_44 (dk_at dksX1_read_2 1 rfl rfl)
theorem dX1_read_48 : decode cX1_read 48 = .ok (.aload_n 1, 1) := dk_43 (dk_at dksX1_read_2 2 rfl rfl)
theorem dX1_read_49 : decode cX1_read 49 = .ok (.getfield 83, 3) := dk_180 0 83 (dk_at dksX1_read_2 3 rfl rfl)
theorem dX1_read_52 : decode cX1_read 52 = .ok (.invokespecial 86, 3) := dk_183 0 86 (dk_at dksX1_read_2 6 rfl rfl)
theorem dX1_read_55 : decode cX1_read 55 = .ok (.invokeinterface 89 2, 5) := by decide +kernel
theorem dX1_read_60 : decode cX1_read 60 = .ok (.pop, 1) := dk_87 (dk_at dksX1_read_2 14 rfl rfl)
theorem dX1_read_61 : decode cX1_read 61 = .ok (.aload_n 0, 1) := dk_42 (dk_at dksX1_read_2 15 rfl rfl)
theorem dX1_read_62 : decode cX1_read 62 = .ok (.getfield 28, 3) := dk_180 0 28 (dk_at dksX1_read_2 16 rfl rfl)
theorem dX1_read_65 : decode cX1_read 65 = .ok (.invokeinterface 69 1, 5) := by decide +kernel
theorem dX1_read_70 : decode cX1_read 70 = .ok (.iconst 1, 1) := dk_4 (dk_at dksX1_read_3 0 rfl rfl)
theorem dX1_read_71 : decode cX1_read 71 = .ok (.isub, 1) := dk_100 (dk_at dksX1_read_3 1 rfl rfl)
theorem dX1_read_72 : decode cX1_read 72 = .ok (.istore_n 3, 1) := dk_62 (dk_at dksX1_read_3 2 rfl rfl)
theorem dX1_read_73 : decode cX1_read 73 = .ok (.aload_n 0, 1) := dk_42 (dk_at dksX1_read_3 3 rfl rfl)
theorem dX1_read_74 : decode cX1_read 74 = .ok (.getfield 21, 3) := dk_180 0 21 (dk_at dksX1_read_3 4 rfl rfl)
theorem dX1_read_77 : decode cX1_read 77 = .ok (.invokeinterface 66 1, 5) := by decide +kernel
theorem dX1_read_82 : decode cX1_read 82 = .ok (.iload_n 3, 1) := dk_29 (dk_at dksX1_read_3 12 rfl rfl)
theorem dX1_read_83 : decode cX1_read 83 = .ok (.ireturn, 1) := dk_172 (dk_at dksX1_read_3 13 rfl rfl)
theorem dX1_read_84 : decode cX1_read 84 = .ok (.astore_n 2, 1) := dk_77 (dk_at dksX1_read_3 14 rfl rfl)
theorem dX1_read_85 : decode cX1_read 85 = .ok (.bipush (-2), 2) := dk_16 254 (dk_at dksX1_read_3 15 rfl rfl)
theorem dX1_read_87 : decode cX1_read 87 = .ok (.aload_n 2, 1) := dk_44 (dk_at dksX1_read_3 17 rfl rfl)
theorem dX1_read_88 : decode cX1_read 88 = .ok (.getfield 95, 3) := dk_180 0 95 (dk_at dksX1_read_3 18 rfl rfl)
theorem dX1_read_91 : decode cX1_read 91 = .ok (.isub, 1) := dk_100 (dk_at dksX1_read_3 21 rfl rfl)
theorem dX1_read_92 : decode cX1_read 92 = .ok (.istore_n 3, 1) := dk_62 (dk_at dksX1_read_3 22 rfl rfl)
theorem dX1_read_93 : decode cX1_read 93 = .ok (.aload_n 0, 1) := dk_42 (dk_at dksX1_read_3 23 rfl rfl)
theorem dX1_read_94 : decode cX1_read 94 = .ok (.getfield 21, 3) := dk_180 0 21 (dk_at dksX1_read_4 0 rfl rfl)
theorem dX1_read_97 : decode cX1_read 97 = .ok (.invokeinterface 66 1, 5) := by decide +kernel
theorem dX1_read_102 : decode cX1_read 102 = .ok (.iload_n 3, 1) := dk_29 (dk_at dksX1_read_4 8 rfl rfl)
theorem dX1_read_103 : decode cX1_read 103 = .ok (.ireturn, 1) := dk_172 (dk_at dksX1_read_4 9 rfl rfl)
theorem dX1_read_104 : decode cX1_read 104 = .ok (.astore 4, 2) := dk_58 4 (dk_at dksX1_read_4 10 rfl rfl)
theorem dX1_read_106 : decode cX1_read 106 = .ok (.aload_n 0, 1) := dk_42 (dk_at dksX1_read_4 12 rfl rfl)
theorem dX1_read_107 : decode cX1_read 107 = .ok (.getfield 21, 3) := dk_180 0 21 (dk_at dksX1_read_4 13 rfl rfl)
theorem dX1_read_110 : decode cX1_read 110 = .ok (.invokeinterface 66 1, 5) := by decide +kernel
theorem dX1_read_115 : decode cX1_read 115 = .ok (.aload 4, 2) := dk_25 4 (dk_at dksX1_read_4 21 rfl rfl)
theorem dX1_read_117 : decode cX1_read 117 = .ok (.athrow, 1) := dk_191 (dk_at dksX1_read_4 23 rfl rfl)
abbrev cX1_conditions : ByteArray := prog_1_method_14_code
def yX1_conditions : MethodName := ⟨RX1, "conditions", "(I)I"⟩
def dkwX1_conditions_0 : List UInt8 := [42, 27, 182, 0, 107, 180, 0, 111, 190, 172]
abbrev dktX1_conditions_0 : List UInt8 := dkwX1_conditions_0 ++ []
theorem dksX1_conditions_0 : cX1_conditions.data.toList.drop 0 = dktX1_conditions_0 := by decide +kernel
theorem dX1_conditions_0 : decode cX1_conditions 0 = .ok (.aload_n 0, 1) := dk_42 (dk_at dksX1_conditions_0 0 rfl rfl)
theorem dX1_conditions_1 : decode cX1_conditions 1 = .ok (.iload_n 1, 1) := dk_27 (dk_at dksX1_conditions_0 1 rfl rfl)
theorem dX1_conditions_2 : decode cX1_conditions 2 = .ok (.invokevirtual 107, 3) := dk_182 0 107 (dk_at dksX1_conditions_0 2 rfl rfl)
theorem dX1_conditions_5 : decode cX1_conditions 5 = .ok (.getfield 111, 3) := dk_180 0 111 (dk_at dksX1_conditions_0 5 rfl rfl)
theorem dX1_conditions_8 : decode cX1_conditions 8 = .ok (.arraylength, 1) := dk_190 (dk_at dksX1_conditions_0 8 rfl rfl)
theorem dX1_conditions_9 : decode cX1_conditions 9 = .ok (.ireturn, 1) := dk_172 (dk_at dksX1_conditions_0 9 rfl rfl)
abbrev cX1_decision : ByteArray := prog_1_method_11_code
def yX1_decision : MethodName := ⟨RX1, "decision", "(I)LConditionWise$Decision;"⟩
def dkwX1_decision_1 : List UInt8 := [192, 0, 81, 176]
abbrev dktX1_decision_1 : List UInt8 := dkwX1_decision_1 ++ []
def dkwX1_decision_0 : List UInt8 := [27, 42, 180, 0, 28, 185, 0, 69, 1, 0, 184, 0, 99, 42, 180, 0, 28, 27, 185, 0, 103, 2, 0]
abbrev dktX1_decision_0 : List UInt8 := dkwX1_decision_0 ++ dktX1_decision_1
theorem dksX1_decision_0 : cX1_decision.data.toList.drop 0 = dktX1_decision_0 := by decide +kernel
theorem dksX1_decision_1 : cX1_decision.data.toList.drop 23 = dktX1_decision_1 := dk_seg dksX1_decision_0 23 rfl rfl
theorem dX1_decision_0 : decode cX1_decision 0 = .ok (.iload_n 1, 1) := dk_27 (dk_at dksX1_decision_0 0 rfl rfl)
theorem dX1_decision_1 : decode cX1_decision 1 = .ok (.aload_n 0, 1) := dk_42 (dk_at dksX1_decision_0 1 rfl rfl)
theorem dX1_decision_2 : decode cX1_decision 2 = .ok (.getfield 28, 3) := dk_180 0 28 (dk_at dksX1_decision_0 2 rfl rfl)
theorem dX1_decision_5 : decode cX1_decision 5 = .ok (.invokeinterface 69 1, 5) := by decide +kernel
theorem dX1_decision_10 : decode cX1_decision 10 = .ok (.invokestatic 99, 3) := dk_184 0 99 (dk_at dksX1_decision_0 10 rfl rfl)
theorem dX1_decision_13 : decode cX1_decision 13 = .ok (.aload_n 0, 1) := dk_42 (dk_at dksX1_decision_0 13 rfl rfl)
theorem dX1_decision_14 : decode cX1_decision 14 = .ok (.getfield 28, 3) := dk_180 0 28 (dk_at dksX1_decision_0 14 rfl rfl)
theorem dX1_decision_17 : decode cX1_decision 17 = .ok (.iload_n 1, 1) := dk_27 (dk_at dksX1_decision_0 17 rfl rfl)
theorem dX1_decision_18 : decode cX1_decision 18 = .ok (.invokeinterface 103 2, 5) := by decide +kernel
theorem dX1_decision_23 : decode cX1_decision 23 = .ok (.checkcast 81, 3) := dk_192 0 81 (dk_at dksX1_decision_1 0 rfl rfl)
theorem dX1_decision_26 : decode cX1_decision 26 = .ok (.areturn, 1) := dk_176 (dk_at dksX1_decision_1 3 rfl rfl)
abbrev cX1_checkIndex : ByteArray := prog_1_method_1_code
def yX1_checkIndex : MethodName := ⟨RX1, "checkIndex", "(II)V"⟩
def dkwX1_checkIndex_0 : List UInt8 := [26, 155, 0, 8, 26, 27, 161, 0, 11, 187, 0, 3, 89, 183, 0, 5, 191, 177]
abbrev dktX1_checkIndex_0 : List UInt8 := dkwX1_checkIndex_0 ++ []
theorem dksX1_checkIndex_0 : cX1_checkIndex.data.toList.drop 0 = dktX1_checkIndex_0 := by decide +kernel
theorem dX1_checkIndex_0 : decode cX1_checkIndex 0 = .ok (.iload_n 0, 1) := dk_26 (dk_at dksX1_checkIndex_0 0 rfl rfl)
theorem dX1_checkIndex_1 : decode cX1_checkIndex 1 = .ok (.ifCond .lt 8, 3) := dk_155 0 8 (dk_at dksX1_checkIndex_0 1 rfl rfl)
theorem dX1_checkIndex_4 : decode cX1_checkIndex 4 = .ok (.iload_n 0, 1) := dk_26 (dk_at dksX1_checkIndex_0 4 rfl rfl)
theorem dX1_checkIndex_5 : decode cX1_checkIndex 5 = .ok (.iload_n 1, 1) := dk_27 (dk_at dksX1_checkIndex_0 5 rfl rfl)
theorem dX1_checkIndex_6 : decode cX1_checkIndex 6 = .ok (.if_icmp .lt 11, 3) := dk_161 0 11 (dk_at dksX1_checkIndex_0 6 rfl rfl)
theorem dX1_checkIndex_9 : decode cX1_checkIndex 9 = .ok (.new 3, 3) := dk_187 0 3 (dk_at dksX1_checkIndex_0 9 rfl rfl)
theorem dX1_checkIndex_12 : decode cX1_checkIndex 12 = .ok (.dup, 1) := dk_89 (dk_at dksX1_checkIndex_0 12 rfl rfl)
theorem dX1_checkIndex_13 : decode cX1_checkIndex 13 = .ok (.invokespecial 5, 3) := dk_183 0 5 (dk_at dksX1_checkIndex_0 13 rfl rfl)
theorem dX1_checkIndex_16 : decode cX1_checkIndex 16 = .ok (.athrow, 1) := dk_191 (dk_at dksX1_checkIndex_0 16 rfl rfl)
theorem dX1_checkIndex_17 : decode cX1_checkIndex 17 = .ok (.return_, 1) := dk_177 (dk_at dksX1_checkIndex_0 17 rfl rfl)
abbrev cX1_letterOf : ByteArray := prog_1_method_15_code
def yX1_letterOf : MethodName := ⟨RX1, "letterOf", "(II)I"⟩
def dkwX1_letterOf_0 : List UInt8 := [42, 27, 182, 0, 107, 78, 28, 45, 180, 0, 111, 190, 184, 0, 99, 45, 180, 0, 111, 28, 46, 172]
abbrev dktX1_letterOf_0 : List UInt8 := dkwX1_letterOf_0 ++ []
theorem dksX1_letterOf_0 : cX1_letterOf.data.toList.drop 0 = dktX1_letterOf_0 := by decide +kernel
theorem dX1_letterOf_0 : decode cX1_letterOf 0 = .ok (.aload_n 0, 1) := dk_42 (dk_at dksX1_letterOf_0 0 rfl rfl)
theorem dX1_letterOf_1 : decode cX1_letterOf 1 = .ok (.iload_n 1, 1) := dk_27 (dk_at dksX1_letterOf_0 1 rfl rfl)
theorem dX1_letterOf_2 : decode cX1_letterOf 2 = .ok (.invokevirtual 107, 3) := dk_182 0 107 (dk_at dksX1_letterOf_0 2 rfl rfl)
theorem dX1_letterOf_5 : decode cX1_letterOf 5 = .ok (.astore_n 3, 1) := dk_78 (dk_at dksX1_letterOf_0 5 rfl rfl)
theorem dX1_letterOf_6 : decode cX1_letterOf 6 = .ok (.iload_n 2, 1) := dk_28 (dk_at dksX1_letterOf_0 6 rfl rfl)
theorem dX1_letterOf_7 : decode cX1_letterOf 7 = .ok (.aload_n 3, 1) := dk_45 (dk_at dksX1_letterOf_0 7 rfl rfl)
theorem dX1_letterOf_8 : decode cX1_letterOf 8 = .ok (.getfield 111, 3) := dk_180 0 111 (dk_at dksX1_letterOf_0 8 rfl rfl)
theorem dX1_letterOf_11 : decode cX1_letterOf 11 = .ok (.arraylength, 1) := dk_190 (dk_at dksX1_letterOf_0 11 rfl rfl)
theorem dX1_letterOf_12 : decode cX1_letterOf 12 = .ok (.invokestatic 99, 3) := dk_184 0 99 (dk_at dksX1_letterOf_0 12 rfl rfl)
theorem dX1_letterOf_15 : decode cX1_letterOf 15 = .ok (.aload_n 3, 1) := dk_45 (dk_at dksX1_letterOf_0 15 rfl rfl)
theorem dX1_letterOf_16 : decode cX1_letterOf 16 = .ok (.getfield 111, 3) := dk_180 0 111 (dk_at dksX1_letterOf_0 16 rfl rfl)
theorem dX1_letterOf_19 : decode cX1_letterOf 19 = .ok (.iload_n 2, 1) := dk_28 (dk_at dksX1_letterOf_0 19 rfl rfl)
theorem dX1_letterOf_20 : decode cX1_letterOf 20 = .ok (.iaload, 1) := dk_46 (dk_at dksX1_letterOf_0 20 rfl rfl)
theorem dX1_letterOf_21 : decode cX1_letterOf 21 = .ok (.ireturn, 1) := dk_172 (dk_at dksX1_letterOf_0 21 rfl rfl)
abbrev cX1_coupled : ByteArray := prog_1_method_16_code
def yX1_coupled : MethodName := ⟨RX1, "coupled", "(I)I"⟩
def dkwX1_coupled_3 : List UInt8 := [167, 255, 208, 132, 4, 1, 167, 255, 189, 29, 172]
abbrev dktX1_coupled_3 : List UInt8 := dkwX1_coupled_3 ++ []
def dkwX1_coupled_2 : List UInt8 := [46, 44, 180, 0, 111, 21, 4, 46, 160, 0, 10, 4, 21, 4, 120, 167, 0, 4, 3, 128, 62, 132, 5, 1]
abbrev dktX1_coupled_2 : List UInt8 := dkwX1_coupled_2 ++ dktX1_coupled_3
def dkwX1_coupled_1 : List UInt8 := [21, 5, 44, 180, 0, 111, 190, 162, 0, 44, 29, 21, 5, 21, 4, 159, 0, 27, 44, 180, 0, 111, 21, 5]
abbrev dktX1_coupled_1 : List UInt8 := dkwX1_coupled_1 ++ dktX1_coupled_2
def dkwX1_coupled_0 : List UInt8 := [42, 27, 182, 0, 107, 77, 3, 62, 3, 54, 4, 21, 4, 44, 180, 0, 111, 190, 162, 0, 63, 3, 54, 5]
abbrev dktX1_coupled_0 : List UInt8 := dkwX1_coupled_0 ++ dktX1_coupled_1
theorem dksX1_coupled_0 : cX1_coupled.data.toList.drop 0 = dktX1_coupled_0 := by decide +kernel
theorem dksX1_coupled_1 : cX1_coupled.data.toList.drop 24 = dktX1_coupled_1 := dk_seg dksX1_coupled_0 24 rfl rfl
theorem dksX1_coupled_2 : cX1_coupled.data.toList.drop 48 = dktX1_coupled_2 := dk_seg dksX1_coupled_1 24 rfl rfl
theorem dksX1_coupled_3 : cX1_coupled.data.toList.drop 72 = dktX1_coupled_3 := dk_seg dksX1_coupled_2 24 rfl rfl
theorem dX1_coupled_0 : decode cX1_coupled 0 = .ok (.aload_n 0, 1) := dk_42 (dk_at dksX1_coupled_0 0 rfl rfl)
theorem dX1_coupled_1 : decode cX1_coupled 1 = .ok (.iload_n 1, 1) := dk_27 (dk_at dksX1_coupled_0 1 rfl rfl)
theorem dX1_coupled_2 : decode cX1_coupled 2 = .ok (.invokevirtual 107, 3) := dk_182 0 107 (dk_at dksX1_coupled_0 2 rfl rfl)
theorem dX1_coupled_5 : decode cX1_coupled 5 = .ok (.astore_n 2, 1) := dk_77 (dk_at dksX1_coupled_0 5 rfl rfl)
theorem dX1_coupled_6 : decode cX1_coupled 6 = .ok (.iconst 0, 1) := dk_3 (dk_at dksX1_coupled_0 6 rfl rfl)
theorem dX1_coupled_7 : decode cX1_coupled 7 = .ok (.istore_n 3, 1) := dk_62 (dk_at dksX1_coupled_0 7 rfl rfl)
theorem dX1_coupled_8 : decode cX1_coupled 8 = .ok (.iconst 0, 1) := dk_3 (dk_at dksX1_coupled_0 8 rfl rfl)
theorem dX1_coupled_9 : decode cX1_coupled 9 = .ok (.istore 4, 2) := dk_54 4 (dk_at dksX1_coupled_0 9 rfl rfl)
theorem dX1_coupled_11 : decode cX1_coupled 11 = .ok (.iload 4, 2) := dk_21 4 (dk_at dksX1_coupled_0 11 rfl rfl)
theorem dX1_coupled_13 : decode cX1_coupled 13 = .ok (.aload_n 2, 1) := dk_44 (dk_at dksX1_coupled_0 13 rfl rfl)
theorem dX1_coupled_14 : decode cX1_coupled 14 = .ok (.getfield 111, 3) := dk_180 0 111 (dk_at dksX1_coupled_0 14 rfl rfl)
theorem dX1_coupled_17 : decode cX1_coupled 17 = .ok (.arraylength, 1) := dk_190 (dk_at dksX1_coupled_0 17 rfl rfl)
theorem dX1_coupled_18 : decode cX1_coupled 18 = .ok (.if_icmp .ge 63, 3) := dk_162 0 63 (dk_at dksX1_coupled_0 18 rfl rfl)
theorem dX1_coupled_21 : decode cX1_coupled 21 = .ok (.iconst 0, 1) := dk_3 (dk_at dksX1_coupled_0 21 rfl rfl)
theorem dX1_coupled_22 : decode cX1_coupled 22 = .ok (.istore 5, 2) := dk_54 5 (dk_at dksX1_coupled_0 22 rfl rfl)
theorem dX1_coupled_24 : decode cX1_coupled 24 = .ok (.iload 5, 2) := dk_21 5 (dk_at dksX1_coupled_1 0 rfl rfl)
theorem dX1_coupled_26 : decode cX1_coupled 26 = .ok (.aload_n 2, 1) := dk_44 (dk_at dksX1_coupled_1 2 rfl rfl)
theorem dX1_coupled_27 : decode cX1_coupled 27 = .ok (.getfield 111, 3) := dk_180 0 111 (dk_at dksX1_coupled_1 3 rfl rfl)
theorem dX1_coupled_30 : decode cX1_coupled 30 = .ok (.arraylength, 1) := dk_190 (dk_at dksX1_coupled_1 6 rfl rfl)
theorem dX1_coupled_31 : decode cX1_coupled 31 = .ok (.if_icmp .ge 44, 3) := dk_162 0 44 (dk_at dksX1_coupled_1 7 rfl rfl)
theorem dX1_coupled_34 : decode cX1_coupled 34 = .ok (.iload_n 3, 1) := dk_29 (dk_at dksX1_coupled_1 10 rfl rfl)
theorem dX1_coupled_35 : decode cX1_coupled 35 = .ok (.iload 5, 2) := dk_21 5 (dk_at dksX1_coupled_1 11 rfl rfl)
theorem dX1_coupled_37 : decode cX1_coupled 37 = .ok (.iload 4, 2) := dk_21 4 (dk_at dksX1_coupled_1 13 rfl rfl)
theorem dX1_coupled_39 : decode cX1_coupled 39 = .ok (.if_icmp .eq 27, 3) := dk_159 0 27 (dk_at dksX1_coupled_1 15 rfl rfl)
theorem dX1_coupled_42 : decode cX1_coupled 42 = .ok (.aload_n 2, 1) := dk_44 (dk_at dksX1_coupled_1 18 rfl rfl)
theorem dX1_coupled_43 : decode cX1_coupled 43 = .ok (.getfield 111, 3) := dk_180 0 111 (dk_at dksX1_coupled_1 19 rfl rfl)
theorem dX1_coupled_46 : decode cX1_coupled 46 = .ok (.iload 5, 2) := dk_21 5 (dk_at dksX1_coupled_1 22 rfl rfl)
theorem dX1_coupled_48 : decode cX1_coupled 48 = .ok (.iaload, 1) := dk_46 (dk_at dksX1_coupled_2 0 rfl rfl)
theorem dX1_coupled_49 : decode cX1_coupled 49 = .ok (.aload_n 2, 1) := dk_44 (dk_at dksX1_coupled_2 1 rfl rfl)
theorem dX1_coupled_50 : decode cX1_coupled 50 = .ok (.getfield 111, 3) := dk_180 0 111 (dk_at dksX1_coupled_2 2 rfl rfl)
theorem dX1_coupled_53 : decode cX1_coupled 53 = .ok (.iload 4, 2) := dk_21 4 (dk_at dksX1_coupled_2 5 rfl rfl)
theorem dX1_coupled_55 : decode cX1_coupled 55 = .ok (.iaload, 1) := dk_46 (dk_at dksX1_coupled_2 7 rfl rfl)
theorem dX1_coupled_56 : decode cX1_coupled 56 = .ok (.if_icmp .ne 10, 3) := dk_160 0 10 (dk_at dksX1_coupled_2 8 rfl rfl)
theorem dX1_coupled_59 : decode cX1_coupled 59 = .ok (.iconst 1, 1) := dk_4 (dk_at dksX1_coupled_2 11 rfl rfl)
theorem dX1_coupled_60 : decode cX1_coupled 60 = .ok (.iload 4, 2) := dk_21 4 (dk_at dksX1_coupled_2 12 rfl rfl)
theorem dX1_coupled_62 : decode cX1_coupled 62 = .ok (.ishl, 1) := dk_120 (dk_at dksX1_coupled_2 14 rfl rfl)
theorem dX1_coupled_63 : decode cX1_coupled 63 = .ok (.goto 4, 3) := dk_167 0 4 (dk_at dksX1_coupled_2 15 rfl rfl)
theorem dX1_coupled_66 : decode cX1_coupled 66 = .ok (.iconst 0, 1) := dk_3 (dk_at dksX1_coupled_2 18 rfl rfl)
theorem dX1_coupled_67 : decode cX1_coupled 67 = .ok (.ior, 1) := dk_128 (dk_at dksX1_coupled_2 19 rfl rfl)
theorem dX1_coupled_68 : decode cX1_coupled 68 = .ok (.istore_n 3, 1) := dk_62 (dk_at dksX1_coupled_2 20 rfl rfl)
theorem dX1_coupled_69 : decode cX1_coupled 69 = .ok (.iinc 5 1, 3) := dk_132 5 1 (dk_at dksX1_coupled_2 21 rfl rfl)
theorem dX1_coupled_72 : decode cX1_coupled 72 = .ok (.goto (-48), 3) := dk_167 255 208 (dk_at dksX1_coupled_3 0 rfl rfl)
theorem dX1_coupled_75 : decode cX1_coupled 75 = .ok (.iinc 4 1, 3) := dk_132 4 1 (dk_at dksX1_coupled_3 3 rfl rfl)
theorem dX1_coupled_78 : decode cX1_coupled 78 = .ok (.goto (-67), 3) := dk_167 255 189 (dk_at dksX1_coupled_3 6 rfl rfl)
theorem dX1_coupled_81 : decode cX1_coupled 81 = .ok (.iload_n 3, 1) := dk_29 (dk_at dksX1_coupled_3 9 rfl rfl)
theorem dX1_coupled_82 : decode cX1_coupled 82 = .ok (.ireturn, 1) := dk_172 (dk_at dksX1_coupled_3 10 rfl rfl)
abbrev cX1_depth : ByteArray := prog_1_method_17_code
def yX1_depth : MethodName := ⟨RX1, "depth", "(I)I"⟩
def dkwX1_depth_0 : List UInt8 := [42, 27, 182, 0, 107, 180, 0, 114, 185, 0, 118, 1, 0, 172]
abbrev dktX1_depth_0 : List UInt8 := dkwX1_depth_0 ++ []
theorem dksX1_depth_0 : cX1_depth.data.toList.drop 0 = dktX1_depth_0 := by decide +kernel
theorem dX1_depth_0 : decode cX1_depth 0 = .ok (.aload_n 0, 1) := dk_42 (dk_at dksX1_depth_0 0 rfl rfl)
theorem dX1_depth_1 : decode cX1_depth 1 = .ok (.iload_n 1, 1) := dk_27 (dk_at dksX1_depth_0 1 rfl rfl)
theorem dX1_depth_2 : decode cX1_depth 2 = .ok (.invokevirtual 107, 3) := dk_182 0 107 (dk_at dksX1_depth_0 2 rfl rfl)
theorem dX1_depth_5 : decode cX1_depth 5 = .ok (.getfield 114, 3) := dk_180 0 114 (dk_at dksX1_depth_0 5 rfl rfl)
theorem dX1_depth_8 : decode cX1_depth 8 = .ok (.invokeinterface 118 1, 5) := by decide +kernel
theorem dX1_depth_13 : decode cX1_depth 13 = .ok (.ireturn, 1) := dk_172 (dk_at dksX1_depth_0 13 rfl rfl)
abbrev cX1_outcome : ByteArray := prog_1_method_18_code
def yX1_outcome : MethodName := ⟨RX1, "outcome", "(II)Z"⟩
def dkwX1_outcome_0 : List UInt8 := [42, 27, 182, 0, 107, 78, 4, 188, 10, 89, 3, 28, 79, 184, 0, 123, 45, 28, 182, 0, 127, 172]
abbrev dktX1_outcome_0 : List UInt8 := dkwX1_outcome_0 ++ []
theorem dksX1_outcome_0 : cX1_outcome.data.toList.drop 0 = dktX1_outcome_0 := by decide +kernel
theorem dX1_outcome_0 : decode cX1_outcome 0 = .ok (.aload_n 0, 1) := dk_42 (dk_at dksX1_outcome_0 0 rfl rfl)
theorem dX1_outcome_1 : decode cX1_outcome 1 = .ok (.iload_n 1, 1) := dk_27 (dk_at dksX1_outcome_0 1 rfl rfl)
theorem dX1_outcome_2 : decode cX1_outcome 2 = .ok (.invokevirtual 107, 3) := dk_182 0 107 (dk_at dksX1_outcome_0 2 rfl rfl)
theorem dX1_outcome_5 : decode cX1_outcome 5 = .ok (.astore_n 3, 1) := dk_78 (dk_at dksX1_outcome_0 5 rfl rfl)
theorem dX1_outcome_6 : decode cX1_outcome 6 = .ok (.iconst 1, 1) := dk_4 (dk_at dksX1_outcome_0 6 rfl rfl)
theorem dX1_outcome_7 : decode cX1_outcome 7 = .ok (.newarray .int, 2) := dk_188_10 (dk_at dksX1_outcome_0 7 rfl rfl)
theorem dX1_outcome_9 : decode cX1_outcome 9 = .ok (.dup, 1) := dk_89 (dk_at dksX1_outcome_0 9 rfl rfl)
theorem dX1_outcome_10 : decode cX1_outcome 10 = .ok (.iconst 0, 1) := dk_3 (dk_at dksX1_outcome_0 10 rfl rfl)
theorem dX1_outcome_11 : decode cX1_outcome 11 = .ok (.iload_n 2, 1) := dk_28 (dk_at dksX1_outcome_0 11 rfl rfl)
theorem dX1_outcome_12 : decode cX1_outcome 12 = .ok (.iastore, 1) := dk_79 (dk_at dksX1_outcome_0 12 rfl rfl)
theorem dX1_outcome_13 : decode cX1_outcome 13 = .ok (.invokestatic 123, 3) := dk_184 0 123 (dk_at dksX1_outcome_0 13 rfl rfl)
theorem dX1_outcome_16 : decode cX1_outcome 16 = .ok (.aload_n 3, 1) := dk_45 (dk_at dksX1_outcome_0 16 rfl rfl)
theorem dX1_outcome_17 : decode cX1_outcome 17 = .ok (.iload_n 2, 1) := dk_28 (dk_at dksX1_outcome_0 17 rfl rfl)
theorem dX1_outcome_18 : decode cX1_outcome 18 = .ok (.invokevirtual 127, 3) := dk_182 0 127 (dk_at dksX1_outcome_0 18 rfl rfl)
theorem dX1_outcome_21 : decode cX1_outcome 21 = .ok (.ireturn, 1) := dk_172 (dk_at dksX1_outcome_0 21 rfl rfl)
abbrev cX1_checkVector : ByteArray := prog_1_method_12_code
def yX1_checkVector : MethodName := ⟨RX1, "checkVector", "([I)V"⟩
def dkwX1_checkVector_1 : List UInt8 := [16, 16, 162, 0, 7, 4, 167, 0, 4, 3, 184, 0, 43, 132, 3, 1, 167, 255, 223, 177]
abbrev dktX1_checkVector_1 : List UInt8 := dkwX1_checkVector_1 ++ []
def dkwX1_checkVector_0 : List UInt8 := [42, 76, 43, 190, 61, 3, 62, 29, 28, 162, 0, 34, 43, 29, 46, 54, 4, 21, 4, 155, 0, 14, 21, 4]
abbrev dktX1_checkVector_0 : List UInt8 := dkwX1_checkVector_0 ++ dktX1_checkVector_1
theorem dksX1_checkVector_0 : cX1_checkVector.data.toList.drop 0 = dktX1_checkVector_0 := by decide +kernel
theorem dksX1_checkVector_1 : cX1_checkVector.data.toList.drop 24 = dktX1_checkVector_1 := dk_seg dksX1_checkVector_0 24 rfl rfl
theorem dX1_checkVector_0 : decode cX1_checkVector 0 = .ok (.aload_n 0, 1) := dk_42 (dk_at dksX1_checkVector_0 0 rfl rfl)
theorem dX1_checkVector_1 : decode cX1_checkVector 1 = .ok (.astore_n 1, 1) := dk_76 (dk_at dksX1_checkVector_0 1 rfl rfl)
theorem dX1_checkVector_2 : decode cX1_checkVector 2 = .ok (.aload_n 1, 1) := dk_43 (dk_at dksX1_checkVector_0 2 rfl rfl)
theorem dX1_checkVector_3 : decode cX1_checkVector 3 = .ok (.arraylength, 1) := dk_190 (dk_at dksX1_checkVector_0 3 rfl rfl)
theorem dX1_checkVector_4 : decode cX1_checkVector 4 = .ok (.istore_n 2, 1) := dk_61 (dk_at dksX1_checkVector_0 4 rfl rfl)
theorem dX1_checkVector_5 : decode cX1_checkVector 5 = .ok (.iconst 0, 1) := dk_3 (dk_at dksX1_checkVector_0 5 rfl rfl)
theorem dX1_checkVector_6 : decode cX1_checkVector 6 = .ok (.istore_n 3, 1) := dk_62 (dk_at dksX1_checkVector_0 6 rfl rfl)
theorem dX1_checkVector_7 : decode cX1_checkVector 7 = .ok (.iload_n 3, 1) := dk_29 (dk_at dksX1_checkVector_0 7 rfl rfl)
theorem dX1_checkVector_8 : decode cX1_checkVector 8 = .ok (.iload_n 2, 1) := dk_28 (dk_at dksX1_checkVector_0 8 rfl rfl)
theorem dX1_checkVector_9 : decode cX1_checkVector 9 = .ok (.if_icmp .ge 34, 3) := dk_162 0 34 (dk_at dksX1_checkVector_0 9 rfl rfl)
theorem dX1_checkVector_12 : decode cX1_checkVector 12 = .ok (.aload_n 1, 1) := dk_43 (dk_at dksX1_checkVector_0 12 rfl rfl)
theorem dX1_checkVector_13 : decode cX1_checkVector 13 = .ok (.iload_n 3, 1) := dk_29 (dk_at dksX1_checkVector_0 13 rfl rfl)
theorem dX1_checkVector_14 : decode cX1_checkVector 14 = .ok (.iaload, 1) := dk_46 (dk_at dksX1_checkVector_0 14 rfl rfl)
theorem dX1_checkVector_15 : decode cX1_checkVector 15 = .ok (.istore 4, 2) := dk_54 4 (dk_at dksX1_checkVector_0 15 rfl rfl)
theorem dX1_checkVector_17 : decode cX1_checkVector 17 = .ok (.iload 4, 2) := dk_21 4 (dk_at dksX1_checkVector_0 17 rfl rfl)
theorem dX1_checkVector_19 : decode cX1_checkVector 19 = .ok (.ifCond .lt 14, 3) := dk_155 0 14 (dk_at dksX1_checkVector_0 19 rfl rfl)
theorem dX1_checkVector_22 : decode cX1_checkVector 22 = .ok (.iload 4, 2) := dk_21 4 (dk_at dksX1_checkVector_0 22 rfl rfl)
theorem dX1_checkVector_24 : decode cX1_checkVector 24 = .ok (.bipush 16, 2) := dk_16 16 (dk_at dksX1_checkVector_1 0 rfl rfl)
theorem dX1_checkVector_26 : decode cX1_checkVector 26 = .ok (.if_icmp .ge 7, 3) := dk_162 0 7 (dk_at dksX1_checkVector_1 2 rfl rfl)
theorem dX1_checkVector_29 : decode cX1_checkVector 29 = .ok (.iconst 1, 1) := dk_4 (dk_at dksX1_checkVector_1 5 rfl rfl)
theorem dX1_checkVector_30 : decode cX1_checkVector 30 = .ok (.goto 4, 3) := dk_167 0 4 (dk_at dksX1_checkVector_1 6 rfl rfl)
theorem dX1_checkVector_33 : decode cX1_checkVector 33 = .ok (.iconst 0, 1) := dk_3 (dk_at dksX1_checkVector_1 9 rfl rfl)
theorem dX1_checkVector_34 : decode cX1_checkVector 34 = .ok (.invokestatic 43, 3) := dk_184 0 43 (dk_at dksX1_checkVector_1 10 rfl rfl)
theorem dX1_checkVector_37 : decode cX1_checkVector 37 = .ok (.iinc 3 1, 3) := dk_132 3 1 (dk_at dksX1_checkVector_1 13 rfl rfl)
theorem dX1_checkVector_40 : decode cX1_checkVector 40 = .ok (.goto (-33), 3) := dk_167 255 223 (dk_at dksX1_checkVector_1 16 rfl rfl)
theorem dX1_checkVector_43 : decode cX1_checkVector 43 = .ok (.return_, 1) := dk_177 (dk_at dksX1_checkVector_1 19 rfl rfl)
abbrev cX1_state : ByteArray := prog_1_method_19_code
def yX1_state : MethodName := ⟨RX1, "state", "(III)I"⟩
def dkwX1_state_1 : List UInt8 := [184, 0, 123, 25, 4, 28, 29, 182, 0, 131, 172]
abbrev dktX1_state_1 : List UInt8 := dkwX1_state_1 ++ []
def dkwX1_state_0 : List UInt8 := [42, 27, 182, 0, 107, 58, 4, 28, 25, 4, 180, 0, 111, 190, 184, 0, 99, 4, 188, 10, 89, 3, 29, 79]
abbrev dktX1_state_0 : List UInt8 := dkwX1_state_0 ++ dktX1_state_1
theorem dksX1_state_0 : cX1_state.data.toList.drop 0 = dktX1_state_0 := by decide +kernel
theorem dksX1_state_1 : cX1_state.data.toList.drop 24 = dktX1_state_1 := dk_seg dksX1_state_0 24 rfl rfl
theorem dX1_state_0 : decode cX1_state 0 = .ok (.aload_n 0, 1) := dk_42 (dk_at dksX1_state_0 0 rfl rfl)
theorem dX1_state_1 : decode cX1_state 1 = .ok (.iload_n 1, 1) := dk_27 (dk_at dksX1_state_0 1 rfl rfl)
theorem dX1_state_2 : decode cX1_state 2 = .ok (.invokevirtual 107, 3) := dk_182 0 107 (dk_at dksX1_state_0 2 rfl rfl)
theorem dX1_state_5 : decode cX1_state 5 = .ok (.astore 4, 2) := dk_58 4 (dk_at dksX1_state_0 5 rfl rfl)
theorem dX1_state_7 : decode cX1_state 7 = .ok (.iload_n 2, 1) := dk_28 (dk_at dksX1_state_0 7 rfl rfl)
theorem dX1_state_8 : decode cX1_state 8 = .ok (.aload 4, 2) := dk_25 4 (dk_at dksX1_state_0 8 rfl rfl)
theorem dX1_state_10 : decode cX1_state 10 = .ok (.getfield 111, 3) := dk_180 0 111 (dk_at dksX1_state_0 10 rfl rfl)
theorem dX1_state_13 : decode cX1_state 13 = .ok (.arraylength, 1) := dk_190 (dk_at dksX1_state_0 13 rfl rfl)
theorem dX1_state_14 : decode cX1_state 14 = .ok (.invokestatic 99, 3) := dk_184 0 99 (dk_at dksX1_state_0 14 rfl rfl)
theorem dX1_state_17 : decode cX1_state 17 = .ok (.iconst 1, 1) := dk_4 (dk_at dksX1_state_0 17 rfl rfl)
theorem dX1_state_18 : decode cX1_state 18 = .ok (.newarray .int, 2) := dk_188_10 (dk_at dksX1_state_0 18 rfl rfl)
theorem dX1_state_20 : decode cX1_state 20 = .ok (.dup, 1) := dk_89 (dk_at dksX1_state_0 20 rfl rfl)
theorem dX1_state_21 : decode cX1_state 21 = .ok (.iconst 0, 1) := dk_3 (dk_at dksX1_state_0 21 rfl rfl)
theorem dX1_state_22 : decode cX1_state 22 = .ok (.iload_n 3, 1) := dk_29 (dk_at dksX1_state_0 22 rfl rfl)
theorem dX1_state_23 : decode cX1_state 23 = .ok (.iastore, 1) := dk_79 (dk_at dksX1_state_0 23 rfl rfl)
theorem dX1_state_24 : decode cX1_state 24 = .ok (.invokestatic 123, 3) := dk_184 0 123 (dk_at dksX1_state_1 0 rfl rfl)
theorem dX1_state_27 : decode cX1_state 27 = .ok (.aload 4, 2) := dk_25 4 (dk_at dksX1_state_1 3 rfl rfl)
theorem dX1_state_29 : decode cX1_state 29 = .ok (.iload_n 2, 1) := dk_28 (dk_at dksX1_state_1 5 rfl rfl)
theorem dX1_state_30 : decode cX1_state 30 = .ok (.iload_n 3, 1) := dk_29 (dk_at dksX1_state_1 6 rfl rfl)
theorem dX1_state_31 : decode cX1_state 31 = .ok (.invokevirtual 131, 3) := dk_182 0 131 (dk_at dksX1_state_1 7 rfl rfl)
theorem dX1_state_34 : decode cX1_state 34 = .ok (.ireturn, 1) := dk_172 (dk_at dksX1_state_1 10 rfl rfl)
abbrev cX1_deciding : ByteArray := prog_1_method_20_code
def yX1_deciding : MethodName := ⟨RX1, "deciding", "(II)I"⟩
def dkwX1_deciding_2 : List UInt8 := [167, 0, 4, 3, 128, 54, 4, 132, 5, 1, 167, 255, 220, 21, 4, 172]
abbrev dktX1_deciding_2 : List UInt8 := dkwX1_deciding_2 ++ []
def dkwX1_deciding_1 : List UInt8 := [45, 180, 0, 111, 190, 162, 0, 32, 21, 4, 45, 21, 5, 28, 182, 0, 135, 153, 0, 10, 4, 21, 5, 120]
abbrev dktX1_deciding_1 : List UInt8 := dkwX1_deciding_1 ++ dktX1_deciding_2
def dkwX1_deciding_0 : List UInt8 := [42, 27, 182, 0, 107, 78, 4, 188, 10, 89, 3, 28, 79, 184, 0, 123, 3, 54, 4, 3, 54, 5, 21, 5]
abbrev dktX1_deciding_0 : List UInt8 := dkwX1_deciding_0 ++ dktX1_deciding_1
theorem dksX1_deciding_0 : cX1_deciding.data.toList.drop 0 = dktX1_deciding_0 := by decide +kernel
theorem dksX1_deciding_1 : cX1_deciding.data.toList.drop 24 = dktX1_deciding_1 := dk_seg dksX1_deciding_0 24 rfl rfl
theorem dksX1_deciding_2 : cX1_deciding.data.toList.drop 48 = dktX1_deciding_2 := dk_seg dksX1_deciding_1 24 rfl rfl
theorem dX1_deciding_0 : decode cX1_deciding 0 = .ok (.aload_n 0, 1) := dk_42 (dk_at dksX1_deciding_0 0 rfl rfl)
theorem dX1_deciding_1 : decode cX1_deciding 1 = .ok (.iload_n 1, 1) := dk_27 (dk_at dksX1_deciding_0 1 rfl rfl)
theorem dX1_deciding_2 : decode cX1_deciding 2 = .ok (.invokevirtual 107, 3) := dk_182 0 107 (dk_at dksX1_deciding_0 2 rfl rfl)
theorem dX1_deciding_5 : decode cX1_deciding 5 = .ok (.astore_n 3, 1) := dk_78 (dk_at dksX1_deciding_0 5 rfl rfl)
theorem dX1_deciding_6 : decode cX1_deciding 6 = .ok (.iconst 1, 1) := dk_4 (dk_at dksX1_deciding_0 6 rfl rfl)
theorem dX1_deciding_7 : decode cX1_deciding 7 = .ok (.newarray .int, 2) := dk_188_10 (dk_at dksX1_deciding_0 7 rfl rfl)
theorem dX1_deciding_9 : decode cX1_deciding 9 = .ok (.dup, 1) := dk_89 (dk_at dksX1_deciding_0 9 rfl rfl)
theorem dX1_deciding_10 : decode cX1_deciding 10 = .ok (.iconst 0, 1) := dk_3 (dk_at dksX1_deciding_0 10 rfl rfl)
theorem dX1_deciding_11 : decode cX1_deciding 11 = .ok (.iload_n 2, 1) := dk_28 (dk_at dksX1_deciding_0 11 rfl rfl)
theorem dX1_deciding_12 : decode cX1_deciding 12 = .ok (.iastore, 1) := dk_79 (dk_at dksX1_deciding_0 12 rfl rfl)
theorem dX1_deciding_13 : decode cX1_deciding 13 = .ok (.invokestatic 123, 3) := dk_184 0 123 (dk_at dksX1_deciding_0 13 rfl rfl)
theorem dX1_deciding_16 : decode cX1_deciding 16 = .ok (.iconst 0, 1) := dk_3 (dk_at dksX1_deciding_0 16 rfl rfl)
theorem dX1_deciding_17 : decode cX1_deciding 17 = .ok (.istore 4, 2) := dk_54 4 (dk_at dksX1_deciding_0 17 rfl rfl)
theorem dX1_deciding_19 : decode cX1_deciding 19 = .ok (.iconst 0, 1) := dk_3 (dk_at dksX1_deciding_0 19 rfl rfl)
theorem dX1_deciding_20 : decode cX1_deciding 20 = .ok (.istore 5, 2) := dk_54 5 (dk_at dksX1_deciding_0 20 rfl rfl)
theorem dX1_deciding_22 : decode cX1_deciding 22 = .ok (.iload 5, 2) := dk_21 5 (dk_at dksX1_deciding_0 22 rfl rfl)
theorem dX1_deciding_24 : decode cX1_deciding 24 = .ok (.aload_n 3, 1) := dk_45 (dk_at dksX1_deciding_1 0 rfl rfl)
theorem dX1_deciding_25 : decode cX1_deciding 25 = .ok (.getfield 111, 3) := dk_180 0 111 (dk_at dksX1_deciding_1 1 rfl rfl)
theorem dX1_deciding_28 : decode cX1_deciding 28 = .ok (.arraylength, 1) := dk_190 (dk_at dksX1_deciding_1 4 rfl rfl)
theorem dX1_deciding_29 : decode cX1_deciding 29 = .ok (.if_icmp .ge 32, 3) := dk_162 0 32 (dk_at dksX1_deciding_1 5 rfl rfl)
theorem dX1_deciding_32 : decode cX1_deciding 32 = .ok (.iload 4, 2) := dk_21 4 (dk_at dksX1_deciding_1 8 rfl rfl)
theorem dX1_deciding_34 : decode cX1_deciding 34 = .ok (.aload_n 3, 1) := dk_45 (dk_at dksX1_deciding_1 10 rfl rfl)
theorem dX1_deciding_35 : decode cX1_deciding 35 = .ok (.iload 5, 2) := dk_21 5 (dk_at dksX1_deciding_1 11 rfl rfl)
theorem dX1_deciding_37 : decode cX1_deciding 37 = .ok (.iload_n 2, 1) := dk_28 (dk_at dksX1_deciding_1 13 rfl rfl)
theorem dX1_deciding_38 : decode cX1_deciding 38 = .ok (.invokevirtual 135, 3) := dk_182 0 135 (dk_at dksX1_deciding_1 14 rfl rfl)
theorem dX1_deciding_41 : decode cX1_deciding 41 = .ok (.ifCond .eq 10, 3) := dk_153 0 10 (dk_at dksX1_deciding_1 17 rfl rfl)
theorem dX1_deciding_44 : decode cX1_deciding 44 = .ok (.iconst 1, 1) := dk_4 (dk_at dksX1_deciding_1 20 rfl rfl)
theorem dX1_deciding_45 : decode cX1_deciding 45 = .ok (.iload 5, 2) := dk_21 5 (dk_at dksX1_deciding_1 21 rfl rfl)
theorem dX1_deciding_47 : decode cX1_deciding 47 = .ok (.ishl, 1) := dk_120 (dk_at dksX1_deciding_1 23 rfl rfl)
theorem dX1_deciding_48 : decode cX1_deciding 48 = .ok (.goto 4, 3) := dk_167 0 4 (dk_at dksX1_deciding_2 0 rfl rfl)
theorem dX1_deciding_51 : decode cX1_deciding 51 = .ok (.iconst 0, 1) := dk_3 (dk_at dksX1_deciding_2 3 rfl rfl)
theorem dX1_deciding_52 : decode cX1_deciding 52 = .ok (.ior, 1) := dk_128 (dk_at dksX1_deciding_2 4 rfl rfl)
theorem dX1_deciding_53 : decode cX1_deciding 53 = .ok (.istore 4, 2) := dk_54 4 (dk_at dksX1_deciding_2 5 rfl rfl)
theorem dX1_deciding_55 : decode cX1_deciding 55 = .ok (.iinc 5 1, 3) := dk_132 5 1 (dk_at dksX1_deciding_2 7 rfl rfl)
theorem dX1_deciding_58 : decode cX1_deciding 58 = .ok (.goto (-36), 3) := dk_167 255 220 (dk_at dksX1_deciding_2 10 rfl rfl)
theorem dX1_deciding_61 : decode cX1_deciding 61 = .ok (.iload 4, 2) := dk_21 4 (dk_at dksX1_deciding_2 13 rfl rfl)
theorem dX1_deciding_63 : decode cX1_deciding 63 = .ok (.ireturn, 1) := dk_172 (dk_at dksX1_deciding_2 15 rfl rfl)
abbrev cX1_isSame : ByteArray := prog_1_method_21_code
def yX1_isSame : MethodName := ⟨RX1, "isSame", "(II)Z"⟩
def dkwX1_isSame_2 : List UInt8 := [182, 0, 127, 160, 0, 7, 4, 167, 0, 4, 3, 126, 54, 5, 132, 6, 1, 167, 255, 211, 21, 5, 172]
abbrev dktX1_isSame_2 : List UInt8 := dkwX1_isSame_2 ++ []
def dkwX1_isSame_1 : List UInt8 := [162, 0, 44, 21, 5, 42, 21, 6, 182, 0, 139, 153, 0, 19, 45, 21, 6, 182, 0, 127, 25, 4, 21, 6]
abbrev dktX1_isSame_1 : List UInt8 := dkwX1_isSame_1 ++ dktX1_isSame_2
def dkwX1_isSame_0 : List UInt8 := [42, 27, 182, 0, 107, 78, 42, 28, 182, 0, 107, 58, 4, 4, 54, 5, 3, 54, 6, 21, 6, 16, 16]
abbrev dktX1_isSame_0 : List UInt8 := dkwX1_isSame_0 ++ dktX1_isSame_1
theorem dksX1_isSame_0 : cX1_isSame.data.toList.drop 0 = dktX1_isSame_0 := by decide +kernel
theorem dksX1_isSame_1 : cX1_isSame.data.toList.drop 23 = dktX1_isSame_1 := dk_seg dksX1_isSame_0 23 rfl rfl
theorem dksX1_isSame_2 : cX1_isSame.data.toList.drop 47 = dktX1_isSame_2 := dk_seg dksX1_isSame_1 24 rfl rfl
theorem dX1_isSame_0 : decode cX1_isSame 0 = .ok (.aload_n 0, 1) := dk_42 (dk_at dksX1_isSame_0 0 rfl rfl)
theorem dX1_isSame_1 : decode cX1_isSame 1 = .ok (.iload_n 1, 1) := dk_27 (dk_at dksX1_isSame_0 1 rfl rfl)
theorem dX1_isSame_2 : decode cX1_isSame 2 = .ok (.invokevirtual 107, 3) := dk_182 0 107 (dk_at dksX1_isSame_0 2 rfl rfl)
theorem dX1_isSame_5 : decode cX1_isSame 5 = .ok (.astore_n 3, 1) := dk_78 (dk_at dksX1_isSame_0 5 rfl rfl)
theorem dX1_isSame_6 : decode cX1_isSame 6 = .ok (.aload_n 0, 1) := dk_42 (dk_at dksX1_isSame_0 6 rfl rfl)
theorem dX1_isSame_7 : decode cX1_isSame 7 = .ok (.iload_n 2, 1) := dk_28 (dk_at dksX1_isSame_0 7 rfl rfl)
theorem dX1_isSame_8 : decode cX1_isSame 8 = .ok (.invokevirtual 107, 3) := dk_182 0 107 (dk_at dksX1_isSame_0 8 rfl rfl)
theorem dX1_isSame_11 : decode cX1_isSame 11 = .ok (.astore 4, 2) := dk_58 4 (dk_at dksX1_isSame_0 11 rfl rfl)
theorem dX1_isSame_13 : decode cX1_isSame 13 = .ok (.iconst 1, 1) := dk_4 (dk_at dksX1_isSame_0 13 rfl rfl)
theorem dX1_isSame_14 : decode cX1_isSame 14 = .ok (.istore 5, 2) := dk_54 5 (dk_at dksX1_isSame_0 14 rfl rfl)
theorem dX1_isSame_16 : decode cX1_isSame 16 = .ok (.iconst 0, 1) := dk_3 (dk_at dksX1_isSame_0 16 rfl rfl)
theorem dX1_isSame_17 : decode cX1_isSame 17 = .ok (.istore 6, 2) := dk_54 6 (dk_at dksX1_isSame_0 17 rfl rfl)
theorem dX1_isSame_19 : decode cX1_isSame 19 = .ok (.iload 6, 2) := dk_21 6 (dk_at dksX1_isSame_0 19 rfl rfl)
theorem dX1_isSame_21 : decode cX1_isSame 21 = .ok (.bipush 16, 2) := dk_16 16 (dk_at dksX1_isSame_0 21 rfl rfl)
theorem dX1_isSame_23 : decode cX1_isSame 23 = .ok (.if_icmp .ge 44, 3) := dk_162 0 44 (dk_at dksX1_isSame_1 0 rfl rfl)
theorem dX1_isSame_26 : decode cX1_isSame 26 = .ok (.iload 5, 2) := dk_21 5 (dk_at dksX1_isSame_1 3 rfl rfl)
theorem dX1_isSame_28 : decode cX1_isSame 28 = .ok (.aload_n 0, 1) := dk_42 (dk_at dksX1_isSame_1 5 rfl rfl)
theorem dX1_isSame_29 : decode cX1_isSame 29 = .ok (.iload 6, 2) := dk_21 6 (dk_at dksX1_isSame_1 6 rfl rfl)
theorem dX1_isSame_31 : decode cX1_isSame 31 = .ok (.invokevirtual 139, 3) := dk_182 0 139 (dk_at dksX1_isSame_1 8 rfl rfl)
theorem dX1_isSame_34 : decode cX1_isSame 34 = .ok (.ifCond .eq 19, 3) := dk_153 0 19 (dk_at dksX1_isSame_1 11 rfl rfl)
theorem dX1_isSame_37 : decode cX1_isSame 37 = .ok (.aload_n 3, 1) := dk_45 (dk_at dksX1_isSame_1 14 rfl rfl)
theorem dX1_isSame_38 : decode cX1_isSame 38 = .ok (.iload 6, 2) := dk_21 6 (dk_at dksX1_isSame_1 15 rfl rfl)
theorem dX1_isSame_40 : decode cX1_isSame 40 = .ok (.invokevirtual 127, 3) := dk_182 0 127 (dk_at dksX1_isSame_1 17 rfl rfl)
theorem dX1_isSame_43 : decode cX1_isSame 43 = .ok (.aload 4, 2) := dk_25 4 (dk_at dksX1_isSame_1 20 rfl rfl)
theorem dX1_isSame_45 : decode cX1_isSame 45 = .ok (.iload 6, 2) := dk_21 6 (dk_at dksX1_isSame_1 22 rfl rfl)
theorem dX1_isSame_47 : decode cX1_isSame 47 = .ok (.invokevirtual 127, 3) := dk_182 0 127 (dk_at dksX1_isSame_2 0 rfl rfl)
theorem dX1_isSame_50 : decode cX1_isSame 50 = .ok (.if_icmp .ne 7, 3) := dk_160 0 7 (dk_at dksX1_isSame_2 3 rfl rfl)
theorem dX1_isSame_53 : decode cX1_isSame 53 = .ok (.iconst 1, 1) := dk_4 (dk_at dksX1_isSame_2 6 rfl rfl)
theorem dX1_isSame_54 : decode cX1_isSame 54 = .ok (.goto 4, 3) := dk_167 0 4 (dk_at dksX1_isSame_2 7 rfl rfl)
theorem dX1_isSame_57 : decode cX1_isSame 57 = .ok (.iconst 0, 1) := dk_3 (dk_at dksX1_isSame_2 10 rfl rfl)
theorem dX1_isSame_58 : decode cX1_isSame 58 = .ok (.iand, 1) := dk_126 (dk_at dksX1_isSame_2 11 rfl rfl)
theorem dX1_isSame_59 : decode cX1_isSame 59 = .ok (.istore 5, 2) := dk_54 5 (dk_at dksX1_isSame_2 12 rfl rfl)
theorem dX1_isSame_61 : decode cX1_isSame 61 = .ok (.iinc 6 1, 3) := dk_132 6 1 (dk_at dksX1_isSame_2 14 rfl rfl)
theorem dX1_isSame_64 : decode cX1_isSame 64 = .ok (.goto (-45), 3) := dk_167 255 211 (dk_at dksX1_isSame_2 17 rfl rfl)
theorem dX1_isSame_67 : decode cX1_isSame 67 = .ok (.iload 5, 2) := dk_21 5 (dk_at dksX1_isSame_2 20 rfl rfl)
theorem dX1_isSame_69 : decode cX1_isSame 69 = .ok (.ireturn, 1) := dk_172 (dk_at dksX1_isSame_2 22 rfl rfl)
abbrev cX1_forbid : ByteArray := prog_1_method_22_code
def yX1_forbid : MethodName := ⟨RX1, "forbid", "(IZIZ)I"⟩
def dkwX1_forbid_3 : List UInt8 := [180, 0, 35, 182, 0, 142, 4, 100, 172]
abbrev dktX1_forbid_3 : List UInt8 := dkwX1_forbid_3 ++ []
def dkwX1_forbid_2 : List UInt8 := [184, 0, 53, 42, 180, 0, 35, 187, 0, 143, 89, 27, 28, 29, 21, 4, 183, 0, 145, 182, 0, 148, 87, 42]
abbrev dktX1_forbid_2 : List UInt8 := dkwX1_forbid_2 ++ dktX1_forbid_3
def dkwX1_forbid_1 : List UInt8 := [167, 0, 4, 3, 184, 0, 43, 42, 180, 0, 35, 182, 0, 142, 16, 6, 162, 0, 7, 4, 167, 0, 4, 3]
abbrev dktX1_forbid_1 : List UInt8 := dkwX1_forbid_1 ++ dktX1_forbid_2
def dkwX1_forbid_0 : List UInt8 := [27, 155, 0, 26, 27, 7, 162, 0, 21, 29, 155, 0, 17, 29, 7, 162, 0, 12, 27, 29, 159, 0, 7, 4]
abbrev dktX1_forbid_0 : List UInt8 := dkwX1_forbid_0 ++ dktX1_forbid_1
theorem dksX1_forbid_0 : cX1_forbid.data.toList.drop 0 = dktX1_forbid_0 := by decide +kernel
theorem dksX1_forbid_1 : cX1_forbid.data.toList.drop 24 = dktX1_forbid_1 := dk_seg dksX1_forbid_0 24 rfl rfl
theorem dksX1_forbid_2 : cX1_forbid.data.toList.drop 48 = dktX1_forbid_2 := dk_seg dksX1_forbid_1 24 rfl rfl
theorem dksX1_forbid_3 : cX1_forbid.data.toList.drop 72 = dktX1_forbid_3 := dk_seg dksX1_forbid_2 24 rfl rfl
theorem dX1_forbid_0 : decode cX1_forbid 0 = .ok (.iload_n 1, 1) := dk_27 (dk_at dksX1_forbid_0 0 rfl rfl)
theorem dX1_forbid_1 : decode cX1_forbid 1 = .ok (.ifCond .lt 26, 3) := dk_155 0 26 (dk_at dksX1_forbid_0 1 rfl rfl)
theorem dX1_forbid_4 : decode cX1_forbid 4 = .ok (.iload_n 1, 1) := dk_27 (dk_at dksX1_forbid_0 4 rfl rfl)
theorem dX1_forbid_5 : decode cX1_forbid 5 = .ok (.iconst 4, 1) := dk_7 (dk_at dksX1_forbid_0 5 rfl rfl)
theorem dX1_forbid_6 : decode cX1_forbid 6 = .ok (.if_icmp .ge 21, 3) := dk_162 0 21 (dk_at dksX1_forbid_0 6 rfl rfl)
theorem dX1_forbid_9 : decode cX1_forbid 9 = .ok (.iload_n 3, 1) := dk_29 (dk_at dksX1_forbid_0 9 rfl rfl)
theorem dX1_forbid_10 : decode cX1_forbid 10 = .ok (.ifCond .lt 17, 3) := dk_155 0 17 (dk_at dksX1_forbid_0 10 rfl rfl)
theorem dX1_forbid_13 : decode cX1_forbid 13 = .ok (.iload_n 3, 1) := dk_29 (dk_at dksX1_forbid_0 13 rfl rfl)
theorem dX1_forbid_14 : decode cX1_forbid 14 = .ok (.iconst 4, 1) := dk_7 (dk_at dksX1_forbid_0 14 rfl rfl)
theorem dX1_forbid_15 : decode cX1_forbid 15 = .ok (.if_icmp .ge 12, 3) := dk_162 0 12 (dk_at dksX1_forbid_0 15 rfl rfl)
theorem dX1_forbid_18 : decode cX1_forbid 18 = .ok (.iload_n 1, 1) := dk_27 (dk_at dksX1_forbid_0 18 rfl rfl)
theorem dX1_forbid_19 : decode cX1_forbid 19 = .ok (.iload_n 3, 1) := dk_29 (dk_at dksX1_forbid_0 19 rfl rfl)
theorem dX1_forbid_20 : decode cX1_forbid 20 = .ok (.if_icmp .eq 7, 3) := dk_159 0 7 (dk_at dksX1_forbid_0 20 rfl rfl)
theorem dX1_forbid_23 : decode cX1_forbid 23 = .ok (.iconst 1, 1) := dk_4 (dk_at dksX1_forbid_0 23 rfl rfl)
theorem dX1_forbid_24 : decode cX1_forbid 24 = .ok (.goto 4, 3) := dk_167 0 4 (dk_at dksX1_forbid_1 0 rfl rfl)
theorem dX1_forbid_27 : decode cX1_forbid 27 = .ok (.iconst 0, 1) := dk_3 (dk_at dksX1_forbid_1 3 rfl rfl)
theorem dX1_forbid_28 : decode cX1_forbid 28 = .ok (.invokestatic 43, 3) := dk_184 0 43 (dk_at dksX1_forbid_1 4 rfl rfl)
theorem dX1_forbid_31 : decode cX1_forbid 31 = .ok (.aload_n 0, 1) := dk_42 (dk_at dksX1_forbid_1 7 rfl rfl)
theorem dX1_forbid_32 : decode cX1_forbid 32 = .ok (.getfield 35, 3) := dk_180 0 35 (dk_at dksX1_forbid_1 8 rfl rfl)
theorem dX1_forbid_35 : decode cX1_forbid 35 = .ok (.invokevirtual 142, 3) := dk_182 0 142 (dk_at dksX1_forbid_1 11 rfl rfl)
theorem dX1_forbid_38 : decode cX1_forbid 38 = .ok (.bipush 6, 2) := dk_16 6 (dk_at dksX1_forbid_1 14 rfl rfl)
theorem dX1_forbid_40 : decode cX1_forbid 40 = .ok (.if_icmp .ge 7, 3) := dk_162 0 7 (dk_at dksX1_forbid_1 16 rfl rfl)
theorem dX1_forbid_43 : decode cX1_forbid 43 = .ok (.iconst 1, 1) := dk_4 (dk_at dksX1_forbid_1 19 rfl rfl)
theorem dX1_forbid_44 : decode cX1_forbid 44 = .ok (.goto 4, 3) := dk_167 0 4 (dk_at dksX1_forbid_1 20 rfl rfl)
theorem dX1_forbid_47 : decode cX1_forbid 47 = .ok (.iconst 0, 1) := dk_3 (dk_at dksX1_forbid_1 23 rfl rfl)
theorem dX1_forbid_48 : decode cX1_forbid 48 = .ok (.invokestatic 53, 3) := dk_184 0 53 (dk_at dksX1_forbid_2 0 rfl rfl)
theorem dX1_forbid_51 : decode cX1_forbid 51 = .ok (.aload_n 0, 1) := dk_42 (dk_at dksX1_forbid_2 3 rfl rfl)
theorem dX1_forbid_52 : decode cX1_forbid 52 = .ok (.getfield 35, 3) := dk_180 0 35 (dk_at dksX1_forbid_2 4 rfl rfl)
theorem dX1_forbid_55 : decode cX1_forbid 55 = .ok (.new 143, 3) := dk_187 0 143 (dk_at dksX1_forbid_2 7 rfl rfl)
theorem dX1_forbid_58 : decode cX1_forbid 58 = .ok (.dup, 1) := dk_89 (dk_at dksX1_forbid_2 10 rfl rfl)
theorem dX1_forbid_59 : decode cX1_forbid 59 = .ok (.iload_n 1, 1) := dk_27 (dk_at dksX1_forbid_2 11 rfl rfl)
theorem dX1_forbid_60 : decode cX1_forbid 60 = .ok (.iload_n 2, 1) := dk_28 (dk_at dksX1_forbid_2 12 rfl rfl)
theorem dX1_forbid_61 : decode cX1_forbid 61 = .ok (.iload_n 3, 1) := dk_29 (dk_at dksX1_forbid_2 13 rfl rfl)
theorem dX1_forbid_62 : decode cX1_forbid 62 = .ok (.iload 4, 2) := dk_21 4 (dk_at dksX1_forbid_2 14 rfl rfl)
theorem dX1_forbid_64 : decode cX1_forbid 64 = .ok (.invokespecial 145, 3) := dk_183 0 145 (dk_at dksX1_forbid_2 16 rfl rfl)
theorem dX1_forbid_67 : decode cX1_forbid 67 = .ok (.invokevirtual 148, 3) := dk_182 0 148 (dk_at dksX1_forbid_2 19 rfl rfl)
theorem dX1_forbid_70 : decode cX1_forbid 70 = .ok (.pop, 1) := dk_87 (dk_at dksX1_forbid_2 22 rfl rfl)
theorem dX1_forbid_71 : decode cX1_forbid 71 = .ok (.aload_n 0, 1) := dk_42 (dk_at dksX1_forbid_2 23 rfl rfl)
theorem dX1_forbid_72 : decode cX1_forbid 72 = .ok (.getfield 35, 3) := dk_180 0 35 (dk_at dksX1_forbid_3 0 rfl rfl)
theorem dX1_forbid_75 : decode cX1_forbid 75 = .ok (.invokevirtual 142, 3) := dk_182 0 142 (dk_at dksX1_forbid_3 3 rfl rfl)
theorem dX1_forbid_78 : decode cX1_forbid 78 = .ok (.iconst 1, 1) := dk_4 (dk_at dksX1_forbid_3 6 rfl rfl)
theorem dX1_forbid_79 : decode cX1_forbid 79 = .ok (.isub, 1) := dk_100 (dk_at dksX1_forbid_3 7 rfl rfl)
theorem dX1_forbid_80 : decode cX1_forbid 80 = .ok (.ireturn, 1) := dk_172 (dk_at dksX1_forbid_3 8 rfl rfl)
abbrev cX1_permit : ByteArray := prog_1_method_23_code
def yX1_permit : MethodName := ⟨RX1, "permit", "(I)I"⟩
def dkwX1_permit_1 : List UInt8 := [184, 0, 155, 172]
abbrev dktX1_permit_1 : List UInt8 := dkwX1_permit_1 ++ []
def dkwX1_permit_0 : List UInt8 := [27, 42, 180, 0, 35, 182, 0, 142, 184, 0, 99, 42, 180, 0, 35, 27, 182, 0, 149, 87, 42, 182, 0, 152]
abbrev dktX1_permit_0 : List UInt8 := dkwX1_permit_0 ++ dktX1_permit_1
theorem dksX1_permit_0 : cX1_permit.data.toList.drop 0 = dktX1_permit_0 := by decide +kernel
theorem dksX1_permit_1 : cX1_permit.data.toList.drop 24 = dktX1_permit_1 := dk_seg dksX1_permit_0 24 rfl rfl
theorem dX1_permit_0 : decode cX1_permit 0 = .ok (.iload_n 1, 1) := dk_27 (dk_at dksX1_permit_0 0 rfl rfl)
theorem dX1_permit_1 : decode cX1_permit 1 = .ok (.aload_n 0, 1) := dk_42 (dk_at dksX1_permit_0 1 rfl rfl)
theorem dX1_permit_2 : decode cX1_permit 2 = .ok (.getfield 35, 3) := dk_180 0 35 (dk_at dksX1_permit_0 2 rfl rfl)
theorem dX1_permit_5 : decode cX1_permit 5 = .ok (.invokevirtual 142, 3) := dk_182 0 142 (dk_at dksX1_permit_0 5 rfl rfl)
theorem dX1_permit_8 : decode cX1_permit 8 = .ok (.invokestatic 99, 3) := dk_184 0 99 (dk_at dksX1_permit_0 8 rfl rfl)
theorem dX1_permit_11 : decode cX1_permit 11 = .ok (.aload_n 0, 1) := dk_42 (dk_at dksX1_permit_0 11 rfl rfl)
theorem dX1_permit_12 : decode cX1_permit 12 = .ok (.getfield 35, 3) := dk_180 0 35 (dk_at dksX1_permit_0 12 rfl rfl)
theorem dX1_permit_15 : decode cX1_permit 15 = .ok (.iload_n 1, 1) := dk_27 (dk_at dksX1_permit_0 15 rfl rfl)
theorem dX1_permit_16 : decode cX1_permit 16 = .ok (.invokevirtual 149, 3) := dk_182 0 149 (dk_at dksX1_permit_0 16 rfl rfl)
theorem dX1_permit_19 : decode cX1_permit 19 = .ok (.pop, 1) := dk_87 (dk_at dksX1_permit_0 19 rfl rfl)
theorem dX1_permit_20 : decode cX1_permit 20 = .ok (.aload_n 0, 1) := dk_42 (dk_at dksX1_permit_0 20 rfl rfl)
theorem dX1_permit_21 : decode cX1_permit 21 = .ok (.invokevirtual 152, 3) := dk_182 0 152 (dk_at dksX1_permit_0 21 rfl rfl)
theorem dX1_permit_24 : decode cX1_permit 24 = .ok (.invokestatic 155, 3) := dk_184 0 155 (dk_at dksX1_permit_1 0 rfl rfl)
theorem dX1_permit_27 : decode cX1_permit 27 = .ok (.ireturn, 1) := dk_172 (dk_at dksX1_permit_1 3 rfl rfl)
abbrev cX1_isPair : ByteArray := prog_1_method_28_code
def yX1_isPair : MethodName := ⟨RX1, "isPair", "(IIIII)Z"⟩
def dkwX1_isPair_2 : List UInt8 := [167, 0, 4, 3, 172]
abbrev dktX1_isPair_2 : List UInt8 := dkwX1_isPair_2 ++ []
def dkwX1_isPair_1 : List UInt8 := [184, 0, 123, 25, 6, 180, 0, 182, 29, 50, 21, 4, 46, 21, 5, 122, 4, 126, 4, 160, 0, 7, 4]
abbrev dktX1_isPair_1 : List UInt8 := dkwX1_isPair_1 ++ dktX1_isPair_2
def dkwX1_isPair_0 : List UInt8 := [42, 27, 28, 29, 182, 0, 178, 58, 6, 5, 188, 10, 89, 3, 21, 4, 79, 89, 4, 21, 5, 79]
abbrev dktX1_isPair_0 : List UInt8 := dkwX1_isPair_0 ++ dktX1_isPair_1
theorem dksX1_isPair_0 : cX1_isPair.data.toList.drop 0 = dktX1_isPair_0 := by decide +kernel
theorem dksX1_isPair_1 : cX1_isPair.data.toList.drop 22 = dktX1_isPair_1 := dk_seg dksX1_isPair_0 22 rfl rfl
theorem dksX1_isPair_2 : cX1_isPair.data.toList.drop 45 = dktX1_isPair_2 := dk_seg dksX1_isPair_1 23 rfl rfl
theorem dX1_isPair_0 : decode cX1_isPair 0 = .ok (.aload_n 0, 1) := dk_42 (dk_at dksX1_isPair_0 0 rfl rfl)
theorem dX1_isPair_1 : decode cX1_isPair 1 = .ok (.iload_n 1, 1) := dk_27 (dk_at dksX1_isPair_0 1 rfl rfl)
theorem dX1_isPair_2 : decode cX1_isPair 2 = .ok (.iload_n 2, 1) := dk_28 (dk_at dksX1_isPair_0 2 rfl rfl)
theorem dX1_isPair_3 : decode cX1_isPair 3 = .ok (.iload_n 3, 1) := dk_29 (dk_at dksX1_isPair_0 3 rfl rfl)
theorem dX1_isPair_4 : decode cX1_isPair 4 = .ok (.invokevirtual 178, 3) := dk_182 0 178 (dk_at dksX1_isPair_0 4 rfl rfl)
theorem dX1_isPair_7 : decode cX1_isPair 7 = .ok (.astore 6, 2) := dk_58 6 (dk_at dksX1_isPair_0 7 rfl rfl)
theorem dX1_isPair_9 : decode cX1_isPair 9 = .ok (.iconst 2, 1) := dk_5 (dk_at dksX1_isPair_0 9 rfl rfl)
theorem dX1_isPair_10 : decode cX1_isPair 10 = .ok (.newarray .int, 2) := dk_188_10 (dk_at dksX1_isPair_0 10 rfl rfl)
theorem dX1_isPair_12 : decode cX1_isPair 12 = .ok (.dup, 1) := dk_89 (dk_at dksX1_isPair_0 12 rfl rfl)
theorem dX1_isPair_13 : decode cX1_isPair 13 = .ok (.iconst 0, 1) := dk_3 (dk_at dksX1_isPair_0 13 rfl rfl)
theorem dX1_isPair_14 : decode cX1_isPair 14 = .ok (.iload 4, 2) := dk_21 4 (dk_at dksX1_isPair_0 14 rfl rfl)
theorem dX1_isPair_16 : decode cX1_isPair 16 = .ok (.iastore, 1) := dk_79 (dk_at dksX1_isPair_0 16 rfl rfl)
theorem dX1_isPair_17 : decode cX1_isPair 17 = .ok (.dup, 1) := dk_89 (dk_at dksX1_isPair_0 17 rfl rfl)
theorem dX1_isPair_18 : decode cX1_isPair 18 = .ok (.iconst 1, 1) := dk_4 (dk_at dksX1_isPair_0 18 rfl rfl)
theorem dX1_isPair_19 : decode cX1_isPair 19 = .ok (.iload 5, 2) := dk_21 5 (dk_at dksX1_isPair_0 19 rfl rfl)
theorem dX1_isPair_21 : decode cX1_isPair 21 = .ok (.iastore, 1) := dk_79 (dk_at dksX1_isPair_0 21 rfl rfl)
theorem dX1_isPair_22 : decode cX1_isPair 22 = .ok (.invokestatic 123, 3) := dk_184 0 123 (dk_at dksX1_isPair_1 0 rfl rfl)
theorem dX1_isPair_25 : decode cX1_isPair 25 = .ok (.aload 6, 2) := dk_25 6 (dk_at dksX1_isPair_1 3 rfl rfl)
theorem dX1_isPair_27 : decode cX1_isPair 27 = .ok (.getfield 182, 3) := dk_180 0 182 (dk_at dksX1_isPair_1 5 rfl rfl)
theorem dX1_isPair_30 : decode cX1_isPair 30 = .ok (.iload_n 3, 1) := dk_29 (dk_at dksX1_isPair_1 8 rfl rfl)
theorem dX1_isPair_31 : decode cX1_isPair 31 = .ok (.aaload, 1) := dk_50 (dk_at dksX1_isPair_1 9 rfl rfl)
theorem dX1_isPair_32 : decode cX1_isPair 32 = .ok (.iload 4, 2) := dk_21 4 (dk_at dksX1_isPair_1 10 rfl rfl)
theorem dX1_isPair_34 : decode cX1_isPair 34 = .ok (.iaload, 1) := dk_46 (dk_at dksX1_isPair_1 12 rfl rfl)
theorem dX1_isPair_35 : decode cX1_isPair 35 = .ok (.iload 5, 2) := dk_21 5 (dk_at dksX1_isPair_1 13 rfl rfl)
theorem dX1_isPair_37 : decode cX1_isPair 37 = .ok (.ishr, 1) := dk_122 (dk_at dksX1_isPair_1 15 rfl rfl)
theorem dX1_isPair_38 : decode cX1_isPair 38 = .ok (.iconst 1, 1) := dk_4 (dk_at dksX1_isPair_1 16 rfl rfl)
theorem dX1_isPair_39 : decode cX1_isPair 39 = .ok (.iand, 1) := dk_126 (dk_at dksX1_isPair_1 17 rfl rfl)
theorem dX1_isPair_40 : decode cX1_isPair 40 = .ok (.iconst 1, 1) := dk_4 (dk_at dksX1_isPair_1 18 rfl rfl)
theorem dX1_isPair_41 : decode cX1_isPair 41 = .ok (.if_icmp .ne 7, 3) := dk_160 0 7 (dk_at dksX1_isPair_1 19 rfl rfl)
theorem dX1_isPair_44 : decode cX1_isPair 44 = .ok (.iconst 1, 1) := dk_4 (dk_at dksX1_isPair_1 22 rfl rfl)
theorem dX1_isPair_45 : decode cX1_isPair 45 = .ok (.goto 4, 3) := dk_167 0 4 (dk_at dksX1_isPair_2 0 rfl rfl)
theorem dX1_isPair_48 : decode cX1_isPair 48 = .ok (.iconst 0, 1) := dk_3 (dk_at dksX1_isPair_2 3 rfl rfl)
theorem dX1_isPair_49 : decode cX1_isPair 49 = .ok (.ireturn, 1) := dk_172 (dk_at dksX1_isPair_2 4 rfl rfl)
abbrev cX1_tableFor : ByteArray := prog_1_method_27_code
def yX1_tableFor : MethodName := ⟨RX1, "tableFor", "(III)LConditionWise$Table;"⟩
def dkwX1_tableFor_0 : List UInt8 := [29, 42, 27, 182, 0, 107, 180, 0, 111, 190, 184, 0, 99, 42, 27, 28, 182, 0, 174, 176]
abbrev dktX1_tableFor_0 : List UInt8 := dkwX1_tableFor_0 ++ []
theorem dksX1_tableFor_0 : cX1_tableFor.data.toList.drop 0 = dktX1_tableFor_0 := by decide +kernel
theorem dX1_tableFor_0 : decode cX1_tableFor 0 = .ok (.iload_n 3, 1) := dk_29 (dk_at dksX1_tableFor_0 0 rfl rfl)
theorem dX1_tableFor_1 : decode cX1_tableFor 1 = .ok (.aload_n 0, 1) := dk_42 (dk_at dksX1_tableFor_0 1 rfl rfl)
theorem dX1_tableFor_2 : decode cX1_tableFor 2 = .ok (.iload_n 1, 1) := dk_27 (dk_at dksX1_tableFor_0 2 rfl rfl)
theorem dX1_tableFor_3 : decode cX1_tableFor 3 = .ok (.invokevirtual 107, 3) := dk_182 0 107 (dk_at dksX1_tableFor_0 3 rfl rfl)
theorem dX1_tableFor_6 : decode cX1_tableFor 6 = .ok (.getfield 111, 3) := dk_180 0 111 (dk_at dksX1_tableFor_0 6 rfl rfl)
theorem dX1_tableFor_9 : decode cX1_tableFor 9 = .ok (.arraylength, 1) := dk_190 (dk_at dksX1_tableFor_0 9 rfl rfl)
theorem dX1_tableFor_10 : decode cX1_tableFor 10 = .ok (.invokestatic 99, 3) := dk_184 0 99 (dk_at dksX1_tableFor_0 10 rfl rfl)
theorem dX1_tableFor_13 : decode cX1_tableFor 13 = .ok (.aload_n 0, 1) := dk_42 (dk_at dksX1_tableFor_0 13 rfl rfl)
theorem dX1_tableFor_14 : decode cX1_tableFor 14 = .ok (.iload_n 1, 1) := dk_27 (dk_at dksX1_tableFor_0 14 rfl rfl)
theorem dX1_tableFor_15 : decode cX1_tableFor 15 = .ok (.iload_n 2, 1) := dk_28 (dk_at dksX1_tableFor_0 15 rfl rfl)
theorem dX1_tableFor_16 : decode cX1_tableFor 16 = .ok (.invokevirtual 174, 3) := dk_182 0 174 (dk_at dksX1_tableFor_0 16 rfl rfl)
theorem dX1_tableFor_19 : decode cX1_tableFor 19 = .ok (.areturn, 1) := dk_176 (dk_at dksX1_tableFor_0 19 rfl rfl)
abbrev cX1_table : ByteArray := prog_1_method_26_code
def yX1_table : MethodName := ⟨RX1, "table", "(II)LConditionWise$Table;"⟩
def dkwX1_table_0 : List UInt8 := [42, 27, 182, 0, 107, 78, 28, 184, 0, 165, 187, 0, 169, 89, 42, 45, 28, 183, 0, 171, 176]
abbrev dktX1_table_0 : List UInt8 := dkwX1_table_0 ++ []
theorem dksX1_table_0 : cX1_table.data.toList.drop 0 = dktX1_table_0 := by decide +kernel
theorem dX1_table_0 : decode cX1_table 0 = .ok (.aload_n 0, 1) := dk_42 (dk_at dksX1_table_0 0 rfl rfl)
theorem dX1_table_1 : decode cX1_table 1 = .ok (.iload_n 1, 1) := dk_27 (dk_at dksX1_table_0 1 rfl rfl)
theorem dX1_table_2 : decode cX1_table 2 = .ok (.invokevirtual 107, 3) := dk_182 0 107 (dk_at dksX1_table_0 2 rfl rfl)
theorem dX1_table_5 : decode cX1_table 5 = .ok (.astore_n 3, 1) := dk_78 (dk_at dksX1_table_0 5 rfl rfl)
theorem dX1_table_6 : decode cX1_table 6 = .ok (.iload_n 2, 1) := dk_28 (dk_at dksX1_table_0 6 rfl rfl)
theorem dX1_table_7 : decode cX1_table 7 = .ok (.invokestatic 165, 3) := dk_184 0 165 (dk_at dksX1_table_0 7 rfl rfl)
theorem dX1_table_10 : decode cX1_table 10 = .ok (.new 169, 3) := dk_187 0 169 (dk_at dksX1_table_0 10 rfl rfl)
theorem dX1_table_13 : decode cX1_table 13 = .ok (.dup, 1) := dk_89 (dk_at dksX1_table_0 13 rfl rfl)
theorem dX1_table_14 : decode cX1_table 14 = .ok (.aload_n 0, 1) := dk_42 (dk_at dksX1_table_0 14 rfl rfl)
theorem dX1_table_15 : decode cX1_table 15 = .ok (.aload_n 3, 1) := dk_45 (dk_at dksX1_table_0 15 rfl rfl)
theorem dX1_table_16 : decode cX1_table 16 = .ok (.iload_n 2, 1) := dk_28 (dk_at dksX1_table_0 16 rfl rfl)
theorem dX1_table_17 : decode cX1_table 17 = .ok (.invokespecial 171, 3) := dk_183 0 171 (dk_at dksX1_table_0 17 rfl rfl)
theorem dX1_table_20 : decode cX1_table 20 = .ok (.areturn, 1) := dk_176 (dk_at dksX1_table_0 20 rfl rfl)
abbrev cX1_checkRule : ByteArray := prog_1_method_13_code
def yX1_checkRule : MethodName := ⟨RX1, "checkRule", "(I)V"⟩
def dkwX1_checkRule_0 : List UInt8 := [26, 155, 0, 12, 26, 5, 163, 0, 7, 4, 167, 0, 4, 3, 184, 0, 43, 177]
abbrev dktX1_checkRule_0 : List UInt8 := dkwX1_checkRule_0 ++ []
theorem dksX1_checkRule_0 : cX1_checkRule.data.toList.drop 0 = dktX1_checkRule_0 := by decide +kernel
theorem dX1_checkRule_0 : decode cX1_checkRule 0 = .ok (.iload_n 0, 1) := dk_26 (dk_at dksX1_checkRule_0 0 rfl rfl)
theorem dX1_checkRule_1 : decode cX1_checkRule 1 = .ok (.ifCond .lt 12, 3) := dk_155 0 12 (dk_at dksX1_checkRule_0 1 rfl rfl)
theorem dX1_checkRule_4 : decode cX1_checkRule 4 = .ok (.iload_n 0, 1) := dk_26 (dk_at dksX1_checkRule_0 4 rfl rfl)
theorem dX1_checkRule_5 : decode cX1_checkRule 5 = .ok (.iconst 2, 1) := dk_5 (dk_at dksX1_checkRule_0 5 rfl rfl)
theorem dX1_checkRule_6 : decode cX1_checkRule 6 = .ok (.if_icmp .gt 7, 3) := dk_163 0 7 (dk_at dksX1_checkRule_0 6 rfl rfl)
theorem dX1_checkRule_9 : decode cX1_checkRule 9 = .ok (.iconst 1, 1) := dk_4 (dk_at dksX1_checkRule_0 9 rfl rfl)
theorem dX1_checkRule_10 : decode cX1_checkRule 10 = .ok (.goto 4, 3) := dk_167 0 4 (dk_at dksX1_checkRule_0 10 rfl rfl)
theorem dX1_checkRule_13 : decode cX1_checkRule 13 = .ok (.iconst 0, 1) := dk_3 (dk_at dksX1_checkRule_0 13 rfl rfl)
theorem dX1_checkRule_14 : decode cX1_checkRule 14 = .ok (.invokestatic 43, 3) := dk_184 0 43 (dk_at dksX1_checkRule_0 14 rfl rfl)
theorem dX1_checkRule_17 : decode cX1_checkRule 17 = .ok (.return_, 1) := dk_177 (dk_at dksX1_checkRule_0 17 rfl rfl)
abbrev cX1_pairs : ByteArray := prog_1_method_29_code
def yX1_pairs : MethodName := ⟨RX1, "pairs", "(III)I"⟩
def dkwX1_pairs_0 : List UInt8 := [42, 27, 28, 29, 182, 0, 178, 29, 182, 0, 186, 172]
abbrev dktX1_pairs_0 : List UInt8 := dkwX1_pairs_0 ++ []
theorem dksX1_pairs_0 : cX1_pairs.data.toList.drop 0 = dktX1_pairs_0 := by decide +kernel
theorem dX1_pairs_0 : decode cX1_pairs 0 = .ok (.aload_n 0, 1) := dk_42 (dk_at dksX1_pairs_0 0 rfl rfl)
theorem dX1_pairs_1 : decode cX1_pairs 1 = .ok (.iload_n 1, 1) := dk_27 (dk_at dksX1_pairs_0 1 rfl rfl)
theorem dX1_pairs_2 : decode cX1_pairs 2 = .ok (.iload_n 2, 1) := dk_28 (dk_at dksX1_pairs_0 2 rfl rfl)
theorem dX1_pairs_3 : decode cX1_pairs 3 = .ok (.iload_n 3, 1) := dk_29 (dk_at dksX1_pairs_0 3 rfl rfl)
theorem dX1_pairs_4 : decode cX1_pairs 4 = .ok (.invokevirtual 178, 3) := dk_182 0 178 (dk_at dksX1_pairs_0 4 rfl rfl)
theorem dX1_pairs_7 : decode cX1_pairs 7 = .ok (.iload_n 3, 1) := dk_29 (dk_at dksX1_pairs_0 7 rfl rfl)
theorem dX1_pairs_8 : decode cX1_pairs 8 = .ok (.invokevirtual 186, 3) := dk_182 0 186 (dk_at dksX1_pairs_0 8 rfl rfl)
theorem dX1_pairs_11 : decode cX1_pairs 11 = .ok (.ireturn, 1) := dk_172 (dk_at dksX1_pairs_0 11 rfl rfl)
abbrev cX1_pairAt : ByteArray := prog_1_method_30_code
def yX1_pairAt : MethodName := ⟨RX1, "pairAt", "(IIII)I"⟩
def dkwX1_pairAt_1 : List UInt8 := [182, 0, 189, 54, 6, 21, 6, 2, 160, 0, 11, 187, 0, 192, 89, 183, 0, 194, 191, 21, 6, 172]
abbrev dktX1_pairAt_1 : List UInt8 := dkwX1_pairAt_1 ++ []
def dkwX1_pairAt_0 : List UInt8 := [42, 27, 28, 29, 182, 0, 178, 58, 5, 21, 4, 156, 0, 7, 2, 167, 0, 11, 25, 5, 29, 21, 4]
abbrev dktX1_pairAt_0 : List UInt8 := dkwX1_pairAt_0 ++ dktX1_pairAt_1
theorem dksX1_pairAt_0 : cX1_pairAt.data.toList.drop 0 = dktX1_pairAt_0 := by decide +kernel
theorem dksX1_pairAt_1 : cX1_pairAt.data.toList.drop 23 = dktX1_pairAt_1 := dk_seg dksX1_pairAt_0 23 rfl rfl
theorem dX1_pairAt_0 : decode cX1_pairAt 0 = .ok (.aload_n 0, 1) := dk_42 (dk_at dksX1_pairAt_0 0 rfl rfl)
theorem dX1_pairAt_1 : decode cX1_pairAt 1 = .ok (.iload_n 1, 1) := dk_27 (dk_at dksX1_pairAt_0 1 rfl rfl)
theorem dX1_pairAt_2 : decode cX1_pairAt 2 = .ok (.iload_n 2, 1) := dk_28 (dk_at dksX1_pairAt_0 2 rfl rfl)
theorem dX1_pairAt_3 : decode cX1_pairAt 3 = .ok (.iload_n 3, 1) := dk_29 (dk_at dksX1_pairAt_0 3 rfl rfl)
theorem dX1_pairAt_4 : decode cX1_pairAt 4 = .ok (.invokevirtual 178, 3) := dk_182 0 178 (dk_at dksX1_pairAt_0 4 rfl rfl)
theorem dX1_pairAt_7 : decode cX1_pairAt 7 = .ok (.astore 5, 2) := dk_58 5 (dk_at dksX1_pairAt_0 7 rfl rfl)
theorem dX1_pairAt_9 : decode cX1_pairAt 9 = .ok (.iload 4, 2) := dk_21 4 (dk_at dksX1_pairAt_0 9 rfl rfl)
theorem dX1_pairAt_11 : decode cX1_pairAt 11 = .ok (.ifCond .ge 7, 3) := dk_156 0 7 (dk_at dksX1_pairAt_0 11 rfl rfl)
theorem dX1_pairAt_14 : decode cX1_pairAt 14 = .ok (.iconst (-1), 1) := dk_2 (dk_at dksX1_pairAt_0 14 rfl rfl)
theorem dX1_pairAt_15 : decode cX1_pairAt 15 = .ok (.goto 11, 3) := dk_167 0 11 (dk_at dksX1_pairAt_0 15 rfl rfl)
theorem dX1_pairAt_18 : decode cX1_pairAt 18 = .ok (.aload 5, 2) := dk_25 5 (dk_at dksX1_pairAt_0 18 rfl rfl)
theorem dX1_pairAt_20 : decode cX1_pairAt 20 = .ok (.iload_n 3, 1) := dk_29 (dk_at dksX1_pairAt_0 20 rfl rfl)
theorem dX1_pairAt_21 : decode cX1_pairAt 21 = .ok (.iload 4, 2) := dk_21 4 (dk_at dksX1_pairAt_0 21 rfl rfl)
theorem dX1_pairAt_23 : decode cX1_pairAt 23 = .ok (.invokevirtual 189, 3) := dk_182 0 189 (dk_at dksX1_pairAt_1 0 rfl rfl)
theorem dX1_pairAt_26 : decode cX1_pairAt 26 = .ok (.istore 6, 2) := dk_54 6 (dk_at dksX1_pairAt_1 3 rfl rfl)
theorem dX1_pairAt_28 : decode cX1_pairAt 28 = .ok (.iload 6, 2) := dk_21 6 (dk_at dksX1_pairAt_1 5 rfl rfl)
theorem dX1_pairAt_30 : decode cX1_pairAt 30 = .ok (.iconst (-1), 1) := dk_2 (dk_at dksX1_pairAt_1 7 rfl rfl)
theorem dX1_pairAt_31 : decode cX1_pairAt 31 = .ok (.if_icmp .ne 11, 3) := dk_160 0 11 (dk_at dksX1_pairAt_1 8 rfl rfl)
theorem dX1_pairAt_34 : decode cX1_pairAt 34 = .ok (.new 192, 3) := dk_187 0 192 (dk_at dksX1_pairAt_1 11 rfl rfl)
theorem dX1_pairAt_37 : decode cX1_pairAt 37 = .ok (.dup, 1) := dk_89 (dk_at dksX1_pairAt_1 14 rfl rfl)
theorem dX1_pairAt_38 : decode cX1_pairAt 38 = .ok (.invokespecial 194, 3) := dk_183 0 194 (dk_at dksX1_pairAt_1 15 rfl rfl)
theorem dX1_pairAt_41 : decode cX1_pairAt 41 = .ok (.athrow, 1) := dk_191 (dk_at dksX1_pairAt_1 18 rfl rfl)
theorem dX1_pairAt_42 : decode cX1_pairAt 42 = .ok (.iload 6, 2) := dk_21 6 (dk_at dksX1_pairAt_1 19 rfl rfl)
theorem dX1_pairAt_44 : decode cX1_pairAt 44 = .ok (.ireturn, 1) := dk_172 (dk_at dksX1_pairAt_1 21 rfl rfl)
abbrev cX1_possible : ByteArray := prog_1_method_31_code
def yX1_possible : MethodName := ⟨RX1, "possible", "(II)I"⟩
def dkwX1_possible_0 : List UInt8 := [42, 27, 28, 182, 0, 174, 182, 0, 195, 172]
abbrev dktX1_possible_0 : List UInt8 := dkwX1_possible_0 ++ []
theorem dksX1_possible_0 : cX1_possible.data.toList.drop 0 = dktX1_possible_0 := by decide +kernel
theorem dX1_possible_0 : decode cX1_possible 0 = .ok (.aload_n 0, 1) := dk_42 (dk_at dksX1_possible_0 0 rfl rfl)
theorem dX1_possible_1 : decode cX1_possible 1 = .ok (.iload_n 1, 1) := dk_27 (dk_at dksX1_possible_0 1 rfl rfl)
theorem dX1_possible_2 : decode cX1_possible 2 = .ok (.iload_n 2, 1) := dk_28 (dk_at dksX1_possible_0 2 rfl rfl)
theorem dX1_possible_3 : decode cX1_possible 3 = .ok (.invokevirtual 174, 3) := dk_182 0 174 (dk_at dksX1_possible_0 3 rfl rfl)
theorem dX1_possible_6 : decode cX1_possible 6 = .ok (.invokevirtual 195, 3) := dk_182 0 195 (dk_at dksX1_possible_0 6 rfl rfl)
theorem dX1_possible_9 : decode cX1_possible 9 = .ok (.ireturn, 1) := dk_172 (dk_at dksX1_possible_0 9 rfl rfl)
abbrev cX1_addTest : ByteArray := prog_1_method_32_code
def yX1_addTest : MethodName := ⟨RX1, "addTest", "(II)I"⟩
def dkwX1_addTest_2 : List UInt8 := [4, 28, 120, 128, 181, 0, 198, 45, 180, 0, 198, 184, 0, 155, 172]
abbrev dktX1_addTest_2 : List UInt8 := dkwX1_addTest_2 ++ []
def dkwX1_addTest_1 : List UInt8 := [154, 0, 15, 42, 28, 182, 0, 139, 153, 0, 7, 4, 167, 0, 4, 3, 184, 0, 53, 45, 89, 180, 0, 198]
abbrev dktX1_addTest_1 : List UInt8 := dkwX1_addTest_1 ++ dktX1_addTest_2
def dkwX1_addTest_0 : List UInt8 := [42, 27, 182, 0, 107, 78, 4, 188, 10, 89, 3, 28, 79, 184, 0, 123, 45, 180, 0, 198, 28, 122, 4, 126]
abbrev dktX1_addTest_0 : List UInt8 := dkwX1_addTest_0 ++ dktX1_addTest_1
theorem dksX1_addTest_0 : cX1_addTest.data.toList.drop 0 = dktX1_addTest_0 := by decide +kernel
theorem dksX1_addTest_1 : cX1_addTest.data.toList.drop 24 = dktX1_addTest_1 := dk_seg dksX1_addTest_0 24 rfl rfl
theorem dksX1_addTest_2 : cX1_addTest.data.toList.drop 48 = dktX1_addTest_2 := dk_seg dksX1_addTest_1 24 rfl rfl
theorem dX1_addTest_0 : decode cX1_addTest 0 = .ok (.aload_n 0, 1) := dk_42 (dk_at dksX1_addTest_0 0 rfl rfl)
theorem dX1_addTest_1 : decode cX1_addTest 1 = .ok (.iload_n 1, 1) := dk_27 (dk_at dksX1_addTest_0 1 rfl rfl)
theorem dX1_addTest_2 : decode cX1_addTest 2 = .ok (.invokevirtual 107, 3) := dk_182 0 107 (dk_at dksX1_addTest_0 2 rfl rfl)
theorem dX1_addTest_5 : decode cX1_addTest 5 = .ok (.astore_n 3, 1) := dk_78 (dk_at dksX1_addTest_0 5 rfl rfl)
theorem dX1_addTest_6 : decode cX1_addTest 6 = .ok (.iconst 1, 1) := dk_4 (dk_at dksX1_addTest_0 6 rfl rfl)
theorem dX1_addTest_7 : decode cX1_addTest 7 = .ok (.newarray .int, 2) := dk_188_10 (dk_at dksX1_addTest_0 7 rfl rfl)
theorem dX1_addTest_9 : decode cX1_addTest 9 = .ok (.dup, 1) := dk_89 (dk_at dksX1_addTest_0 9 rfl rfl)
theorem dX1_addTest_10 : decode cX1_addTest 10 = .ok (.iconst 0, 1) := dk_3 (dk_at dksX1_addTest_0 10 rfl rfl)
theorem dX1_addTest_11 : decode cX1_addTest 11 = .ok (.iload_n 2, 1) := dk_28 (dk_at dksX1_addTest_0 11 rfl rfl)
theorem dX1_addTest_12 : decode cX1_addTest 12 = .ok (.iastore, 1) := dk_79 (dk_at dksX1_addTest_0 12 rfl rfl)
theorem dX1_addTest_13 : decode cX1_addTest 13 = .ok (.invokestatic 123, 3) := dk_184 0 123 (dk_at dksX1_addTest_0 13 rfl rfl)
theorem dX1_addTest_16 : decode cX1_addTest 16 = .ok (.aload_n 3, 1) := dk_45 (dk_at dksX1_addTest_0 16 rfl rfl)
theorem dX1_addTest_17 : decode cX1_addTest 17 = .ok (.getfield 198, 3) := dk_180 0 198 (dk_at dksX1_addTest_0 17 rfl rfl)
theorem dX1_addTest_20 : decode cX1_addTest 20 = .ok (.iload_n 2, 1) := dk_28 (dk_at dksX1_addTest_0 20 rfl rfl)
theorem dX1_addTest_21 : decode cX1_addTest 21 = .ok (.ishr, 1) := dk_122 (dk_at dksX1_addTest_0 21 rfl rfl)
theorem dX1_addTest_22 : decode cX1_addTest 22 = .ok (.iconst 1, 1) := dk_4 (dk_at dksX1_addTest_0 22 rfl rfl)
theorem dX1_addTest_23 : decode cX1_addTest 23 = .ok (.iand, 1) := dk_126 (dk_at dksX1_addTest_0 23 rfl rfl)
theorem dX1_addTest_24 : decode cX1_addTest 24 = .ok (.ifCond .ne 15, 3) := dk_154 0 15 (dk_at dksX1_addTest_1 0 rfl rfl)
theorem dX1_addTest_27 : decode cX1_addTest 27 = .ok (.aload_n 0, 1) := dk_42 (dk_at dksX1_addTest_1 3 rfl rfl)
theorem dX1_addTest_28 : decode cX1_addTest 28 = .ok (.iload_n 2, 1) := dk_28 (dk_at dksX1_addTest_1 4 rfl rfl)
theorem dX1_addTest_29 : decode cX1_addTest 29 = .ok (.invokevirtual 139, 3) := dk_182 0 139 (dk_at dksX1_addTest_1 5 rfl rfl)
theorem dX1_addTest_32 : decode cX1_addTest 32 = .ok (.ifCond .eq 7, 3) := dk_153 0 7 (dk_at dksX1_addTest_1 8 rfl rfl)
theorem dX1_addTest_35 : decode cX1_addTest 35 = .ok (.iconst 1, 1) := dk_4 (dk_at dksX1_addTest_1 11 rfl rfl)
theorem dX1_addTest_36 : decode cX1_addTest 36 = .ok (.goto 4, 3) := dk_167 0 4 (dk_at dksX1_addTest_1 12 rfl rfl)
theorem dX1_addTest_39 : decode cX1_addTest 39 = .ok (.iconst 0, 1) := dk_3 (dk_at dksX1_addTest_1 15 rfl rfl)
theorem dX1_addTest_40 : decode cX1_addTest 40 = .ok (.invokestatic 53, 3) := dk_184 0 53 (dk_at dksX1_addTest_1 16 rfl rfl)
theorem dX1_addTest_43 : decode cX1_addTest 43 = .ok (.aload_n 3, 1) := dk_45 (dk_at dksX1_addTest_1 19 rfl rfl)
theorem dX1_addTest_44 : decode cX1_addTest 44 = .ok (.dup, 1) := dk_89 (dk_at dksX1_addTest_1 20 rfl rfl)
theorem dX1_addTest_45 : decode cX1_addTest 45 = .ok (.getfield 198, 3) := dk_180 0 198 (dk_at dksX1_addTest_1 21 rfl rfl)
theorem dX1_addTest_48 : decode cX1_addTest 48 = .ok (.iconst 1, 1) := dk_4 (dk_at dksX1_addTest_2 0 rfl rfl)
theorem dX1_addTest_49 : decode cX1_addTest 49 = .ok (.iload_n 2, 1) := dk_28 (dk_at dksX1_addTest_2 1 rfl rfl)
theorem dX1_addTest_50 : decode cX1_addTest 50 = .ok (.ishl, 1) := dk_120 (dk_at dksX1_addTest_2 2 rfl rfl)
theorem dX1_addTest_51 : decode cX1_addTest 51 = .ok (.ior, 1) := dk_128 (dk_at dksX1_addTest_2 3 rfl rfl)
theorem dX1_addTest_52 : decode cX1_addTest 52 = .ok (.putfield 198, 3) := dk_181 0 198 (dk_at dksX1_addTest_2 4 rfl rfl)
theorem dX1_addTest_55 : decode cX1_addTest 55 = .ok (.aload_n 3, 1) := dk_45 (dk_at dksX1_addTest_2 7 rfl rfl)
theorem dX1_addTest_56 : decode cX1_addTest 56 = .ok (.getfield 198, 3) := dk_180 0 198 (dk_at dksX1_addTest_2 8 rfl rfl)
theorem dX1_addTest_59 : decode cX1_addTest 59 = .ok (.invokestatic 155, 3) := dk_184 0 155 (dk_at dksX1_addTest_2 11 rfl rfl)
theorem dX1_addTest_62 : decode cX1_addTest 62 = .ok (.ireturn, 1) := dk_172 (dk_at dksX1_addTest_2 14 rfl rfl)
abbrev cX1_removeTest : ByteArray := prog_1_method_33_code
def yX1_removeTest : MethodName := ⟨RX1, "removeTest", "(II)I"⟩
def dkwX1_removeTest_2 : List UInt8 := [181, 0, 198, 45, 180, 0, 198, 184, 0, 155, 172]
abbrev dktX1_removeTest_2 : List UInt8 := dkwX1_removeTest_2 ++ []
def dkwX1_removeTest_1 : List UInt8 := [154, 0, 11, 187, 0, 192, 89, 183, 0, 194, 191, 45, 89, 180, 0, 198, 4, 28, 120, 2, 130, 126]
abbrev dktX1_removeTest_1 : List UInt8 := dkwX1_removeTest_1 ++ dktX1_removeTest_2
def dkwX1_removeTest_0 : List UInt8 := [42, 27, 182, 0, 107, 78, 4, 188, 10, 89, 3, 28, 79, 184, 0, 123, 45, 180, 0, 198, 28, 122, 4, 126]
abbrev dktX1_removeTest_0 : List UInt8 := dkwX1_removeTest_0 ++ dktX1_removeTest_1
theorem dksX1_removeTest_0 : cX1_removeTest.data.toList.drop 0 = dktX1_removeTest_0 := by decide +kernel
theorem dksX1_removeTest_1 : cX1_removeTest.data.toList.drop 24 = dktX1_removeTest_1 := dk_seg dksX1_removeTest_0 24 rfl rfl
theorem dksX1_removeTest_2 : cX1_removeTest.data.toList.drop 46 = dktX1_removeTest_2 := dk_seg dksX1_removeTest_1 22 rfl rfl
theorem dX1_removeTest_0 : decode cX1_removeTest 0 = .ok (.aload_n 0, 1) := dk_42 (dk_at dksX1_removeTest_0 0 rfl rfl)
theorem dX1_removeTest_1 : decode cX1_removeTest 1 = .ok (.iload_n 1, 1) := dk_27 (dk_at dksX1_removeTest_0 1 rfl rfl)
theorem dX1_removeTest_2 : decode cX1_removeTest 2 = .ok (.invokevirtual 107, 3) := dk_182 0 107 (dk_at dksX1_removeTest_0 2 rfl rfl)
theorem dX1_removeTest_5 : decode cX1_removeTest 5 = .ok (.astore_n 3, 1) := dk_78 (dk_at dksX1_removeTest_0 5 rfl rfl)
theorem dX1_removeTest_6 : decode cX1_removeTest 6 = .ok (.iconst 1, 1) := dk_4 (dk_at dksX1_removeTest_0 6 rfl rfl)
theorem dX1_removeTest_7 : decode cX1_removeTest 7 = .ok (.newarray .int, 2) := dk_188_10 (dk_at dksX1_removeTest_0 7 rfl rfl)
theorem dX1_removeTest_9 : decode cX1_removeTest 9 = .ok (.dup, 1) := dk_89 (dk_at dksX1_removeTest_0 9 rfl rfl)
theorem dX1_removeTest_10 : decode cX1_removeTest 10 = .ok (.iconst 0, 1) := dk_3 (dk_at dksX1_removeTest_0 10 rfl rfl)
theorem dX1_removeTest_11 : decode cX1_removeTest 11 = .ok (.iload_n 2, 1) := dk_28 (dk_at dksX1_removeTest_0 11 rfl rfl)
theorem dX1_removeTest_12 : decode cX1_removeTest 12 = .ok (.iastore, 1) := dk_79 (dk_at dksX1_removeTest_0 12 rfl rfl)
theorem dX1_removeTest_13 : decode cX1_removeTest 13 = .ok (.invokestatic 123, 3) := dk_184 0 123 (dk_at dksX1_removeTest_0 13 rfl rfl)
theorem dX1_removeTest_16 : decode cX1_removeTest 16 = .ok (.aload_n 3, 1) := dk_45 (dk_at dksX1_removeTest_0 16 rfl rfl)
theorem dX1_removeTest_17 : decode cX1_removeTest 17 = .ok (.getfield 198, 3) := dk_180 0 198 (dk_at dksX1_removeTest_0 17 rfl rfl)
theorem dX1_removeTest_20 : decode cX1_removeTest 20 = .ok (.iload_n 2, 1) := dk_28 (dk_at dksX1_removeTest_0 20 rfl rfl)
theorem dX1_removeTest_21 : decode cX1_removeTest 21 = .ok (.ishr, 1) := dk_122 (dk_at dksX1_removeTest_0 21 rfl rfl)
theorem dX1_removeTest_22 : decode cX1_removeTest 22 = .ok (.iconst 1, 1) := dk_4 (dk_at dksX1_removeTest_0 22 rfl rfl)
theorem dX1_removeTest_23 : decode cX1_removeTest 23 = .ok (.iand, 1) := dk_126 (dk_at dksX1_removeTest_0 23 rfl rfl)
theorem dX1_removeTest_24 : decode cX1_removeTest 24 = .ok (.ifCond .ne 11, 3) := dk_154 0 11 (dk_at dksX1_removeTest_1 0 rfl rfl)
theorem dX1_removeTest_27 : decode cX1_removeTest 27 = .ok (.new 192, 3) := dk_187 0 192 (dk_at dksX1_removeTest_1 3 rfl rfl)
theorem dX1_removeTest_30 : decode cX1_removeTest 30 = .ok (.dup, 1) := dk_89 (dk_at dksX1_removeTest_1 6 rfl rfl)
theorem dX1_removeTest_31 : decode cX1_removeTest 31 = .ok (.invokespecial 194, 3) := dk_183 0 194 (dk_at dksX1_removeTest_1 7 rfl rfl)
theorem dX1_removeTest_34 : decode cX1_removeTest 34 = .ok (.athrow, 1) := dk_191 (dk_at dksX1_removeTest_1 10 rfl rfl)
theorem dX1_removeTest_35 : decode cX1_removeTest 35 = .ok (.aload_n 3, 1) := dk_45 (dk_at dksX1_removeTest_1 11 rfl rfl)
theorem dX1_removeTest_36 : decode cX1_removeTest 36 = .ok (.dup, 1) := dk_89 (dk_at dksX1_removeTest_1 12 rfl rfl)
theorem dX1_removeTest_37 : decode cX1_removeTest 37 = .ok (.getfield 198, 3) := dk_180 0 198 (dk_at dksX1_removeTest_1 13 rfl rfl)
theorem dX1_removeTest_40 : decode cX1_removeTest 40 = .ok (.iconst 1, 1) := dk_4 (dk_at dksX1_removeTest_1 16 rfl rfl)
theorem dX1_removeTest_41 : decode cX1_removeTest 41 = .ok (.iload_n 2, 1) := dk_28 (dk_at dksX1_removeTest_1 17 rfl rfl)
theorem dX1_removeTest_42 : decode cX1_removeTest 42 = .ok (.ishl, 1) := dk_120 (dk_at dksX1_removeTest_1 18 rfl rfl)
theorem dX1_removeTest_43 : decode cX1_removeTest 43 = .ok (.iconst (-1), 1) := dk_2 (dk_at dksX1_removeTest_1 19 rfl rfl)
theorem dX1_removeTest_44 : decode cX1_removeTest 44 = .ok (.ixor, 1) := dk_130 (dk_at dksX1_removeTest_1 20 rfl rfl)
theorem dX1_removeTest_45 : decode cX1_removeTest 45 = .ok (.iand, 1) := dk_126 (dk_at dksX1_removeTest_1 21 rfl rfl)
theorem dX1_removeTest_46 : decode cX1_removeTest 46 = .ok (.putfield 198, 3) := dk_181 0 198 (dk_at dksX1_removeTest_2 0 rfl rfl)
theorem dX1_removeTest_49 : decode cX1_removeTest 49 = .ok (.aload_n 3, 1) := dk_45 (dk_at dksX1_removeTest_2 3 rfl rfl)
theorem dX1_removeTest_50 : decode cX1_removeTest 50 = .ok (.getfield 198, 3) := dk_180 0 198 (dk_at dksX1_removeTest_2 4 rfl rfl)
theorem dX1_removeTest_53 : decode cX1_removeTest 53 = .ok (.invokestatic 155, 3) := dk_184 0 155 (dk_at dksX1_removeTest_2 7 rfl rfl)
theorem dX1_removeTest_56 : decode cX1_removeTest 56 = .ok (.ireturn, 1) := dk_172 (dk_at dksX1_removeTest_2 10 rfl rfl)
abbrev cX1_tests : ByteArray := prog_1_method_34_code
def yX1_tests : MethodName := ⟨RX1, "tests", "(I)I"⟩
def dkwX1_tests_0 : List UInt8 := [42, 27, 182, 0, 107, 180, 0, 198, 172]
abbrev dktX1_tests_0 : List UInt8 := dkwX1_tests_0 ++ []
theorem dksX1_tests_0 : cX1_tests.data.toList.drop 0 = dktX1_tests_0 := by decide +kernel
theorem dX1_tests_0 : decode cX1_tests 0 = .ok (.aload_n 0, 1) := dk_42 (dk_at dksX1_tests_0 0 rfl rfl)
theorem dX1_tests_1 : decode cX1_tests 1 = .ok (.iload_n 1, 1) := dk_27 (dk_at dksX1_tests_0 1 rfl rfl)
theorem dX1_tests_2 : decode cX1_tests 2 = .ok (.invokevirtual 107, 3) := dk_182 0 107 (dk_at dksX1_tests_0 2 rfl rfl)
theorem dX1_tests_5 : decode cX1_tests 5 = .ok (.getfield 198, 3) := dk_180 0 198 (dk_at dksX1_tests_0 5 rfl rfl)
theorem dX1_tests_8 : decode cX1_tests 8 = .ok (.ireturn, 1) := dk_172 (dk_at dksX1_tests_0 8 rfl rfl)
abbrev cX1_outcomes : ByteArray := prog_1_method_35_code
def yX1_outcomes : MethodName := ⟨RX1, "outcomes", "(I)I"⟩
def dkwX1_outcomes_2 : List UInt8 := [132, 4, 1, 167, 255, 216, 29, 172]
abbrev dktX1_outcomes_2 : List UInt8 := dkwX1_outcomes_2 ++ []
def dkwX1_outcomes_1 : List UInt8 := [122, 4, 126, 4, 160, 0, 20, 29, 44, 21, 4, 182, 0, 127, 153, 0, 7, 5, 167, 0, 4, 4, 128, 62]
abbrev dktX1_outcomes_1 : List UInt8 := dkwX1_outcomes_1 ++ dktX1_outcomes_2
def dkwX1_outcomes_0 : List UInt8 := [42, 27, 182, 0, 107, 77, 3, 62, 3, 54, 4, 21, 4, 16, 16, 162, 0, 39, 44, 180, 0, 198, 21, 4]
abbrev dktX1_outcomes_0 : List UInt8 := dkwX1_outcomes_0 ++ dktX1_outcomes_1
theorem dksX1_outcomes_0 : cX1_outcomes.data.toList.drop 0 = dktX1_outcomes_0 := by decide +kernel
theorem dksX1_outcomes_1 : cX1_outcomes.data.toList.drop 24 = dktX1_outcomes_1 := dk_seg dksX1_outcomes_0 24 rfl rfl
theorem dksX1_outcomes_2 : cX1_outcomes.data.toList.drop 48 = dktX1_outcomes_2 := dk_seg dksX1_outcomes_1 24 rfl rfl
theorem dX1_outcomes_0 : decode cX1_outcomes 0 = .ok (.aload_n 0, 1) := dk_42 (dk_at dksX1_outcomes_0 0 rfl rfl)
theorem dX1_outcomes_1 : decode cX1_outcomes 1 = .ok (.iload_n 1, 1) := dk_27 (dk_at dksX1_outcomes_0 1 rfl rfl)
theorem dX1_outcomes_2 : decode cX1_outcomes 2 = .ok (.invokevirtual 107, 3) := dk_182 0 107 (dk_at dksX1_outcomes_0 2 rfl rfl)
theorem dX1_outcomes_5 : decode cX1_outcomes 5 = .ok (.astore_n 2, 1) := dk_77 (dk_at dksX1_outcomes_0 5 rfl rfl)
theorem dX1_outcomes_6 : decode cX1_outcomes 6 = .ok (.iconst 0, 1) := dk_3 (dk_at dksX1_outcomes_0 6 rfl rfl)
theorem dX1_outcomes_7 : decode cX1_outcomes 7 = .ok (.istore_n 3, 1) := dk_62 (dk_at dksX1_outcomes_0 7 rfl rfl)
theorem dX1_outcomes_8 : decode cX1_outcomes 8 = .ok (.iconst 0, 1) := dk_3 (dk_at dksX1_outcomes_0 8 rfl rfl)
theorem dX1_outcomes_9 : decode cX1_outcomes 9 = .ok (.istore 4, 2) := dk_54 4 (dk_at dksX1_outcomes_0 9 rfl rfl)
theorem dX1_outcomes_11 : decode cX1_outcomes 11 = .ok (.iload 4, 2) := dk_21 4 (dk_at dksX1_outcomes_0 11 rfl rfl)
theorem dX1_outcomes_13 : decode cX1_outcomes 13 = .ok (.bipush 16, 2) := dk_16 16 (dk_at dksX1_outcomes_0 13 rfl rfl)
theorem dX1_outcomes_15 : decode cX1_outcomes 15 = .ok (.if_icmp .ge 39, 3) := dk_162 0 39 (dk_at dksX1_outcomes_0 15 rfl rfl)
theorem dX1_outcomes_18 : decode cX1_outcomes 18 = .ok (.aload_n 2, 1) := dk_44 (dk_at dksX1_outcomes_0 18 rfl rfl)
theorem dX1_outcomes_19 : decode cX1_outcomes 19 = .ok (.getfield 198, 3) := dk_180 0 198 (dk_at dksX1_outcomes_0 19 rfl rfl)
theorem dX1_outcomes_22 : decode cX1_outcomes 22 = .ok (.iload 4, 2) := dk_21 4 (dk_at dksX1_outcomes_0 22 rfl rfl)
theorem dX1_outcomes_24 : decode cX1_outcomes 24 = .ok (.ishr, 1) := dk_122 (dk_at dksX1_outcomes_1 0 rfl rfl)
theorem dX1_outcomes_25 : decode cX1_outcomes 25 = .ok (.iconst 1, 1) := dk_4 (dk_at dksX1_outcomes_1 1 rfl rfl)
theorem dX1_outcomes_26 : decode cX1_outcomes 26 = .ok (.iand, 1) := dk_126 (dk_at dksX1_outcomes_1 2 rfl rfl)
theorem dX1_outcomes_27 : decode cX1_outcomes 27 = .ok (.iconst 1, 1) := dk_4 (dk_at dksX1_outcomes_1 3 rfl rfl)
theorem dX1_outcomes_28 : decode cX1_outcomes 28 = .ok (.if_icmp .ne 20, 3) := dk_160 0 20 (dk_at dksX1_outcomes_1 4 rfl rfl)
theorem dX1_outcomes_31 : decode cX1_outcomes 31 = .ok (.iload_n 3, 1) := dk_29 (dk_at dksX1_outcomes_1 7 rfl rfl)
theorem dX1_outcomes_32 : decode cX1_outcomes 32 = .ok (.aload_n 2, 1) := dk_44 (dk_at dksX1_outcomes_1 8 rfl rfl)
theorem dX1_outcomes_33 : decode cX1_outcomes 33 = .ok (.iload 4, 2) := dk_21 4 (dk_at dksX1_outcomes_1 9 rfl rfl)
theorem dX1_outcomes_35 : decode cX1_outcomes 35 = .ok (.invokevirtual 127, 3) := dk_182 0 127 (dk_at dksX1_outcomes_1 11 rfl rfl)
theorem dX1_outcomes_38 : decode cX1_outcomes 38 = .ok (.ifCond .eq 7, 3) := dk_153 0 7 (dk_at dksX1_outcomes_1 14 rfl rfl)
theorem dX1_outcomes_41 : decode cX1_outcomes 41 = .ok (.iconst 2, 1) := dk_5 (dk_at dksX1_outcomes_1 17 rfl rfl)
theorem dX1_outcomes_42 : decode cX1_outcomes 42 = .ok (.goto 4, 3) := dk_167 0 4 (dk_at dksX1_outcomes_1 18 rfl rfl)
theorem dX1_outcomes_45 : decode cX1_outcomes 45 = .ok (.iconst 1, 1) := dk_4 (dk_at dksX1_outcomes_1 21 rfl rfl)
theorem dX1_outcomes_46 : decode cX1_outcomes 46 = .ok (.ior, 1) := dk_128 (dk_at dksX1_outcomes_1 22 rfl rfl)
theorem dX1_outcomes_47 : decode cX1_outcomes 47 = .ok (.istore_n 3, 1) := dk_62 (dk_at dksX1_outcomes_1 23 rfl rfl)
theorem dX1_outcomes_48 : decode cX1_outcomes 48 = .ok (.iinc 4 1, 3) := dk_132 4 1 (dk_at dksX1_outcomes_2 0 rfl rfl)
theorem dX1_outcomes_51 : decode cX1_outcomes 51 = .ok (.goto (-40), 3) := dk_167 255 216 (dk_at dksX1_outcomes_2 3 rfl rfl)
theorem dX1_outcomes_54 : decode cX1_outcomes 54 = .ok (.iload_n 3, 1) := dk_29 (dk_at dksX1_outcomes_2 6 rfl rfl)
theorem dX1_outcomes_55 : decode cX1_outcomes 55 = .ok (.ireturn, 1) := dk_172 (dk_at dksX1_outcomes_2 7 rfl rfl)
abbrev cX1_seenBoth : ByteArray := prog_1_method_36_code
def yX1_seenBoth : MethodName := ⟨RX1, "seenBoth", "(I)I"⟩
def dkwX1_seenBoth_3 : List UInt8 := [128, 79, 132, 5, 1, 167, 255, 203, 132, 4, 1, 167, 255, 187, 45, 3, 46, 45, 4, 46, 126, 172]
abbrev dktX1_seenBoth_3 : List UInt8 := dkwX1_seenBoth_3 ++ []
def dkwX1_seenBoth_2 : List UInt8 := [21, 5, 21, 4, 182, 0, 131, 54, 6, 21, 6, 5, 159, 0, 14, 45, 21, 6, 92, 46, 4, 21, 5, 120]
abbrev dktX1_seenBoth_2 : List UInt8 := dkwX1_seenBoth_2 ++ dktX1_seenBoth_3
def dkwX1_seenBoth_1 : List UInt8 := [21, 5, 44, 180, 0, 111, 190, 162, 0, 49, 44, 180, 0, 198, 21, 4, 122, 4, 126, 4, 160, 0, 36, 44]
abbrev dktX1_seenBoth_1 : List UInt8 := dkwX1_seenBoth_1 ++ dktX1_seenBoth_2
def dkwX1_seenBoth_0 : List UInt8 := [42, 27, 182, 0, 107, 77, 5, 188, 10, 78, 3, 54, 4, 21, 4, 16, 16, 162, 0, 68, 3, 54, 5]
abbrev dktX1_seenBoth_0 : List UInt8 := dkwX1_seenBoth_0 ++ dktX1_seenBoth_1
theorem dksX1_seenBoth_0 : cX1_seenBoth.data.toList.drop 0 = dktX1_seenBoth_0 := by decide +kernel
theorem dksX1_seenBoth_1 : cX1_seenBoth.data.toList.drop 23 = dktX1_seenBoth_1 := dk_seg dksX1_seenBoth_0 23 rfl rfl
theorem dksX1_seenBoth_2 : cX1_seenBoth.data.toList.drop 47 = dktX1_seenBoth_2 := dk_seg dksX1_seenBoth_1 24 rfl rfl
theorem dksX1_seenBoth_3 : cX1_seenBoth.data.toList.drop 71 = dktX1_seenBoth_3 := dk_seg dksX1_seenBoth_2 24 rfl rfl
theorem dX1_seenBoth_0 : decode cX1_seenBoth 0 = .ok (.aload_n 0, 1) := dk_42 (dk_at dksX1_seenBoth_0 0 rfl rfl)
theorem dX1_seenBoth_1 : decode cX1_seenBoth 1 = .ok (.iload_n 1, 1) := dk_27 (dk_at dksX1_seenBoth_0 1 rfl rfl)
theorem dX1_seenBoth_2 : decode cX1_seenBoth 2 = .ok (.invokevirtual 107, 3) := dk_182 0 107 (dk_at dksX1_seenBoth_0 2 rfl rfl)
theorem dX1_seenBoth_5 : decode cX1_seenBoth 5 = .ok (.astore_n 2, 1) := dk_77 (dk_at dksX1_seenBoth_0 5 rfl rfl)
theorem dX1_seenBoth_6 : decode cX1_seenBoth 6 = .ok (.iconst 2, 1) := dk_5 (dk_at dksX1_seenBoth_0 6 rfl rfl)
theorem dX1_seenBoth_7 : decode cX1_seenBoth 7 = .ok (.newarray .int, 2) := dk_188_10 (dk_at dksX1_seenBoth_0 7 rfl rfl)
theorem dX1_seenBoth_9 : decode cX1_seenBoth 9 = .ok (.astore_n 3, 1) := dk_78 (dk_at dksX1_seenBoth_0 9 rfl rfl)
theorem dX1_seenBoth_10 : decode cX1_seenBoth 10 = .ok (.iconst 0, 1) := dk_3 (dk_at dksX1_seenBoth_0 10 rfl rfl)
theorem dX1_seenBoth_11 : decode cX1_seenBoth 11 = .ok (.istore 4, 2) := dk_54 4 (dk_at dksX1_seenBoth_0 11 rfl rfl)
theorem dX1_seenBoth_13 : decode cX1_seenBoth 13 = .ok (.iload 4, 2) := dk_21 4 (dk_at dksX1_seenBoth_0 13 rfl rfl)
theorem dX1_seenBoth_15 : decode cX1_seenBoth 15 = .ok (.bipush 16, 2) := dk_16 16 (dk_at dksX1_seenBoth_0 15 rfl rfl)
theorem dX1_seenBoth_17 : decode cX1_seenBoth 17 = .ok (.if_icmp .ge 68, 3) := dk_162 0 68 (dk_at dksX1_seenBoth_0 17 rfl rfl)
theorem dX1_seenBoth_20 : decode cX1_seenBoth 20 = .ok (.iconst 0, 1) := dk_3 (dk_at dksX1_seenBoth_0 20 rfl rfl)
theorem dX1_seenBoth_21 : decode cX1_seenBoth 21 = .ok (.istore 5, 2) := dk_54 5 (dk_at dksX1_seenBoth_0 21 rfl rfl)
theorem dX1_seenBoth_23 : decode cX1_seenBoth 23 = .ok (.iload 5, 2) := dk_21 5 (dk_at dksX1_seenBoth_1 0 rfl rfl)
theorem dX1_seenBoth_25 : decode cX1_seenBoth 25 = .ok (.aload_n 2, 1) := dk_44 (dk_at dksX1_seenBoth_1 2 rfl rfl)
theorem dX1_seenBoth_26 : decode cX1_seenBoth 26 = .ok (.getfield 111, 3) := dk_180 0 111 (dk_at dksX1_seenBoth_1 3 rfl rfl)
theorem dX1_seenBoth_29 : decode cX1_seenBoth 29 = .ok (.arraylength, 1) := dk_190 (dk_at dksX1_seenBoth_1 6 rfl rfl)
theorem dX1_seenBoth_30 : decode cX1_seenBoth 30 = .ok (.if_icmp .ge 49, 3) := dk_162 0 49 (dk_at dksX1_seenBoth_1 7 rfl rfl)
theorem dX1_seenBoth_33 : decode cX1_seenBoth 33 = .ok (.aload_n 2, 1) := dk_44 (dk_at dksX1_seenBoth_1 10 rfl rfl)
theorem dX1_seenBoth_34 : decode cX1_seenBoth 34 = .ok (.getfield 198, 3) := dk_180 0 198 (dk_at dksX1_seenBoth_1 11 rfl rfl)
theorem dX1_seenBoth_37 : decode cX1_seenBoth 37 = .ok (.iload 4, 2) := dk_21 4 (dk_at dksX1_seenBoth_1 14 rfl rfl)
theorem dX1_seenBoth_39 : decode cX1_seenBoth 39 = .ok (.ishr, 1) := dk_122 (dk_at dksX1_seenBoth_1 16 rfl rfl)
theorem dX1_seenBoth_40 : decode cX1_seenBoth 40 = .ok (.iconst 1, 1) := dk_4 (dk_at dksX1_seenBoth_1 17 rfl rfl)
theorem dX1_seenBoth_41 : decode cX1_seenBoth 41 = .ok (.iand, 1) := dk_126 (dk_at dksX1_seenBoth_1 18 rfl rfl)
theorem dX1_seenBoth_42 : decode cX1_seenBoth 42 = .ok (.iconst 1, 1) := dk_4 (dk_at dksX1_seenBoth_1 19 rfl rfl)
theorem dX1_seenBoth_43 : decode cX1_seenBoth 43 = .ok (.if_icmp .ne 36, 3) := dk_160 0 36 (dk_at dksX1_seenBoth_1 20 rfl rfl)
theorem dX1_seenBoth_46 : decode cX1_seenBoth 46 = .ok (.aload_n 2, 1) := dk_44 (dk_at dksX1_seenBoth_1 23 rfl rfl)
theorem dX1_seenBoth_47 : decode cX1_seenBoth 47 = .ok (.iload 5, 2) := dk_21 5 (dk_at dksX1_seenBoth_2 0 rfl rfl)
theorem dX1_seenBoth_49 : decode cX1_seenBoth 49 = .ok (.iload 4, 2) := dk_21 4 (dk_at dksX1_seenBoth_2 2 rfl rfl)
theorem dX1_seenBoth_51 : decode cX1_seenBoth 51 = .ok (.invokevirtual 131, 3) := dk_182 0 131 (dk_at dksX1_seenBoth_2 4 rfl rfl)
theorem dX1_seenBoth_54 : decode cX1_seenBoth 54 = .ok (.istore 6, 2) := dk_54 6 (dk_at dksX1_seenBoth_2 7 rfl rfl)
theorem dX1_seenBoth_56 : decode cX1_seenBoth 56 = .ok (.iload 6, 2) := dk_21 6 (dk_at dksX1_seenBoth_2 9 rfl rfl)
theorem dX1_seenBoth_58 : decode cX1_seenBoth 58 = .ok (.iconst 2, 1) := dk_5 (dk_at dksX1_seenBoth_2 11 rfl rfl)
theorem dX1_seenBoth_59 : decode cX1_seenBoth 59 = .ok (.if_icmp .eq 14, 3) := dk_159 0 14 (dk_at dksX1_seenBoth_2 12 rfl rfl)
theorem dX1_seenBoth_62 : decode cX1_seenBoth 62 = .ok (.aload_n 3, 1) := dk_45 (dk_at dksX1_seenBoth_2 15 rfl rfl)
theorem dX1_seenBoth_63 : decode cX1_seenBoth 63 = .ok (.iload 6, 2) := dk_21 6 (dk_at dksX1_seenBoth_2 16 rfl rfl)
theorem dX1_seenBoth_65 : decode cX1_seenBoth 65 = .ok (.dup2, 1) := dk_92 (dk_at dksX1_seenBoth_2 18 rfl rfl)
theorem dX1_seenBoth_66 : decode cX1_seenBoth 66 = .ok (.iaload, 1) := dk_46 (dk_at dksX1_seenBoth_2 19 rfl rfl)
theorem dX1_seenBoth_67 : decode cX1_seenBoth 67 = .ok (.iconst 1, 1) := dk_4 (dk_at dksX1_seenBoth_2 20 rfl rfl)
theorem dX1_seenBoth_68 : decode cX1_seenBoth 68 = .ok (.iload 5, 2) := dk_21 5 (dk_at dksX1_seenBoth_2 21 rfl rfl)
theorem dX1_seenBoth_70 : decode cX1_seenBoth 70 = .ok (.ishl, 1) := dk_120 (dk_at dksX1_seenBoth_2 23 rfl rfl)
theorem dX1_seenBoth_71 : decode cX1_seenBoth 71 = .ok (.ior, 1) := dk_128 (dk_at dksX1_seenBoth_3 0 rfl rfl)
theorem dX1_seenBoth_72 : decode cX1_seenBoth 72 = .ok (.iastore, 1) := dk_79 (dk_at dksX1_seenBoth_3 1 rfl rfl)
theorem dX1_seenBoth_73 : decode cX1_seenBoth 73 = .ok (.iinc 5 1, 3) := dk_132 5 1 (dk_at dksX1_seenBoth_3 2 rfl rfl)
theorem dX1_seenBoth_76 : decode cX1_seenBoth 76 = .ok (.goto (-53), 3) := dk_167 255 203 (dk_at dksX1_seenBoth_3 5 rfl rfl)
theorem dX1_seenBoth_79 : decode cX1_seenBoth 79 = .ok (.iinc 4 1, 3) := dk_132 4 1 (dk_at dksX1_seenBoth_3 8 rfl rfl)
theorem dX1_seenBoth_82 : decode cX1_seenBoth 82 = .ok (.goto (-69), 3) := dk_167 255 187 (dk_at dksX1_seenBoth_3 11 rfl rfl)
theorem dX1_seenBoth_85 : decode cX1_seenBoth 85 = .ok (.aload_n 3, 1) := dk_45 (dk_at dksX1_seenBoth_3 14 rfl rfl)
theorem dX1_seenBoth_86 : decode cX1_seenBoth 86 = .ok (.iconst 0, 1) := dk_3 (dk_at dksX1_seenBoth_3 15 rfl rfl)
theorem dX1_seenBoth_87 : decode cX1_seenBoth 87 = .ok (.iaload, 1) := dk_46 (dk_at dksX1_seenBoth_3 16 rfl rfl)
theorem dX1_seenBoth_88 : decode cX1_seenBoth 88 = .ok (.aload_n 3, 1) := dk_45 (dk_at dksX1_seenBoth_3 17 rfl rfl)
theorem dX1_seenBoth_89 : decode cX1_seenBoth 89 = .ok (.iconst 1, 1) := dk_4 (dk_at dksX1_seenBoth_3 18 rfl rfl)
theorem dX1_seenBoth_90 : decode cX1_seenBoth 90 = .ok (.iaload, 1) := dk_46 (dk_at dksX1_seenBoth_3 19 rfl rfl)
theorem dX1_seenBoth_91 : decode cX1_seenBoth 91 = .ok (.iand, 1) := dk_126 (dk_at dksX1_seenBoth_3 20 rfl rfl)
theorem dX1_seenBoth_92 : decode cX1_seenBoth 92 = .ok (.ireturn, 1) := dk_172 (dk_at dksX1_seenBoth_3 21 rfl rfl)
abbrev cX1_covered : ByteArray := prog_1_method_37_code
def yX1_covered : MethodName := ⟨RX1, "covered", "(II)I"⟩
def dkwX1_covered_0 : List UInt8 := [42, 27, 28, 182, 0, 174, 78, 45, 45, 180, 0, 201, 180, 0, 198, 182, 0, 204, 172]
abbrev dktX1_covered_0 : List UInt8 := dkwX1_covered_0 ++ []
theorem dksX1_covered_0 : cX1_covered.data.toList.drop 0 = dktX1_covered_0 := by decide +kernel
theorem dX1_covered_0 : decode cX1_covered 0 = .ok (.aload_n 0, 1) := dk_42 (dk_at dksX1_covered_0 0 rfl rfl)
theorem dX1_covered_1 : decode cX1_covered 1 = .ok (.iload_n 1, 1) := dk_27 (dk_at dksX1_covered_0 1 rfl rfl)
theorem dX1_covered_2 : decode cX1_covered 2 = .ok (.iload_n 2, 1) := dk_28 (dk_at dksX1_covered_0 2 rfl rfl)
theorem dX1_covered_3 : decode cX1_covered 3 = .ok (.invokevirtual 174, 3) := dk_182 0 174 (dk_at dksX1_covered_0 3 rfl rfl)
theorem dX1_covered_6 : decode cX1_covered 6 = .ok (.astore_n 3, 1) := dk_78 (dk_at dksX1_covered_0 6 rfl rfl)
theorem dX1_covered_7 : decode cX1_covered 7 = .ok (.aload_n 3, 1) := dk_45 (dk_at dksX1_covered_0 7 rfl rfl)
theorem dX1_covered_8 : decode cX1_covered 8 = .ok (.aload_n 3, 1) := dk_45 (dk_at dksX1_covered_0 8 rfl rfl)
theorem dX1_covered_9 : decode cX1_covered 9 = .ok (.getfield 201, 3) := dk_180 0 201 (dk_at dksX1_covered_0 9 rfl rfl)
theorem dX1_covered_12 : decode cX1_covered 12 = .ok (.getfield 198, 3) := dk_180 0 198 (dk_at dksX1_covered_0 12 rfl rfl)
theorem dX1_covered_15 : decode cX1_covered 15 = .ok (.invokevirtual 204, 3) := dk_182 0 204 (dk_at dksX1_covered_0 15 rfl rfl)
theorem dX1_covered_18 : decode cX1_covered 18 = .ok (.ireturn, 1) := dk_172 (dk_at dksX1_covered_0 18 rfl rfl)
abbrev cX1_suggest : ByteArray := prog_1_method_38_code
def yX1_suggest : MethodName := ⟨RX1, "suggest", "(II)I"⟩
def dkwX1_suggest_4 : List UInt8 := [21, 6, 172]
abbrev dktX1_suggest_4 : List UInt8 := dkwX1_suggest_4 ++ []
def dkwX1_suggest_3 : List UInt8 := [153, 0, 18, 21, 8, 21, 5, 164, 0, 11, 21, 8, 54, 5, 21, 7, 54, 6, 132, 7, 1, 167, 255, 198]
abbrev dktX1_suggest_3 : List UInt8 := dkwX1_suggest_3 ++ dktX1_suggest_4
def dkwX1_suggest_2 : List UInt8 := [120, 128, 182, 0, 204, 184, 0, 155, 54, 8, 45, 180, 0, 207, 21, 4, 2, 130, 126, 4, 21, 7, 120, 126]
abbrev dktX1_suggest_2 : List UInt8 := dkwX1_suggest_2 ++ dktX1_suggest_3
def dkwX1_suggest_1 : List UInt8 := [184, 0, 155, 54, 5, 2, 54, 6, 3, 54, 7, 21, 7, 16, 16, 162, 0, 57, 45, 21, 4, 4, 21, 7]
abbrev dktX1_suggest_1 : List UInt8 := dkwX1_suggest_1 ++ dktX1_suggest_2
def dkwX1_suggest_0 : List UInt8 := [42, 27, 28, 182, 0, 174, 78, 45, 180, 0, 201, 180, 0, 198, 54, 4, 45, 21, 4, 182, 0, 204]
abbrev dktX1_suggest_0 : List UInt8 := dkwX1_suggest_0 ++ dktX1_suggest_1
theorem dksX1_suggest_0 : cX1_suggest.data.toList.drop 0 = dktX1_suggest_0 := by decide +kernel
theorem dksX1_suggest_1 : cX1_suggest.data.toList.drop 22 = dktX1_suggest_1 := dk_seg dksX1_suggest_0 22 rfl rfl
theorem dksX1_suggest_2 : cX1_suggest.data.toList.drop 46 = dktX1_suggest_2 := dk_seg dksX1_suggest_1 24 rfl rfl
theorem dksX1_suggest_3 : cX1_suggest.data.toList.drop 70 = dktX1_suggest_3 := dk_seg dksX1_suggest_2 24 rfl rfl
theorem dksX1_suggest_4 : cX1_suggest.data.toList.drop 94 = dktX1_suggest_4 := dk_seg dksX1_suggest_3 24 rfl rfl
theorem dX1_suggest_0 : decode cX1_suggest 0 = .ok (.aload_n 0, 1) := dk_42 (dk_at dksX1_suggest_0 0 rfl rfl)
theorem dX1_suggest_1 : decode cX1_suggest 1 = .ok (.iload_n 1, 1) := dk_27 (dk_at dksX1_suggest_0 1 rfl rfl)
theorem dX1_suggest_2 : decode cX1_suggest 2 = .ok (.iload_n 2, 1) := dk_28 (dk_at dksX1_suggest_0 2 rfl rfl)
theorem dX1_suggest_3 : decode cX1_suggest 3 = .ok (.invokevirtual 174, 3) := dk_182 0 174 (dk_at dksX1_suggest_0 3 rfl rfl)
theorem dX1_suggest_6 : decode cX1_suggest 6 = .ok (.astore_n 3, 1) := dk_78 (dk_at dksX1_suggest_0 6 rfl rfl)
theorem dX1_suggest_7 : decode cX1_suggest 7 = .ok (.aload_n 3, 1) := dk_45 (dk_at dksX1_suggest_0 7 rfl rfl)
theorem dX1_suggest_8 : decode cX1_suggest 8 = .ok (.getfield 201, 3) := dk_180 0 201 (dk_at dksX1_suggest_0 8 rfl rfl)
theorem dX1_suggest_11 : decode cX1_suggest 11 = .ok (.getfield 198, 3) := dk_180 0 198 (dk_at dksX1_suggest_0 11 rfl rfl)
theorem dX1_suggest_14 : decode cX1_suggest 14 = .ok (.istore 4, 2) := dk_54 4 (dk_at dksX1_suggest_0 14 rfl rfl)
theorem dX1_suggest_16 : decode cX1_suggest 16 = .ok (.aload_n 3, 1) := dk_45 (dk_at dksX1_suggest_0 16 rfl rfl)
theorem dX1_suggest_17 : decode cX1_suggest 17 = .ok (.iload 4, 2) := dk_21 4 (dk_at dksX1_suggest_0 17 rfl rfl)
theorem dX1_suggest_19 : decode cX1_suggest 19 = .ok (.invokevirtual 204, 3) := dk_182 0 204 (dk_at dksX1_suggest_0 19 rfl rfl)
theorem dX1_suggest_22 : decode cX1_suggest 22 = .ok (.invokestatic 155, 3) := dk_184 0 155 (dk_at dksX1_suggest_1 0 rfl rfl)
theorem dX1_suggest_25 : decode cX1_suggest 25 = .ok (.istore 5, 2) := dk_54 5 (dk_at dksX1_suggest_1 3 rfl rfl)
theorem dX1_suggest_27 : decode cX1_suggest 27 = .ok (.iconst (-1), 1) := dk_2 (dk_at dksX1_suggest_1 5 rfl rfl)
theorem dX1_suggest_28 : decode cX1_suggest 28 = .ok (.istore 6, 2) := dk_54 6 (dk_at dksX1_suggest_1 6 rfl rfl)
theorem dX1_suggest_30 : decode cX1_suggest 30 = .ok (.iconst 0, 1) := dk_3 (dk_at dksX1_suggest_1 8 rfl rfl)
theorem dX1_suggest_31 : decode cX1_suggest 31 = .ok (.istore 7, 2) := dk_54 7 (dk_at dksX1_suggest_1 9 rfl rfl)
theorem dX1_suggest_33 : decode cX1_suggest 33 = .ok (.iload 7, 2) := dk_21 7 (dk_at dksX1_suggest_1 11 rfl rfl)
theorem dX1_suggest_35 : decode cX1_suggest 35 = .ok (.bipush 16, 2) := dk_16 16 (dk_at dksX1_suggest_1 13 rfl rfl)
theorem dX1_suggest_37 : decode cX1_suggest 37 = .ok (.if_icmp .ge 57, 3) := dk_162 0 57 (dk_at dksX1_suggest_1 15 rfl rfl)
theorem dX1_suggest_40 : decode cX1_suggest 40 = .ok (.aload_n 3, 1) := dk_45 (dk_at dksX1_suggest_1 18 rfl rfl)
theorem dX1_suggest_41 : decode cX1_suggest 41 = .ok (.iload 4, 2) := dk_21 4 (dk_at dksX1_suggest_1 19 rfl rfl)
theorem dX1_suggest_43 : decode cX1_suggest 43 = .ok (.iconst 1, 1) := dk_4 (dk_at dksX1_suggest_1 21 rfl rfl)
theorem dX1_suggest_44 : decode cX1_suggest 44 = .ok (.iload 7, 2) := dk_21 7 (dk_at dksX1_suggest_1 22 rfl rfl)
theorem dX1_suggest_46 : decode cX1_suggest 46 = .ok (.ishl, 1) := dk_120 (dk_at dksX1_suggest_2 0 rfl rfl)
theorem dX1_suggest_47 : decode cX1_suggest 47 = .ok (.ior, 1) := dk_128 (dk_at dksX1_suggest_2 1 rfl rfl)
theorem dX1_suggest_48 : decode cX1_suggest 48 = .ok (.invokevirtual 204, 3) := dk_182 0 204 (dk_at dksX1_suggest_2 2 rfl rfl)
theorem dX1_suggest_51 : decode cX1_suggest 51 = .ok (.invokestatic 155, 3) := dk_184 0 155 (dk_at dksX1_suggest_2 5 rfl rfl)
theorem dX1_suggest_54 : decode cX1_suggest 54 = .ok (.istore 8, 2) := dk_54 8 (dk_at dksX1_suggest_2 8 rfl rfl)
theorem dX1_suggest_56 : decode cX1_suggest 56 = .ok (.aload_n 3, 1) := dk_45 (dk_at dksX1_suggest_2 10 rfl rfl)
theorem dX1_suggest_57 : decode cX1_suggest 57 = .ok (.getfield 207, 3) := dk_180 0 207 (dk_at dksX1_suggest_2 11 rfl rfl)
theorem dX1_suggest_60 : decode cX1_suggest 60 = .ok (.iload 4, 2) := dk_21 4 (dk_at dksX1_suggest_2 14 rfl rfl)
theorem dX1_suggest_62 : decode cX1_suggest 62 = .ok (.iconst (-1), 1) := dk_2 (dk_at dksX1_suggest_2 16 rfl rfl)
theorem dX1_suggest_63 : decode cX1_suggest 63 = .ok (.ixor, 1) := dk_130 (dk_at dksX1_suggest_2 17 rfl rfl)
theorem dX1_suggest_64 : decode cX1_suggest 64 = .ok (.iand, 1) := dk_126 (dk_at dksX1_suggest_2 18 rfl rfl)
theorem dX1_suggest_65 : decode cX1_suggest 65 = .ok (.iconst 1, 1) := dk_4 (dk_at dksX1_suggest_2 19 rfl rfl)
theorem dX1_suggest_66 : decode cX1_suggest 66 = .ok (.iload 7, 2) := dk_21 7 (dk_at dksX1_suggest_2 20 rfl rfl)
theorem dX1_suggest_68 : decode cX1_suggest 68 = .ok (.ishl, 1) := dk_120 (dk_at dksX1_suggest_2 22 rfl rfl)
theorem dX1_suggest_69 : decode cX1_suggest 69 = .ok (.iand, 1) := dk_126 (dk_at dksX1_suggest_2 23 rfl rfl)
theorem dX1_suggest_70 : decode cX1_suggest 70 = .ok (.ifCond .eq 18, 3) := dk_153 0 18 (dk_at dksX1_suggest_3 0 rfl rfl)
theorem dX1_suggest_73 : decode cX1_suggest 73 = .ok (.iload 8, 2) := dk_21 8 (dk_at dksX1_suggest_3 3 rfl rfl)
theorem dX1_suggest_75 : decode cX1_suggest 75 = .ok (.iload 5, 2) := dk_21 5 (dk_at dksX1_suggest_3 5 rfl rfl)
theorem dX1_suggest_77 : decode cX1_suggest 77 = .ok (.if_icmp .le 11, 3) := dk_164 0 11 (dk_at dksX1_suggest_3 7 rfl rfl)
theorem dX1_suggest_80 : decode cX1_suggest 80 = .ok (.iload 8, 2) := dk_21 8 (dk_at dksX1_suggest_3 10 rfl rfl)
theorem dX1_suggest_82 : decode cX1_suggest 82 = .ok (.istore 5, 2) := dk_54 5 (dk_at dksX1_suggest_3 12 rfl rfl)
theorem dX1_suggest_84 : decode cX1_suggest 84 = .ok (.iload 7, 2) := dk_21 7 (dk_at dksX1_suggest_3 14 rfl rfl)
theorem dX1_suggest_86 : decode cX1_suggest 86 = .ok (.istore 6, 2) := dk_54 6 (dk_at dksX1_suggest_3 16 rfl rfl)
theorem dX1_suggest_88 : decode cX1_suggest 88 = .ok (.iinc 7 1, 3) := dk_132 7 1 (dk_at dksX1_suggest_3 18 rfl rfl)
theorem dX1_suggest_91 : decode cX1_suggest 91 = .ok (.goto (-58), 3) := dk_167 255 198 (dk_at dksX1_suggest_3 21 rfl rfl)
theorem dX1_suggest_94 : decode cX1_suggest 94 = .ok (.iload 6, 2) := dk_21 6 (dk_at dksX1_suggest_4 0 rfl rfl)
theorem dX1_suggest_96 : decode cX1_suggest 96 = .ok (.ireturn, 1) := dk_172 (dk_at dksX1_suggest_4 2 rfl rfl)
abbrev cX1_least : ByteArray := prog_1_method_39_code
def yX1_least : MethodName := ⟨RX1, "least", "(II)I"⟩
def dkwX1_least_0 : List UInt8 := [42, 27, 28, 182, 0, 174, 78, 45, 45, 180, 0, 207, 3, 182, 0, 209, 172]
abbrev dktX1_least_0 : List UInt8 := dkwX1_least_0 ++ []
theorem dksX1_least_0 : cX1_least.data.toList.drop 0 = dktX1_least_0 := by decide +kernel
theorem dX1_least_0 : decode cX1_least 0 = .ok (.aload_n 0, 1) := dk_42 (dk_at dksX1_least_0 0 rfl rfl)
theorem dX1_least_1 : decode cX1_least 1 = .ok (.iload_n 1, 1) := dk_27 (dk_at dksX1_least_0 1 rfl rfl)
theorem dX1_least_2 : decode cX1_least 2 = .ok (.iload_n 2, 1) := dk_28 (dk_at dksX1_least_0 2 rfl rfl)
theorem dX1_least_3 : decode cX1_least 3 = .ok (.invokevirtual 174, 3) := dk_182 0 174 (dk_at dksX1_least_0 3 rfl rfl)
theorem dX1_least_6 : decode cX1_least 6 = .ok (.astore_n 3, 1) := dk_78 (dk_at dksX1_least_0 6 rfl rfl)
theorem dX1_least_7 : decode cX1_least 7 = .ok (.aload_n 3, 1) := dk_45 (dk_at dksX1_least_0 7 rfl rfl)
theorem dX1_least_8 : decode cX1_least 8 = .ok (.aload_n 3, 1) := dk_45 (dk_at dksX1_least_0 8 rfl rfl)
theorem dX1_least_9 : decode cX1_least 9 = .ok (.getfield 207, 3) := dk_180 0 207 (dk_at dksX1_least_0 9 rfl rfl)
theorem dX1_least_12 : decode cX1_least 12 = .ok (.iconst 0, 1) := dk_3 (dk_at dksX1_least_0 12 rfl rfl)
theorem dX1_least_13 : decode cX1_least 13 = .ok (.invokevirtual 209, 3) := dk_182 0 209 (dk_at dksX1_least_0 13 rfl rfl)
theorem dX1_least_16 : decode cX1_least 16 = .ok (.ireturn, 1) := dk_172 (dk_at dksX1_least_0 16 rfl rfl)
abbrev cX1_completion : ByteArray := prog_1_method_40_code
def yX1_completion : MethodName := ⟨RX1, "completion", "(II)I"⟩
def dkwX1_completion_1 : List UInt8 := [130, 126, 21, 4, 182, 0, 209, 172]
abbrev dktX1_completion_1 : List UInt8 := dkwX1_completion_1 ++ []
def dkwX1_completion_0 : List UInt8 := [42, 27, 28, 182, 0, 174, 78, 45, 180, 0, 201, 180, 0, 198, 54, 4, 45, 45, 180, 0, 207, 21, 4, 2]
abbrev dktX1_completion_0 : List UInt8 := dkwX1_completion_0 ++ dktX1_completion_1
theorem dksX1_completion_0 : cX1_completion.data.toList.drop 0 = dktX1_completion_0 := by decide +kernel
theorem dksX1_completion_1 : cX1_completion.data.toList.drop 24 = dktX1_completion_1 := dk_seg dksX1_completion_0 24 rfl rfl
theorem dX1_completion_0 : decode cX1_completion 0 = .ok (.aload_n 0, 1) := dk_42 (dk_at dksX1_completion_0 0 rfl rfl)
theorem dX1_completion_1 : decode cX1_completion 1 = .ok (.iload_n 1, 1) := dk_27 (dk_at dksX1_completion_0 1 rfl rfl)
theorem dX1_completion_2 : decode cX1_completion 2 = .ok (.iload_n 2, 1) := dk_28 (dk_at dksX1_completion_0 2 rfl rfl)
theorem dX1_completion_3 : decode cX1_completion 3 = .ok (.invokevirtual 174, 3) := dk_182 0 174 (dk_at dksX1_completion_0 3 rfl rfl)
theorem dX1_completion_6 : decode cX1_completion 6 = .ok (.astore_n 3, 1) := dk_78 (dk_at dksX1_completion_0 6 rfl rfl)
theorem dX1_completion_7 : decode cX1_completion 7 = .ok (.aload_n 3, 1) := dk_45 (dk_at dksX1_completion_0 7 rfl rfl)
theorem dX1_completion_8 : decode cX1_completion 8 = .ok (.getfield 201, 3) := dk_180 0 201 (dk_at dksX1_completion_0 8 rfl rfl)
theorem dX1_completion_11 : decode cX1_completion 11 = .ok (.getfield 198, 3) := dk_180 0 198 (dk_at dksX1_completion_0 11 rfl rfl)
theorem dX1_completion_14 : decode cX1_completion 14 = .ok (.istore 4, 2) := dk_54 4 (dk_at dksX1_completion_0 14 rfl rfl)
theorem dX1_completion_16 : decode cX1_completion 16 = .ok (.aload_n 3, 1) := dk_45 (dk_at dksX1_completion_0 16 rfl rfl)
theorem dX1_completion_17 : decode cX1_completion 17 = .ok (.aload_n 3, 1) := dk_45 (dk_at dksX1_completion_0 17 rfl rfl)
theorem dX1_completion_18 : decode cX1_completion 18 = .ok (.getfield 207, 3) := dk_180 0 207 (dk_at dksX1_completion_0 18 rfl rfl)
theorem dX1_completion_21 : decode cX1_completion 21 = .ok (.iload 4, 2) := dk_21 4 (dk_at dksX1_completion_0 21 rfl rfl)
theorem dX1_completion_23 : decode cX1_completion 23 = .ok (.iconst (-1), 1) := dk_2 (dk_at dksX1_completion_0 23 rfl rfl)
theorem dX1_completion_24 : decode cX1_completion 24 = .ok (.ixor, 1) := dk_130 (dk_at dksX1_completion_1 0 rfl rfl)
theorem dX1_completion_25 : decode cX1_completion 25 = .ok (.iand, 1) := dk_126 (dk_at dksX1_completion_1 1 rfl rfl)
theorem dX1_completion_26 : decode cX1_completion 26 = .ok (.iload 4, 2) := dk_21 4 (dk_at dksX1_completion_1 2 rfl rfl)
theorem dX1_completion_28 : decode cX1_completion 28 = .ok (.invokevirtual 209, 3) := dk_182 0 209 (dk_at dksX1_completion_1 4 rfl rfl)
theorem dX1_completion_31 : decode cX1_completion 31 = .ok (.ireturn, 1) := dk_172 (dk_at dksX1_completion_1 7 rfl rfl)
abbrev cX1_reduced : ByteArray := prog_1_method_41_code
def yX1_reduced : MethodName := ⟨RX1, "reduced", "(II)I"⟩
def dkwX1_reduced_3 : List UInt8 := [21, 4, 172]
abbrev dktX1_reduced_3 : List UInt8 := dkwX1_reduced_3 ++ []
def dkwX1_reduced_2 : List UInt8 := [182, 0, 204, 21, 5, 160, 0, 8, 21, 7, 167, 0, 5, 21, 4, 54, 4, 132, 6, 255, 167, 255, 217]
abbrev dktX1_reduced_2 : List UInt8 := dkwX1_reduced_2 ++ dktX1_reduced_3
def dkwX1_reduced_1 : List UInt8 := [16, 15, 54, 6, 21, 6, 155, 0, 40, 21, 4, 4, 21, 6, 120, 2, 130, 126, 54, 7, 45, 21, 7]
abbrev dktX1_reduced_1 : List UInt8 := dkwX1_reduced_1 ++ dktX1_reduced_2
def dkwX1_reduced_0 : List UInt8 := [42, 27, 28, 182, 0, 174, 78, 45, 180, 0, 201, 180, 0, 198, 54, 4, 45, 21, 4, 182, 0, 204, 54, 5]
abbrev dktX1_reduced_0 : List UInt8 := dkwX1_reduced_0 ++ dktX1_reduced_1
theorem dksX1_reduced_0 : cX1_reduced.data.toList.drop 0 = dktX1_reduced_0 := by decide +kernel
theorem dksX1_reduced_1 : cX1_reduced.data.toList.drop 24 = dktX1_reduced_1 := dk_seg dksX1_reduced_0 24 rfl rfl
theorem dksX1_reduced_2 : cX1_reduced.data.toList.drop 47 = dktX1_reduced_2 := dk_seg dksX1_reduced_1 23 rfl rfl
theorem dksX1_reduced_3 : cX1_reduced.data.toList.drop 70 = dktX1_reduced_3 := dk_seg dksX1_reduced_2 23 rfl rfl
theorem dX1_reduced_0 : decode cX1_reduced 0 = .ok (.aload_n 0, 1) := dk_42 (dk_at dksX1_reduced_0 0 rfl rfl)
theorem dX1_reduced_1 : decode cX1_reduced 1 = .ok (.iload_n 1, 1) := dk_27 (dk_at dksX1_reduced_0 1 rfl rfl)
theorem dX1_reduced_2 : decode cX1_reduced 2 = .ok (.iload_n 2, 1) := dk_28 (dk_at dksX1_reduced_0 2 rfl rfl)
theorem dX1_reduced_3 : decode cX1_reduced 3 = .ok (.invokevirtual 174, 3) := dk_182 0 174 (dk_at dksX1_reduced_0 3 rfl rfl)
theorem dX1_reduced_6 : decode cX1_reduced 6 = .ok (.astore_n 3, 1) := dk_78 (dk_at dksX1_reduced_0 6 rfl rfl)
theorem dX1_reduced_7 : decode cX1_reduced 7 = .ok (.aload_n 3, 1) := dk_45 (dk_at dksX1_reduced_0 7 rfl rfl)
theorem dX1_reduced_8 : decode cX1_reduced 8 = .ok (.getfield 201, 3) := dk_180 0 201 (dk_at dksX1_reduced_0 8 rfl rfl)
theorem dX1_reduced_11 : decode cX1_reduced 11 = .ok (.getfield 198, 3) := dk_180 0 198 (dk_at dksX1_reduced_0 11 rfl rfl)
theorem dX1_reduced_14 : decode cX1_reduced 14 = .ok (.istore 4, 2) := dk_54 4 (dk_at dksX1_reduced_0 14 rfl rfl)
theorem dX1_reduced_16 : decode cX1_reduced 16 = .ok (.aload_n 3, 1) := dk_45 (dk_at dksX1_reduced_0 16 rfl rfl)
theorem dX1_reduced_17 : decode cX1_reduced 17 = .ok (.iload 4, 2) := dk_21 4 (dk_at dksX1_reduced_0 17 rfl rfl)
theorem dX1_reduced_19 : decode cX1_reduced 19 = .ok (.invokevirtual 204, 3) := dk_182 0 204 (dk_at dksX1_reduced_0 19 rfl rfl)
theorem dX1_reduced_22 : decode cX1_reduced 22 = .ok (.istore 5, 2) := dk_54 5 (dk_at dksX1_reduced_0 22 rfl rfl)
theorem dX1_reduced_24 : decode cX1_reduced 24 = .ok (.bipush 15, 2) := dk_16 15 (dk_at dksX1_reduced_1 0 rfl rfl)
theorem dX1_reduced_26 : decode cX1_reduced 26 = .ok (.istore 6, 2) := dk_54 6 (dk_at dksX1_reduced_1 2 rfl rfl)
theorem dX1_reduced_28 : decode cX1_reduced 28 = .ok (.iload 6, 2) := dk_21 6 (dk_at dksX1_reduced_1 4 rfl rfl)
theorem dX1_reduced_30 : decode cX1_reduced 30 = .ok (.ifCond .lt 40, 3) := dk_155 0 40 (dk_at dksX1_reduced_1 6 rfl rfl)
theorem dX1_reduced_33 : decode cX1_reduced 33 = .ok (.iload 4, 2) := dk_21 4 (dk_at dksX1_reduced_1 9 rfl rfl)
theorem dX1_reduced_35 : decode cX1_reduced 35 = .ok (.iconst 1, 1) := dk_4 (dk_at dksX1_reduced_1 11 rfl rfl)
theorem dX1_reduced_36 : decode cX1_reduced 36 = .ok (.iload 6, 2) := dk_21 6 (dk_at dksX1_reduced_1 12 rfl rfl)
theorem dX1_reduced_38 : decode cX1_reduced 38 = .ok (.ishl, 1) := dk_120 (dk_at dksX1_reduced_1 14 rfl rfl)
theorem dX1_reduced_39 : decode cX1_reduced 39 = .ok (.iconst (-1), 1) := dk_2 (dk_at dksX1_reduced_1 15 rfl rfl)
theorem dX1_reduced_40 : decode cX1_reduced 40 = .ok (.ixor, 1) := dk_130 (dk_at dksX1_reduced_1 16 rfl rfl)
theorem dX1_reduced_41 : decode cX1_reduced 41 = .ok (.iand, 1) := dk_126 (dk_at dksX1_reduced_1 17 rfl rfl)
theorem dX1_reduced_42 : decode cX1_reduced 42 = .ok (.istore 7, 2) := dk_54 7 (dk_at dksX1_reduced_1 18 rfl rfl)
theorem dX1_reduced_44 : decode cX1_reduced 44 = .ok (.aload_n 3, 1) := dk_45 (dk_at dksX1_reduced_1 20 rfl rfl)
theorem dX1_reduced_45 : decode cX1_reduced 45 = .ok (.iload 7, 2) := dk_21 7 (dk_at dksX1_reduced_1 21 rfl rfl)
theorem dX1_reduced_47 : decode cX1_reduced 47 = .ok (.invokevirtual 204, 3) := dk_182 0 204 (dk_at dksX1_reduced_2 0 rfl rfl)
theorem dX1_reduced_50 : decode cX1_reduced 50 = .ok (.iload 5, 2) := dk_21 5 (dk_at dksX1_reduced_2 3 rfl rfl)
theorem dX1_reduced_52 : decode cX1_reduced 52 = .ok (.if_icmp .ne 8, 3) := dk_160 0 8 (dk_at dksX1_reduced_2 5 rfl rfl)
theorem dX1_reduced_55 : decode cX1_reduced 55 = .ok (.iload 7, 2) := dk_21 7 (dk_at dksX1_reduced_2 8 rfl rfl)
theorem dX1_reduced_57 : decode cX1_reduced 57 = .ok (.goto 5, 3) := dk_167 0 5 (dk_at dksX1_reduced_2 10 rfl rfl)
theorem dX1_reduced_60 : decode cX1_reduced 60 = .ok (.iload 4, 2) := dk_21 4 (dk_at dksX1_reduced_2 13 rfl rfl)
theorem dX1_reduced_62 : decode cX1_reduced 62 = .ok (.istore 4, 2) := dk_54 4 (dk_at dksX1_reduced_2 15 rfl rfl)
theorem dX1_reduced_64 : decode cX1_reduced 64 = .ok (.iinc 6 (-1), 3) := dk_132 6 255 (dk_at dksX1_reduced_2 17 rfl rfl)
theorem dX1_reduced_67 : decode cX1_reduced 67 = .ok (.goto (-39), 3) := dk_167 255 217 (dk_at dksX1_reduced_2 20 rfl rfl)
theorem dX1_reduced_70 : decode cX1_reduced 70 = .ok (.iload 4, 2) := dk_21 4 (dk_at dksX1_reduced_3 0 rfl rfl)
theorem dX1_reduced_72 : decode cX1_reduced 72 = .ok (.ireturn, 1) := dk_172 (dk_at dksX1_reduced_3 2 rfl rfl)
abbrev cX1_tableErrors : ByteArray := prog_1_method_42_code
def yX1_tableErrors : MethodName := ⟨RX1, "tableErrors", "(I)I"⟩
def dkwX1_tableErrors_8 : List UInt8 := [167, 255, 123, 21, 4, 172]
abbrev dktX1_tableErrors_8 : List UInt8 := dkwX1_tableErrors_8 ++ []
def dkwX1_tableErrors_7 : List UInt8 := [182, 0, 131, 5, 160, 0, 7, 4, 167, 0, 4, 3, 96, 54, 4, 132, 7, 1, 167, 255, 170, 132, 5, 1]
abbrev dktX1_tableErrors_7 : List UInt8 := dkwX1_tableErrors_7 ++ dktX1_tableErrors_8
def dkwX1_tableErrors_6 : List UInt8 := [160, 0, 7, 3, 167, 0, 4, 4, 96, 54, 4, 21, 4, 21, 8, 153, 0, 19, 44, 21, 7, 21, 5]
abbrev dktX1_tableErrors_6 : List UInt8 := dkwX1_tableErrors_6 ++ dktX1_tableErrors_7
def dkwX1_tableErrors_5 : List UInt8 := [159, 0, 7, 4, 167, 0, 4, 3, 54, 8, 21, 4, 21, 8, 44, 21, 7, 21, 5, 182, 0, 135]
abbrev dktX1_tableErrors_5 : List UInt8 := dkwX1_tableErrors_5 ++ dktX1_tableErrors_6
def dkwX1_tableErrors_4 : List UInt8 := [21, 7, 44, 180, 0, 111, 190, 162, 0, 82, 45, 21, 6, 51, 45, 21, 6, 4, 21, 7, 120, 130, 51]
abbrev dktX1_tableErrors_4 : List UInt8 := dkwX1_tableErrors_4 ++ dktX1_tableErrors_5
def dkwX1_tableErrors_3 : List UInt8 := [21, 6, 51, 44, 21, 5, 182, 0, 127, 160, 0, 7, 3, 167, 0, 4, 4, 96, 54, 4, 3, 54, 7]
abbrev dktX1_tableErrors_3 : List UInt8 := dkwX1_tableErrors_3 ++ dktX1_tableErrors_4
def dkwX1_tableErrors_2 : List UInt8 := [3, 54, 4, 3, 54, 5, 21, 5, 16, 16, 162, 0, 132, 44, 21, 5, 182, 0, 215, 54, 6, 21, 4, 45]
abbrev dktX1_tableErrors_2 : List UInt8 := dkwX1_tableErrors_2 ++ dktX1_tableErrors_3
def dkwX1_tableErrors_1 : List UInt8 := [162, 0, 24, 45, 21, 4, 44, 180, 0, 114, 21, 4, 185, 0, 212, 2, 0, 84, 132, 4, 1, 167, 255, 231]
abbrev dktX1_tableErrors_1 : List UInt8 := dkwX1_tableErrors_1 ++ dktX1_tableErrors_2
def dkwX1_tableErrors_0 : List UInt8 := [42, 27, 182, 0, 107, 77, 4, 44, 180, 0, 111, 190, 120, 188, 4, 78, 3, 54, 4, 21, 4, 45, 190]
abbrev dktX1_tableErrors_0 : List UInt8 := dkwX1_tableErrors_0 ++ dktX1_tableErrors_1
theorem dksX1_tableErrors_0 : cX1_tableErrors.data.toList.drop 0 = dktX1_tableErrors_0 := by decide +kernel
theorem dksX1_tableErrors_1 : cX1_tableErrors.data.toList.drop 23 = dktX1_tableErrors_1 := dk_seg dksX1_tableErrors_0 23 rfl rfl
theorem dksX1_tableErrors_2 : cX1_tableErrors.data.toList.drop 47 = dktX1_tableErrors_2 := dk_seg dksX1_tableErrors_1 24 rfl rfl
theorem dksX1_tableErrors_3 : cX1_tableErrors.data.toList.drop 71 = dktX1_tableErrors_3 := dk_seg dksX1_tableErrors_2 24 rfl rfl
theorem dksX1_tableErrors_4 : cX1_tableErrors.data.toList.drop 94 = dktX1_tableErrors_4 := dk_seg dksX1_tableErrors_3 23 rfl rfl
theorem dksX1_tableErrors_5 : cX1_tableErrors.data.toList.drop 117 = dktX1_tableErrors_5 := dk_seg dksX1_tableErrors_4 23 rfl rfl
theorem dksX1_tableErrors_6 : cX1_tableErrors.data.toList.drop 139 = dktX1_tableErrors_6 := dk_seg dksX1_tableErrors_5 22 rfl rfl
theorem dksX1_tableErrors_7 : cX1_tableErrors.data.toList.drop 162 = dktX1_tableErrors_7 := dk_seg dksX1_tableErrors_6 23 rfl rfl
theorem dksX1_tableErrors_8 : cX1_tableErrors.data.toList.drop 186 = dktX1_tableErrors_8 := dk_seg dksX1_tableErrors_7 24 rfl rfl
theorem dX1_tableErrors_0 : decode cX1_tableErrors 0 = .ok (.aload_n 0, 1) := dk_42 (dk_at dksX1_tableErrors_0 0 rfl rfl)
theorem dX1_tableErrors_1 : decode cX1_tableErrors 1 = .ok (.iload_n 1, 1) := dk_27 (dk_at dksX1_tableErrors_0 1 rfl rfl)
theorem dX1_tableErrors_2 : decode cX1_tableErrors 2 = .ok (.invokevirtual 107, 3) := dk_182 0 107 (dk_at dksX1_tableErrors_0 2 rfl rfl)
theorem dX1_tableErrors_5 : decode cX1_tableErrors 5 = .ok (.astore_n 2, 1) := dk_77 (dk_at dksX1_tableErrors_0 5 rfl rfl)
theorem dX1_tableErrors_6 : decode cX1_tableErrors 6 = .ok (.iconst 1, 1) := dk_4 (dk_at dksX1_tableErrors_0 6 rfl rfl)
theorem dX1_tableErrors_7 : decode cX1_tableErrors 7 = .ok (.aload_n 2, 1) := dk_44 (dk_at dksX1_tableErrors_0 7 rfl rfl)
theorem dX1_tableErrors_8 : decode cX1_tableErrors 8 = .ok (.getfield 111, 3) := dk_180 0 111 (dk_at dksX1_tableErrors_0 8 rfl rfl)
theorem dX1_tableErrors_11 : decode cX1_tableErrors 11 = .ok (.arraylength, 1) := dk_190 (dk_at dksX1_tableErrors_0 11 rfl rfl)
theorem dX1_tableErrors_12 : decode cX1_tableErrors 12 = .ok (.ishl, 1) := dk_120 (dk_at dksX1_tableErrors_0 12 rfl rfl)
theorem dX1_tableErrors_13 : decode cX1_tableErrors 13 = .ok (.newarray .boolean, 2) := dk_188_4 (dk_at dksX1_tableErrors_0 13 rfl rfl)
theorem dX1_tableErrors_15 : decode cX1_tableErrors 15 = .ok (.astore_n 3, 1) := dk_78 (dk_at dksX1_tableErrors_0 15 rfl rfl)
theorem dX1_tableErrors_16 : decode cX1_tableErrors 16 = .ok (.iconst 0, 1) := dk_3 (dk_at dksX1_tableErrors_0 16 rfl rfl)
theorem dX1_tableErrors_17 : decode cX1_tableErrors 17 = .ok (.istore 4, 2) := dk_54 4 (dk_at dksX1_tableErrors_0 17 rfl rfl)
theorem dX1_tableErrors_19 : decode cX1_tableErrors 19 = .ok (.iload 4, 2) := dk_21 4 (dk_at dksX1_tableErrors_0 19 rfl rfl)
theorem dX1_tableErrors_21 : decode cX1_tableErrors 21 = .ok (.aload_n 3, 1) := dk_45 (dk_at dksX1_tableErrors_0 21 rfl rfl)
theorem dX1_tableErrors_22 : decode cX1_tableErrors 22 = .ok (.arraylength, 1) := dk_190 (dk_at dksX1_tableErrors_0 22 rfl rfl)
theorem dX1_tableErrors_23 : decode cX1_tableErrors 23 = .ok (.if_icmp .ge 24, 3) := dk_162 0 24 (dk_at dksX1_tableErrors_1 0 rfl rfl)
theorem dX1_tableErrors_26 : decode cX1_tableErrors 26 = .ok (.aload_n 3, 1) := dk_45 (dk_at dksX1_tableErrors_1 3 rfl rfl)
theorem dX1_tableErrors_27 : decode cX1_tableErrors 27 = .ok (.iload 4, 2) := dk_21 4 (dk_at dksX1_tableErrors_1 4 rfl rfl)
theorem dX1_tableErrors_29 : decode cX1_tableErrors 29 = .ok (.aload_n 2, 1) := dk_44 (dk_at dksX1_tableErrors_1 6 rfl rfl)
theorem dX1_tableErrors_30 : decode cX1_tableErrors 30 = .ok (.getfield 114, 3) := dk_180 0 114 (dk_at dksX1_tableErrors_1 7 rfl rfl)
theorem dX1_tableErrors_33 : decode cX1_tableErrors 33 = .ok (.iload 4, 2) := dk_21 4 (dk_at dksX1_tableErrors_1 10 rfl rfl)
theorem dX1_tableErrors_35 : decode cX1_tableErrors 35 = .ok (.invokeinterface 212 2, 5) := by decide +kernel
theorem dX1_tableErrors_40 : decode cX1_tableErrors 40 = .ok (.bastore, 1) := dk_84 (dk_at dksX1_tableErrors_1 17 rfl rfl)
theorem dX1_tableErrors_41 : decode cX1_tableErrors 41 = .ok (.iinc 4 1, 3) := dk_132 4 1 (dk_at dksX1_tableErrors_1 18 rfl rfl)
theorem dX1_tableErrors_44 : decode cX1_tableErrors 44 = .ok (.goto (-25), 3) := dk_167 255 231 (dk_at dksX1_tableErrors_1 21 rfl rfl)
theorem dX1_tableErrors_47 : decode cX1_tableErrors 47 = .ok (.iconst 0, 1) := dk_3 (dk_at dksX1_tableErrors_2 0 rfl rfl)
theorem dX1_tableErrors_48 : decode cX1_tableErrors 48 = .ok (.istore 4, 2) := dk_54 4 (dk_at dksX1_tableErrors_2 1 rfl rfl)
theorem dX1_tableErrors_50 : decode cX1_tableErrors 50 = .ok (.iconst 0, 1) := dk_3 (dk_at dksX1_tableErrors_2 3 rfl rfl)
theorem dX1_tableErrors_51 : decode cX1_tableErrors 51 = .ok (.istore 5, 2) := dk_54 5 (dk_at dksX1_tableErrors_2 4 rfl rfl)
theorem dX1_tableErrors_53 : decode cX1_tableErrors 53 = .ok (.iload 5, 2) := dk_21 5 (dk_at dksX1_tableErrors_2 6 rfl rfl)
theorem dX1_tableErrors_55 : decode cX1_tableErrors 55 = .ok (.bipush 16, 2) := dk_16 16 (dk_at dksX1_tableErrors_2 8 rfl rfl)
theorem dX1_tableErrors_57 : decode cX1_tableErrors 57 = .ok (.if_icmp .ge 132, 3) := dk_162 0 132 (dk_at dksX1_tableErrors_2 10 rfl rfl)
theorem dX1_tableErrors_60 : decode cX1_tableErrors 60 = .ok (.aload_n 2, 1) := dk_44 (dk_at dksX1_tableErrors_2 13 rfl rfl)
theorem dX1_tableErrors_61 : decode cX1_tableErrors 61 = .ok (.iload 5, 2) := dk_21 5 (dk_at dksX1_tableErrors_2 14 rfl rfl)
theorem dX1_tableErrors_63 : decode cX1_tableErrors 63 = .ok (.invokevirtual 215, 3) := dk_182 0 215 (dk_at dksX1_tableErrors_2 16 rfl rfl)
theorem dX1_tableErrors_66 : decode cX1_tableErrors 66 = .ok (.istore 6, 2) := dk_54 6 (dk_at dksX1_tableErrors_2 19 rfl rfl)
theorem dX1_tableErrors_68 : decode cX1_tableErrors 68 = .ok (.iload 4, 2) := dk_21 4 (dk_at dksX1_tableErrors_2 21 rfl rfl)
theorem dX1_tableErrors_70 : decode cX1_tableErrors 70 = .ok (.aload_n 3, 1) := dk_45 (dk_at dksX1_tableErrors_2 23 rfl rfl)
theorem dX1_tableErrors_71 : decode cX1_tableErrors 71 = .ok (.iload 6, 2) := dk_21 6 (dk_at dksX1_tableErrors_3 0 rfl rfl)
theorem dX1_tableErrors_73 : decode cX1_tableErrors 73 = .ok (.baload, 1) := dk_51 (dk_at dksX1_tableErrors_3 2 rfl rfl)
theorem dX1_tableErrors_74 : decode cX1_tableErrors 74 = .ok (.aload_n 2, 1) := dk_44 (dk_at dksX1_tableErrors_3 3 rfl rfl)
theorem dX1_tableErrors_75 : decode cX1_tableErrors 75 = .ok (.iload 5, 2) := dk_21 5 (dk_at dksX1_tableErrors_3 4 rfl rfl)
theorem dX1_tableErrors_77 : decode cX1_tableErrors 77 = .ok (.invokevirtual 127, 3) := dk_182 0 127 (dk_at dksX1_tableErrors_3 6 rfl rfl)
theorem dX1_tableErrors_80 : decode cX1_tableErrors 80 = .ok (.if_icmp .ne 7, 3) := dk_160 0 7 (dk_at dksX1_tableErrors_3 9 rfl rfl)
theorem dX1_tableErrors_83 : decode cX1_tableErrors 83 = .ok (.iconst 0, 1) := dk_3 (dk_at dksX1_tableErrors_3 12 rfl rfl)
theorem dX1_tableErrors_84 : decode cX1_tableErrors 84 = .ok (.goto 4, 3) := dk_167 0 4 (dk_at dksX1_tableErrors_3 13 rfl rfl)
theorem dX1_tableErrors_87 : decode cX1_tableErrors 87 = .ok (.iconst 1, 1) := dk_4 (dk_at dksX1_tableErrors_3 16 rfl rfl)
theorem dX1_tableErrors_88 : decode cX1_tableErrors 88 = .ok (.iadd, 1) := dk_96 (dk_at dksX1_tableErrors_3 17 rfl rfl)
theorem dX1_tableErrors_89 : decode cX1_tableErrors 89 = .ok (.istore 4, 2) := dk_54 4 (dk_at dksX1_tableErrors_3 18 rfl rfl)
theorem dX1_tableErrors_91 : decode cX1_tableErrors 91 = .ok (.iconst 0, 1) := dk_3 (dk_at dksX1_tableErrors_3 20 rfl rfl)
theorem dX1_tableErrors_92 : decode cX1_tableErrors 92 = .ok (.istore 7, 2) := dk_54 7 (dk_at dksX1_tableErrors_3 21 rfl rfl)
theorem dX1_tableErrors_94 : decode cX1_tableErrors 94 = .ok (.iload 7, 2) := dk_21 7 (dk_at dksX1_tableErrors_4 0 rfl rfl)
theorem dX1_tableErrors_96 : decode cX1_tableErrors 96 = .ok (.aload_n 2, 1) := dk_44 (dk_at dksX1_tableErrors_4 2 rfl rfl)
theorem dX1_tableErrors_97 : decode cX1_tableErrors 97 = .ok (.getfield 111, 3) := dk_180 0 111 (dk_at dksX1_tableErrors_4 3 rfl rfl)
theorem dX1_tableErrors_100 : decode cX1_tableErrors 100 = .ok (.arraylength, 1) := dk_190 (dk_at dksX1_tableErrors_4 6 rfl rfl)
theorem dX1_tableErrors_101 : decode cX1_tableErrors 101 = .ok (.if_icmp .ge 82, 3) := dk_162 0 82 (dk_at dksX1_tableErrors_4 7 rfl rfl)
theorem dX1_tableErrors_104 : decode cX1_tableErrors 104 = .ok (.aload_n 3, 1) := dk_45 (dk_at dksX1_tableErrors_4 10 rfl rfl)
theorem dX1_tableErrors_105 : decode cX1_tableErrors 105 = .ok (.iload 6, 2) := dk_21 6 (dk_at dksX1_tableErrors_4 11 rfl rfl)
theorem dX1_tableErrors_107 : decode cX1_tableErrors 107 = .ok (.baload, 1) := dk_51 (dk_at dksX1_tableErrors_4 13 rfl rfl)
theorem dX1_tableErrors_108 : decode cX1_tableErrors 108 = .ok (.aload_n 3, 1) := dk_45 (dk_at dksX1_tableErrors_4 14 rfl rfl)
theorem dX1_tableErrors_109 : decode cX1_tableErrors 109 = .ok (.iload 6, 2) := dk_21 6 (dk_at dksX1_tableErrors_4 15 rfl rfl)
theorem dX1_tableErrors_111 : decode cX1_tableErrors 111 = .ok (.iconst 1, 1) := dk_4 (dk_at dksX1_tableErrors_4 17 rfl rfl)
theorem dX1_tableErrors_112 : decode cX1_tableErrors 112 = .ok (.iload 7, 2) := dk_21 7 (dk_at dksX1_tableErrors_4 18 rfl rfl)
theorem dX1_tableErrors_114 : decode cX1_tableErrors 114 = .ok (.ishl, 1) := dk_120 (dk_at dksX1_tableErrors_4 20 rfl rfl)
theorem dX1_tableErrors_115 : decode cX1_tableErrors 115 = .ok (.ixor, 1) := dk_130 (dk_at dksX1_tableErrors_4 21 rfl rfl)
theorem dX1_tableErrors_116 : decode cX1_tableErrors 116 = .ok (.baload, 1) := dk_51 (dk_at dksX1_tableErrors_4 22 rfl rfl)
theorem dX1_tableErrors_117 : decode cX1_tableErrors 117 = .ok (.if_icmp .eq 7, 3) := dk_159 0 7 (dk_at dksX1_tableErrors_5 0 rfl rfl)
theorem dX1_tableErrors_120 : decode cX1_tableErrors 120 = .ok (.iconst 1, 1) := dk_4 (dk_at dksX1_tableErrors_5 3 rfl rfl)
theorem dX1_tableErrors_121 : decode cX1_tableErrors 121 = .ok (.goto 4, 3) := dk_167 0 4 (dk_at dksX1_tableErrors_5 4 rfl rfl)
theorem dX1_tableErrors_124 : decode cX1_tableErrors 124 = .ok (.iconst 0, 1) := dk_3 (dk_at dksX1_tableErrors_5 7 rfl rfl)
theorem dX1_tableErrors_125 : decode cX1_tableErrors 125 = .ok (.istore 8, 2) := dk_54 8 (dk_at dksX1_tableErrors_5 8 rfl rfl)
theorem dX1_tableErrors_127 : decode cX1_tableErrors 127 = .ok (.iload 4, 2) := dk_21 4 (dk_at dksX1_tableErrors_5 10 rfl rfl)
theorem dX1_tableErrors_129 : decode cX1_tableErrors 129 = .ok (.iload 8, 2) := dk_21 8 (dk_at dksX1_tableErrors_5 12 rfl rfl)
theorem dX1_tableErrors_131 : decode cX1_tableErrors 131 = .ok (.aload_n 2, 1) := dk_44 (dk_at dksX1_tableErrors_5 14 rfl rfl)
theorem dX1_tableErrors_132 : decode cX1_tableErrors 132 = .ok (.iload 7, 2) := dk_21 7 (dk_at dksX1_tableErrors_5 15 rfl rfl)
theorem dX1_tableErrors_134 : decode cX1_tableErrors 134 = .ok (.iload 5, 2) := dk_21 5 (dk_at dksX1_tableErrors_5 17 rfl rfl)
theorem dX1_tableErrors_136 : decode cX1_tableErrors 136 = .ok (.invokevirtual 135, 3) := dk_182 0 135 (dk_at dksX1_tableErrors_5 19 rfl rfl)
theorem dX1_tableErrors_139 : decode cX1_tableErrors 139 = .ok (.if_icmp .ne 7, 3) := dk_160 0 7 (dk_at dksX1_tableErrors_6 0 rfl rfl)
theorem dX1_tableErrors_142 : decode cX1_tableErrors 142 = .ok (.iconst 0, 1) := dk_3 (dk_at dksX1_tableErrors_6 3 rfl rfl)
theorem dX1_tableErrors_143 : decode cX1_tableErrors 143 = .ok (.goto 4, 3) := dk_167 0 4 (dk_at dksX1_tableErrors_6 4 rfl rfl)
theorem dX1_tableErrors_146 : decode cX1_tableErrors 146 = .ok (.iconst 1, 1) := dk_4 (dk_at dksX1_tableErrors_6 7 rfl rfl)
theorem dX1_tableErrors_147 : decode cX1_tableErrors 147 = .ok (.iadd, 1) := dk_96 (dk_at dksX1_tableErrors_6 8 rfl rfl)
theorem dX1_tableErrors_148 : decode cX1_tableErrors 148 = .ok (.istore 4, 2) := dk_54 4 (dk_at dksX1_tableErrors_6 9 rfl rfl)
theorem dX1_tableErrors_150 : decode cX1_tableErrors 150 = .ok (.iload 4, 2) := dk_21 4 (dk_at dksX1_tableErrors_6 11 rfl rfl)
theorem dX1_tableErrors_152 : decode cX1_tableErrors 152 = .ok (.iload 8, 2) := dk_21 8 (dk_at dksX1_tableErrors_6 13 rfl rfl)
theorem dX1_tableErrors_154 : decode cX1_tableErrors 154 = .ok (.ifCond .eq 19, 3) := dk_153 0 19 (dk_at dksX1_tableErrors_6 15 rfl rfl)
theorem dX1_tableErrors_157 : decode cX1_tableErrors 157 = .ok (.aload_n 2, 1) := dk_44 (dk_at dksX1_tableErrors_6 18 rfl rfl)
theorem dX1_tableErrors_158 : decode cX1_tableErrors 158 = .ok (.iload 7, 2) := dk_21 7 (dk_at dksX1_tableErrors_6 19 rfl rfl)
theorem dX1_tableErrors_160 : decode cX1_tableErrors 160 = .ok (.iload 5, 2) := dk_21 5 (dk_at dksX1_tableErrors_6 21 rfl rfl)
theorem dX1_tableErrors_162 : decode cX1_tableErrors 162 = .ok (.invokevirtual 131, 3) := dk_182 0 131 (dk_at dksX1_tableErrors_7 0 rfl rfl)
theorem dX1_tableErrors_165 : decode cX1_tableErrors 165 = .ok (.iconst 2, 1) := dk_5 (dk_at dksX1_tableErrors_7 3 rfl rfl)
theorem dX1_tableErrors_166 : decode cX1_tableErrors 166 = .ok (.if_icmp .ne 7, 3) := dk_160 0 7 (dk_at dksX1_tableErrors_7 4 rfl rfl)
theorem dX1_tableErrors_169 : decode cX1_tableErrors 169 = .ok (.iconst 1, 1) := dk_4 (dk_at dksX1_tableErrors_7 7 rfl rfl)
theorem dX1_tableErrors_170 : decode cX1_tableErrors 170 = .ok (.goto 4, 3) := dk_167 0 4 (dk_at dksX1_tableErrors_7 8 rfl rfl)
theorem dX1_tableErrors_173 : decode cX1_tableErrors 173 = .ok (.iconst 0, 1) := dk_3 (dk_at dksX1_tableErrors_7 11 rfl rfl)
theorem dX1_tableErrors_174 : decode cX1_tableErrors 174 = .ok (.iadd, 1) := dk_96 (dk_at dksX1_tableErrors_7 12 rfl rfl)
theorem dX1_tableErrors_175 : decode cX1_tableErrors 175 = .ok (.istore 4, 2) := dk_54 4 (dk_at dksX1_tableErrors_7 13 rfl rfl)
theorem dX1_tableErrors_177 : decode cX1_tableErrors 177 = .ok (.iinc 7 1, 3) := dk_132 7 1 (dk_at dksX1_tableErrors_7 15 rfl rfl)
theorem dX1_tableErrors_180 : decode cX1_tableErrors 180 = .ok (.goto (-86), 3) := dk_167 255 170 (dk_at dksX1_tableErrors_7 18 rfl rfl)
theorem dX1_tableErrors_183 : decode cX1_tableErrors 183 = .ok (.iinc 5 1, 3) := dk_132 5 1 (dk_at dksX1_tableErrors_7 21 rfl rfl)
theorem dX1_tableErrors_186 : decode cX1_tableErrors 186 = .ok (.goto (-133), 3) := dk_167 255 123 (dk_at dksX1_tableErrors_8 0 rfl rfl)
theorem dX1_tableErrors_189 : decode cX1_tableErrors 189 = .ok (.iload 4, 2) := dk_21 4 (dk_at dksX1_tableErrors_8 3 rfl rfl)
theorem dX1_tableErrors_191 : decode cX1_tableErrors 191 = .ok (.ireturn, 1) := dk_172 (dk_at dksX1_tableErrors_8 5 rfl rfl)
abbrev cX1_meanAsked : ByteArray := prog_1_method_43_code
def yX1_meanAsked : MethodName := ⟨RX1, "meanAsked", "(I)D"⟩
def dkwX1_meanAsked_2 : List UInt8 := [167, 255, 222, 21, 4, 154, 0, 7, 14, 167, 0, 9, 29, 135, 21, 4, 135, 111, 175]
abbrev dktX1_meanAsked_2 : List UInt8 := dkwX1_meanAsked_2 ++ []
def dkwX1_meanAsked_1 : List UInt8 := [182, 0, 139, 153, 0, 18, 29, 44, 21, 5, 182, 0, 218, 182, 0, 222, 96, 62, 132, 4, 1, 132, 5, 1]
abbrev dktX1_meanAsked_1 : List UInt8 := dkwX1_meanAsked_1 ++ dktX1_meanAsked_2
def dkwX1_meanAsked_0 : List UInt8 := [42, 27, 182, 0, 107, 77, 3, 62, 3, 54, 4, 3, 54, 5, 21, 5, 16, 16, 162, 0, 33, 42, 21, 5]
abbrev dktX1_meanAsked_0 : List UInt8 := dkwX1_meanAsked_0 ++ dktX1_meanAsked_1
theorem dksX1_meanAsked_0 : cX1_meanAsked.data.toList.drop 0 = dktX1_meanAsked_0 := by decide +kernel
theorem dksX1_meanAsked_1 : cX1_meanAsked.data.toList.drop 24 = dktX1_meanAsked_1 := dk_seg dksX1_meanAsked_0 24 rfl rfl
theorem dksX1_meanAsked_2 : cX1_meanAsked.data.toList.drop 48 = dktX1_meanAsked_2 := dk_seg dksX1_meanAsked_1 24 rfl rfl
theorem dX1_meanAsked_0 : decode cX1_meanAsked 0 = .ok (.aload_n 0, 1) := dk_42 (dk_at dksX1_meanAsked_0 0 rfl rfl)
theorem dX1_meanAsked_1 : decode cX1_meanAsked 1 = .ok (.iload_n 1, 1) := dk_27 (dk_at dksX1_meanAsked_0 1 rfl rfl)
theorem dX1_meanAsked_2 : decode cX1_meanAsked 2 = .ok (.invokevirtual 107, 3) := dk_182 0 107 (dk_at dksX1_meanAsked_0 2 rfl rfl)
theorem dX1_meanAsked_5 : decode cX1_meanAsked 5 = .ok (.astore_n 2, 1) := dk_77 (dk_at dksX1_meanAsked_0 5 rfl rfl)
theorem dX1_meanAsked_6 : decode cX1_meanAsked 6 = .ok (.iconst 0, 1) := dk_3 (dk_at dksX1_meanAsked_0 6 rfl rfl)
theorem dX1_meanAsked_7 : decode cX1_meanAsked 7 = .ok (.istore_n 3, 1) := dk_62 (dk_at dksX1_meanAsked_0 7 rfl rfl)
theorem dX1_meanAsked_8 : decode cX1_meanAsked 8 = .ok (.iconst 0, 1) := dk_3 (dk_at dksX1_meanAsked_0 8 rfl rfl)
theorem dX1_meanAsked_9 : decode cX1_meanAsked 9 = .ok (.istore 4, 2) := dk_54 4 (dk_at dksX1_meanAsked_0 9 rfl rfl)
theorem dX1_meanAsked_11 : decode cX1_meanAsked 11 = .ok (.iconst 0, 1) := dk_3 (dk_at dksX1_meanAsked_0 11 rfl rfl)
theorem dX1_meanAsked_12 : decode cX1_meanAsked 12 = .ok (.istore 5, 2) := dk_54 5 (dk_at dksX1_meanAsked_0 12 rfl rfl)
theorem dX1_meanAsked_14 : decode cX1_meanAsked 14 = .ok (.iload 5, 2) := dk_21 5 (dk_at dksX1_meanAsked_0 14 rfl rfl)
theorem dX1_meanAsked_16 : decode cX1_meanAsked 16 = .ok (.bipush 16, 2) := dk_16 16 (dk_at dksX1_meanAsked_0 16 rfl rfl)
theorem dX1_meanAsked_18 : decode cX1_meanAsked 18 = .ok (.if_icmp .ge 33, 3) := dk_162 0 33 (dk_at dksX1_meanAsked_0 18 rfl rfl)
theorem dX1_meanAsked_21 : decode cX1_meanAsked 21 = .ok (.aload_n 0, 1) := dk_42 (dk_at dksX1_meanAsked_0 21 rfl rfl)
theorem dX1_meanAsked_22 : decode cX1_meanAsked 22 = .ok (.iload 5, 2) := dk_21 5 (dk_at dksX1_meanAsked_0 22 rfl rfl)
theorem dX1_meanAsked_24 : decode cX1_meanAsked 24 = .ok (.invokevirtual 139, 3) := dk_182 0 139 (dk_at dksX1_meanAsked_1 0 rfl rfl)
theorem dX1_meanAsked_27 : decode cX1_meanAsked 27 = .ok (.ifCond .eq 18, 3) := dk_153 0 18 (dk_at dksX1_meanAsked_1 3 rfl rfl)
theorem dX1_meanAsked_30 : decode cX1_meanAsked 30 = .ok (.iload_n 3, 1) := dk_29 (dk_at dksX1_meanAsked_1 6 rfl rfl)
theorem dX1_meanAsked_31 : decode cX1_meanAsked 31 = .ok (.aload_n 2, 1) := dk_44 (dk_at dksX1_meanAsked_1 7 rfl rfl)
theorem dX1_meanAsked_32 : decode cX1_meanAsked 32 = .ok (.iload 5, 2) := dk_21 5 (dk_at dksX1_meanAsked_1 8 rfl rfl)
theorem dX1_meanAsked_34 : decode cX1_meanAsked 34 = .ok (.invokevirtual 218, 3) := dk_182 0 218 (dk_at dksX1_meanAsked_1 10 rfl rfl)
theorem dX1_meanAsked_37 : decode cX1_meanAsked 37 = .ok (.invokevirtual 222, 3) := dk_182 0 222 (dk_at dksX1_meanAsked_1 13 rfl rfl)
theorem dX1_meanAsked_40 : decode cX1_meanAsked 40 = .ok (.iadd, 1) := dk_96 (dk_at dksX1_meanAsked_1 16 rfl rfl)
theorem dX1_meanAsked_41 : decode cX1_meanAsked 41 = .ok (.istore_n 3, 1) := dk_62 (dk_at dksX1_meanAsked_1 17 rfl rfl)
theorem dX1_meanAsked_42 : decode cX1_meanAsked 42 = .ok (.iinc 4 1, 3) := dk_132 4 1 (dk_at dksX1_meanAsked_1 18 rfl rfl)
theorem dX1_meanAsked_45 : decode cX1_meanAsked 45 = .ok (.iinc 5 1, 3) := dk_132 5 1 (dk_at dksX1_meanAsked_1 21 rfl rfl)
theorem dX1_meanAsked_48 : decode cX1_meanAsked 48 = .ok (.goto (-34), 3) := dk_167 255 222 (dk_at dksX1_meanAsked_2 0 rfl rfl)
theorem dX1_meanAsked_51 : decode cX1_meanAsked 51 = .ok (.iload 4, 2) := dk_21 4 (dk_at dksX1_meanAsked_2 3 rfl rfl)
theorem dX1_meanAsked_53 : decode cX1_meanAsked 53 = .ok (.ifCond .ne 7, 3) := dk_154 0 7 (dk_at dksX1_meanAsked_2 5 rfl rfl)
theorem dX1_meanAsked_56 : decode cX1_meanAsked 56 = .ok (.dconst 0, 1) := dk_14 (dk_at dksX1_meanAsked_2 8 rfl rfl)
theorem dX1_meanAsked_57 : decode cX1_meanAsked 57 = .ok (.goto 9, 3) := dk_167 0 9 (dk_at dksX1_meanAsked_2 9 rfl rfl)
theorem dX1_meanAsked_60 : decode cX1_meanAsked 60 = .ok (.iload_n 3, 1) := dk_29 (dk_at dksX1_meanAsked_2 12 rfl rfl)
theorem dX1_meanAsked_61 : decode cX1_meanAsked 61 = .ok (.i2d, 1) := dk_135 (dk_at dksX1_meanAsked_2 13 rfl rfl)
theorem dX1_meanAsked_62 : decode cX1_meanAsked 62 = .ok (.iload 4, 2) := dk_21 4 (dk_at dksX1_meanAsked_2 14 rfl rfl)
theorem dX1_meanAsked_64 : decode cX1_meanAsked 64 = .ok (.i2d, 1) := dk_135 (dk_at dksX1_meanAsked_2 16 rfl rfl)
theorem dX1_meanAsked_65 : decode cX1_meanAsked 65 = .ok (.ddiv, 1) := dk_111 (dk_at dksX1_meanAsked_2 17 rfl rfl)
theorem dX1_meanAsked_66 : decode cX1_meanAsked 66 = .ok (.dreturn, 1) := dk_175 (dk_at dksX1_meanAsked_2 18 rfl rfl)
abbrev cX1_coverage : ByteArray := prog_1_method_44_code
def yX1_coverage : MethodName := ⟨RX1, "coverage", "(II)F"⟩
def dkwX1_coverage_2 : List UInt8 := [174]
abbrev dktX1_coverage_2 : List UInt8 := dkwX1_coverage_2 ++ []
def dkwX1_coverage_1 : List UInt8 := [182, 0, 204, 184, 0, 155, 54, 5, 21, 4, 154, 0, 7, 12, 167, 0, 10, 21, 5, 134, 21, 4, 134, 110]
abbrev dktX1_coverage_1 : List UInt8 := dkwX1_coverage_1 ++ dktX1_coverage_2
def dkwX1_coverage_0 : List UInt8 := [42, 27, 28, 182, 0, 174, 78, 45, 182, 0, 195, 184, 0, 155, 54, 4, 45, 45, 180, 0, 201, 180, 0, 198]
abbrev dktX1_coverage_0 : List UInt8 := dkwX1_coverage_0 ++ dktX1_coverage_1
theorem dksX1_coverage_0 : cX1_coverage.data.toList.drop 0 = dktX1_coverage_0 := by decide +kernel
theorem dksX1_coverage_1 : cX1_coverage.data.toList.drop 24 = dktX1_coverage_1 := dk_seg dksX1_coverage_0 24 rfl rfl
theorem dksX1_coverage_2 : cX1_coverage.data.toList.drop 48 = dktX1_coverage_2 := dk_seg dksX1_coverage_1 24 rfl rfl
theorem dX1_coverage_0 : decode cX1_coverage 0 = .ok (.aload_n 0, 1) := dk_42 (dk_at dksX1_coverage_0 0 rfl rfl)
theorem dX1_coverage_1 : decode cX1_coverage 1 = .ok (.iload_n 1, 1) := dk_27 (dk_at dksX1_coverage_0 1 rfl rfl)
theorem dX1_coverage_2 : decode cX1_coverage 2 = .ok (.iload_n 2, 1) := dk_28 (dk_at dksX1_coverage_0 2 rfl rfl)
theorem dX1_coverage_3 : decode cX1_coverage 3 = .ok (.invokevirtual 174, 3) := dk_182 0 174 (dk_at dksX1_coverage_0 3 rfl rfl)
theorem dX1_coverage_6 : decode cX1_coverage 6 = .ok (.astore_n 3, 1) := dk_78 (dk_at dksX1_coverage_0 6 rfl rfl)
theorem dX1_coverage_7 : decode cX1_coverage 7 = .ok (.aload_n 3, 1) := dk_45 (dk_at dksX1_coverage_0 7 rfl rfl)
theorem dX1_coverage_8 : decode cX1_coverage 8 = .ok (.invokevirtual 195, 3) := dk_182 0 195 (dk_at dksX1_coverage_0 8 rfl rfl)
theorem dX1_coverage_11 : decode cX1_coverage 11 = .ok (.invokestatic 155, 3) := dk_184 0 155 (dk_at dksX1_coverage_0 11 rfl rfl)
theorem dX1_coverage_14 : decode cX1_coverage 14 = .ok (.istore 4, 2) := dk_54 4 (dk_at dksX1_coverage_0 14 rfl rfl)
theorem dX1_coverage_16 : decode cX1_coverage 16 = .ok (.aload_n 3, 1) := dk_45 (dk_at dksX1_coverage_0 16 rfl rfl)
theorem dX1_coverage_17 : decode cX1_coverage 17 = .ok (.aload_n 3, 1) := dk_45 (dk_at dksX1_coverage_0 17 rfl rfl)
theorem dX1_coverage_18 : decode cX1_coverage 18 = .ok (.getfield 201, 3) := dk_180 0 201 (dk_at dksX1_coverage_0 18 rfl rfl)
theorem dX1_coverage_21 : decode cX1_coverage 21 = .ok (.getfield 198, 3) := dk_180 0 198 (dk_at dksX1_coverage_0 21 rfl rfl)
theorem dX1_coverage_24 : decode cX1_coverage 24 = .ok (.invokevirtual 204, 3) := dk_182 0 204 (dk_at dksX1_coverage_1 0 rfl rfl)
theorem dX1_coverage_27 : decode cX1_coverage 27 = .ok (.invokestatic 155, 3) := dk_184 0 155 (dk_at dksX1_coverage_1 3 rfl rfl)
theorem dX1_coverage_30 : decode cX1_coverage 30 = .ok (.istore 5, 2) := dk_54 5 (dk_at dksX1_coverage_1 6 rfl rfl)
theorem dX1_coverage_32 : decode cX1_coverage 32 = .ok (.iload 4, 2) := dk_21 4 (dk_at dksX1_coverage_1 8 rfl rfl)
theorem dX1_coverage_34 : decode cX1_coverage 34 = .ok (.ifCond .ne 7, 3) := dk_154 0 7 (dk_at dksX1_coverage_1 10 rfl rfl)
theorem dX1_coverage_37 : decode cX1_coverage 37 = .ok (.fconst 1, 1) := dk_12 (dk_at dksX1_coverage_1 13 rfl rfl)
theorem dX1_coverage_38 : decode cX1_coverage 38 = .ok (.goto 10, 3) := dk_167 0 10 (dk_at dksX1_coverage_1 14 rfl rfl)
theorem dX1_coverage_41 : decode cX1_coverage 41 = .ok (.iload 5, 2) := dk_21 5 (dk_at dksX1_coverage_1 17 rfl rfl)
theorem dX1_coverage_43 : decode cX1_coverage 43 = .ok (.i2f, 1) := dk_134 (dk_at dksX1_coverage_1 19 rfl rfl)
theorem dX1_coverage_44 : decode cX1_coverage 44 = .ok (.iload 4, 2) := dk_21 4 (dk_at dksX1_coverage_1 20 rfl rfl)
theorem dX1_coverage_46 : decode cX1_coverage 46 = .ok (.i2f, 1) := dk_134 (dk_at dksX1_coverage_1 22 rfl rfl)
theorem dX1_coverage_47 : decode cX1_coverage 47 = .ok (.fdiv, 1) := dk_110 (dk_at dksX1_coverage_1 23 rfl rfl)
theorem dX1_coverage_48 : decode cX1_coverage 48 = .ok (.freturn, 1) := dk_174 (dk_at dksX1_coverage_2 0 rfl rfl)
theorem q55 : (Jvm.Cond.initialized "ConditionWise") ∈ lw_all := lw_g (lw_at lw_m1 1 rfl) rfl
theorem q104 : (Jvm.Cond.instantiable "ConditionWise" (3 : Nat)) ∈ lw_all := lw_g (lw_at lw_m1 50 rfl) rfl
theorem q106 : (Jvm.Cond.instanceMethod ({ cls := "ConditionWise", name := "<init>", desc := "()V" } : Jvm.MethodName)) ∈ lw_all := lw_g (lw_at lw_m1 52 rfl) rfl
theorem q107 : (Jvm.Cond.code ({ cls := "ConditionWise", name := "<init>", desc := "()V" } : Jvm.MethodName) prog_1_method_4_code (1 : Nat) (Option.none : Option Jvm.ClassFile.FieldType)) ∈ lw_all := lw_g (lw_at lw_m1 53 rfl) rfl
theorem q108 : (Jvm.Cond.methodLink "ConditionWise" (15 : Nat) ({ cls := "java/lang/Object", name := "<init>", desc := "()V" } : Jvm.MethodName)) ∈ lw_all := lw_g (lw_at lw_m1 54 rfl) rfl
theorem q111 : (Jvm.Cond.classLink "ConditionWise" (18 : Nat) "java/util/ArrayDeque") ∈ lw_all := lw_g (lw_at lw_m1 57 rfl) rfl
theorem q113 : (Jvm.Cond.methodLink "ConditionWise" (20 : Nat) ({ cls := "java/util/ArrayDeque", name := "<init>", desc := "()V" } : Jvm.MethodName)) ∈ lw_all := lw_g (lw_at lw_m1 59 rfl) rfl
theorem q132 : (Jvm.Cond.classLink "ConditionWise" (25 : Nat) "java/util/ArrayList") ∈ lw_all := lw_g (lw_at lw_m1 78 rfl) rfl
theorem q134 : (Jvm.Cond.methodLink "ConditionWise" (27 : Nat) ({ cls := "java/util/ArrayList", name := "<init>", desc := "()V" } : Jvm.MethodName)) ∈ lw_all := lw_g (lw_at lw_m1 80 rfl) rfl
theorem q157 : (Jvm.Cond.classLink "ConditionWise" (32 : Nat) "java/util/LinkedList") ∈ lw_all := lw_g (lw_at lw_m1 103 rfl) rfl
theorem q159 : (Jvm.Cond.methodLink "ConditionWise" (34 : Nat) ({ cls := "java/util/LinkedList", name := "<init>", desc := "()V" } : Jvm.MethodName)) ∈ lw_all := lw_g (lw_at lw_m1 105 rfl) rfl
theorem q177 : (Jvm.Cond.fieldLink "ConditionWise" (21 : Nat) "ConditionWise" "text" "Ljava/util/Deque;") ∈ lw_all := lw_g (lw_at lw_m1 123 rfl) rfl
theorem q178 : (Jvm.Cond.fieldLink "ConditionWise" (28 : Nat) "ConditionWise" "decisions" "Ljava/util/List;") ∈ lw_all := lw_g (lw_at lw_m1 124 rfl) rfl
theorem q179 : (Jvm.Cond.fieldLink "ConditionWise" (35 : Nat) "ConditionWise" "prohibitions" "Ljava/util/LinkedList;") ∈ lw_all := lw_g (lw_at lw_m1 125 rfl) rfl
theorem q180 : (Jvm.Cond.laysFinal "ConditionWise" "ConditionWise" "text" "Ljava/util/Deque;") ∈ lw_all := lw_g (lw_at lw_m1 126 rfl) rfl
theorem q181 : (Jvm.Cond.soleField "ConditionWise" "text") ∈ lw_all := lw_g (lw_at lw_m1 127 rfl) rfl
theorem q182 : (Jvm.Cond.laysFinal "ConditionWise" "ConditionWise" "decisions" "Ljava/util/List;") ∈ lw_all := lw_g (lw_at lw_m1 128 rfl) rfl
theorem q183 : (Jvm.Cond.soleField "ConditionWise" "decisions") ∈ lw_all := lw_g (lw_at lw_m1 129 rfl) rfl
theorem q184 : (Jvm.Cond.laysFinal "ConditionWise" "ConditionWise" "prohibitions" "Ljava/util/LinkedList;") ∈ lw_all := lw_g (lw_at lw_m1 130 rfl) rfl
theorem q185 : (Jvm.Cond.soleField "ConditionWise" "prohibitions") ∈ lw_all := lw_g (lw_at lw_m1 131 rfl) rfl
theorem q186 : (Jvm.Cond.superclass "ConditionWise" "java/lang/Object") ∈ lw_all := lw_g (lw_at lw_m1 132 rfl) rfl
theorem q188 : (Jvm.Cond.instanceMethod ({ cls := "ConditionWise", name := "clear", desc := "()I" } : Jvm.MethodName)) ∈ lw_all := lw_g (lw_at lw_m1 134 rfl) rfl
theorem q189 : (Jvm.Cond.selects "ConditionWise" ({ cls := "ConditionWise", name := "clear", desc := "()I" } : Jvm.MethodName) ({ cls := "ConditionWise", name := "clear", desc := "()I" } : Jvm.MethodName)) ∈ lw_all := lw_g (lw_at lw_m1 135 rfl) rfl
theorem q190 : (Jvm.Cond.code ({ cls := "ConditionWise", name := "clear", desc := "()I" } : Jvm.MethodName) prog_1_method_7_code (2 : Nat) (Option.some Jvm.ClassFile.FieldType.int)) ∈ lw_all := lw_g (lw_at lw_m1 136 rfl) rfl
theorem q191 : (Jvm.Cond.interfaceEntry "ConditionWise" (47 : Nat)) ∈ lw_tbl := lw_at lw_m1 137 rfl
theorem q192 : (Jvm.Cond.methodLink "ConditionWise" (47 : Nat) ({ cls := "java/util/Deque", name := "size", desc := "()I" } : Jvm.MethodName)) ∈ lw_all := lw_g (lw_at lw_m1 138 rfl) rfl
theorem q210 : (Jvm.Cond.interfaceEntry "ConditionWise" (66 : Nat)) ∈ lw_tbl := lw_at lw_m1 156 rfl
theorem q227 : (Jvm.Cond.instanceMethod ({ cls := "ConditionWise", name := "decisions", desc := "()I" } : Jvm.MethodName)) ∈ lw_all := lw_g (lw_at lw_m1 173 rfl) rfl
theorem q228 : (Jvm.Cond.selects "ConditionWise" ({ cls := "ConditionWise", name := "decisions", desc := "()I" } : Jvm.MethodName) ({ cls := "ConditionWise", name := "decisions", desc := "()I" } : Jvm.MethodName)) ∈ lw_all := lw_g (lw_at lw_m1 174 rfl) rfl
theorem q229 : (Jvm.Cond.code ({ cls := "ConditionWise", name := "decisions", desc := "()I" } : Jvm.MethodName) prog_1_method_9_code (1 : Nat) (Option.some Jvm.ClassFile.FieldType.int)) ∈ lw_all := lw_g (lw_at lw_m1 175 rfl) rfl
theorem q230 : (Jvm.Cond.interfaceEntry "ConditionWise" (69 : Nat)) ∈ lw_tbl := lw_at lw_m1 176 rfl
theorem q231 : (Jvm.Cond.methodLink "ConditionWise" (69 : Nat) ({ cls := "java/util/List", name := "size", desc := "()I" } : Jvm.MethodName)) ∈ lw_all := lw_g (lw_at lw_m1 177 rfl) rfl
theorem q243 : (Jvm.Cond.instanceMethod ({ cls := "ConditionWise", name := "length", desc := "()I" } : Jvm.MethodName)) ∈ lw_all := lw_g (lw_at lw_m1 189 rfl) rfl
theorem q244 : (Jvm.Cond.selects "ConditionWise" ({ cls := "ConditionWise", name := "length", desc := "()I" } : Jvm.MethodName) ({ cls := "ConditionWise", name := "length", desc := "()I" } : Jvm.MethodName)) ∈ lw_all := lw_g (lw_at lw_m1 190 rfl) rfl
theorem q245 : (Jvm.Cond.code ({ cls := "ConditionWise", name := "length", desc := "()I" } : Jvm.MethodName) prog_1_method_10_code (1 : Nat) (Option.some Jvm.ClassFile.FieldType.int)) ∈ lw_all := lw_g (lw_at lw_m1 191 rfl) rfl
theorem q247 : (Jvm.Cond.instanceMethod ({ cls := "ConditionWise", name := "allowed", desc := "()I" } : Jvm.MethodName)) ∈ lw_all := lw_g (lw_at lw_m1 193 rfl) rfl
theorem q248 : (Jvm.Cond.selects "ConditionWise" ({ cls := "ConditionWise", name := "allowed", desc := "()I" } : Jvm.MethodName) ({ cls := "ConditionWise", name := "allowed", desc := "()I" } : Jvm.MethodName)) ∈ lw_all := lw_g (lw_at lw_m1 194 rfl) rfl
theorem q249 : (Jvm.Cond.code ({ cls := "ConditionWise", name := "allowed", desc := "()I" } : Jvm.MethodName) prog_1_method_25_code (3 : Nat) (Option.some Jvm.ClassFile.FieldType.int)) ∈ lw_all := lw_g (lw_at lw_m1 195 rfl) rfl
theorem q250 : (Jvm.Cond.methodLink "ConditionWise" (139 : Nat) ({ cls := "ConditionWise", name := "isAllowed", desc := "(I)Z" } : Jvm.MethodName)) ∈ lw_all := lw_g (lw_at lw_m1 196 rfl) rfl
theorem q251 : (Jvm.Cond.privateMethod ({ cls := "ConditionWise", name := "isAllowed", desc := "(I)Z" } : Jvm.MethodName)) ∈ lw_tbl := lw_at lw_m1 197 rfl
theorem q252 : (Jvm.Cond.instanceMethod ({ cls := "ConditionWise", name := "isAllowed", desc := "(I)Z" } : Jvm.MethodName)) ∈ lw_all := lw_g (lw_at lw_m1 198 rfl) rfl
theorem q253 : (Jvm.Cond.code ({ cls := "ConditionWise", name := "isAllowed", desc := "(I)Z" } : Jvm.MethodName) prog_1_method_24_code (3 : Nat) (Option.some Jvm.ClassFile.FieldType.boolean)) ∈ lw_all := lw_g (lw_at lw_m1 199 rfl) rfl
theorem q254 : (Jvm.Cond.methodLink "ConditionWise" (142 : Nat) ({ cls := "java/util/LinkedList", name := "size", desc := "()I" } : Jvm.MethodName)) ∈ lw_all := lw_g (lw_at lw_m1 200 rfl) rfl
theorem q255 : (Jvm.Cond.methodLink "ConditionWise" (161 : Nat) ({ cls := "java/util/LinkedList", name := "get", desc := "(I)Ljava/lang/Object;" } : Jvm.MethodName)) ∈ lw_all := lw_g (lw_at lw_m1 201 rfl) rfl
theorem q606 : (Jvm.Cond.classLink "ConditionWise" (143 : Nat) "ConditionWise$Prohibition") ∈ lw_all := lw_g (lw_at lw_m3 72 rfl) rfl
theorem q607 : (Jvm.Cond.methodLink "ConditionWise" (162 : Nat) ({ cls := "ConditionWise$Prohibition", name := "forbids", desc := "(I)Z" } : Jvm.MethodName)) ∈ lw_all := lw_g (lw_at lw_m3 73 rfl) rfl
theorem q617 : (Jvm.Cond.instanceMethod ({ cls := "ConditionWise", name := "put", desc := "(III)I" } : Jvm.MethodName)) ∈ lw_all := lw_g (lw_at lw_m3 83 rfl) rfl
theorem q618 : (Jvm.Cond.selects "ConditionWise" ({ cls := "ConditionWise", name := "put", desc := "(III)I" } : Jvm.MethodName) ({ cls := "ConditionWise", name := "put", desc := "(III)I" } : Jvm.MethodName)) ∈ lw_all := lw_g (lw_at lw_m3 84 rfl) rfl
theorem q619 : (Jvm.Cond.code ({ cls := "ConditionWise", name := "put", desc := "(III)I" } : Jvm.MethodName) prog_1_method_5_code (7 : Nat) (Option.some Jvm.ClassFile.FieldType.int)) ∈ lw_all := lw_g (lw_at lw_m3 85 rfl) rfl
theorem q620 : (Jvm.Cond.methodLink "ConditionWise" (39 : Nat) ({ cls := "ConditionWise", name := "characterOf", desc := "(I[I)I" } : Jvm.MethodName)) ∈ lw_all := lw_g (lw_at lw_m3 86 rfl) rfl
theorem q621 : (Jvm.Cond.static ({ cls := "ConditionWise", name := "characterOf", desc := "(I[I)I" } : Jvm.MethodName)) ∈ lw_all := lw_g (lw_at lw_m3 87 rfl) rfl
theorem q622 : (Jvm.Cond.code ({ cls := "ConditionWise", name := "characterOf", desc := "(I[I)I" } : Jvm.MethodName) prog_1_method_6_code (2 : Nat) (Option.some Jvm.ClassFile.FieldType.int)) ∈ lw_all := lw_g (lw_at lw_m3 88 rfl) rfl
theorem q623 : (Jvm.Cond.methodLink "ConditionWise" (43 : Nat) ({ cls := "ConditionWise", name := "checkArgument", desc := "(Z)V" } : Jvm.MethodName)) ∈ lw_all := lw_g (lw_at lw_m3 89 rfl) rfl
theorem q624 : (Jvm.Cond.static ({ cls := "ConditionWise", name := "checkArgument", desc := "(Z)V" } : Jvm.MethodName)) ∈ lw_all := lw_g (lw_at lw_m3 90 rfl) rfl
theorem q625 : (Jvm.Cond.code ({ cls := "ConditionWise", name := "checkArgument", desc := "(Z)V" } : Jvm.MethodName) prog_1_method_2_code (1 : Nat) (Option.none : Option Jvm.ClassFile.FieldType)) ∈ lw_all := lw_g (lw_at lw_m3 91 rfl) rfl
theorem q626 : (Jvm.Cond.classLink "ConditionWise" (9 : Nat) "java/lang/IllegalArgumentException") ∈ lw_all := lw_g (lw_at lw_m3 92 rfl) rfl
theorem q627 : (Jvm.Cond.methodLink "ConditionWise" (11 : Nat) ({ cls := "java/lang/IllegalArgumentException", name := "<init>", desc := "()V" } : Jvm.MethodName)) ∈ lw_all := lw_g (lw_at lw_m3 93 rfl) rfl
theorem q637 : (Jvm.Cond.methodLink "ConditionWise" (53 : Nat) ({ cls := "ConditionWise", name := "checkState", desc := "(Z)V" } : Jvm.MethodName)) ∈ lw_all := lw_g (lw_at lw_m3 103 rfl) rfl
theorem q638 : (Jvm.Cond.static ({ cls := "ConditionWise", name := "checkState", desc := "(Z)V" } : Jvm.MethodName)) ∈ lw_all := lw_g (lw_at lw_m3 104 rfl) rfl
theorem q639 : (Jvm.Cond.code ({ cls := "ConditionWise", name := "checkState", desc := "(Z)V" } : Jvm.MethodName) prog_1_method_3_code (1 : Nat) (Option.none : Option Jvm.ClassFile.FieldType)) ∈ lw_all := lw_g (lw_at lw_m3 105 rfl) rfl
theorem q640 : (Jvm.Cond.classLink "ConditionWise" (12 : Nat) "java/lang/IllegalStateException") ∈ lw_all := lw_g (lw_at lw_m3 106 rfl) rfl
theorem q649 : (Jvm.Cond.methodLink "ConditionWise" (14 : Nat) ({ cls := "java/lang/IllegalStateException", name := "<init>", desc := "()V" } : Jvm.MethodName)) ∈ lw_all := lw_g (lw_at lw_m3 115 rfl) rfl
theorem q656 : (Jvm.Cond.methodLink "ConditionWise" (56 : Nat) ({ cls := "java/lang/Character", name := "valueOf", desc := "(C)Ljava/lang/Character;" } : Jvm.MethodName)) ∈ lw_all := lw_g (lw_at lw_m3 122 rfl) rfl
theorem q671 : (Jvm.Cond.interfaceEntry "ConditionWise" (62 : Nat)) ∈ lw_tbl := lw_at lw_m3 137 rfl
theorem q672 : (Jvm.Cond.methodLink "ConditionWise" (62 : Nat) ({ cls := "java/util/Deque", name := "addLast", desc := "(Ljava/lang/Object;)V" } : Jvm.MethodName)) ∈ lw_all := lw_g (lw_at lw_m3 138 rfl) rfl
theorem q705 : (Jvm.Cond.selects "ConditionWise" ({ cls := "java/lang/Object", name := "getClass", desc := "()Ljava/lang/Class;" } : Jvm.MethodName) ({ cls := "java/lang/Object", name := "getClass", desc := "()Ljava/lang/Class;" } : Jvm.MethodName)) ∈ lw_all := lw_g (lw_at lw_m3 171 rfl) rfl
theorem q772 : (Jvm.Cond.instanceMethod ({ cls := "ConditionWise", name := "read", desc := "()I" } : Jvm.MethodName)) ∈ lw_all := lw_g (lw_at lw_m3 238 rfl) rfl
theorem q773 : (Jvm.Cond.selects "ConditionWise" ({ cls := "ConditionWise", name := "read", desc := "()I" } : Jvm.MethodName) ({ cls := "ConditionWise", name := "read", desc := "()I" } : Jvm.MethodName)) ∈ lw_all := lw_g (lw_at lw_m3 239 rfl) rfl
theorem q774 : (Jvm.Cond.codeWith ({ cls := "ConditionWise", name := "read", desc := "()I" } : Jvm.MethodName) prog_1_method_8_code (5 : Nat) (Option.some Jvm.ClassFile.FieldType.int) [((34 : Nat), (73 : Nat), (84 : Nat), (93 : Nat)), ((34 : Nat), (73 : Nat), (104 : Nat), (0 : Nat)), ((84 : Nat), (93 : Nat), (104 : Nat), (0 : Nat)), ((104 : Nat), (106 : Nat), (104 : Nat), (0 : Nat))]) ∈ lw_all := lw_g (lw_at lw_m4 0 rfl) rfl
theorem q775 : (Jvm.Cond.classLink "ConditionWise" (93 : Nat) "ConditionWise$Fault") ∈ lw_all := lw_g (lw_at lw_m4 1 rfl) rfl
theorem q776 : (Jvm.Cond.classLink "ConditionWise" (72 : Nat) "ConditionWise$Reader") ∈ lw_all := lw_g (lw_at lw_m4 2 rfl) rfl
theorem q778 : (Jvm.Cond.methodLink "ConditionWise" (74 : Nat) ({ cls := "ConditionWise$Reader", name := "<init>", desc := "(Ljava/util/Deque;)V" } : Jvm.MethodName)) ∈ lw_all := lw_g (lw_at lw_m4 4 rfl) rfl
theorem q792 : (Jvm.Cond.fieldLinkNest "ConditionWise" (83 : Nat) "ConditionWise$Reader" "letters" "Ljava/util/List;" "ConditionWise") ∈ lw_tbl := lw_at lw_m4 18 rfl
theorem q803 : (Jvm.Cond.methodLink "ConditionWise" (77 : Nat) ({ cls := "ConditionWise$Reader", name := "all", desc := "()LConditionWise$Node;" } : Jvm.MethodName)) ∈ lw_all := lw_g (lw_at lw_m4 29 rfl) rfl
theorem q903 : (Jvm.Cond.fieldLinkNest "ConditionWise" (95 : Nat) "ConditionWise$Fault" "place" "I" "ConditionWise") ∈ lw_tbl := lw_at lw_m4 129 rfl
theorem q1123 : (Jvm.Cond.classLink "ConditionWise" (81 : Nat) "ConditionWise$Decision") ∈ lw_all := lw_g (lw_at lw_m5 109 rfl) rfl
theorem q1125 : (Jvm.Cond.methodLink "ConditionWise" (86 : Nat) ({ cls := "ConditionWise$Decision", name := "<init>", desc := "(LConditionWise$Node;Ljava/util/List;)V" } : Jvm.MethodName)) ∈ lw_all := lw_g (lw_at lw_m5 111 rfl) rfl
theorem q1157 : (Jvm.Cond.fieldLinkNest "ConditionWise" (114 : Nat) "ConditionWise$Decision" "tree" "LConditionWise$Node;" "ConditionWise") ∈ lw_tbl := lw_at lw_m5 143 rfl
theorem q1160 : (Jvm.Cond.fieldLinkNest "ConditionWise" (111 : Nat) "ConditionWise$Decision" "letters" "[I" "ConditionWise") ∈ lw_tbl := lw_at lw_m5 146 rfl
theorem q1161 : (Jvm.Cond.fieldLinkNest "ConditionWise" (198 : Nat) "ConditionWise$Decision" "tests" "I" "ConditionWise") ∈ lw_tbl := lw_at lw_m5 147 rfl
theorem q1169 : (Jvm.Cond.interfaceEntry "ConditionWise" (89 : Nat)) ∈ lw_tbl := lw_at lw_m5 155 rfl
theorem q1170 : (Jvm.Cond.methodLink "ConditionWise" (89 : Nat) ({ cls := "java/util/List", name := "add", desc := "(Ljava/lang/Object;)Z" } : Jvm.MethodName)) ∈ lw_all := lw_g (lw_at lw_m5 156 rfl) rfl
theorem q1191 : (Jvm.Cond.instanceMethod ({ cls := "ConditionWise", name := "conditions", desc := "(I)I" } : Jvm.MethodName)) ∈ lw_all := lw_g (lw_at lw_m5 177 rfl) rfl
theorem q1192 : (Jvm.Cond.selects "ConditionWise" ({ cls := "ConditionWise", name := "conditions", desc := "(I)I" } : Jvm.MethodName) ({ cls := "ConditionWise", name := "conditions", desc := "(I)I" } : Jvm.MethodName)) ∈ lw_all := lw_g (lw_at lw_m5 178 rfl) rfl
theorem q1193 : (Jvm.Cond.code ({ cls := "ConditionWise", name := "conditions", desc := "(I)I" } : Jvm.MethodName) prog_1_method_14_code (2 : Nat) (Option.some Jvm.ClassFile.FieldType.int)) ∈ lw_all := lw_g (lw_at lw_m5 179 rfl) rfl
theorem q1194 : (Jvm.Cond.methodLink "ConditionWise" (107 : Nat) ({ cls := "ConditionWise", name := "decision", desc := "(I)LConditionWise$Decision;" } : Jvm.MethodName)) ∈ lw_all := lw_g (lw_at lw_m5 180 rfl) rfl
theorem q1195 : (Jvm.Cond.privateMethod ({ cls := "ConditionWise", name := "decision", desc := "(I)LConditionWise$Decision;" } : Jvm.MethodName)) ∈ lw_tbl := lw_at lw_m5 181 rfl
theorem q1196 : (Jvm.Cond.instanceMethod ({ cls := "ConditionWise", name := "decision", desc := "(I)LConditionWise$Decision;" } : Jvm.MethodName)) ∈ lw_all := lw_g (lw_at lw_m5 182 rfl) rfl
theorem q1197 : (Jvm.Cond.code ({ cls := "ConditionWise", name := "decision", desc := "(I)LConditionWise$Decision;" } : Jvm.MethodName) prog_1_method_11_code (2 : Nat) (Option.some (Jvm.ClassFile.FieldType.object "ConditionWise$Decision"))) ∈ lw_all := lw_g (lw_at lw_m5 183 rfl) rfl
theorem q1198 : (Jvm.Cond.methodLink "ConditionWise" (99 : Nat) ({ cls := "ConditionWise", name := "checkIndex", desc := "(II)V" } : Jvm.MethodName)) ∈ lw_all := lw_g (lw_at lw_m5 184 rfl) rfl
theorem q1199 : (Jvm.Cond.static ({ cls := "ConditionWise", name := "checkIndex", desc := "(II)V" } : Jvm.MethodName)) ∈ lw_all := lw_g (lw_at lw_m5 185 rfl) rfl
theorem q1200 : (Jvm.Cond.code ({ cls := "ConditionWise", name := "checkIndex", desc := "(II)V" } : Jvm.MethodName) prog_1_method_1_code (2 : Nat) (Option.none : Option Jvm.ClassFile.FieldType)) ∈ lw_all := lw_g (lw_at lw_m5 186 rfl) rfl
theorem q1201 : (Jvm.Cond.classLink "ConditionWise" (3 : Nat) "java/lang/IndexOutOfBoundsException") ∈ lw_all := lw_g (lw_at lw_m5 187 rfl) rfl
theorem q1202 : (Jvm.Cond.methodLink "ConditionWise" (5 : Nat) ({ cls := "java/lang/IndexOutOfBoundsException", name := "<init>", desc := "()V" } : Jvm.MethodName)) ∈ lw_all := lw_g (lw_at lw_m5 188 rfl) rfl
theorem q1206 : (Jvm.Cond.interfaceEntry "ConditionWise" (103 : Nat)) ∈ lw_tbl := lw_at lw_m5 192 rfl
theorem q1207 : (Jvm.Cond.methodLink "ConditionWise" (103 : Nat) ({ cls := "java/util/List", name := "get", desc := "(I)Ljava/lang/Object;" } : Jvm.MethodName)) ∈ lw_all := lw_g (lw_at lw_m5 193 rfl) rfl
theorem q1212 : (Jvm.Cond.instanceMethod ({ cls := "ConditionWise", name := "letterOf", desc := "(II)I" } : Jvm.MethodName)) ∈ lw_all := lw_g (lw_at lw_m5 198 rfl) rfl
theorem q1213 : (Jvm.Cond.selects "ConditionWise" ({ cls := "ConditionWise", name := "letterOf", desc := "(II)I" } : Jvm.MethodName) ({ cls := "ConditionWise", name := "letterOf", desc := "(II)I" } : Jvm.MethodName)) ∈ lw_all := lw_g (lw_at lw_m5 199 rfl) rfl
theorem q1214 : (Jvm.Cond.code ({ cls := "ConditionWise", name := "letterOf", desc := "(II)I" } : Jvm.MethodName) prog_1_method_15_code (4 : Nat) (Option.some Jvm.ClassFile.FieldType.int)) ∈ lw_all := lw_g (lw_at lw_m5 200 rfl) rfl
theorem q1219 : (Jvm.Cond.instanceMethod ({ cls := "ConditionWise", name := "coupled", desc := "(I)I" } : Jvm.MethodName)) ∈ lw_all := lw_g (lw_at lw_m5 205 rfl) rfl
theorem q1220 : (Jvm.Cond.selects "ConditionWise" ({ cls := "ConditionWise", name := "coupled", desc := "(I)I" } : Jvm.MethodName) ({ cls := "ConditionWise", name := "coupled", desc := "(I)I" } : Jvm.MethodName)) ∈ lw_all := lw_g (lw_at lw_m5 206 rfl) rfl
theorem q1221 : (Jvm.Cond.code ({ cls := "ConditionWise", name := "coupled", desc := "(I)I" } : Jvm.MethodName) prog_1_method_16_code (6 : Nat) (Option.some Jvm.ClassFile.FieldType.int)) ∈ lw_all := lw_g (lw_at lw_m5 207 rfl) rfl
theorem q1226 : (Jvm.Cond.instanceMethod ({ cls := "ConditionWise", name := "depth", desc := "(I)I" } : Jvm.MethodName)) ∈ lw_all := lw_g (lw_at lw_m5 212 rfl) rfl
theorem q1227 : (Jvm.Cond.selects "ConditionWise" ({ cls := "ConditionWise", name := "depth", desc := "(I)I" } : Jvm.MethodName) ({ cls := "ConditionWise", name := "depth", desc := "(I)I" } : Jvm.MethodName)) ∈ lw_all := lw_g (lw_at lw_m5 213 rfl) rfl
theorem q1228 : (Jvm.Cond.code ({ cls := "ConditionWise", name := "depth", desc := "(I)I" } : Jvm.MethodName) prog_1_method_17_code (2 : Nat) (Option.some Jvm.ClassFile.FieldType.int)) ∈ lw_all := lw_g (lw_at lw_m5 214 rfl) rfl
theorem q1229 : (Jvm.Cond.interfaceEntry "ConditionWise" (118 : Nat)) ∈ lw_tbl := lw_at lw_m5 215 rfl
theorem q1230 : (Jvm.Cond.methodLink "ConditionWise" (118 : Nat) ({ cls := "ConditionWise$Node", name := "depth", desc := "()I" } : Jvm.MethodName)) ∈ lw_all := lw_g (lw_at lw_m5 216 rfl) rfl
theorem q1277 : (Jvm.Cond.instanceMethod ({ cls := "ConditionWise", name := "outcome", desc := "(II)Z" } : Jvm.MethodName)) ∈ lw_all := lw_g (lw_at lw_m6 23 rfl) rfl
theorem q1278 : (Jvm.Cond.selects "ConditionWise" ({ cls := "ConditionWise", name := "outcome", desc := "(II)Z" } : Jvm.MethodName) ({ cls := "ConditionWise", name := "outcome", desc := "(II)Z" } : Jvm.MethodName)) ∈ lw_all := lw_g (lw_at lw_m6 24 rfl) rfl
theorem q1279 : (Jvm.Cond.code ({ cls := "ConditionWise", name := "outcome", desc := "(II)Z" } : Jvm.MethodName) prog_1_method_18_code (4 : Nat) (Option.some Jvm.ClassFile.FieldType.boolean)) ∈ lw_all := lw_g (lw_at lw_m6 25 rfl) rfl
theorem q1280 : (Jvm.Cond.methodLink "ConditionWise" (123 : Nat) ({ cls := "ConditionWise", name := "checkVector", desc := "([I)V" } : Jvm.MethodName)) ∈ lw_all := lw_g (lw_at lw_m6 26 rfl) rfl
theorem q1281 : (Jvm.Cond.static ({ cls := "ConditionWise", name := "checkVector", desc := "([I)V" } : Jvm.MethodName)) ∈ lw_all := lw_g (lw_at lw_m6 27 rfl) rfl
theorem q1282 : (Jvm.Cond.code ({ cls := "ConditionWise", name := "checkVector", desc := "([I)V" } : Jvm.MethodName) prog_1_method_12_code (5 : Nat) (Option.none : Option Jvm.ClassFile.FieldType)) ∈ lw_all := lw_g (lw_at lw_m6 28 rfl) rfl
theorem q1283 : (Jvm.Cond.methodLink "ConditionWise" (127 : Nat) ({ cls := "ConditionWise$Decision", name := "outcome", desc := "(I)Z" } : Jvm.MethodName)) ∈ lw_all := lw_g (lw_at lw_m6 29 rfl) rfl
theorem q1411 : (Jvm.Cond.instanceMethod ({ cls := "ConditionWise", name := "state", desc := "(III)I" } : Jvm.MethodName)) ∈ lw_all := lw_g (lw_at lw_m6 157 rfl) rfl
theorem q1412 : (Jvm.Cond.selects "ConditionWise" ({ cls := "ConditionWise", name := "state", desc := "(III)I" } : Jvm.MethodName) ({ cls := "ConditionWise", name := "state", desc := "(III)I" } : Jvm.MethodName)) ∈ lw_all := lw_g (lw_at lw_m6 158 rfl) rfl
theorem q1413 : (Jvm.Cond.code ({ cls := "ConditionWise", name := "state", desc := "(III)I" } : Jvm.MethodName) prog_1_method_19_code (5 : Nat) (Option.some Jvm.ClassFile.FieldType.int)) ∈ lw_all := lw_g (lw_at lw_m6 159 rfl) rfl
theorem q1414 : (Jvm.Cond.methodLink "ConditionWise" (131 : Nat) ({ cls := "ConditionWise$Decision", name := "state", desc := "(II)I" } : Jvm.MethodName)) ∈ lw_all := lw_g (lw_at lw_m6 160 rfl) rfl
theorem q1434 : (Jvm.Cond.instanceMethod ({ cls := "ConditionWise", name := "deciding", desc := "(II)I" } : Jvm.MethodName)) ∈ lw_all := lw_g (lw_at lw_m6 180 rfl) rfl
theorem q1435 : (Jvm.Cond.selects "ConditionWise" ({ cls := "ConditionWise", name := "deciding", desc := "(II)I" } : Jvm.MethodName) ({ cls := "ConditionWise", name := "deciding", desc := "(II)I" } : Jvm.MethodName)) ∈ lw_all := lw_g (lw_at lw_m6 181 rfl) rfl
theorem q1436 : (Jvm.Cond.code ({ cls := "ConditionWise", name := "deciding", desc := "(II)I" } : Jvm.MethodName) prog_1_method_20_code (6 : Nat) (Option.some Jvm.ClassFile.FieldType.int)) ∈ lw_all := lw_g (lw_at lw_m6 182 rfl) rfl
theorem q1437 : (Jvm.Cond.methodLink "ConditionWise" (135 : Nat) ({ cls := "ConditionWise$Decision", name := "isDeciding", desc := "(II)Z" } : Jvm.MethodName)) ∈ lw_all := lw_g (lw_at lw_m6 183 rfl) rfl
theorem q1447 : (Jvm.Cond.instanceMethod ({ cls := "ConditionWise", name := "isSame", desc := "(II)Z" } : Jvm.MethodName)) ∈ lw_all := lw_g (lw_at lw_m6 193 rfl) rfl
theorem q1448 : (Jvm.Cond.selects "ConditionWise" ({ cls := "ConditionWise", name := "isSame", desc := "(II)Z" } : Jvm.MethodName) ({ cls := "ConditionWise", name := "isSame", desc := "(II)Z" } : Jvm.MethodName)) ∈ lw_all := lw_g (lw_at lw_m6 194 rfl) rfl
theorem q1449 : (Jvm.Cond.code ({ cls := "ConditionWise", name := "isSame", desc := "(II)Z" } : Jvm.MethodName) prog_1_method_21_code (7 : Nat) (Option.some Jvm.ClassFile.FieldType.boolean)) ∈ lw_all := lw_g (lw_at lw_m6 195 rfl) rfl
theorem q1454 : (Jvm.Cond.instanceMethod ({ cls := "ConditionWise", name := "forbid", desc := "(IZIZ)I" } : Jvm.MethodName)) ∈ lw_all := lw_g (lw_at lw_m6 200 rfl) rfl
theorem q1455 : (Jvm.Cond.selects "ConditionWise" ({ cls := "ConditionWise", name := "forbid", desc := "(IZIZ)I" } : Jvm.MethodName) ({ cls := "ConditionWise", name := "forbid", desc := "(IZIZ)I" } : Jvm.MethodName)) ∈ lw_all := lw_g (lw_at lw_m6 201 rfl) rfl
theorem q1456 : (Jvm.Cond.code ({ cls := "ConditionWise", name := "forbid", desc := "(IZIZ)I" } : Jvm.MethodName) prog_1_method_22_code (5 : Nat) (Option.some Jvm.ClassFile.FieldType.int)) ∈ lw_all := lw_g (lw_at lw_m6 202 rfl) rfl
theorem q1458 : (Jvm.Cond.methodLinkNest "ConditionWise" (145 : Nat) ({ cls := "ConditionWise$Prohibition", name := "<init>", desc := "(IZIZ)V" } : Jvm.MethodName) "ConditionWise") ∈ lw_tbl := lw_at lw_m6 204 rfl
theorem q1475 : (Jvm.Cond.methodLink "ConditionWise" (148 : Nat) ({ cls := "java/util/LinkedList", name := "add", desc := "(Ljava/lang/Object;)Z" } : Jvm.MethodName)) ∈ lw_all := lw_g (lw_at lw_m6 221 rfl) rfl
theorem q1480 : (Jvm.Cond.instanceMethod ({ cls := "ConditionWise", name := "permit", desc := "(I)I" } : Jvm.MethodName)) ∈ lw_all := lw_g (lw_at lw_m6 226 rfl) rfl
theorem q1481 : (Jvm.Cond.selects "ConditionWise" ({ cls := "ConditionWise", name := "permit", desc := "(I)I" } : Jvm.MethodName) ({ cls := "ConditionWise", name := "permit", desc := "(I)I" } : Jvm.MethodName)) ∈ lw_all := lw_g (lw_at lw_m6 227 rfl) rfl
theorem q1482 : (Jvm.Cond.code ({ cls := "ConditionWise", name := "permit", desc := "(I)I" } : Jvm.MethodName) prog_1_method_23_code (2 : Nat) (Option.some Jvm.ClassFile.FieldType.int)) ∈ lw_all := lw_g (lw_at lw_m6 228 rfl) rfl
theorem q1483 : (Jvm.Cond.methodLink "ConditionWise" (149 : Nat) ({ cls := "java/util/LinkedList", name := "remove", desc := "(I)Ljava/lang/Object;" } : Jvm.MethodName)) ∈ lw_all := lw_g (lw_at lw_m6 229 rfl) rfl
theorem q1491 : (Jvm.Cond.methodLink "ConditionWise" (152 : Nat) ({ cls := "ConditionWise", name := "allowed", desc := "()I" } : Jvm.MethodName)) ∈ lw_all := lw_g (lw_at lw_m6 237 rfl) rfl
theorem q1492 : (Jvm.Cond.methodLink "ConditionWise" (155 : Nat) ({ cls := "java/lang/Integer", name := "bitCount", desc := "(I)I" } : Jvm.MethodName)) ∈ lw_all := lw_g (lw_at lw_m6 238 rfl) rfl
theorem q1502 : (Jvm.Cond.instanceMethod ({ cls := "ConditionWise", name := "isPair", desc := "(IIIII)Z" } : Jvm.MethodName)) ∈ lw_all := lw_g (lw_at lw_m7 8 rfl) rfl
theorem q1503 : (Jvm.Cond.selects "ConditionWise" ({ cls := "ConditionWise", name := "isPair", desc := "(IIIII)Z" } : Jvm.MethodName) ({ cls := "ConditionWise", name := "isPair", desc := "(IIIII)Z" } : Jvm.MethodName)) ∈ lw_all := lw_g (lw_at lw_m7 9 rfl) rfl
theorem q1504 : (Jvm.Cond.code ({ cls := "ConditionWise", name := "isPair", desc := "(IIIII)Z" } : Jvm.MethodName) prog_1_method_28_code (7 : Nat) (Option.some Jvm.ClassFile.FieldType.boolean)) ∈ lw_all := lw_g (lw_at lw_m7 10 rfl) rfl
theorem q1505 : (Jvm.Cond.methodLink "ConditionWise" (178 : Nat) ({ cls := "ConditionWise", name := "tableFor", desc := "(III)LConditionWise$Table;" } : Jvm.MethodName)) ∈ lw_all := lw_g (lw_at lw_m7 11 rfl) rfl
theorem q1506 : (Jvm.Cond.privateMethod ({ cls := "ConditionWise", name := "tableFor", desc := "(III)LConditionWise$Table;" } : Jvm.MethodName)) ∈ lw_tbl := lw_at lw_m7 12 rfl
theorem q1507 : (Jvm.Cond.instanceMethod ({ cls := "ConditionWise", name := "tableFor", desc := "(III)LConditionWise$Table;" } : Jvm.MethodName)) ∈ lw_all := lw_g (lw_at lw_m7 13 rfl) rfl
theorem q1508 : (Jvm.Cond.code ({ cls := "ConditionWise", name := "tableFor", desc := "(III)LConditionWise$Table;" } : Jvm.MethodName) prog_1_method_27_code (4 : Nat) (Option.some (Jvm.ClassFile.FieldType.object "ConditionWise$Table"))) ∈ lw_all := lw_g (lw_at lw_m7 14 rfl) rfl
theorem q1509 : (Jvm.Cond.methodLink "ConditionWise" (174 : Nat) ({ cls := "ConditionWise", name := "table", desc := "(II)LConditionWise$Table;" } : Jvm.MethodName)) ∈ lw_all := lw_g (lw_at lw_m7 15 rfl) rfl
theorem q1510 : (Jvm.Cond.privateMethod ({ cls := "ConditionWise", name := "table", desc := "(II)LConditionWise$Table;" } : Jvm.MethodName)) ∈ lw_tbl := lw_at lw_m7 16 rfl
theorem q1511 : (Jvm.Cond.instanceMethod ({ cls := "ConditionWise", name := "table", desc := "(II)LConditionWise$Table;" } : Jvm.MethodName)) ∈ lw_all := lw_g (lw_at lw_m7 17 rfl) rfl
theorem q1512 : (Jvm.Cond.code ({ cls := "ConditionWise", name := "table", desc := "(II)LConditionWise$Table;" } : Jvm.MethodName) prog_1_method_26_code (4 : Nat) (Option.some (Jvm.ClassFile.FieldType.object "ConditionWise$Table"))) ∈ lw_all := lw_g (lw_at lw_m7 18 rfl) rfl
theorem q1513 : (Jvm.Cond.methodLink "ConditionWise" (165 : Nat) ({ cls := "ConditionWise", name := "checkRule", desc := "(I)V" } : Jvm.MethodName)) ∈ lw_all := lw_g (lw_at lw_m7 19 rfl) rfl
theorem q1514 : (Jvm.Cond.static ({ cls := "ConditionWise", name := "checkRule", desc := "(I)V" } : Jvm.MethodName)) ∈ lw_all := lw_g (lw_at lw_m7 20 rfl) rfl
theorem q1515 : (Jvm.Cond.code ({ cls := "ConditionWise", name := "checkRule", desc := "(I)V" } : Jvm.MethodName) prog_1_method_13_code (1 : Nat) (Option.none : Option Jvm.ClassFile.FieldType)) ∈ lw_all := lw_g (lw_at lw_m7 21 rfl) rfl
theorem q1516 : (Jvm.Cond.classLink "ConditionWise" (169 : Nat) "ConditionWise$Table") ∈ lw_all := lw_g (lw_at lw_m7 22 rfl) rfl
theorem q1518 : (Jvm.Cond.methodLink "ConditionWise" (171 : Nat) ({ cls := "ConditionWise$Table", name := "<init>", desc := "(LConditionWise;LConditionWise$Decision;I)V" } : Jvm.MethodName)) ∈ lw_all := lw_g (lw_at lw_m7 24 rfl) rfl
theorem q1542 : (Jvm.Cond.fieldLinkNest "ConditionWise" (201 : Nat) "ConditionWise$Table" "decision" "LConditionWise$Decision;" "ConditionWise") ∈ lw_tbl := lw_at lw_m7 48 rfl
theorem q1545 : (Jvm.Cond.fieldLinkNest "ConditionWise" (207 : Nat) "ConditionWise$Table" "allowed" "I" "ConditionWise") ∈ lw_tbl := lw_at lw_m7 51 rfl
theorem q1551 : (Jvm.Cond.fieldLinkNest "ConditionWise" (182 : Nat) "ConditionWise$Table" "partners" "[[I" "ConditionWise") ∈ lw_tbl := lw_at lw_m7 57 rfl
theorem q1577 : (Jvm.Cond.instanceMethod ({ cls := "ConditionWise", name := "pairs", desc := "(III)I" } : Jvm.MethodName)) ∈ lw_all := lw_g (lw_at lw_m7 83 rfl) rfl
theorem q1578 : (Jvm.Cond.selects "ConditionWise" ({ cls := "ConditionWise", name := "pairs", desc := "(III)I" } : Jvm.MethodName) ({ cls := "ConditionWise", name := "pairs", desc := "(III)I" } : Jvm.MethodName)) ∈ lw_all := lw_g (lw_at lw_m7 84 rfl) rfl
theorem q1579 : (Jvm.Cond.code ({ cls := "ConditionWise", name := "pairs", desc := "(III)I" } : Jvm.MethodName) prog_1_method_29_code (4 : Nat) (Option.some Jvm.ClassFile.FieldType.int)) ∈ lw_all := lw_g (lw_at lw_m7 85 rfl) rfl
theorem q1580 : (Jvm.Cond.methodLink "ConditionWise" (186 : Nat) ({ cls := "ConditionWise$Table", name := "pairs", desc := "(I)I" } : Jvm.MethodName)) ∈ lw_all := lw_g (lw_at lw_m7 86 rfl) rfl
theorem q1590 : (Jvm.Cond.instanceMethod ({ cls := "ConditionWise", name := "pairAt", desc := "(IIII)I" } : Jvm.MethodName)) ∈ lw_all := lw_g (lw_at lw_m7 96 rfl) rfl
theorem q1591 : (Jvm.Cond.selects "ConditionWise" ({ cls := "ConditionWise", name := "pairAt", desc := "(IIII)I" } : Jvm.MethodName) ({ cls := "ConditionWise", name := "pairAt", desc := "(IIII)I" } : Jvm.MethodName)) ∈ lw_all := lw_g (lw_at lw_m7 97 rfl) rfl
theorem q1592 : (Jvm.Cond.code ({ cls := "ConditionWise", name := "pairAt", desc := "(IIII)I" } : Jvm.MethodName) prog_1_method_30_code (7 : Nat) (Option.some Jvm.ClassFile.FieldType.int)) ∈ lw_all := lw_g (lw_at lw_m7 98 rfl) rfl
theorem q1593 : (Jvm.Cond.methodLink "ConditionWise" (189 : Nat) ({ cls := "ConditionWise$Table", name := "pairAt", desc := "(II)I" } : Jvm.MethodName)) ∈ lw_all := lw_g (lw_at lw_m7 99 rfl) rfl
theorem q1597 : (Jvm.Cond.classLink "ConditionWise" (192 : Nat) "java/util/NoSuchElementException") ∈ lw_all := lw_g (lw_at lw_m7 103 rfl) rfl
theorem q1606 : (Jvm.Cond.methodLink "ConditionWise" (194 : Nat) ({ cls := "java/util/NoSuchElementException", name := "<init>", desc := "()V" } : Jvm.MethodName)) ∈ lw_all := lw_g (lw_at lw_m7 112 rfl) rfl
theorem q1616 : (Jvm.Cond.instanceMethod ({ cls := "ConditionWise", name := "possible", desc := "(II)I" } : Jvm.MethodName)) ∈ lw_all := lw_g (lw_at lw_m7 122 rfl) rfl
theorem q1617 : (Jvm.Cond.selects "ConditionWise" ({ cls := "ConditionWise", name := "possible", desc := "(II)I" } : Jvm.MethodName) ({ cls := "ConditionWise", name := "possible", desc := "(II)I" } : Jvm.MethodName)) ∈ lw_all := lw_g (lw_at lw_m7 123 rfl) rfl
theorem q1618 : (Jvm.Cond.code ({ cls := "ConditionWise", name := "possible", desc := "(II)I" } : Jvm.MethodName) prog_1_method_31_code (3 : Nat) (Option.some Jvm.ClassFile.FieldType.int)) ∈ lw_all := lw_g (lw_at lw_m7 124 rfl) rfl
theorem q1619 : (Jvm.Cond.methodLink "ConditionWise" (195 : Nat) ({ cls := "ConditionWise$Table", name := "possible", desc := "()I" } : Jvm.MethodName)) ∈ lw_all := lw_g (lw_at lw_m7 125 rfl) rfl
theorem q1632 : (Jvm.Cond.instanceMethod ({ cls := "ConditionWise", name := "addTest", desc := "(II)I" } : Jvm.MethodName)) ∈ lw_all := lw_g (lw_at lw_m7 138 rfl) rfl
theorem q1633 : (Jvm.Cond.selects "ConditionWise" ({ cls := "ConditionWise", name := "addTest", desc := "(II)I" } : Jvm.MethodName) ({ cls := "ConditionWise", name := "addTest", desc := "(II)I" } : Jvm.MethodName)) ∈ lw_all := lw_g (lw_at lw_m7 139 rfl) rfl
theorem q1634 : (Jvm.Cond.code ({ cls := "ConditionWise", name := "addTest", desc := "(II)I" } : Jvm.MethodName) prog_1_method_32_code (4 : Nat) (Option.some Jvm.ClassFile.FieldType.int)) ∈ lw_all := lw_g (lw_at lw_m7 140 rfl) rfl
theorem q1639 : (Jvm.Cond.instanceMethod ({ cls := "ConditionWise", name := "removeTest", desc := "(II)I" } : Jvm.MethodName)) ∈ lw_all := lw_g (lw_at lw_m7 145 rfl) rfl
theorem q1640 : (Jvm.Cond.selects "ConditionWise" ({ cls := "ConditionWise", name := "removeTest", desc := "(II)I" } : Jvm.MethodName) ({ cls := "ConditionWise", name := "removeTest", desc := "(II)I" } : Jvm.MethodName)) ∈ lw_all := lw_g (lw_at lw_m7 146 rfl) rfl
theorem q1641 : (Jvm.Cond.code ({ cls := "ConditionWise", name := "removeTest", desc := "(II)I" } : Jvm.MethodName) prog_1_method_33_code (4 : Nat) (Option.some Jvm.ClassFile.FieldType.int)) ∈ lw_all := lw_g (lw_at lw_m7 147 rfl) rfl
theorem q1646 : (Jvm.Cond.instanceMethod ({ cls := "ConditionWise", name := "tests", desc := "(I)I" } : Jvm.MethodName)) ∈ lw_all := lw_g (lw_at lw_m7 152 rfl) rfl
theorem q1647 : (Jvm.Cond.selects "ConditionWise" ({ cls := "ConditionWise", name := "tests", desc := "(I)I" } : Jvm.MethodName) ({ cls := "ConditionWise", name := "tests", desc := "(I)I" } : Jvm.MethodName)) ∈ lw_all := lw_g (lw_at lw_m7 153 rfl) rfl
theorem q1648 : (Jvm.Cond.code ({ cls := "ConditionWise", name := "tests", desc := "(I)I" } : Jvm.MethodName) prog_1_method_34_code (2 : Nat) (Option.some Jvm.ClassFile.FieldType.int)) ∈ lw_all := lw_g (lw_at lw_m7 154 rfl) rfl
theorem q1653 : (Jvm.Cond.instanceMethod ({ cls := "ConditionWise", name := "outcomes", desc := "(I)I" } : Jvm.MethodName)) ∈ lw_all := lw_g (lw_at lw_m7 159 rfl) rfl
theorem q1654 : (Jvm.Cond.selects "ConditionWise" ({ cls := "ConditionWise", name := "outcomes", desc := "(I)I" } : Jvm.MethodName) ({ cls := "ConditionWise", name := "outcomes", desc := "(I)I" } : Jvm.MethodName)) ∈ lw_all := lw_g (lw_at lw_m7 160 rfl) rfl
theorem q1655 : (Jvm.Cond.code ({ cls := "ConditionWise", name := "outcomes", desc := "(I)I" } : Jvm.MethodName) prog_1_method_35_code (5 : Nat) (Option.some Jvm.ClassFile.FieldType.int)) ∈ lw_all := lw_g (lw_at lw_m7 161 rfl) rfl
theorem q1660 : (Jvm.Cond.instanceMethod ({ cls := "ConditionWise", name := "seenBoth", desc := "(I)I" } : Jvm.MethodName)) ∈ lw_all := lw_g (lw_at lw_m7 166 rfl) rfl
theorem q1661 : (Jvm.Cond.selects "ConditionWise" ({ cls := "ConditionWise", name := "seenBoth", desc := "(I)I" } : Jvm.MethodName) ({ cls := "ConditionWise", name := "seenBoth", desc := "(I)I" } : Jvm.MethodName)) ∈ lw_all := lw_g (lw_at lw_m7 167 rfl) rfl
theorem q1662 : (Jvm.Cond.code ({ cls := "ConditionWise", name := "seenBoth", desc := "(I)I" } : Jvm.MethodName) prog_1_method_36_code (7 : Nat) (Option.some Jvm.ClassFile.FieldType.int)) ∈ lw_all := lw_g (lw_at lw_m7 168 rfl) rfl
theorem q1667 : (Jvm.Cond.instanceMethod ({ cls := "ConditionWise", name := "covered", desc := "(II)I" } : Jvm.MethodName)) ∈ lw_all := lw_g (lw_at lw_m7 173 rfl) rfl
theorem q1668 : (Jvm.Cond.selects "ConditionWise" ({ cls := "ConditionWise", name := "covered", desc := "(II)I" } : Jvm.MethodName) ({ cls := "ConditionWise", name := "covered", desc := "(II)I" } : Jvm.MethodName)) ∈ lw_all := lw_g (lw_at lw_m7 174 rfl) rfl
theorem q1669 : (Jvm.Cond.code ({ cls := "ConditionWise", name := "covered", desc := "(II)I" } : Jvm.MethodName) prog_1_method_37_code (4 : Nat) (Option.some Jvm.ClassFile.FieldType.int)) ∈ lw_all := lw_g (lw_at lw_m7 175 rfl) rfl
theorem q1670 : (Jvm.Cond.methodLink "ConditionWise" (204 : Nat) ({ cls := "ConditionWise$Table", name := "covered", desc := "(I)I" } : Jvm.MethodName)) ∈ lw_all := lw_g (lw_at lw_m7 176 rfl) rfl
theorem q1675 : (Jvm.Cond.instanceMethod ({ cls := "ConditionWise", name := "suggest", desc := "(II)I" } : Jvm.MethodName)) ∈ lw_all := lw_g (lw_at lw_m7 181 rfl) rfl
theorem q1676 : (Jvm.Cond.selects "ConditionWise" ({ cls := "ConditionWise", name := "suggest", desc := "(II)I" } : Jvm.MethodName) ({ cls := "ConditionWise", name := "suggest", desc := "(II)I" } : Jvm.MethodName)) ∈ lw_all := lw_g (lw_at lw_m7 182 rfl) rfl
theorem q1677 : (Jvm.Cond.code ({ cls := "ConditionWise", name := "suggest", desc := "(II)I" } : Jvm.MethodName) prog_1_method_38_code (9 : Nat) (Option.some Jvm.ClassFile.FieldType.int)) ∈ lw_all := lw_g (lw_at lw_m7 183 rfl) rfl
theorem q1682 : (Jvm.Cond.instanceMethod ({ cls := "ConditionWise", name := "least", desc := "(II)I" } : Jvm.MethodName)) ∈ lw_all := lw_g (lw_at lw_m7 188 rfl) rfl
theorem q1683 : (Jvm.Cond.selects "ConditionWise" ({ cls := "ConditionWise", name := "least", desc := "(II)I" } : Jvm.MethodName) ({ cls := "ConditionWise", name := "least", desc := "(II)I" } : Jvm.MethodName)) ∈ lw_all := lw_g (lw_at lw_m7 189 rfl) rfl
theorem q1684 : (Jvm.Cond.code ({ cls := "ConditionWise", name := "least", desc := "(II)I" } : Jvm.MethodName) prog_1_method_39_code (4 : Nat) (Option.some Jvm.ClassFile.FieldType.int)) ∈ lw_all := lw_g (lw_at lw_m7 190 rfl) rfl
theorem q1685 : (Jvm.Cond.methodLink "ConditionWise" (209 : Nat) ({ cls := "ConditionWise$Table", name := "fewest", desc := "(II)I" } : Jvm.MethodName)) ∈ lw_all := lw_g (lw_at lw_m7 191 rfl) rfl
theorem q1698 : (Jvm.Cond.instanceMethod ({ cls := "ConditionWise", name := "completion", desc := "(II)I" } : Jvm.MethodName)) ∈ lw_all := lw_g (lw_at lw_m7 204 rfl) rfl
theorem q1699 : (Jvm.Cond.selects "ConditionWise" ({ cls := "ConditionWise", name := "completion", desc := "(II)I" } : Jvm.MethodName) ({ cls := "ConditionWise", name := "completion", desc := "(II)I" } : Jvm.MethodName)) ∈ lw_all := lw_g (lw_at lw_m7 205 rfl) rfl
theorem q1700 : (Jvm.Cond.code ({ cls := "ConditionWise", name := "completion", desc := "(II)I" } : Jvm.MethodName) prog_1_method_40_code (5 : Nat) (Option.some Jvm.ClassFile.FieldType.int)) ∈ lw_all := lw_g (lw_at lw_m7 206 rfl) rfl
theorem q1705 : (Jvm.Cond.instanceMethod ({ cls := "ConditionWise", name := "reduced", desc := "(II)I" } : Jvm.MethodName)) ∈ lw_all := lw_g (lw_at lw_m7 211 rfl) rfl
theorem q1706 : (Jvm.Cond.selects "ConditionWise" ({ cls := "ConditionWise", name := "reduced", desc := "(II)I" } : Jvm.MethodName) ({ cls := "ConditionWise", name := "reduced", desc := "(II)I" } : Jvm.MethodName)) ∈ lw_all := lw_g (lw_at lw_m7 212 rfl) rfl
theorem q1707 : (Jvm.Cond.code ({ cls := "ConditionWise", name := "reduced", desc := "(II)I" } : Jvm.MethodName) prog_1_method_41_code (8 : Nat) (Option.some Jvm.ClassFile.FieldType.int)) ∈ lw_all := lw_g (lw_at lw_m7 213 rfl) rfl
theorem q1712 : (Jvm.Cond.instanceMethod ({ cls := "ConditionWise", name := "tableErrors", desc := "(I)I" } : Jvm.MethodName)) ∈ lw_all := lw_g (lw_at lw_m7 218 rfl) rfl
theorem q1713 : (Jvm.Cond.selects "ConditionWise" ({ cls := "ConditionWise", name := "tableErrors", desc := "(I)I" } : Jvm.MethodName) ({ cls := "ConditionWise", name := "tableErrors", desc := "(I)I" } : Jvm.MethodName)) ∈ lw_all := lw_g (lw_at lw_m7 219 rfl) rfl
theorem q1714 : (Jvm.Cond.code ({ cls := "ConditionWise", name := "tableErrors", desc := "(I)I" } : Jvm.MethodName) prog_1_method_42_code (9 : Nat) (Option.some Jvm.ClassFile.FieldType.int)) ∈ lw_all := lw_g (lw_at lw_m7 220 rfl) rfl
theorem q1715 : (Jvm.Cond.interfaceEntry "ConditionWise" (212 : Nat)) ∈ lw_tbl := lw_at lw_m7 221 rfl
theorem q1716 : (Jvm.Cond.methodLink "ConditionWise" (212 : Nat) ({ cls := "ConditionWise$Node", name := "tell", desc := "(I)Z" } : Jvm.MethodName)) ∈ lw_all := lw_g (lw_at lw_m7 222 rfl) rfl
theorem q1752 : (Jvm.Cond.methodLink "ConditionWise" (215 : Nat) ({ cls := "ConditionWise$Decision", name := "values", desc := "(I)I" } : Jvm.MethodName)) ∈ lw_all := lw_g (lw_at lw_m8 18 rfl) rfl
theorem q1757 : (Jvm.Cond.instanceMethod ({ cls := "ConditionWise", name := "meanAsked", desc := "(I)D" } : Jvm.MethodName)) ∈ lw_all := lw_g (lw_at lw_m8 23 rfl) rfl
theorem q1758 : (Jvm.Cond.selects "ConditionWise" ({ cls := "ConditionWise", name := "meanAsked", desc := "(I)D" } : Jvm.MethodName) ({ cls := "ConditionWise", name := "meanAsked", desc := "(I)D" } : Jvm.MethodName)) ∈ lw_all := lw_g (lw_at lw_m8 24 rfl) rfl
theorem q1759 : (Jvm.Cond.code ({ cls := "ConditionWise", name := "meanAsked", desc := "(I)D" } : Jvm.MethodName) prog_1_method_43_code (6 : Nat) (Option.some Jvm.ClassFile.FieldType.double)) ∈ lw_all := lw_g (lw_at lw_m8 25 rfl) rfl
theorem q1760 : (Jvm.Cond.methodLink "ConditionWise" (218 : Nat) ({ cls := "ConditionWise$Decision", name := "asked", desc := "(I)Ljava/util/BitSet;" } : Jvm.MethodName)) ∈ lw_all := lw_g (lw_at lw_m8 26 rfl) rfl
theorem q1761 : (Jvm.Cond.methodLink "ConditionWise" (222 : Nat) ({ cls := "java/util/BitSet", name := "cardinality", desc := "()I" } : Jvm.MethodName)) ∈ lw_all := lw_g (lw_at lw_m8 27 rfl) rfl
theorem q1775 : (Jvm.Cond.instanceMethod ({ cls := "ConditionWise", name := "coverage", desc := "(II)F" } : Jvm.MethodName)) ∈ lw_all := lw_g (lw_at lw_m8 41 rfl) rfl
theorem q1776 : (Jvm.Cond.selects "ConditionWise" ({ cls := "ConditionWise", name := "coverage", desc := "(II)F" } : Jvm.MethodName) ({ cls := "ConditionWise", name := "coverage", desc := "(II)F" } : Jvm.MethodName)) ∈ lw_all := lw_g (lw_at lw_m8 42 rfl) rfl
theorem q1777 : (Jvm.Cond.code ({ cls := "ConditionWise", name := "coverage", desc := "(II)F" } : Jvm.MethodName) prog_1_method_44_code (6 : Nat) (Option.some Jvm.ClassFile.FieldType.float)) ∈ lw_all := lw_g (lw_at lw_m8 43 rfl) rfl
theorem q2146 : (Jvm.Cond.castable "ConditionWise" "java/lang/Object") ∈ lw_tbl := lw_at lw_m9 172 rfl
theorem in_X1 : ∀ w ∈ wsX10, w ∈ lw_all := lw_in wsX10 [180, 182, 184] (by decide +kernel) (by decide +kernel)
/-! ConditionWise$Reader -/
set_option maxRecDepth 100000
def RX3 : String := "ConditionWise$Reader"
def TX3 : u_T := fun k => match k with
  | 0 => ("ConditionWise$Reader", "signs", "[Ljava/lang/String;", true)
  | 1 => ("ConditionWise$Reader", "rest", "Ljava/util/Deque;", true)
  | 2 => ("ConditionWise$Reader", "letters", "Ljava/util/List;", true)
  | _ => ("ConditionWise$Reader", "place", "I", false)
def tyX3 : Nat → FieldType := fun k => match k with
  | 0 => .array (.object "java/lang/String")
  | 1 => .object "java/util/Deque"
  | 2 => .object "java/util/List"
  | _ => .int
abbrev wsX30 : List Cond := u_ws RX3 TX3 4
theorem nmX3 : ∀ a, a < 4 → ∀ b, b < 4 → a ≠ b → (TX3 a).2.1 ≠ (TX3 b).2.1 := by decide +kernel
theorem tyX3_ok : ∀ k, k < 4 → parseFieldDescriptor (TX3 k).2.2.1 = some (tyX3 k) := by decide +kernel
abbrev cX3_init : ByteArray := prog_10_method_1_code
def yX3_init : MethodName := ⟨RX3, "<init>", "(Ljava/util/Deque;)V"⟩
def dkwX3_init_1 : List UInt8 := [181, 0, 17, 42, 187, 0, 23, 89, 183, 0, 25, 181, 0, 26, 42, 43, 181, 0, 30, 177]
abbrev dktX3_init_1 : List UInt8 := dkwX3_init_1 ++ []
def dkwX3_init_0 : List UInt8 := [42, 183, 0, 3, 42, 6, 189, 0, 9, 89, 3, 18, 11, 83, 89, 4, 18, 13, 83, 89, 5, 18, 15, 83]
abbrev dktX3_init_0 : List UInt8 := dkwX3_init_0 ++ dktX3_init_1
theorem dksX3_init_0 : cX3_init.data.toList.drop 0 = dktX3_init_0 := by decide +kernel
theorem dksX3_init_1 : cX3_init.data.toList.drop 24 = dktX3_init_1 := dk_seg dksX3_init_0 24 rfl rfl
theorem dX3_init_0 : decode cX3_init 0 = .ok (.aload_n 0, 1) := dk_42 (dk_at dksX3_init_0 0 rfl rfl)
theorem dX3_init_1 : decode cX3_init 1 = .ok (.invokespecial 3, 3) := dk_183 0 3 (dk_at dksX3_init_0 1 rfl rfl)
theorem dX3_init_4 : decode cX3_init 4 = .ok (.aload_n 0, 1) := dk_42 (dk_at dksX3_init_0 4 rfl rfl)
theorem dX3_init_5 : decode cX3_init 5 = .ok (.iconst 3, 1) := dk_6 (dk_at dksX3_init_0 5 rfl rfl)
theorem dX3_init_6 : decode cX3_init 6 = .ok (.anewarray 9, 3) := dk_189 0 9 (dk_at dksX3_init_0 6 rfl rfl)
theorem dX3_init_9 : decode cX3_init 9 = .ok (.dup, 1) := dk_89 (dk_at dksX3_init_0 9 rfl rfl)
theorem dX3_init_10 : decode cX3_init 10 = .ok (.iconst 0, 1) := dk_3 (dk_at dksX3_init_0 10 rfl rfl)
theorem dX3_init_11 : decode cX3_init 11 = .ok (.ldc 11, 2) := dk_18 11 (dk_at dksX3_init_0 11 rfl rfl)
theorem dX3_init_13 : decode cX3_init 13 = .ok (.aastore, 1) := dk_83 (dk_at dksX3_init_0 13 rfl rfl)
theorem dX3_init_14 : decode cX3_init 14 = .ok (.dup, 1) := dk_89 (dk_at dksX3_init_0 14 rfl rfl)
theorem dX3_init_15 : decode cX3_init 15 = .ok (.iconst 1, 1) := dk_4 (dk_at dksX3_init_0 15 rfl rfl)
theorem dX3_init_16 : decode cX3_init 16 = .ok (.ldc 13, 2) := dk_18 13 (dk_at dksX3_init_0 16 rfl rfl)
theorem dX3_init_18 : decode cX3_init 18 = .ok (.aastore, 1) := dk_83 (dk_at dksX3_init_0 18 rfl rfl)
theorem dX3_init_19 : decode cX3_init 19 = .ok (.dup, 1) := dk_89 (dk_at dksX3_init_0 19 rfl rfl)
theorem dX3_init_20 : decode cX3_init 20 = .ok (.iconst 2, 1) := dk_5 (dk_at dksX3_init_0 20 rfl rfl)
theorem dX3_init_21 : decode cX3_init 21 = .ok (.ldc 15, 2) := dk_18 15 (dk_at dksX3_init_0 21 rfl rfl)
theorem dX3_init_23 : decode cX3_init 23 = .ok (.aastore, 1) := dk_83 (dk_at dksX3_init_0 23 rfl rfl)
theorem dX3_init_24 : decode cX3_init 24 = .ok (.putfield 17, 3) := dk_181 0 17 (dk_at dksX3_init_1 0 rfl rfl)
theorem dX3_init_27 : decode cX3_init 27 = .ok (.aload_n 0, 1) := dk_42 (dk_at dksX3_init_1 3 rfl rfl)
theorem dX3_init_28 : decode cX3_init 28 = .ok (.new 23, 3) := dk_187 0 23 (dk_at dksX3_init_1 4 rfl rfl)
theorem dX3_init_31 : decode cX3_init 31 = .ok (.dup, 1) := dk_89 (dk_at dksX3_init_1 7 rfl rfl)
theorem dX3_init_32 : decode cX3_init 32 = .ok (.invokespecial 25, 3) := dk_183 0 25 (dk_at dksX3_init_1 8 rfl rfl)
theorem dX3_init_35 : decode cX3_init 35 = .ok (.putfield 26, 3) := dk_181 0 26 (dk_at dksX3_init_1 11 rfl rfl)
theorem dX3_init_38 : decode cX3_init 38 = .ok (.aload_n 0, 1) := dk_42 (dk_at dksX3_init_1 14 rfl rfl)
theorem dX3_init_39 : decode cX3_init 39 = .ok (.aload_n 1, 1) := dk_43 (dk_at dksX3_init_1 15 rfl rfl)
theorem dX3_init_40 : decode cX3_init 40 = .ok (.putfield 30, 3) := dk_181 0 30 (dk_at dksX3_init_1 16 rfl rfl)
theorem dX3_init_43 : decode cX3_init 43 = .ok (.return_, 1) := dk_177 (dk_at dksX3_init_1 19 rfl rfl)
abbrev cX3_all : ByteArray := prog_10_method_5_code
def yX3_all : MethodName := ⟨RX3, "all", "()LConditionWise$Node;"⟩
def dkwX3_all_0 : List UInt8 := [42, 3, 182, 0, 66, 76, 42, 180, 0, 30, 185, 0, 34, 1, 0, 154, 0, 7, 42, 182, 0, 70, 43, 176]
abbrev dktX3_all_0 : List UInt8 := dkwX3_all_0 ++ []
theorem dksX3_all_0 : cX3_all.data.toList.drop 0 = dktX3_all_0 := by decide +kernel
theorem dX3_all_0 : decode cX3_all 0 = .ok (.aload_n 0, 1) := dk_42 (dk_at dksX3_all_0 0 rfl rfl)
theorem dX3_all_1 : decode cX3_all 1 = .ok (.iconst 0, 1) := dk_3 (dk_at dksX3_all_0 1 rfl rfl)
theorem dX3_all_2 : decode cX3_all 2 = .ok (.invokevirtual 66, 3) := dk_182 0 66 (dk_at dksX3_all_0 2 rfl rfl)
theorem dX3_all_5 : decode cX3_all 5 = .ok (.astore_n 1, 1) := dk_76 (dk_at dksX3_all_0 5 rfl rfl)
theorem dX3_all_6 : decode cX3_all 6 = .ok (.aload_n 0, 1) := dk_42 (dk_at dksX3_all_0 6 rfl rfl)
theorem dX3_all_7 : decode cX3_all 7 = .ok (.getfield 30, 3) := dk_180 0 30 (dk_at dksX3_all_0 7 rfl rfl)
theorem dX3_all_10 : decode cX3_all 10 = .ok (.invokeinterface 34 1, 5) := by decide +kernel
theorem dX3_all_15 : decode cX3_all 15 = .ok (.ifCond .ne 7, 3) := dk_154 0 7 (dk_at dksX3_all_0 15 rfl rfl)
theorem dX3_all_18 : decode cX3_all 18 = .ok (.aload_n 0, 1) := dk_42 (dk_at dksX3_all_0 18 rfl rfl)
theorem dX3_all_19 : decode cX3_all 19 = .ok (.invokevirtual 70, 3) := dk_182 0 70 (dk_at dksX3_all_0 19 rfl rfl)
theorem dX3_all_22 : decode cX3_all 22 = .ok (.aload_n 1, 1) := dk_43 (dk_at dksX3_all_0 22 rfl rfl)
theorem dX3_all_23 : decode cX3_all 23 = .ok (.areturn, 1) := dk_176 (dk_at dksX3_all_0 23 rfl rfl)
abbrev cX3_join : ByteArray := prog_10_method_6_code
def yX3_join : MethodName := ⟨RX3, "join", "(I)LConditionWise$Node;"⟩
def dkwX3_join_2 : List UInt8 := [27, 4, 96, 182, 0, 66, 184, 0, 84, 77, 167, 255, 220, 44, 176]
abbrev dktX3_join_2 : List UInt8 := dkwX3_join_2 ++ []
def dkwX3_join_1 : List UInt8 := [180, 0, 17, 27, 50, 182, 0, 77, 153, 0, 29, 42, 182, 0, 81, 87, 42, 180, 0, 17, 27, 50, 44, 42]
abbrev dktX3_join_1 : List UInt8 := dkwX3_join_1 ++ dktX3_join_2
def dkwX3_join_0 : List UInt8 := [27, 42, 180, 0, 17, 190, 160, 0, 8, 42, 182, 0, 73, 176, 42, 27, 4, 96, 182, 0, 66, 77, 42, 42]
abbrev dktX3_join_0 : List UInt8 := dkwX3_join_0 ++ dktX3_join_1
theorem dksX3_join_0 : cX3_join.data.toList.drop 0 = dktX3_join_0 := by decide +kernel
theorem dksX3_join_1 : cX3_join.data.toList.drop 24 = dktX3_join_1 := dk_seg dksX3_join_0 24 rfl rfl
theorem dksX3_join_2 : cX3_join.data.toList.drop 48 = dktX3_join_2 := dk_seg dksX3_join_1 24 rfl rfl
theorem dX3_join_0 : decode cX3_join 0 = .ok (.iload_n 1, 1) := dk_27 (dk_at dksX3_join_0 0 rfl rfl)
theorem dX3_join_1 : decode cX3_join 1 = .ok (.aload_n 0, 1) := dk_42 (dk_at dksX3_join_0 1 rfl rfl)
theorem dX3_join_2 : decode cX3_join 2 = .ok (.getfield 17, 3) := dk_180 0 17 (dk_at dksX3_join_0 2 rfl rfl)
theorem dX3_join_5 : decode cX3_join 5 = .ok (.arraylength, 1) := dk_190 (dk_at dksX3_join_0 5 rfl rfl)
theorem dX3_join_6 : decode cX3_join 6 = .ok (.if_icmp .ne 8, 3) := dk_160 0 8 (dk_at dksX3_join_0 6 rfl rfl)
theorem dX3_join_9 : decode cX3_join 9 = .ok (.aload_n 0, 1) := dk_42 (dk_at dksX3_join_0 9 rfl rfl)
theorem dX3_join_10 : decode cX3_join 10 = .ok (.invokevirtual 73, 3) := dk_182 0 73 (dk_at dksX3_join_0 10 rfl rfl)
theorem dX3_join_13 : decode cX3_join 13 = .ok (.areturn, 1) := dk_176 (dk_at dksX3_join_0 13 rfl rfl)
theorem dX3_join_14 : decode cX3_join 14 = .ok (.aload_n 0, 1) := dk_42 (dk_at dksX3_join_0 14 rfl rfl)
theorem dX3_join_15 : decode cX3_join 15 = .ok (.iload_n 1, 1) := dk_27 (dk_at dksX3_join_0 15 rfl rfl)
theorem dX3_join_16 : decode cX3_join 16 = .ok (.iconst 1, 1) := dk_4 (dk_at dksX3_join_0 16 rfl rfl)
theorem dX3_join_17 : decode cX3_join 17 = .ok (.iadd, 1) := dk_96 (dk_at dksX3_join_0 17 rfl rfl)
theorem dX3_join_18 : decode cX3_join 18 = .ok (.invokevirtual 66, 3) := dk_182 0 66 (dk_at dksX3_join_0 18 rfl rfl)
theorem dX3_join_21 : decode cX3_join 21 = .ok (.astore_n 2, 1) := dk_77 (dk_at dksX3_join_0 21 rfl rfl)
theorem dX3_join_22 : decode cX3_join 22 = .ok (.aload_n 0, 1) := dk_42 (dk_at dksX3_join_0 22 rfl rfl)
theorem dX3_join_23 : decode cX3_join 23 = .ok (.aload_n 0, 1) := dk_42 (dk_at dksX3_join_0 23 rfl rfl)
theorem dX3_join_24 : decode cX3_join 24 = .ok (.getfield 17, 3) := dk_180 0 17 (dk_at dksX3_join_1 0 rfl rfl)
theorem dX3_join_27 : decode cX3_join 27 = .ok (.iload_n 1, 1) := dk_27 (dk_at dksX3_join_1 3 rfl rfl)
theorem dX3_join_28 : decode cX3_join 28 = .ok (.aaload, 1) := dk_50 (dk_at dksX3_join_1 4 rfl rfl)
theorem dX3_join_29 : decode cX3_join 29 = .ok (.invokevirtual 77, 3) := dk_182 0 77 (dk_at dksX3_join_1 5 rfl rfl)
theorem dX3_join_32 : decode cX3_join 32 = .ok (.ifCond .eq 29, 3) := dk_153 0 29 (dk_at dksX3_join_1 8 rfl rfl)
theorem dX3_join_35 : decode cX3_join 35 = .ok (.aload_n 0, 1) := dk_42 (dk_at dksX3_join_1 11 rfl rfl)
theorem dX3_join_36 : decode cX3_join 36 = .ok (.invokevirtual 81, 3) := dk_182 0 81 (dk_at dksX3_join_1 12 rfl rfl)
theorem dX3_join_39 : decode cX3_join 39 = .ok (.pop, 1) := dk_87 (dk_at dksX3_join_1 15 rfl rfl)
theorem dX3_join_40 : decode cX3_join 40 = .ok (.aload_n 0, 1) := dk_42 (dk_at dksX3_join_1 16 rfl rfl)
theorem dX3_join_41 : decode cX3_join 41 = .ok (.getfield 17, 3) := dk_180 0 17 (dk_at dksX3_join_1 17 rfl rfl)
theorem dX3_join_44 : decode cX3_join 44 = .ok (.iload_n 1, 1) := dk_27 (dk_at dksX3_join_1 20 rfl rfl)
theorem dX3_join_45 : decode cX3_join 45 = .ok (.aaload, 1) := dk_50 (dk_at dksX3_join_1 21 rfl rfl)
theorem dX3_join_46 : decode cX3_join 46 = .ok (.aload_n 2, 1) := dk_44 (dk_at dksX3_join_1 22 rfl rfl)
theorem dX3_join_47 : decode cX3_join 47 = .ok (.aload_n 0, 1) := dk_42 (dk_at dksX3_join_1 23 rfl rfl)
theorem dX3_join_48 : decode cX3_join 48 = .ok (.iload_n 1, 1) := dk_27 (dk_at dksX3_join_2 0 rfl rfl)
theorem dX3_join_49 : decode cX3_join 49 = .ok (.iconst 1, 1) := dk_4 (dk_at dksX3_join_2 1 rfl rfl)
theorem dX3_join_50 : decode cX3_join 50 = .ok (.iadd, 1) := dk_96 (dk_at dksX3_join_2 2 rfl rfl)
theorem dX3_join_51 : decode cX3_join 51 = .ok (.invokevirtual 66, 3) := dk_182 0 66 (dk_at dksX3_join_2 3 rfl rfl)
theorem dX3_join_54 : decode cX3_join 54 = .ok (.invokestatic 84, 3) := dk_184 0 84 (dk_at dksX3_join_2 6 rfl rfl)
theorem dX3_join_57 : decode cX3_join 57 = .ok (.astore_n 2, 1) := dk_77 (dk_at dksX3_join_2 9 rfl rfl)
theorem dX3_join_58 : decode cX3_join 58 = .ok (.goto (-36), 3) := dk_167 255 220 (dk_at dksX3_join_2 10 rfl rfl)
theorem dX3_join_61 : decode cX3_join 61 = .ok (.aload_n 2, 1) := dk_44 (dk_at dksX3_join_2 13 rfl rfl)
theorem dX3_join_62 : decode cX3_join 62 = .ok (.areturn, 1) := dk_176 (dk_at dksX3_join_2 14 rfl rfl)
abbrev cX3_one : ByteArray := prog_10_method_7_code
def yX3_one : MethodName := ⟨RX3, "one", "()LConditionWise$Node;"⟩
def dkwX3_one_3 : List UInt8 := [176]
abbrev dktX3_one_3 : List UInt8 := dkwX3_one_3 ++ []
def dkwX3_one_2 : List UInt8 := [42, 18, 98, 182, 0, 77, 154, 0, 7, 42, 182, 0, 70, 42, 182, 0, 81, 87, 43, 176, 42, 182, 0, 100]
abbrev dktX3_one_2 : List UInt8 := dkwX3_one_2 ++ dktX3_one_3
def dkwX3_one_1 : List UInt8 := [183, 0, 93, 176, 42, 18, 96, 182, 0, 77, 153, 0, 34, 42, 182, 0, 81, 87, 42, 3, 182, 0, 66, 76]
abbrev dktX3_one_1 : List UInt8 := dkwX3_one_1 ++ dktX3_one_2
def dkwX3_one_0 : List UInt8 := [42, 18, 89, 182, 0, 77, 153, 0, 20, 42, 182, 0, 81, 87, 187, 0, 91, 89, 42, 182, 0, 73]
abbrev dktX3_one_0 : List UInt8 := dkwX3_one_0 ++ dktX3_one_1
theorem dksX3_one_0 : cX3_one.data.toList.drop 0 = dktX3_one_0 := by decide +kernel
theorem dksX3_one_1 : cX3_one.data.toList.drop 22 = dktX3_one_1 := dk_seg dksX3_one_0 22 rfl rfl
theorem dksX3_one_2 : cX3_one.data.toList.drop 46 = dktX3_one_2 := dk_seg dksX3_one_1 24 rfl rfl
theorem dksX3_one_3 : cX3_one.data.toList.drop 70 = dktX3_one_3 := dk_seg dksX3_one_2 24 rfl rfl
theorem dX3_one_0 : decode cX3_one 0 = .ok (.aload_n 0, 1) := dk_42 (dk_at dksX3_one_0 0 rfl rfl)
theorem dX3_one_1 : decode cX3_one 1 = .ok (.ldc 89, 2) := dk_18 89 (dk_at dksX3_one_0 1 rfl rfl)
theorem dX3_one_3 : decode cX3_one 3 = .ok (.invokevirtual 77, 3) := dk_182 0 77 (dk_at dksX3_one_0 3 rfl rfl)
theorem dX3_one_6 : decode cX3_one 6 = .ok (.ifCond .eq 20, 3) := dk_153 0 20 (dk_at dksX3_one_0 6 rfl rfl)
theorem dX3_one_9 : decode cX3_one 9 = .ok (.aload_n 0, 1) := dk_42 (dk_at dksX3_one_0 9 rfl rfl)
theorem dX3_one_10 : decode cX3_one 10 = .ok (.invokevirtual 81, 3) := dk_182 0 81 (dk_at dksX3_one_0 10 rfl rfl)
theorem dX3_one_13 : decode cX3_one 13 = .ok (.pop, 1) := dk_87 (dk_at dksX3_one_0 13 rfl rfl)
theorem dX3_one_14 : decode cX3_one 14 = .ok (.new 91, 3) := dk_187 0 91 (dk_at dksX3_one_0 14 rfl rfl)
theorem dX3_one_17 : decode cX3_one 17 = .ok (.dup, 1) := dk_89 (dk_at dksX3_one_0 17 rfl rfl)
theorem dX3_one_18 : decode cX3_one 18 = .ok (.aload_n 0, 1) := dk_42 (dk_at dksX3_one_0 18 rfl rfl)
theorem dX3_one_19 : decode cX3_one 19 = .ok (.invokevirtual 73, 3) := dk_182 0 73 (dk_at dksX3_one_0 19 rfl rfl)
theorem dX3_one_22 : decode cX3_one 22 = .ok (.invokespecial 93, 3) := dk_183 0 93 (dk_at dksX3_one_1 0 rfl rfl)
theorem dX3_one_25 : decode cX3_one 25 = .ok (.areturn, 1) := dk_176 (dk_at dksX3_one_1 3 rfl rfl)
theorem dX3_one_26 : decode cX3_one 26 = .ok (.aload_n 0, 1) := dk_42 (dk_at dksX3_one_1 4 rfl rfl)
theorem dX3_one_27 : decode cX3_one 27 = .ok (.ldc 96, 2) := dk_18 96 (dk_at dksX3_one_1 5 rfl rfl)
theorem dX3_one_29 : decode cX3_one 29 = .ok (.invokevirtual 77, 3) := dk_182 0 77 (dk_at dksX3_one_1 7 rfl rfl)
theorem dX3_one_32 : decode cX3_one 32 = .ok (.ifCond .eq 34, 3) := dk_153 0 34 (dk_at dksX3_one_1 10 rfl rfl)
theorem dX3_one_35 : decode cX3_one 35 = .ok (.aload_n 0, 1) := dk_42 (dk_at dksX3_one_1 13 rfl rfl)
theorem dX3_one_36 : decode cX3_one 36 = .ok (.invokevirtual 81, 3) := dk_182 0 81 (dk_at dksX3_one_1 14 rfl rfl)
theorem dX3_one_39 : decode cX3_one 39 = .ok (.pop, 1) := dk_87 (dk_at dksX3_one_1 17 rfl rfl)
theorem dX3_one_40 : decode cX3_one 40 = .ok (.aload_n 0, 1) := dk_42 (dk_at dksX3_one_1 18 rfl rfl)
theorem dX3_one_41 : decode cX3_one 41 = .ok (.iconst 0, 1) := dk_3 (dk_at dksX3_one_1 19 rfl rfl)
theorem dX3_one_42 : decode cX3_one 42 = .ok (.invokevirtual 66, 3) := dk_182 0 66 (dk_at dksX3_one_1 20 rfl rfl)
theorem dX3_one_45 : decode cX3_one 45 = .ok (.astore_n 1, 1) := dk_76 (dk_at dksX3_one_1 23 rfl rfl)
theorem dX3_one_46 : decode cX3_one 46 = .ok (.aload_n 0, 1) := dk_42 (dk_at dksX3_one_2 0 rfl rfl)
theorem dX3_one_47 : decode cX3_one 47 = .ok (.ldc 98, 2) := dk_18 98 (dk_at dksX3_one_2 1 rfl rfl)
theorem dX3_one_49 : decode cX3_one 49 = .ok (.invokevirtual 77, 3) := dk_182 0 77 (dk_at dksX3_one_2 3 rfl rfl)
theorem dX3_one_52 : decode cX3_one 52 = .ok (.ifCond .ne 7, 3) := dk_154 0 7 (dk_at dksX3_one_2 6 rfl rfl)
theorem dX3_one_55 : decode cX3_one 55 = .ok (.aload_n 0, 1) := dk_42 (dk_at dksX3_one_2 9 rfl rfl)
theorem dX3_one_56 : decode cX3_one 56 = .ok (.invokevirtual 70, 3) := dk_182 0 70 (dk_at dksX3_one_2 10 rfl rfl)
theorem dX3_one_59 : decode cX3_one 59 = .ok (.aload_n 0, 1) := dk_42 (dk_at dksX3_one_2 13 rfl rfl)
theorem dX3_one_60 : decode cX3_one 60 = .ok (.invokevirtual 81, 3) := dk_182 0 81 (dk_at dksX3_one_2 14 rfl rfl)
theorem dX3_one_63 : decode cX3_one 63 = .ok (.pop, 1) := dk_87 (dk_at dksX3_one_2 17 rfl rfl)
theorem dX3_one_64 : decode cX3_one 64 = .ok (.aload_n 1, 1) := dk_43 (dk_at dksX3_one_2 18 rfl rfl)
theorem dX3_one_65 : decode cX3_one 65 = .ok (.areturn, 1) := dk_176 (dk_at dksX3_one_2 19 rfl rfl)
theorem dX3_one_66 : decode cX3_one 66 = .ok (.aload_n 0, 1) := dk_42 (dk_at dksX3_one_2 20 rfl rfl)
theorem dX3_one_67 : decode cX3_one 67 = .ok (.invokevirtual 100, 3) := dk_182 0 100 (dk_at dksX3_one_2 21 rfl rfl)
theorem dX3_one_70 : decode cX3_one 70 = .ok (.areturn, 1) := dk_176 (dk_at dksX3_one_3 0 rfl rfl)
abbrev cX3_isNext : ByteArray := prog_10_method_2_code
def yX3_isNext : MethodName := ⟨RX3, "isNext", "(Ljava/lang/String;)Z"⟩
def dkwX3_isNext_1 : List UInt8 := [182, 0, 46, 43, 3, 182, 0, 50, 160, 0, 7, 4, 167, 0, 4, 3, 172]
abbrev dktX3_isNext_1 : List UInt8 := dkwX3_isNext_1 ++ []
def dkwX3_isNext_0 : List UInt8 := [42, 180, 0, 30, 185, 0, 34, 1, 0, 154, 0, 30, 42, 180, 0, 30, 185, 0, 40, 1, 0, 192, 0, 44]
abbrev dktX3_isNext_0 : List UInt8 := dkwX3_isNext_0 ++ dktX3_isNext_1
theorem dksX3_isNext_0 : cX3_isNext.data.toList.drop 0 = dktX3_isNext_0 := by decide +kernel
theorem dksX3_isNext_1 : cX3_isNext.data.toList.drop 24 = dktX3_isNext_1 := dk_seg dksX3_isNext_0 24 rfl rfl
theorem dX3_isNext_0 : decode cX3_isNext 0 = .ok (.aload_n 0, 1) := dk_42 (dk_at dksX3_isNext_0 0 rfl rfl)
theorem dX3_isNext_1 : decode cX3_isNext 1 = .ok (.getfield 30, 3) := dk_180 0 30 (dk_at dksX3_isNext_0 1 rfl rfl)
theorem dX3_isNext_4 : decode cX3_isNext 4 = .ok (.invokeinterface 34 1, 5) := by decide +kernel
theorem dX3_isNext_9 : decode cX3_isNext 9 = .ok (.ifCond .ne 30, 3) := dk_154 0 30 (dk_at dksX3_isNext_0 9 rfl rfl)
theorem dX3_isNext_12 : decode cX3_isNext 12 = .ok (.aload_n 0, 1) := dk_42 (dk_at dksX3_isNext_0 12 rfl rfl)
theorem dX3_isNext_13 : decode cX3_isNext 13 = .ok (.getfield 30, 3) := dk_180 0 30 (dk_at dksX3_isNext_0 13 rfl rfl)
theorem dX3_isNext_16 : decode cX3_isNext 16 = .ok (.invokeinterface 40 1, 5) := by decide +kernel
theorem dX3_isNext_21 : decode cX3_isNext 21 = .ok (.checkcast 44, 3) := dk_192 0 44 (dk_at dksX3_isNext_0 21 rfl rfl)
theorem dX3_isNext_24 : decode cX3_isNext 24 = .ok (.invokevirtual 46, 3) := dk_182 0 46 (dk_at dksX3_isNext_1 0 rfl rfl)
theorem dX3_isNext_27 : decode cX3_isNext 27 = .ok (.aload_n 1, 1) := dk_43 (dk_at dksX3_isNext_1 3 rfl rfl)
theorem dX3_isNext_28 : decode cX3_isNext 28 = .ok (.iconst 0, 1) := dk_3 (dk_at dksX3_isNext_1 4 rfl rfl)
theorem dX3_isNext_29 : decode cX3_isNext 29 = .ok (.invokevirtual 50, 3) := dk_182 0 50 (dk_at dksX3_isNext_1 5 rfl rfl)
theorem dX3_isNext_32 : decode cX3_isNext 32 = .ok (.if_icmp .ne 7, 3) := dk_160 0 7 (dk_at dksX3_isNext_1 8 rfl rfl)
theorem dX3_isNext_35 : decode cX3_isNext 35 = .ok (.iconst 1, 1) := dk_4 (dk_at dksX3_isNext_1 11 rfl rfl)
theorem dX3_isNext_36 : decode cX3_isNext 36 = .ok (.goto 4, 3) := dk_167 0 4 (dk_at dksX3_isNext_1 12 rfl rfl)
theorem dX3_isNext_39 : decode cX3_isNext 39 = .ok (.iconst 0, 1) := dk_3 (dk_at dksX3_isNext_1 15 rfl rfl)
theorem dX3_isNext_40 : decode cX3_isNext 40 = .ok (.ireturn, 1) := dk_172 (dk_at dksX3_isNext_1 16 rfl rfl)
abbrev cX3_take : ByteArray := prog_10_method_3_code
def yX3_take : MethodName := ⟨RX3, "take", "()C"⟩
def dkwX3_take_2 : List UInt8 := [182, 0, 46, 172]
abbrev dktX3_take_2 : List UInt8 := dkwX3_take_2 ++ []
def dkwX3_take_1 : List UInt8 := [42, 89, 180, 0, 56, 4, 96, 181, 0, 56, 42, 180, 0, 30, 185, 0, 63, 1, 0, 192, 0, 44]
abbrev dktX3_take_1 : List UInt8 := dkwX3_take_1 ++ dktX3_take_2
def dkwX3_take_0 : List UInt8 := [42, 180, 0, 30, 185, 0, 34, 1, 0, 153, 0, 15, 187, 0, 54, 89, 42, 180, 0, 56, 183, 0, 60, 191]
abbrev dktX3_take_0 : List UInt8 := dkwX3_take_0 ++ dktX3_take_1
theorem dksX3_take_0 : cX3_take.data.toList.drop 0 = dktX3_take_0 := by decide +kernel
theorem dksX3_take_1 : cX3_take.data.toList.drop 24 = dktX3_take_1 := dk_seg dksX3_take_0 24 rfl rfl
theorem dksX3_take_2 : cX3_take.data.toList.drop 46 = dktX3_take_2 := dk_seg dksX3_take_1 22 rfl rfl
theorem dX3_take_0 : decode cX3_take 0 = .ok (.aload_n 0, 1) := dk_42 (dk_at dksX3_take_0 0 rfl rfl)
theorem dX3_take_1 : decode cX3_take 1 = .ok (.getfield 30, 3) := dk_180 0 30 (dk_at dksX3_take_0 1 rfl rfl)
theorem dX3_take_4 : decode cX3_take 4 = .ok (.invokeinterface 34 1, 5) := by decide +kernel
theorem dX3_take_9 : decode cX3_take 9 = .ok (.ifCond .eq 15, 3) := dk_153 0 15 (dk_at dksX3_take_0 9 rfl rfl)
theorem dX3_take_12 : decode cX3_take 12 = .ok (.new 54, 3) := dk_187 0 54 (dk_at dksX3_take_0 12 rfl rfl)
theorem dX3_take_15 : decode cX3_take 15 = .ok (.dup, 1) := dk_89 (dk_at dksX3_take_0 15 rfl rfl)
theorem dX3_take_16 : decode cX3_take 16 = .ok (.aload_n 0, 1) := dk_42 (dk_at dksX3_take_0 16 rfl rfl)
theorem dX3_take_17 : decode cX3_take 17 = .ok (.getfield 56, 3) := dk_180 0 56 (dk_at dksX3_take_0 17 rfl rfl)
theorem dX3_take_20 : decode cX3_take 20 = .ok (.invokespecial 60, 3) := dk_183 0 60 (dk_at dksX3_take_0 20 rfl rfl)
theorem dX3_take_23 : decode cX3_take 23 = .ok (.athrow, 1) := dk_191 (dk_at dksX3_take_0 23 rfl rfl)
theorem dX3_take_24 : decode cX3_take 24 = .ok (.aload_n 0, 1) := dk_42 (dk_at dksX3_take_1 0 rfl rfl)
theorem dX3_take_25 : decode cX3_take 25 = .ok (.dup, 1) := dk_89 (dk_at dksX3_take_1 1 rfl rfl)
theorem dX3_take_26 : decode cX3_take 26 = .ok (.getfield 56, 3) := dk_180 0 56 (dk_at dksX3_take_1 2 rfl rfl)
theorem dX3_take_29 : decode cX3_take 29 = .ok (.iconst 1, 1) := dk_4 (dk_at dksX3_take_1 5 rfl rfl)
theorem dX3_take_30 : decode cX3_take 30 = .ok (.iadd, 1) := dk_96 (dk_at dksX3_take_1 6 rfl rfl)
theorem dX3_take_31 : decode cX3_take 31 = .ok (.putfield 56, 3) := dk_181 0 56 (dk_at dksX3_take_1 7 rfl rfl)
theorem dX3_take_34 : decode cX3_take 34 = .ok (.aload_n 0, 1) := dk_42 (dk_at dksX3_take_1 10 rfl rfl)
theorem dX3_take_35 : decode cX3_take 35 = .ok (.getfield 30, 3) := dk_180 0 30 (dk_at dksX3_take_1 11 rfl rfl)
theorem dX3_take_38 : decode cX3_take 38 = .ok (.invokeinterface 63 1, 5) := by decide +kernel
theorem dX3_take_43 : decode cX3_take 43 = .ok (.checkcast 44, 3) := dk_192 0 44 (dk_at dksX3_take_1 19 rfl rfl)
theorem dX3_take_46 : decode cX3_take 46 = .ok (.invokevirtual 46, 3) := dk_182 0 46 (dk_at dksX3_take_2 0 rfl rfl)
theorem dX3_take_49 : decode cX3_take 49 = .ok (.ireturn, 1) := dk_172 (dk_at dksX3_take_2 3 rfl rfl)
abbrev cX3_fail : ByteArray := prog_10_method_4_code
def yX3_fail : MethodName := ⟨RX3, "fail", "()V"⟩
def dkwX3_fail_0 : List UInt8 := [187, 0, 54, 89, 42, 180, 0, 56, 183, 0, 60, 191]
abbrev dktX3_fail_0 : List UInt8 := dkwX3_fail_0 ++ []
theorem dksX3_fail_0 : cX3_fail.data.toList.drop 0 = dktX3_fail_0 := by decide +kernel
theorem dX3_fail_0 : decode cX3_fail 0 = .ok (.new 54, 3) := dk_187 0 54 (dk_at dksX3_fail_0 0 rfl rfl)
theorem dX3_fail_3 : decode cX3_fail 3 = .ok (.dup, 1) := dk_89 (dk_at dksX3_fail_0 3 rfl rfl)
theorem dX3_fail_4 : decode cX3_fail 4 = .ok (.aload_n 0, 1) := dk_42 (dk_at dksX3_fail_0 4 rfl rfl)
theorem dX3_fail_5 : decode cX3_fail 5 = .ok (.getfield 56, 3) := dk_180 0 56 (dk_at dksX3_fail_0 5 rfl rfl)
theorem dX3_fail_8 : decode cX3_fail 8 = .ok (.invokespecial 60, 3) := dk_183 0 60 (dk_at dksX3_fail_0 8 rfl rfl)
theorem dX3_fail_11 : decode cX3_fail 11 = .ok (.athrow, 1) := dk_191 (dk_at dksX3_fail_0 11 rfl rfl)
abbrev cX3_letter : ByteArray := prog_10_method_8_code
def yX3_letter : MethodName := ⟨RX3, "letter", "()LConditionWise$Node;"⟩
def dkwX3_letter_4 : List UInt8 := [185, 0, 103, 1, 0, 4, 100, 27, 183, 0, 121, 176]
abbrev dktX3_letter_4 : List UInt8 := dkwX3_letter_4 ++ []
def dkwX3_letter_3 : List UInt8 := [180, 0, 26, 27, 184, 0, 109, 185, 0, 115, 2, 0, 87, 187, 0, 119, 89, 42, 180, 0, 26]
abbrev dktX3_letter_3 : List UInt8 := dkwX3_letter_3 ++ dktX3_letter_4
def dkwX3_letter_2 : List UInt8 := [42, 180, 0, 26, 185, 0, 103, 1, 0, 16, 8, 160, 0, 7, 42, 182, 0, 70, 42, 182, 0, 81, 87, 42]
abbrev dktX3_letter_2 : List UInt8 := dkwX3_letter_2 ++ dktX3_letter_3
def dkwX3_letter_1 : List UInt8 := [185, 0, 40, 1, 0, 192, 0, 44, 182, 0, 46, 16, 97, 100, 60, 27, 155, 0, 22, 27, 7, 162, 0, 17]
abbrev dktX3_letter_1 : List UInt8 := dkwX3_letter_1 ++ dktX3_letter_2
def dkwX3_letter_0 : List UInt8 := [42, 180, 0, 30, 185, 0, 34, 1, 0, 153, 0, 7, 2, 167, 0, 21, 42, 180, 0, 30]
abbrev dktX3_letter_0 : List UInt8 := dkwX3_letter_0 ++ dktX3_letter_1
theorem dksX3_letter_0 : cX3_letter.data.toList.drop 0 = dktX3_letter_0 := by decide +kernel
theorem dksX3_letter_1 : cX3_letter.data.toList.drop 20 = dktX3_letter_1 := dk_seg dksX3_letter_0 20 rfl rfl
theorem dksX3_letter_2 : cX3_letter.data.toList.drop 44 = dktX3_letter_2 := dk_seg dksX3_letter_1 24 rfl rfl
theorem dksX3_letter_3 : cX3_letter.data.toList.drop 68 = dktX3_letter_3 := dk_seg dksX3_letter_2 24 rfl rfl
theorem dksX3_letter_4 : cX3_letter.data.toList.drop 89 = dktX3_letter_4 := dk_seg dksX3_letter_3 21 rfl rfl
theorem dX3_letter_0 : decode cX3_letter 0 = .ok (.aload_n 0, 1) := dk_42 (dk_at dksX3_letter_0 0 rfl rfl)
theorem dX3_letter_1 : decode cX3_letter 1 = .ok (.getfield 30, 3) := dk_180 0 30 (dk_at dksX3_letter_0 1 rfl rfl)
theorem dX3_letter_4 : decode cX3_letter 4 = .ok (.invokeinterface 34 1, 5) := by decide +kernel
theorem dX3_letter_9 : decode cX3_letter 9 = .ok (.ifCond .eq 7, 3) := dk_153 0 7 (dk_at dksX3_letter_0 9 rfl rfl)
theorem dX3_letter_12 : decode cX3_letter 12 = .ok (.iconst (-1), 1) := dk_2 (dk_at dksX3_letter_0 12 rfl rfl)
theorem dX3_letter_13 : decode cX3_letter 13 = .ok (.goto 21, 3) := dk_167 0 21 (dk_at dksX3_letter_0 13 rfl rfl)
theorem dX3_letter_16 : decode cX3_letter 16 = .ok (.aload_n 0, 1) := dk_42 (dk_at dksX3_letter_0 16 rfl rfl)
theorem dX3_letter_17 : decode cX3_letter 17 = .ok (.getfield 30, 3) := dk_180 0 30 (dk_at dksX3_letter_0 17 rfl rfl)
theorem dX3_letter_20 : decode cX3_letter 20 = .ok (.invokeinterface 40 1, 5) := by decide +kernel
theorem dX3_letter_25 : decode cX3_letter 25 = .ok (.checkcast 44, 3) := dk_192 0 44 (dk_at dksX3_letter_1 5 rfl rfl)
theorem dX3_letter_28 : decode cX3_letter 28 = .ok (.invokevirtual 46, 3) := dk_182 0 46 (dk_at dksX3_letter_1 8 rfl rfl)
theorem dX3_letter_31 : decode cX3_letter 31 = .ok (.bipush 97, 2) := dk_16 97 (dk_at dksX3_letter_1 11 rfl rfl)
theorem dX3_letter_33 : decode cX3_letter 33 = .ok (.isub, 1) := dk_100 (dk_at dksX3_letter_1 13 rfl rfl)
theorem dX3_letter_34 : decode cX3_letter 34 = .ok (.istore_n 1, 1) := dk_60 (dk_at dksX3_letter_1 14 rfl rfl)
theorem dX3_letter_35 : decode cX3_letter 35 = .ok (.iload_n 1, 1) := dk_27 (dk_at dksX3_letter_1 15 rfl rfl)
theorem dX3_letter_36 : decode cX3_letter 36 = .ok (.ifCond .lt 22, 3) := dk_155 0 22 (dk_at dksX3_letter_1 16 rfl rfl)
theorem dX3_letter_39 : decode cX3_letter 39 = .ok (.iload_n 1, 1) := dk_27 (dk_at dksX3_letter_1 19 rfl rfl)
theorem dX3_letter_40 : decode cX3_letter 40 = .ok (.iconst 4, 1) := dk_7 (dk_at dksX3_letter_1 20 rfl rfl)
theorem dX3_letter_41 : decode cX3_letter 41 = .ok (.if_icmp .ge 17, 3) := dk_162 0 17 (dk_at dksX3_letter_1 21 rfl rfl)
theorem dX3_letter_44 : decode cX3_letter 44 = .ok (.aload_n 0, 1) := dk_42 (dk_at dksX3_letter_2 0 rfl rfl)
theorem dX3_letter_45 : decode cX3_letter 45 = .ok (.getfield 26, 3) := dk_180 0 26 (dk_at dksX3_letter_2 1 rfl rfl)
theorem dX3_letter_48 : decode cX3_letter 48 = .ok (.invokeinterface 103 1, 5) := by decide +kernel
theorem dX3_letter_53 : decode cX3_letter 53 = .ok (.bipush 8, 2) := dk_16 8 (dk_at dksX3_letter_2 9 rfl rfl)
theorem dX3_letter_55 : decode cX3_letter 55 = .ok (.if_icmp .ne 7, 3) := dk_160 0 7 (dk_at dksX3_letter_2 11 rfl rfl)
theorem dX3_letter_58 : decode cX3_letter 58 = .ok (.aload_n 0, 1) := dk_42 (dk_at dksX3_letter_2 14 rfl rfl)
theorem dX3_letter_59 : decode cX3_letter 59 = .ok (.invokevirtual 70, 3) := dk_182 0 70 (dk_at dksX3_letter_2 15 rfl rfl)
theorem dX3_letter_62 : decode cX3_letter 62 = .ok (.aload_n 0, 1) := dk_42 (dk_at dksX3_letter_2 18 rfl rfl)
theorem dX3_letter_63 : decode cX3_letter 63 = .ok (.invokevirtual 81, 3) := dk_182 0 81 (dk_at dksX3_letter_2 19 rfl rfl)
theorem dX3_letter_66 : decode cX3_letter 66 = .ok (.pop, 1) := dk_87 (dk_at dksX3_letter_2 22 rfl rfl)
theorem dX3_letter_67 : decode cX3_letter 67 = .ok (.aload_n 0, 1) := dk_42 (dk_at dksX3_letter_2 23 rfl rfl)
theorem dX3_letter_68 : decode cX3_letter 68 = .ok (.getfield 26, 3) := dk_180 0 26 (dk_at dksX3_letter_3 0 rfl rfl)
theorem dX3_letter_71 : decode cX3_letter 71 = .ok (.iload_n 1, 1) := dk_27 (dk_at dksX3_letter_3 3 rfl rfl)
theorem dX3_letter_72 : decode cX3_letter 72 = .ok (.invokestatic 109, 3) := dk_184 0 109 (dk_at dksX3_letter_3 4 rfl rfl)
theorem dX3_letter_75 : decode cX3_letter 75 = .ok (.invokeinterface 115 2, 5) := by decide +kernel
theorem dX3_letter_80 : decode cX3_letter 80 = .ok (.pop, 1) := dk_87 (dk_at dksX3_letter_3 12 rfl rfl)
theorem dX3_letter_81 : decode cX3_letter 81 = .ok (.new 119, 3) := dk_187 0 119 (dk_at dksX3_letter_3 13 rfl rfl)
theorem dX3_letter_84 : decode cX3_letter 84 = .ok (.dup, 1) := dk_89 (dk_at dksX3_letter_3 16 rfl rfl)
theorem dX3_letter_85 : decode cX3_letter 85 = .ok (.aload_n 0, 1) := dk_42 (dk_at dksX3_letter_3 17 rfl rfl)
theorem dX3_letter_86 : decode cX3_letter 86 = .ok (.getfield 26, 3) := dk_180 0 26 (dk_at dksX3_letter_3 18 rfl rfl)
theorem dX3_letter_89 : decode cX3_letter 89 = .ok (.invokeinterface 103 1, 5) := by decide +kernel
theorem dX3_letter_94 : decode cX3_letter 94 = .ok (.iconst 1, 1) := dk_4 (dk_at dksX3_letter_4 5 rfl rfl)
theorem dX3_letter_95 : decode cX3_letter 95 = .ok (.isub, 1) := dk_100 (dk_at dksX3_letter_4 6 rfl rfl)
theorem dX3_letter_96 : decode cX3_letter 96 = .ok (.iload_n 1, 1) := dk_27 (dk_at dksX3_letter_4 7 rfl rfl)
theorem dX3_letter_97 : decode cX3_letter 97 = .ok (.invokespecial 121, 3) := dk_183 0 121 (dk_at dksX3_letter_4 8 rfl rfl)
theorem dX3_letter_100 : decode cX3_letter 100 = .ok (.areturn, 1) := dk_176 (dk_at dksX3_letter_4 11 rfl rfl)
theorem q74 : (Jvm.Cond.initialized "ConditionWise$Reader") ∈ lw_all := lw_g (lw_at lw_m1 20 rfl) rfl
theorem q713 : (Jvm.Cond.selects "ConditionWise$Reader" ({ cls := "java/lang/Object", name := "getClass", desc := "()Ljava/lang/Class;" } : Jvm.MethodName) ({ cls := "java/lang/Object", name := "getClass", desc := "()Ljava/lang/Class;" } : Jvm.MethodName)) ∈ lw_all := lw_g (lw_at lw_m3 179 rfl) rfl
theorem q777 : (Jvm.Cond.instantiable "ConditionWise$Reader" (4 : Nat)) ∈ lw_all := lw_g (lw_at lw_m4 3 rfl) rfl
theorem q779 : (Jvm.Cond.instanceMethod ({ cls := "ConditionWise$Reader", name := "<init>", desc := "(Ljava/util/Deque;)V" } : Jvm.MethodName)) ∈ lw_all := lw_g (lw_at lw_m4 5 rfl) rfl
theorem q780 : (Jvm.Cond.code ({ cls := "ConditionWise$Reader", name := "<init>", desc := "(Ljava/util/Deque;)V" } : Jvm.MethodName) prog_10_method_1_code (2 : Nat) (Option.none : Option Jvm.ClassFile.FieldType)) ∈ lw_all := lw_g (lw_at lw_m4 6 rfl) rfl
theorem q781 : (Jvm.Cond.methodLink "ConditionWise$Reader" (3 : Nat) ({ cls := "java/lang/Object", name := "<init>", desc := "()V" } : Jvm.MethodName)) ∈ lw_all := lw_g (lw_at lw_m4 7 rfl) rfl
theorem q782 : (Jvm.Cond.classLink "ConditionWise$Reader" (9 : Nat) "java/lang/String") ∈ lw_all := lw_g (lw_at lw_m4 8 rfl) rfl
theorem q784 : (Jvm.Cond.stringRef "ConditionWise$Reader" (11 : Nat) "|") ∈ lw_tbl := lw_at lw_m4 10 rfl
theorem q785 : (Jvm.Cond.stringRef "ConditionWise$Reader" (13 : Nat) "^") ∈ lw_tbl := lw_at lw_m4 11 rfl
theorem q786 : (Jvm.Cond.stringRef "ConditionWise$Reader" (15 : Nat) "&") ∈ lw_tbl := lw_at lw_m4 12 rfl
theorem q787 : (Jvm.Cond.classLink "ConditionWise$Reader" (23 : Nat) "java/util/ArrayList") ∈ lw_all := lw_g (lw_at lw_m4 13 rfl) rfl
theorem q788 : (Jvm.Cond.methodLink "ConditionWise$Reader" (25 : Nat) ({ cls := "java/util/ArrayList", name := "<init>", desc := "()V" } : Jvm.MethodName)) ∈ lw_all := lw_g (lw_at lw_m4 14 rfl) rfl
theorem q789 : (Jvm.Cond.fieldLink "ConditionWise$Reader" (17 : Nat) "ConditionWise$Reader" "signs" "[Ljava/lang/String;") ∈ lw_all := lw_g (lw_at lw_m4 15 rfl) rfl
theorem q790 : (Jvm.Cond.fieldLink "ConditionWise$Reader" (30 : Nat) "ConditionWise$Reader" "rest" "Ljava/util/Deque;") ∈ lw_all := lw_g (lw_at lw_m4 16 rfl) rfl
theorem q791 : (Jvm.Cond.fieldLink "ConditionWise$Reader" (26 : Nat) "ConditionWise$Reader" "letters" "Ljava/util/List;") ∈ lw_all := lw_g (lw_at lw_m4 17 rfl) rfl
theorem q793 : (Jvm.Cond.fieldLink "ConditionWise$Reader" (56 : Nat) "ConditionWise$Reader" "place" "I") ∈ lw_all := lw_g (lw_at lw_m4 19 rfl) rfl
theorem q794 : (Jvm.Cond.laysFinal "ConditionWise$Reader" "ConditionWise$Reader" "signs" "[Ljava/lang/String;") ∈ lw_all := lw_g (lw_at lw_m4 20 rfl) rfl
theorem q795 : (Jvm.Cond.soleField "ConditionWise$Reader" "signs") ∈ lw_all := lw_g (lw_at lw_m4 21 rfl) rfl
theorem q796 : (Jvm.Cond.laysFinal "ConditionWise$Reader" "ConditionWise$Reader" "rest" "Ljava/util/Deque;") ∈ lw_all := lw_g (lw_at lw_m4 22 rfl) rfl
theorem q797 : (Jvm.Cond.soleField "ConditionWise$Reader" "rest") ∈ lw_all := lw_g (lw_at lw_m4 23 rfl) rfl
theorem q798 : (Jvm.Cond.laysFinal "ConditionWise$Reader" "ConditionWise$Reader" "letters" "Ljava/util/List;") ∈ lw_all := lw_g (lw_at lw_m4 24 rfl) rfl
theorem q799 : (Jvm.Cond.soleField "ConditionWise$Reader" "letters") ∈ lw_all := lw_g (lw_at lw_m4 25 rfl) rfl
theorem q800 : (Jvm.Cond.lays "ConditionWise$Reader" "ConditionWise$Reader" "place" "I") ∈ lw_all := lw_g (lw_at lw_m4 26 rfl) rfl
theorem q801 : (Jvm.Cond.soleField "ConditionWise$Reader" "place") ∈ lw_all := lw_g (lw_at lw_m4 27 rfl) rfl
theorem q802 : (Jvm.Cond.superclass "ConditionWise$Reader" "java/lang/Object") ∈ lw_all := lw_g (lw_at lw_m4 28 rfl) rfl
theorem q804 : (Jvm.Cond.instanceMethod ({ cls := "ConditionWise$Reader", name := "all", desc := "()LConditionWise$Node;" } : Jvm.MethodName)) ∈ lw_all := lw_g (lw_at lw_m4 30 rfl) rfl
theorem q805 : (Jvm.Cond.selects "ConditionWise$Reader" ({ cls := "ConditionWise$Reader", name := "all", desc := "()LConditionWise$Node;" } : Jvm.MethodName) ({ cls := "ConditionWise$Reader", name := "all", desc := "()LConditionWise$Node;" } : Jvm.MethodName)) ∈ lw_all := lw_g (lw_at lw_m4 31 rfl) rfl
theorem q806 : (Jvm.Cond.code ({ cls := "ConditionWise$Reader", name := "all", desc := "()LConditionWise$Node;" } : Jvm.MethodName) prog_10_method_5_code (2 : Nat) (Option.some (Jvm.ClassFile.FieldType.object "ConditionWise$Node"))) ∈ lw_all := lw_g (lw_at lw_m4 32 rfl) rfl
theorem q807 : (Jvm.Cond.methodLink "ConditionWise$Reader" (66 : Nat) ({ cls := "ConditionWise$Reader", name := "join", desc := "(I)LConditionWise$Node;" } : Jvm.MethodName)) ∈ lw_all := lw_g (lw_at lw_m4 33 rfl) rfl
theorem q808 : (Jvm.Cond.privateMethod ({ cls := "ConditionWise$Reader", name := "join", desc := "(I)LConditionWise$Node;" } : Jvm.MethodName)) ∈ lw_tbl := lw_at lw_m4 34 rfl
theorem q809 : (Jvm.Cond.instanceMethod ({ cls := "ConditionWise$Reader", name := "join", desc := "(I)LConditionWise$Node;" } : Jvm.MethodName)) ∈ lw_all := lw_g (lw_at lw_m4 35 rfl) rfl
theorem q810 : (Jvm.Cond.code ({ cls := "ConditionWise$Reader", name := "join", desc := "(I)LConditionWise$Node;" } : Jvm.MethodName) prog_10_method_6_code (3 : Nat) (Option.some (Jvm.ClassFile.FieldType.object "ConditionWise$Node"))) ∈ lw_all := lw_g (lw_at lw_m4 36 rfl) rfl
theorem q811 : (Jvm.Cond.methodLink "ConditionWise$Reader" (73 : Nat) ({ cls := "ConditionWise$Reader", name := "one", desc := "()LConditionWise$Node;" } : Jvm.MethodName)) ∈ lw_all := lw_g (lw_at lw_m4 37 rfl) rfl
theorem q812 : (Jvm.Cond.privateMethod ({ cls := "ConditionWise$Reader", name := "one", desc := "()LConditionWise$Node;" } : Jvm.MethodName)) ∈ lw_tbl := lw_at lw_m4 38 rfl
theorem q813 : (Jvm.Cond.instanceMethod ({ cls := "ConditionWise$Reader", name := "one", desc := "()LConditionWise$Node;" } : Jvm.MethodName)) ∈ lw_all := lw_g (lw_at lw_m4 39 rfl) rfl
theorem q814 : (Jvm.Cond.code ({ cls := "ConditionWise$Reader", name := "one", desc := "()LConditionWise$Node;" } : Jvm.MethodName) prog_10_method_7_code (2 : Nat) (Option.some (Jvm.ClassFile.FieldType.object "ConditionWise$Node"))) ∈ lw_all := lw_g (lw_at lw_m4 40 rfl) rfl
theorem q815 : (Jvm.Cond.stringRef "ConditionWise$Reader" (89 : Nat) "!") ∈ lw_tbl := lw_at lw_m4 41 rfl
theorem q816 : (Jvm.Cond.methodLink "ConditionWise$Reader" (77 : Nat) ({ cls := "ConditionWise$Reader", name := "isNext", desc := "(Ljava/lang/String;)Z" } : Jvm.MethodName)) ∈ lw_all := lw_g (lw_at lw_m4 42 rfl) rfl
theorem q817 : (Jvm.Cond.privateMethod ({ cls := "ConditionWise$Reader", name := "isNext", desc := "(Ljava/lang/String;)Z" } : Jvm.MethodName)) ∈ lw_tbl := lw_at lw_m4 43 rfl
theorem q818 : (Jvm.Cond.instanceMethod ({ cls := "ConditionWise$Reader", name := "isNext", desc := "(Ljava/lang/String;)Z" } : Jvm.MethodName)) ∈ lw_all := lw_g (lw_at lw_m4 44 rfl) rfl
theorem q819 : (Jvm.Cond.code ({ cls := "ConditionWise$Reader", name := "isNext", desc := "(Ljava/lang/String;)Z" } : Jvm.MethodName) prog_10_method_2_code (2 : Nat) (Option.some Jvm.ClassFile.FieldType.boolean)) ∈ lw_all := lw_g (lw_at lw_m4 45 rfl) rfl
theorem q820 : (Jvm.Cond.interfaceEntry "ConditionWise$Reader" (34 : Nat)) ∈ lw_tbl := lw_at lw_m4 46 rfl
theorem q839 : (Jvm.Cond.interfaceEntry "ConditionWise$Reader" (40 : Nat)) ∈ lw_tbl := lw_at lw_m4 65 rfl
theorem q840 : (Jvm.Cond.methodLink "ConditionWise$Reader" (40 : Nat) ({ cls := "java/util/Deque", name := "peekFirst", desc := "()Ljava/lang/Object;" } : Jvm.MethodName)) ∈ lw_all := lw_g (lw_at lw_m4 66 rfl) rfl
theorem q856 : (Jvm.Cond.classLink "ConditionWise$Reader" (44 : Nat) "java/lang/Character") ∈ lw_all := lw_g (lw_at lw_m4 82 rfl) rfl
theorem q857 : (Jvm.Cond.methodLink "ConditionWise$Reader" (46 : Nat) ({ cls := "java/lang/Character", name := "charValue", desc := "()C" } : Jvm.MethodName)) ∈ lw_all := lw_g (lw_at lw_m4 83 rfl) rfl
theorem q861 : (Jvm.Cond.methodLink "ConditionWise$Reader" (50 : Nat) ({ cls := "java/lang/String", name := "charAt", desc := "(I)C" } : Jvm.MethodName)) ∈ lw_all := lw_g (lw_at lw_m4 87 rfl) rfl
theorem q885 : (Jvm.Cond.methodLink "ConditionWise$Reader" (81 : Nat) ({ cls := "ConditionWise$Reader", name := "take", desc := "()C" } : Jvm.MethodName)) ∈ lw_all := lw_g (lw_at lw_m4 111 rfl) rfl
theorem q886 : (Jvm.Cond.privateMethod ({ cls := "ConditionWise$Reader", name := "take", desc := "()C" } : Jvm.MethodName)) ∈ lw_tbl := lw_at lw_m4 112 rfl
theorem q887 : (Jvm.Cond.instanceMethod ({ cls := "ConditionWise$Reader", name := "take", desc := "()C" } : Jvm.MethodName)) ∈ lw_all := lw_g (lw_at lw_m4 113 rfl) rfl
theorem q888 : (Jvm.Cond.code ({ cls := "ConditionWise$Reader", name := "take", desc := "()C" } : Jvm.MethodName) prog_10_method_3_code (1 : Nat) (Option.some Jvm.ClassFile.FieldType.char)) ∈ lw_all := lw_g (lw_at lw_m4 114 rfl) rfl
theorem q889 : (Jvm.Cond.classLink "ConditionWise$Reader" (54 : Nat) "ConditionWise$Fault") ∈ lw_all := lw_g (lw_at lw_m4 115 rfl) rfl
theorem q898 : (Jvm.Cond.methodLink "ConditionWise$Reader" (60 : Nat) ({ cls := "ConditionWise$Fault", name := "<init>", desc := "(I)V" } : Jvm.MethodName)) ∈ lw_all := lw_g (lw_at lw_m4 124 rfl) rfl
theorem q908 : (Jvm.Cond.interfaceEntry "ConditionWise$Reader" (63 : Nat)) ∈ lw_tbl := lw_at lw_m4 134 rfl
theorem q909 : (Jvm.Cond.methodLink "ConditionWise$Reader" (63 : Nat) ({ cls := "java/util/Deque", name := "pollFirst", desc := "()Ljava/lang/Object;" } : Jvm.MethodName)) ∈ lw_all := lw_g (lw_at lw_m4 135 rfl) rfl
theorem q926 : (Jvm.Cond.classLink "ConditionWise$Reader" (91 : Nat) "ConditionWise$Not") ∈ lw_all := lw_g (lw_at lw_m4 152 rfl) rfl
theorem q928 : (Jvm.Cond.methodLinkNest "ConditionWise$Reader" (93 : Nat) ({ cls := "ConditionWise$Not", name := "<init>", desc := "(LConditionWise$Node;)V" } : Jvm.MethodName) "ConditionWise") ∈ lw_tbl := lw_at lw_m4 154 rfl
theorem q939 : (Jvm.Cond.stringRef "ConditionWise$Reader" (96 : Nat) "(") ∈ lw_tbl := lw_at lw_m4 165 rfl
theorem q940 : (Jvm.Cond.stringRef "ConditionWise$Reader" (98 : Nat) ")") ∈ lw_tbl := lw_at lw_m4 166 rfl
theorem q941 : (Jvm.Cond.methodLink "ConditionWise$Reader" (70 : Nat) ({ cls := "ConditionWise$Reader", name := "fail", desc := "()V" } : Jvm.MethodName)) ∈ lw_all := lw_g (lw_at lw_m4 167 rfl) rfl
theorem q942 : (Jvm.Cond.privateMethod ({ cls := "ConditionWise$Reader", name := "fail", desc := "()V" } : Jvm.MethodName)) ∈ lw_tbl := lw_at lw_m4 168 rfl
theorem q943 : (Jvm.Cond.instanceMethod ({ cls := "ConditionWise$Reader", name := "fail", desc := "()V" } : Jvm.MethodName)) ∈ lw_all := lw_g (lw_at lw_m4 169 rfl) rfl
theorem q944 : (Jvm.Cond.code ({ cls := "ConditionWise$Reader", name := "fail", desc := "()V" } : Jvm.MethodName) prog_10_method_4_code (1 : Nat) (Option.none : Option Jvm.ClassFile.FieldType)) ∈ lw_all := lw_g (lw_at lw_m4 170 rfl) rfl
theorem q945 : (Jvm.Cond.methodLink "ConditionWise$Reader" (100 : Nat) ({ cls := "ConditionWise$Reader", name := "letter", desc := "()LConditionWise$Node;" } : Jvm.MethodName)) ∈ lw_all := lw_g (lw_at lw_m4 171 rfl) rfl
theorem q946 : (Jvm.Cond.privateMethod ({ cls := "ConditionWise$Reader", name := "letter", desc := "()LConditionWise$Node;" } : Jvm.MethodName)) ∈ lw_tbl := lw_at lw_m4 172 rfl
theorem q947 : (Jvm.Cond.instanceMethod ({ cls := "ConditionWise$Reader", name := "letter", desc := "()LConditionWise$Node;" } : Jvm.MethodName)) ∈ lw_all := lw_g (lw_at lw_m4 173 rfl) rfl
theorem q948 : (Jvm.Cond.code ({ cls := "ConditionWise$Reader", name := "letter", desc := "()LConditionWise$Node;" } : Jvm.MethodName) prog_10_method_8_code (2 : Nat) (Option.some (Jvm.ClassFile.FieldType.object "ConditionWise$Node"))) ∈ lw_all := lw_g (lw_at lw_m4 174 rfl) rfl
theorem q949 : (Jvm.Cond.interfaceEntry "ConditionWise$Reader" (103 : Nat)) ∈ lw_tbl := lw_at lw_m4 175 rfl
theorem q950 : (Jvm.Cond.methodLink "ConditionWise$Reader" (103 : Nat) ({ cls := "java/util/List", name := "size", desc := "()I" } : Jvm.MethodName)) ∈ lw_all := lw_g (lw_at lw_m4 176 rfl) rfl
theorem q951 : (Jvm.Cond.methodLink "ConditionWise$Reader" (109 : Nat) ({ cls := "java/lang/Integer", name := "valueOf", desc := "(I)Ljava/lang/Integer;" } : Jvm.MethodName)) ∈ lw_all := lw_g (lw_at lw_m4 177 rfl) rfl
theorem q971 : (Jvm.Cond.interfaceEntry "ConditionWise$Reader" (115 : Nat)) ∈ lw_tbl := lw_at lw_m4 197 rfl
theorem q972 : (Jvm.Cond.methodLink "ConditionWise$Reader" (115 : Nat) ({ cls := "java/util/List", name := "add", desc := "(Ljava/lang/Object;)Z" } : Jvm.MethodName)) ∈ lw_all := lw_g (lw_at lw_m4 198 rfl) rfl
theorem q1001 : (Jvm.Cond.classLink "ConditionWise$Reader" (119 : Nat) "ConditionWise$Letter") ∈ lw_all := lw_g (lw_at lw_m4 227 rfl) rfl
theorem q1003 : (Jvm.Cond.methodLinkNest "ConditionWise$Reader" (121 : Nat) ({ cls := "ConditionWise$Letter", name := "<init>", desc := "(II)V" } : Jvm.MethodName) "ConditionWise") ∈ lw_tbl := lw_at lw_m4 229 rfl
theorem q1014 : (Jvm.Cond.methodLink "ConditionWise$Reader" (84 : Nat) ({ cls := "ConditionWise$Node", name := "join", desc := "(Ljava/lang/String;LConditionWise$Node;LConditionWise$Node;)LConditionWise$Node;" } : Jvm.MethodName)) ∈ lw_all := lw_g (lw_at lw_m5 0 rfl) rfl
theorem q2155 : (Jvm.Cond.castable "ConditionWise$Reader" "java/lang/Object") ∈ lw_tbl := lw_at lw_m9 181 rfl
theorem in_X3 : ∀ w ∈ wsX30, w ∈ lw_all := lw_in wsX30 [794, 796, 798, 800] (by decide +kernel) (by decide +kernel)
/-! ConditionWise$Fault -/
set_option maxRecDepth 100000
def RX4 : String := "ConditionWise$Fault"
def TX4 : u_T := fun k => match k with
  | 0 => ("java/lang/Throwable", "cause", "Ljava/lang/Throwable;", false)
  | 1 => ("java/lang/Throwable", "stackTrace", "[Ljava/lang/StackTraceElement;", false)
  | 2 => ("java/lang/Throwable", "suppressedExceptions", "Ljava/util/List;", false)
  | 3 => ("java/lang/Throwable", "detailMessage", "Ljava/lang/String;", false)
  | 4 => ("java/lang/Throwable", "backtrace", "Ljava/lang/Object;", false)
  | 5 => ("java/lang/Throwable", "depth", "I", false)
  | _ => ("ConditionWise$Fault", "place", "I", true)
def tyX4 : Nat → FieldType := fun k => match k with
  | 0 => .object "java/lang/Throwable"
  | 1 => .array (.object "java/lang/StackTraceElement")
  | 2 => .object "java/util/List"
  | 3 => .object "java/lang/String"
  | 4 => .object "java/lang/Object"
  | 5 => .int
  | _ => .int
abbrev wsX40 : List Cond := u_ws RX4 TX4 7
theorem nmX4 : ∀ a, a < 7 → ∀ b, b < 7 → a ≠ b → (TX4 a).2.1 ≠ (TX4 b).2.1 := by decide +kernel
theorem tyX4_ok : ∀ k, k < 7 → parseFieldDescriptor (TX4 k).2.2.1 = some (tyX4 k) := by decide +kernel
abbrev cX4_init : ByteArray := prog_4_method_1_code
def yX4_init : MethodName := ⟨RX4, "<init>", "(I)V"⟩
def dkwX4_init_0 : List UInt8 := [42, 183, 0, 1, 42, 27, 181, 0, 7, 177]
abbrev dktX4_init_0 : List UInt8 := dkwX4_init_0 ++ []
theorem dksX4_init_0 : cX4_init.data.toList.drop 0 = dktX4_init_0 := by decide +kernel
theorem dX4_init_0 : decode cX4_init 0 = .ok (.aload_n 0, 1) := dk_42 (dk_at dksX4_init_0 0 rfl rfl)
theorem dX4_init_1 : decode cX4_init 1 = .ok (.invokespecial 1, 3) := dk_183 0 1 (dk_at dksX4_init_0 1 rfl rfl)
theorem dX4_init_4 : decode cX4_init 4 = .ok (.aload_n 0, 1) := dk_42 (dk_at dksX4_init_0 4 rfl rfl)
theorem dX4_init_5 : decode cX4_init 5 = .ok (.iload_n 1, 1) := dk_27 (dk_at dksX4_init_0 5 rfl rfl)
theorem dX4_init_6 : decode cX4_init 6 = .ok (.putfield 7, 3) := dk_181 0 7 (dk_at dksX4_init_0 6 rfl rfl)
theorem dX4_init_9 : decode cX4_init 9 = .ok (.return_, 1) := dk_177 (dk_at dksX4_init_0 9 rfl rfl)
theorem q79 : (Jvm.Cond.initialized "ConditionWise$Fault") ∈ lw_all := lw_g (lw_at lw_m1 25 rfl) rfl
theorem q300 : (Jvm.Cond.selects "ConditionWise$Fault" ({ cls := "java/lang/Throwable", name := "fillInStackTrace", desc := "()Ljava/lang/Throwable;" } : Jvm.MethodName) ({ cls := "java/lang/Throwable", name := "fillInStackTrace", desc := "()Ljava/lang/Throwable;" } : Jvm.MethodName)) ∈ lw_all := lw_g (lw_at lw_m2 6 rfl) rfl
theorem q708 : (Jvm.Cond.selects "ConditionWise$Fault" ({ cls := "java/lang/Object", name := "getClass", desc := "()Ljava/lang/Class;" } : Jvm.MethodName) ({ cls := "java/lang/Object", name := "getClass", desc := "()Ljava/lang/Class;" } : Jvm.MethodName)) ∈ lw_all := lw_g (lw_at lw_m3 174 rfl) rfl
theorem q890 : (Jvm.Cond.instantiable "ConditionWise$Fault" (7 : Nat)) ∈ lw_all := lw_g (lw_at lw_m4 116 rfl) rfl
theorem q891 : (Jvm.Cond.castable "ConditionWise$Fault" "ConditionWise$Fault") ∈ lw_tbl := lw_at lw_m4 117 rfl
theorem q892 : (Jvm.Cond.selects "ConditionWise$Fault" ({ cls := "java/lang/Throwable", name := "fillInStackTrace", desc := "(I)Ljava/lang/Throwable;" } : Jvm.MethodName) ({ cls := "java/lang/Throwable", name := "fillInStackTrace", desc := "(I)Ljava/lang/Throwable;" } : Jvm.MethodName)) ∈ lw_all := lw_g (lw_at lw_m4 118 rfl) rfl
theorem q893 : (Jvm.Cond.lays "ConditionWise$Fault" "java/lang/Throwable" "cause" "Ljava/lang/Throwable;") ∈ lw_all := lw_g (lw_at lw_m4 119 rfl) rfl
theorem q894 : (Jvm.Cond.lays "ConditionWise$Fault" "java/lang/Throwable" "stackTrace" "[Ljava/lang/StackTraceElement;") ∈ lw_all := lw_g (lw_at lw_m4 120 rfl) rfl
theorem q895 : (Jvm.Cond.lays "ConditionWise$Fault" "java/lang/Throwable" "suppressedExceptions" "Ljava/util/List;") ∈ lw_all := lw_g (lw_at lw_m4 121 rfl) rfl
theorem q896 : (Jvm.Cond.lays "ConditionWise$Fault" "java/lang/Throwable" "detailMessage" "Ljava/lang/String;") ∈ lw_all := lw_g (lw_at lw_m4 122 rfl) rfl
theorem q897 : (Jvm.Cond.lays "ConditionWise$Fault" "java/lang/Throwable" "backtrace" "Ljava/lang/Object;") ∈ lw_all := lw_g (lw_at lw_m4 123 rfl) rfl
theorem q899 : (Jvm.Cond.instanceMethod ({ cls := "ConditionWise$Fault", name := "<init>", desc := "(I)V" } : Jvm.MethodName)) ∈ lw_all := lw_g (lw_at lw_m4 125 rfl) rfl
theorem q900 : (Jvm.Cond.code ({ cls := "ConditionWise$Fault", name := "<init>", desc := "(I)V" } : Jvm.MethodName) prog_4_method_1_code (2 : Nat) (Option.none : Option Jvm.ClassFile.FieldType)) ∈ lw_all := lw_g (lw_at lw_m4 126 rfl) rfl
theorem q901 : (Jvm.Cond.methodLink "ConditionWise$Fault" (1 : Nat) ({ cls := "java/lang/Exception", name := "<init>", desc := "()V" } : Jvm.MethodName)) ∈ lw_all := lw_g (lw_at lw_m4 127 rfl) rfl
theorem q902 : (Jvm.Cond.fieldLink "ConditionWise$Fault" (7 : Nat) "ConditionWise$Fault" "place" "I") ∈ lw_all := lw_g (lw_at lw_m4 128 rfl) rfl
theorem q904 : (Jvm.Cond.laysFinal "ConditionWise$Fault" "ConditionWise$Fault" "place" "I") ∈ lw_all := lw_g (lw_at lw_m4 130 rfl) rfl
theorem q905 : (Jvm.Cond.soleField "ConditionWise$Fault" "place") ∈ lw_all := lw_g (lw_at lw_m4 131 rfl) rfl
theorem q906 : (Jvm.Cond.lays "ConditionWise$Fault" "java/lang/Throwable" "depth" "I") ∈ lw_all := lw_g (lw_at lw_m4 132 rfl) rfl
theorem q907 : (Jvm.Cond.superclass "ConditionWise$Fault" "java/lang/Exception") ∈ lw_all := lw_g (lw_at lw_m4 133 rfl) rfl
theorem q2156 : (Jvm.Cond.castable "ConditionWise$Fault" "java/lang/Object") ∈ lw_tbl := lw_at lw_m9 182 rfl
theorem in_X4 : ∀ w ∈ wsX40, w ∈ lw_all := lw_in wsX40 [893, 894, 895, 896, 897, 906, 904] (by decide +kernel) (by decide +kernel)
/-! ConditionWise$Not -/
set_option maxRecDepth 100000
def RX5 : String := "ConditionWise$Not"
def TX5 : u_T := fun k => match k with
  | _ => ("ConditionWise$Not", "node", "LConditionWise$Node;", true)
def tyX5 : Nat → FieldType := fun k => match k with
  | _ => .object "ConditionWise$Node"
abbrev wsX50 : List Cond := u_ws RX5 TX5 1
theorem nmX5 : ∀ a, a < 1 → ∀ b, b < 1 → a ≠ b → (TX5 a).2.1 ≠ (TX5 b).2.1 := by decide +kernel
theorem tyX5_ok : ∀ k, k < 1 → parseFieldDescriptor (TX5 k).2.2.1 = some (tyX5 k) := by decide +kernel
abbrev cX5_init : ByteArray := prog_7_method_1_code
def yX5_init : MethodName := ⟨RX5, "<init>", "(LConditionWise$Node;)V"⟩
def dkwX5_init_0 : List UInt8 := [42, 183, 0, 1, 42, 43, 181, 0, 7, 177]
abbrev dktX5_init_0 : List UInt8 := dkwX5_init_0 ++ []
theorem dksX5_init_0 : cX5_init.data.toList.drop 0 = dktX5_init_0 := by decide +kernel
theorem dX5_init_0 : decode cX5_init 0 = .ok (.aload_n 0, 1) := dk_42 (dk_at dksX5_init_0 0 rfl rfl)
theorem dX5_init_1 : decode cX5_init 1 = .ok (.invokespecial 1, 3) := dk_183 0 1 (dk_at dksX5_init_0 1 rfl rfl)
theorem dX5_init_4 : decode cX5_init 4 = .ok (.aload_n 0, 1) := dk_42 (dk_at dksX5_init_0 4 rfl rfl)
theorem dX5_init_5 : decode cX5_init 5 = .ok (.aload_n 1, 1) := dk_43 (dk_at dksX5_init_0 5 rfl rfl)
theorem dX5_init_6 : decode cX5_init 6 = .ok (.putfield 7, 3) := dk_181 0 7 (dk_at dksX5_init_0 6 rfl rfl)
theorem dX5_init_9 : decode cX5_init 9 = .ok (.return_, 1) := dk_177 (dk_at dksX5_init_0 9 rfl rfl)
abbrev cX5_depth : ByteArray := prog_7_method_4_code
def yX5_depth : MethodName := ⟨RX5, "depth", "()I"⟩
def dkwX5_depth_0 : List UInt8 := [42, 180, 0, 7, 185, 0, 23, 1, 0, 4, 96, 172]
abbrev dktX5_depth_0 : List UInt8 := dkwX5_depth_0 ++ []
theorem dksX5_depth_0 : cX5_depth.data.toList.drop 0 = dktX5_depth_0 := by decide +kernel
theorem dX5_depth_0 : decode cX5_depth 0 = .ok (.aload_n 0, 1) := dk_42 (dk_at dksX5_depth_0 0 rfl rfl)
theorem dX5_depth_1 : decode cX5_depth 1 = .ok (.getfield 7, 3) := dk_180 0 7 (dk_at dksX5_depth_0 1 rfl rfl)
theorem dX5_depth_4 : decode cX5_depth 4 = .ok (.invokeinterface 23 1, 5) := by decide +kernel
theorem dX5_depth_9 : decode cX5_depth 9 = .ok (.iconst 1, 1) := dk_4 (dk_at dksX5_depth_0 9 rfl rfl)
theorem dX5_depth_10 : decode cX5_depth 10 = .ok (.iadd, 1) := dk_96 (dk_at dksX5_depth_0 10 rfl rfl)
theorem dX5_depth_11 : decode cX5_depth 11 = .ok (.ireturn, 1) := dk_172 (dk_at dksX5_depth_0 11 rfl rfl)
abbrev cX5_ask : ByteArray := prog_7_method_2_code
def yX5_ask : MethodName := ⟨RX5, "ask", "(LConditionWise$Run;)Z"⟩
def dkwX5_ask_0 : List UInt8 := [42, 180, 0, 7, 43, 185, 0, 13, 2, 0, 154, 0, 7, 4, 167, 0, 4, 3, 172]
abbrev dktX5_ask_0 : List UInt8 := dkwX5_ask_0 ++ []
theorem dksX5_ask_0 : cX5_ask.data.toList.drop 0 = dktX5_ask_0 := by decide +kernel
theorem dX5_ask_0 : decode cX5_ask 0 = .ok (.aload_n 0, 1) := dk_42 (dk_at dksX5_ask_0 0 rfl rfl)
theorem dX5_ask_1 : decode cX5_ask 1 = .ok (.getfield 7, 3) := dk_180 0 7 (dk_at dksX5_ask_0 1 rfl rfl)
theorem dX5_ask_4 : decode cX5_ask 4 = .ok (.aload_n 1, 1) := dk_43 (dk_at dksX5_ask_0 4 rfl rfl)
theorem dX5_ask_5 : decode cX5_ask 5 = .ok (.invokeinterface 13 2, 5) := by decide +kernel
theorem dX5_ask_10 : decode cX5_ask 10 = .ok (.ifCond .ne 7, 3) := dk_154 0 7 (dk_at dksX5_ask_0 10 rfl rfl)
theorem dX5_ask_13 : decode cX5_ask 13 = .ok (.iconst 1, 1) := dk_4 (dk_at dksX5_ask_0 13 rfl rfl)
theorem dX5_ask_14 : decode cX5_ask 14 = .ok (.goto 4, 3) := dk_167 0 4 (dk_at dksX5_ask_0 14 rfl rfl)
theorem dX5_ask_17 : decode cX5_ask 17 = .ok (.iconst 0, 1) := dk_3 (dk_at dksX5_ask_0 17 rfl rfl)
theorem dX5_ask_18 : decode cX5_ask 18 = .ok (.ireturn, 1) := dk_172 (dk_at dksX5_ask_0 18 rfl rfl)
abbrev cX5_tell : ByteArray := prog_7_method_3_code
def yX5_tell : MethodName := ⟨RX5, "tell", "(I)Z"⟩
def dkwX5_tell_0 : List UInt8 := [42, 180, 0, 7, 27, 185, 0, 19, 2, 0, 154, 0, 7, 4, 167, 0, 4, 3, 172]
abbrev dktX5_tell_0 : List UInt8 := dkwX5_tell_0 ++ []
theorem dksX5_tell_0 : cX5_tell.data.toList.drop 0 = dktX5_tell_0 := by decide +kernel
theorem dX5_tell_0 : decode cX5_tell 0 = .ok (.aload_n 0, 1) := dk_42 (dk_at dksX5_tell_0 0 rfl rfl)
theorem dX5_tell_1 : decode cX5_tell 1 = .ok (.getfield 7, 3) := dk_180 0 7 (dk_at dksX5_tell_0 1 rfl rfl)
theorem dX5_tell_4 : decode cX5_tell 4 = .ok (.iload_n 1, 1) := dk_27 (dk_at dksX5_tell_0 4 rfl rfl)
theorem dX5_tell_5 : decode cX5_tell 5 = .ok (.invokeinterface 19 2, 5) := by decide +kernel
theorem dX5_tell_10 : decode cX5_tell 10 = .ok (.ifCond .ne 7, 3) := dk_154 0 7 (dk_at dksX5_tell_0 10 rfl rfl)
theorem dX5_tell_13 : decode cX5_tell 13 = .ok (.iconst 1, 1) := dk_4 (dk_at dksX5_tell_0 13 rfl rfl)
theorem dX5_tell_14 : decode cX5_tell 14 = .ok (.goto 4, 3) := dk_167 0 4 (dk_at dksX5_tell_0 14 rfl rfl)
theorem dX5_tell_17 : decode cX5_tell 17 = .ok (.iconst 0, 1) := dk_3 (dk_at dksX5_tell_0 17 rfl rfl)
theorem dX5_tell_18 : decode cX5_tell 18 = .ok (.ireturn, 1) := dk_172 (dk_at dksX5_tell_0 18 rfl rfl)
theorem q81 : (Jvm.Cond.initialized "ConditionWise$Not") ∈ lw_all := lw_g (lw_at lw_m1 27 rfl) rfl
theorem q710 : (Jvm.Cond.selects "ConditionWise$Not" ({ cls := "java/lang/Object", name := "getClass", desc := "()Ljava/lang/Class;" } : Jvm.MethodName) ({ cls := "java/lang/Object", name := "getClass", desc := "()Ljava/lang/Class;" } : Jvm.MethodName)) ∈ lw_all := lw_g (lw_at lw_m3 176 rfl) rfl
theorem q927 : (Jvm.Cond.instantiable "ConditionWise$Not" (1 : Nat)) ∈ lw_all := lw_g (lw_at lw_m4 153 rfl) rfl
theorem q929 : (Jvm.Cond.instanceMethod ({ cls := "ConditionWise$Not", name := "<init>", desc := "(LConditionWise$Node;)V" } : Jvm.MethodName)) ∈ lw_all := lw_g (lw_at lw_m4 155 rfl) rfl
theorem q930 : (Jvm.Cond.code ({ cls := "ConditionWise$Not", name := "<init>", desc := "(LConditionWise$Node;)V" } : Jvm.MethodName) prog_7_method_1_code (2 : Nat) (Option.none : Option Jvm.ClassFile.FieldType)) ∈ lw_all := lw_g (lw_at lw_m4 156 rfl) rfl
theorem q931 : (Jvm.Cond.methodLink "ConditionWise$Not" (1 : Nat) ({ cls := "java/lang/Record", name := "<init>", desc := "()V" } : Jvm.MethodName)) ∈ lw_all := lw_g (lw_at lw_m4 157 rfl) rfl
theorem q935 : (Jvm.Cond.fieldLink "ConditionWise$Not" (7 : Nat) "ConditionWise$Not" "node" "LConditionWise$Node;") ∈ lw_all := lw_g (lw_at lw_m4 161 rfl) rfl
theorem q936 : (Jvm.Cond.laysFinal "ConditionWise$Not" "ConditionWise$Not" "node" "LConditionWise$Node;") ∈ lw_all := lw_g (lw_at lw_m4 162 rfl) rfl
theorem q937 : (Jvm.Cond.soleField "ConditionWise$Not" "node") ∈ lw_all := lw_g (lw_at lw_m4 163 rfl) rfl
theorem q938 : (Jvm.Cond.superclass "ConditionWise$Not" "java/lang/Record") ∈ lw_all := lw_g (lw_at lw_m4 164 rfl) rfl
theorem q1246 : (Jvm.Cond.castable "ConditionWise$Not" "ConditionWise$Node") ∈ lw_tbl := lw_at lw_m5 232 rfl
theorem q1247 : (Jvm.Cond.selects "ConditionWise$Not" ({ cls := "ConditionWise$Node", name := "depth", desc := "()I" } : Jvm.MethodName) ({ cls := "ConditionWise$Not", name := "depth", desc := "()I" } : Jvm.MethodName)) ∈ lw_all := lw_g (lw_at lw_m5 233 rfl) rfl
theorem q1248 : (Jvm.Cond.unhidden "ConditionWise$Not" "depth" "()I") ∈ lw_tbl := lw_at lw_m5 234 rfl
theorem q1249 : (Jvm.Cond.instanceMethod ({ cls := "ConditionWise$Not", name := "depth", desc := "()I" } : Jvm.MethodName)) ∈ lw_all := lw_g (lw_at lw_m5 235 rfl) rfl
theorem q1250 : (Jvm.Cond.publicMethod ({ cls := "ConditionWise$Not", name := "depth", desc := "()I" } : Jvm.MethodName)) ∈ lw_tbl := lw_at lw_m5 236 rfl
theorem q1251 : (Jvm.Cond.code ({ cls := "ConditionWise$Not", name := "depth", desc := "()I" } : Jvm.MethodName) prog_7_method_4_code (1 : Nat) (Option.some Jvm.ClassFile.FieldType.int)) ∈ lw_all := lw_g (lw_at lw_m5 237 rfl) rfl
theorem q1252 : (Jvm.Cond.interfaceEntry "ConditionWise$Not" (23 : Nat)) ∈ lw_tbl := lw_at lw_m5 238 rfl
theorem q1253 : (Jvm.Cond.methodLink "ConditionWise$Not" (23 : Nat) ({ cls := "ConditionWise$Node", name := "depth", desc := "()I" } : Jvm.MethodName)) ∈ lw_all := lw_g (lw_at lw_m5 239 rfl) rfl
theorem q1386 : (Jvm.Cond.selects "ConditionWise$Not" ({ cls := "ConditionWise$Node", name := "ask", desc := "(LConditionWise$Run;)Z" } : Jvm.MethodName) ({ cls := "ConditionWise$Not", name := "ask", desc := "(LConditionWise$Run;)Z" } : Jvm.MethodName)) ∈ lw_all := lw_g (lw_at lw_m6 132 rfl) rfl
theorem q1387 : (Jvm.Cond.unhidden "ConditionWise$Not" "ask" "(LConditionWise$Run;)Z") ∈ lw_tbl := lw_at lw_m6 133 rfl
theorem q1388 : (Jvm.Cond.instanceMethod ({ cls := "ConditionWise$Not", name := "ask", desc := "(LConditionWise$Run;)Z" } : Jvm.MethodName)) ∈ lw_all := lw_g (lw_at lw_m6 134 rfl) rfl
theorem q1389 : (Jvm.Cond.publicMethod ({ cls := "ConditionWise$Not", name := "ask", desc := "(LConditionWise$Run;)Z" } : Jvm.MethodName)) ∈ lw_tbl := lw_at lw_m6 135 rfl
theorem q1390 : (Jvm.Cond.code ({ cls := "ConditionWise$Not", name := "ask", desc := "(LConditionWise$Run;)Z" } : Jvm.MethodName) prog_7_method_2_code (2 : Nat) (Option.some Jvm.ClassFile.FieldType.boolean)) ∈ lw_all := lw_g (lw_at lw_m6 136 rfl) rfl
theorem q1391 : (Jvm.Cond.interfaceEntry "ConditionWise$Not" (13 : Nat)) ∈ lw_tbl := lw_at lw_m6 137 rfl
theorem q1392 : (Jvm.Cond.methodLink "ConditionWise$Not" (13 : Nat) ({ cls := "ConditionWise$Node", name := "ask", desc := "(LConditionWise$Run;)Z" } : Jvm.MethodName)) ∈ lw_all := lw_g (lw_at lw_m6 138 rfl) rfl
theorem q1731 : (Jvm.Cond.selects "ConditionWise$Not" ({ cls := "ConditionWise$Node", name := "tell", desc := "(I)Z" } : Jvm.MethodName) ({ cls := "ConditionWise$Not", name := "tell", desc := "(I)Z" } : Jvm.MethodName)) ∈ lw_all := lw_g (lw_at lw_m7 237 rfl) rfl
theorem q1732 : (Jvm.Cond.unhidden "ConditionWise$Not" "tell" "(I)Z") ∈ lw_tbl := lw_at lw_m7 238 rfl
theorem q1733 : (Jvm.Cond.instanceMethod ({ cls := "ConditionWise$Not", name := "tell", desc := "(I)Z" } : Jvm.MethodName)) ∈ lw_all := lw_g (lw_at lw_m7 239 rfl) rfl
theorem q1734 : (Jvm.Cond.publicMethod ({ cls := "ConditionWise$Not", name := "tell", desc := "(I)Z" } : Jvm.MethodName)) ∈ lw_tbl := lw_at lw_m8 0 rfl
theorem q1735 : (Jvm.Cond.code ({ cls := "ConditionWise$Not", name := "tell", desc := "(I)Z" } : Jvm.MethodName) prog_7_method_3_code (2 : Nat) (Option.some Jvm.ClassFile.FieldType.boolean)) ∈ lw_all := lw_g (lw_at lw_m8 1 rfl) rfl
theorem q1736 : (Jvm.Cond.interfaceEntry "ConditionWise$Not" (19 : Nat)) ∈ lw_tbl := lw_at lw_m8 2 rfl
theorem q1737 : (Jvm.Cond.methodLink "ConditionWise$Not" (19 : Nat) ({ cls := "ConditionWise$Node", name := "tell", desc := "(I)Z" } : Jvm.MethodName)) ∈ lw_all := lw_g (lw_at lw_m8 3 rfl) rfl
theorem q2157 : (Jvm.Cond.castable "ConditionWise$Not" "java/lang/Object") ∈ lw_tbl := lw_at lw_m9 183 rfl
theorem in_X5 : ∀ w ∈ wsX50, w ∈ lw_all := lw_in wsX50 [936] (by decide +kernel) (by decide +kernel)
/-! ConditionWise$Letter -/
set_option maxRecDepth 100000
def RX6 : String := "ConditionWise$Letter"
def TX6 : u_T := fun k => match k with
  | 0 => ("ConditionWise$Letter", "condition", "I", true)
  | _ => ("ConditionWise$Letter", "letter", "I", true)
def tyX6 : Nat → FieldType := fun k => match k with
  | 0 => .int
  | _ => .int
abbrev wsX60 : List Cond := u_ws RX6 TX6 2
theorem nmX6 : ∀ a, a < 2 → ∀ b, b < 2 → a ≠ b → (TX6 a).2.1 ≠ (TX6 b).2.1 := by decide +kernel
theorem tyX6_ok : ∀ k, k < 2 → parseFieldDescriptor (TX6 k).2.2.1 = some (tyX6 k) := by decide +kernel
abbrev cX6_init : ByteArray := prog_5_method_1_code
def yX6_init : MethodName := ⟨RX6, "<init>", "(II)V"⟩
def dkwX6_init_0 : List UInt8 := [42, 183, 0, 1, 42, 27, 181, 0, 7, 42, 28, 181, 0, 13, 177]
abbrev dktX6_init_0 : List UInt8 := dkwX6_init_0 ++ []
theorem dksX6_init_0 : cX6_init.data.toList.drop 0 = dktX6_init_0 := by decide +kernel
theorem dX6_init_0 : decode cX6_init 0 = .ok (.aload_n 0, 1) := dk_42 (dk_at dksX6_init_0 0 rfl rfl)
theorem dX6_init_1 : decode cX6_init 1 = .ok (.invokespecial 1, 3) := dk_183 0 1 (dk_at dksX6_init_0 1 rfl rfl)
theorem dX6_init_4 : decode cX6_init 4 = .ok (.aload_n 0, 1) := dk_42 (dk_at dksX6_init_0 4 rfl rfl)
theorem dX6_init_5 : decode cX6_init 5 = .ok (.iload_n 1, 1) := dk_27 (dk_at dksX6_init_0 5 rfl rfl)
theorem dX6_init_6 : decode cX6_init 6 = .ok (.putfield 7, 3) := dk_181 0 7 (dk_at dksX6_init_0 6 rfl rfl)
theorem dX6_init_9 : decode cX6_init 9 = .ok (.aload_n 0, 1) := dk_42 (dk_at dksX6_init_0 9 rfl rfl)
theorem dX6_init_10 : decode cX6_init 10 = .ok (.iload_n 2, 1) := dk_28 (dk_at dksX6_init_0 10 rfl rfl)
theorem dX6_init_11 : decode cX6_init 11 = .ok (.putfield 13, 3) := dk_181 0 13 (dk_at dksX6_init_0 11 rfl rfl)
theorem dX6_init_14 : decode cX6_init 14 = .ok (.return_, 1) := dk_177 (dk_at dksX6_init_0 14 rfl rfl)
abbrev cX6_ask : ByteArray := prog_5_method_2_code
def yX6_ask : MethodName := ⟨RX6, "ask", "(LConditionWise$Run;)Z"⟩
def dkwX6_ask_0 : List UInt8 := [43, 42, 180, 0, 7, 42, 180, 0, 13, 182, 0, 16, 172]
abbrev dktX6_ask_0 : List UInt8 := dkwX6_ask_0 ++ []
theorem dksX6_ask_0 : cX6_ask.data.toList.drop 0 = dktX6_ask_0 := by decide +kernel
theorem dX6_ask_0 : decode cX6_ask 0 = .ok (.aload_n 1, 1) := dk_43 (dk_at dksX6_ask_0 0 rfl rfl)
theorem dX6_ask_1 : decode cX6_ask 1 = .ok (.aload_n 0, 1) := dk_42 (dk_at dksX6_ask_0 1 rfl rfl)
theorem dX6_ask_2 : decode cX6_ask 2 = .ok (.getfield 7, 3) := dk_180 0 7 (dk_at dksX6_ask_0 2 rfl rfl)
theorem dX6_ask_5 : decode cX6_ask 5 = .ok (.aload_n 0, 1) := dk_42 (dk_at dksX6_ask_0 5 rfl rfl)
theorem dX6_ask_6 : decode cX6_ask 6 = .ok (.getfield 13, 3) := dk_180 0 13 (dk_at dksX6_ask_0 6 rfl rfl)
theorem dX6_ask_9 : decode cX6_ask 9 = .ok (.invokevirtual 16, 3) := dk_182 0 16 (dk_at dksX6_ask_0 9 rfl rfl)
theorem dX6_ask_12 : decode cX6_ask 12 = .ok (.ireturn, 1) := dk_172 (dk_at dksX6_ask_0 12 rfl rfl)
abbrev cX6_tell : ByteArray := prog_5_method_3_code
def yX6_tell : MethodName := ⟨RX6, "tell", "(I)Z"⟩
def dkwX6_tell_0 : List UInt8 := [27, 42, 180, 0, 7, 122, 4, 126, 4, 160, 0, 7, 4, 167, 0, 4, 3, 172]
abbrev dktX6_tell_0 : List UInt8 := dkwX6_tell_0 ++ []
theorem dksX6_tell_0 : cX6_tell.data.toList.drop 0 = dktX6_tell_0 := by decide +kernel
theorem dX6_tell_0 : decode cX6_tell 0 = .ok (.iload_n 1, 1) := dk_27 (dk_at dksX6_tell_0 0 rfl rfl)
theorem dX6_tell_1 : decode cX6_tell 1 = .ok (.aload_n 0, 1) := dk_42 (dk_at dksX6_tell_0 1 rfl rfl)
theorem dX6_tell_2 : decode cX6_tell 2 = .ok (.getfield 7, 3) := dk_180 0 7 (dk_at dksX6_tell_0 2 rfl rfl)
theorem dX6_tell_5 : decode cX6_tell 5 = .ok (.ishr, 1) := dk_122 (dk_at dksX6_tell_0 5 rfl rfl)
theorem dX6_tell_6 : decode cX6_tell 6 = .ok (.iconst 1, 1) := dk_4 (dk_at dksX6_tell_0 6 rfl rfl)
theorem dX6_tell_7 : decode cX6_tell 7 = .ok (.iand, 1) := dk_126 (dk_at dksX6_tell_0 7 rfl rfl)
theorem dX6_tell_8 : decode cX6_tell 8 = .ok (.iconst 1, 1) := dk_4 (dk_at dksX6_tell_0 8 rfl rfl)
theorem dX6_tell_9 : decode cX6_tell 9 = .ok (.if_icmp .ne 7, 3) := dk_160 0 7 (dk_at dksX6_tell_0 9 rfl rfl)
theorem dX6_tell_12 : decode cX6_tell 12 = .ok (.iconst 1, 1) := dk_4 (dk_at dksX6_tell_0 12 rfl rfl)
theorem dX6_tell_13 : decode cX6_tell 13 = .ok (.goto 4, 3) := dk_167 0 4 (dk_at dksX6_tell_0 13 rfl rfl)
theorem dX6_tell_16 : decode cX6_tell 16 = .ok (.iconst 0, 1) := dk_3 (dk_at dksX6_tell_0 16 rfl rfl)
theorem dX6_tell_17 : decode cX6_tell 17 = .ok (.ireturn, 1) := dk_172 (dk_at dksX6_tell_0 17 rfl rfl)
theorem q86 : (Jvm.Cond.initialized "ConditionWise$Letter") ∈ lw_all := lw_g (lw_at lw_m1 32 rfl) rfl
theorem q709 : (Jvm.Cond.selects "ConditionWise$Letter" ({ cls := "java/lang/Object", name := "getClass", desc := "()Ljava/lang/Class;" } : Jvm.MethodName) ({ cls := "java/lang/Object", name := "getClass", desc := "()Ljava/lang/Class;" } : Jvm.MethodName)) ∈ lw_all := lw_g (lw_at lw_m3 175 rfl) rfl
theorem q1002 : (Jvm.Cond.instantiable "ConditionWise$Letter" (2 : Nat)) ∈ lw_all := lw_g (lw_at lw_m4 228 rfl) rfl
theorem q1004 : (Jvm.Cond.instanceMethod ({ cls := "ConditionWise$Letter", name := "<init>", desc := "(II)V" } : Jvm.MethodName)) ∈ lw_all := lw_g (lw_at lw_m4 230 rfl) rfl
theorem q1005 : (Jvm.Cond.code ({ cls := "ConditionWise$Letter", name := "<init>", desc := "(II)V" } : Jvm.MethodName) prog_5_method_1_code (3 : Nat) (Option.none : Option Jvm.ClassFile.FieldType)) ∈ lw_all := lw_g (lw_at lw_m4 231 rfl) rfl
theorem q1006 : (Jvm.Cond.methodLink "ConditionWise$Letter" (1 : Nat) ({ cls := "java/lang/Record", name := "<init>", desc := "()V" } : Jvm.MethodName)) ∈ lw_all := lw_g (lw_at lw_m4 232 rfl) rfl
theorem q1007 : (Jvm.Cond.fieldLink "ConditionWise$Letter" (7 : Nat) "ConditionWise$Letter" "condition" "I") ∈ lw_all := lw_g (lw_at lw_m4 233 rfl) rfl
theorem q1008 : (Jvm.Cond.fieldLink "ConditionWise$Letter" (13 : Nat) "ConditionWise$Letter" "letter" "I") ∈ lw_all := lw_g (lw_at lw_m4 234 rfl) rfl
theorem q1009 : (Jvm.Cond.laysFinal "ConditionWise$Letter" "ConditionWise$Letter" "condition" "I") ∈ lw_all := lw_g (lw_at lw_m4 235 rfl) rfl
theorem q1010 : (Jvm.Cond.soleField "ConditionWise$Letter" "condition") ∈ lw_all := lw_g (lw_at lw_m4 236 rfl) rfl
theorem q1011 : (Jvm.Cond.laysFinal "ConditionWise$Letter" "ConditionWise$Letter" "letter" "I") ∈ lw_all := lw_g (lw_at lw_m4 237 rfl) rfl
theorem q1012 : (Jvm.Cond.soleField "ConditionWise$Letter" "letter") ∈ lw_all := lw_g (lw_at lw_m4 238 rfl) rfl
theorem q1013 : (Jvm.Cond.superclass "ConditionWise$Letter" "java/lang/Record") ∈ lw_all := lw_g (lw_at lw_m4 239 rfl) rfl
theorem q1241 : (Jvm.Cond.castable "ConditionWise$Letter" "ConditionWise$Node") ∈ lw_tbl := lw_at lw_m5 227 rfl
theorem q1242 : (Jvm.Cond.unhidden "ConditionWise$Letter" "depth" "()I") ∈ lw_tbl := lw_at lw_m5 228 rfl
theorem q1342 : (Jvm.Cond.selects "ConditionWise$Letter" ({ cls := "ConditionWise$Node", name := "ask", desc := "(LConditionWise$Run;)Z" } : Jvm.MethodName) ({ cls := "ConditionWise$Letter", name := "ask", desc := "(LConditionWise$Run;)Z" } : Jvm.MethodName)) ∈ lw_all := lw_g (lw_at lw_m6 88 rfl) rfl
theorem q1343 : (Jvm.Cond.unhidden "ConditionWise$Letter" "ask" "(LConditionWise$Run;)Z") ∈ lw_tbl := lw_at lw_m6 89 rfl
theorem q1344 : (Jvm.Cond.instanceMethod ({ cls := "ConditionWise$Letter", name := "ask", desc := "(LConditionWise$Run;)Z" } : Jvm.MethodName)) ∈ lw_all := lw_g (lw_at lw_m6 90 rfl) rfl
theorem q1345 : (Jvm.Cond.publicMethod ({ cls := "ConditionWise$Letter", name := "ask", desc := "(LConditionWise$Run;)Z" } : Jvm.MethodName)) ∈ lw_tbl := lw_at lw_m6 91 rfl
theorem q1346 : (Jvm.Cond.code ({ cls := "ConditionWise$Letter", name := "ask", desc := "(LConditionWise$Run;)Z" } : Jvm.MethodName) prog_5_method_2_code (2 : Nat) (Option.some Jvm.ClassFile.FieldType.boolean)) ∈ lw_all := lw_g (lw_at lw_m6 92 rfl) rfl
theorem q1347 : (Jvm.Cond.methodLink "ConditionWise$Letter" (16 : Nat) ({ cls := "ConditionWise$Run", name := "ask", desc := "(II)Z" } : Jvm.MethodName)) ∈ lw_all := lw_g (lw_at lw_m6 93 rfl) rfl
theorem q1726 : (Jvm.Cond.selects "ConditionWise$Letter" ({ cls := "ConditionWise$Node", name := "tell", desc := "(I)Z" } : Jvm.MethodName) ({ cls := "ConditionWise$Letter", name := "tell", desc := "(I)Z" } : Jvm.MethodName)) ∈ lw_all := lw_g (lw_at lw_m7 232 rfl) rfl
theorem q1727 : (Jvm.Cond.unhidden "ConditionWise$Letter" "tell" "(I)Z") ∈ lw_tbl := lw_at lw_m7 233 rfl
theorem q1728 : (Jvm.Cond.instanceMethod ({ cls := "ConditionWise$Letter", name := "tell", desc := "(I)Z" } : Jvm.MethodName)) ∈ lw_all := lw_g (lw_at lw_m7 234 rfl) rfl
theorem q1729 : (Jvm.Cond.publicMethod ({ cls := "ConditionWise$Letter", name := "tell", desc := "(I)Z" } : Jvm.MethodName)) ∈ lw_tbl := lw_at lw_m7 235 rfl
theorem q1730 : (Jvm.Cond.code ({ cls := "ConditionWise$Letter", name := "tell", desc := "(I)Z" } : Jvm.MethodName) prog_5_method_3_code (2 : Nat) (Option.some Jvm.ClassFile.FieldType.boolean)) ∈ lw_all := lw_g (lw_at lw_m7 236 rfl) rfl
theorem q2159 : (Jvm.Cond.castable "ConditionWise$Letter" "java/lang/Object") ∈ lw_tbl := lw_at lw_m9 185 rfl
theorem in_X6 : ∀ w ∈ wsX60, w ∈ lw_all := lw_in wsX60 [1009, 1011] (by decide +kernel) (by decide +kernel)
/-! ConditionWise$Node -/
set_option maxRecDepth 100000
def RX7 : String := "ConditionWise$Node"
abbrev cX7_join : ByteArray := prog_6_method_4_code
def yX7_join : MethodName := ⟨RX7, "join", "(Ljava/lang/String;LConditionWise$Node;LConditionWise$Node;)LConditionWise$Node;"⟩
def dkwX7_join_6 : List UInt8 := [187, 0, 24, 89, 43, 44, 183, 0, 26, 176]
abbrev dktX7_join_6 : List UInt8 := dkwX7_join_6 ++ []
def dkwX7_join_5 : List UInt8 := [187, 0, 15, 89, 43, 44, 183, 0, 17, 167, 0, 24, 187, 0, 21, 89, 43, 44, 183, 0, 23, 167, 0, 12]
abbrev dktX7_join_5 : List UInt8 := dkwX7_join_5 ++ dktX7_join_6
def dkwX7_join_4 : List UInt8 := [171, 0, 0, 0, 0, 0, 51, 0, 0, 0, 2, 0, 0, 0, 0, 0, 0, 0, 27, 0, 0, 0, 1, 0, 0, 0, 39]
abbrev dktX7_join_4 : List UInt8 := dkwX7_join_4 ++ dktX7_join_5
def dkwX7_join_3 : List UInt8 := [4, 54, 4, 21, 4]
abbrev dktX7_join_3 : List UInt8 := dkwX7_join_3 ++ dktX7_join_4
def dkwX7_join_2 : List UInt8 := [45, 18, 7, 182, 0, 9, 153, 0, 21, 3, 54, 4, 167, 0, 15, 45, 18, 13, 182, 0, 9, 153, 0, 6]
abbrev dktX7_join_2 : List UInt8 := dkwX7_join_2 ++ dktX7_join_3
def dkwX7_join_1 : List UInt8 := [171, 0, 0, 0, 0, 0, 54, 0, 0, 0, 2, 0, 0, 0, 94, 0, 0, 0, 42, 0, 0, 0, 124, 0, 0, 0, 27]
abbrev dktX7_join_1 : List UInt8 := dkwX7_join_1 ++ dktX7_join_2
def dkwX7_join_0 : List UInt8 := [42, 78, 2, 54, 4, 45, 182, 0, 1]
abbrev dktX7_join_0 : List UInt8 := dkwX7_join_0 ++ dktX7_join_1
theorem dksX7_join_0 : cX7_join.data.toList.drop 0 = dktX7_join_0 := by decide +kernel
theorem dksX7_join_1 : cX7_join.data.toList.drop 9 = dktX7_join_1 := dk_seg dksX7_join_0 9 rfl rfl
theorem dksX7_join_2 : cX7_join.data.toList.drop 36 = dktX7_join_2 := dk_seg dksX7_join_1 27 rfl rfl
theorem dksX7_join_3 : cX7_join.data.toList.drop 60 = dktX7_join_3 := dk_seg dksX7_join_2 24 rfl rfl
theorem dksX7_join_4 : cX7_join.data.toList.drop 65 = dktX7_join_4 := dk_seg dksX7_join_3 5 rfl rfl
theorem dksX7_join_5 : cX7_join.data.toList.drop 92 = dktX7_join_5 := dk_seg dksX7_join_4 27 rfl rfl
theorem dksX7_join_6 : cX7_join.data.toList.drop 116 = dktX7_join_6 := dk_seg dksX7_join_5 24 rfl rfl
theorem dX7_join_0 : decode cX7_join 0 = .ok (.aload_n 0, 1) := dk_42 (dk_at dksX7_join_0 0 rfl rfl)
theorem dX7_join_1 : decode cX7_join 1 = .ok (.astore_n 3, 1) := dk_78 (dk_at dksX7_join_0 1 rfl rfl)
theorem dX7_join_2 : decode cX7_join 2 = .ok (.iconst (-1), 1) := dk_2 (dk_at dksX7_join_0 2 rfl rfl)
theorem dX7_join_3 : decode cX7_join 3 = .ok (.istore 4, 2) := dk_54 4 (dk_at dksX7_join_0 3 rfl rfl)
theorem dX7_join_5 : decode cX7_join 5 = .ok (.aload_n 3, 1) := dk_45 (dk_at dksX7_join_0 5 rfl rfl)
theorem dX7_join_6 : decode cX7_join 6 = .ok (.invokevirtual 1, 3) := dk_182 0 1 (dk_at dksX7_join_0 6 rfl rfl)
theorem dX7_join_9 : decode cX7_join 9 = .ok (.lookupswitch 54 #[(94, 42), (124, 27)], 27) := by decide +kernel
theorem dX7_join_36 : decode cX7_join 36 = .ok (.aload_n 3, 1) := dk_45 (dk_at dksX7_join_2 0 rfl rfl)
theorem dX7_join_37 : decode cX7_join 37 = .ok (.ldc 7, 2) := dk_18 7 (dk_at dksX7_join_2 1 rfl rfl)
theorem dX7_join_39 : decode cX7_join 39 = .ok (.invokevirtual 9, 3) := dk_182 0 9 (dk_at dksX7_join_2 3 rfl rfl)
theorem dX7_join_42 : decode cX7_join 42 = .ok (.ifCond .eq 21, 3) := dk_153 0 21 (dk_at dksX7_join_2 6 rfl rfl)
theorem dX7_join_45 : decode cX7_join 45 = .ok (.iconst 0, 1) := dk_3 (dk_at dksX7_join_2 9 rfl rfl)
theorem dX7_join_46 : decode cX7_join 46 = .ok (.istore 4, 2) := dk_54 4 (dk_at dksX7_join_2 10 rfl rfl)
theorem dX7_join_48 : decode cX7_join 48 = .ok (.goto 15, 3) := dk_167 0 15 (dk_at dksX7_join_2 12 rfl rfl)
theorem dX7_join_51 : decode cX7_join 51 = .ok (.aload_n 3, 1) := dk_45 (dk_at dksX7_join_2 15 rfl rfl)
theorem dX7_join_52 : decode cX7_join 52 = .ok (.ldc 13, 2) := dk_18 13 (dk_at dksX7_join_2 16 rfl rfl)
theorem dX7_join_54 : decode cX7_join 54 = .ok (.invokevirtual 9, 3) := dk_182 0 9 (dk_at dksX7_join_2 18 rfl rfl)
theorem dX7_join_57 : decode cX7_join 57 = .ok (.ifCond .eq 6, 3) := dk_153 0 6 (dk_at dksX7_join_2 21 rfl rfl)
theorem dX7_join_60 : decode cX7_join 60 = .ok (.iconst 1, 1) := dk_4 (dk_at dksX7_join_3 0 rfl rfl)
theorem dX7_join_61 : decode cX7_join 61 = .ok (.istore 4, 2) := dk_54 4 (dk_at dksX7_join_3 1 rfl rfl)
theorem dX7_join_63 : decode cX7_join 63 = .ok (.iload 4, 2) := dk_21 4 (dk_at dksX7_join_3 3 rfl rfl)
theorem dX7_join_65 : decode cX7_join 65 = .ok (.lookupswitch 51 #[(0, 27), (1, 39)], 27) := by decide +kernel
theorem dX7_join_92 : decode cX7_join 92 = .ok (.new 15, 3) := dk_187 0 15 (dk_at dksX7_join_5 0 rfl rfl)
theorem dX7_join_95 : decode cX7_join 95 = .ok (.dup, 1) := dk_89 (dk_at dksX7_join_5 3 rfl rfl)
theorem dX7_join_96 : decode cX7_join 96 = .ok (.aload_n 1, 1) := dk_43 (dk_at dksX7_join_5 4 rfl rfl)
theorem dX7_join_97 : decode cX7_join 97 = .ok (.aload_n 2, 1) := dk_44 (dk_at dksX7_join_5 5 rfl rfl)
theorem dX7_join_98 : decode cX7_join 98 = .ok (.invokespecial 17, 3) := dk_183 0 17 (dk_at dksX7_join_5 6 rfl rfl)
theorem dX7_join_101 : decode cX7_join 101 = .ok (.goto 24, 3) := dk_167 0 24 (dk_at dksX7_join_5 9 rfl rfl)
theorem dX7_join_104 : decode cX7_join 104 = .ok (.new 21, 3) := dk_187 0 21 (dk_at dksX7_join_5 12 rfl rfl)
theorem dX7_join_107 : decode cX7_join 107 = .ok (.dup, 1) := dk_89 (dk_at dksX7_join_5 15 rfl rfl)
theorem dX7_join_108 : decode cX7_join 108 = .ok (.aload_n 1, 1) := dk_43 (dk_at dksX7_join_5 16 rfl rfl)
theorem dX7_join_109 : decode cX7_join 109 = .ok (.aload_n 2, 1) := dk_44 (dk_at dksX7_join_5 17 rfl rfl)
theorem dX7_join_110 : decode cX7_join 110 = .ok (.invokespecial 23, 3) := dk_183 0 23 (dk_at dksX7_join_5 18 rfl rfl)
theorem dX7_join_113 : decode cX7_join 113 = .ok (.goto 12, 3) := dk_167 0 12 (dk_at dksX7_join_5 21 rfl rfl)
theorem dX7_join_116 : decode cX7_join 116 = .ok (.new 24, 3) := dk_187 0 24 (dk_at dksX7_join_6 0 rfl rfl)
theorem dX7_join_119 : decode cX7_join 119 = .ok (.dup, 1) := dk_89 (dk_at dksX7_join_6 3 rfl rfl)
theorem dX7_join_120 : decode cX7_join 120 = .ok (.aload_n 1, 1) := dk_43 (dk_at dksX7_join_6 4 rfl rfl)
theorem dX7_join_121 : decode cX7_join 121 = .ok (.aload_n 2, 1) := dk_44 (dk_at dksX7_join_6 5 rfl rfl)
theorem dX7_join_122 : decode cX7_join 122 = .ok (.invokespecial 26, 3) := dk_183 0 26 (dk_at dksX7_join_6 6 rfl rfl)
theorem dX7_join_125 : decode cX7_join 125 = .ok (.areturn, 1) := dk_176 (dk_at dksX7_join_6 9 rfl rfl)
abbrev cX7_depth : ByteArray := prog_6_method_3_code
def yX7_depth : MethodName := ⟨RX7, "depth", "()I"⟩
theorem dX7_depth_0 : decode cX7_depth 0 = .ok (.iconst 0, 1) := by decide +kernel
theorem dX7_depth_1 : decode cX7_depth 1 = .ok (.ireturn, 1) := by decide +kernel
theorem q87 : (Jvm.Cond.initialized "ConditionWise$Node") ∈ lw_all := lw_g (lw_at lw_m1 33 rfl) rfl
theorem q1015 : (Jvm.Cond.static ({ cls := "ConditionWise$Node", name := "join", desc := "(Ljava/lang/String;LConditionWise$Node;LConditionWise$Node;)LConditionWise$Node;" } : Jvm.MethodName)) ∈ lw_all := lw_g (lw_at lw_m5 1 rfl) rfl
theorem q1016 : (Jvm.Cond.code ({ cls := "ConditionWise$Node", name := "join", desc := "(Ljava/lang/String;LConditionWise$Node;LConditionWise$Node;)LConditionWise$Node;" } : Jvm.MethodName) prog_6_method_4_code (5 : Nat) (Option.some (Jvm.ClassFile.FieldType.object "ConditionWise$Node"))) ∈ lw_all := lw_g (lw_at lw_m5 2 rfl) rfl
theorem q1017 : (Jvm.Cond.methodLink "ConditionWise$Node" (1 : Nat) ({ cls := "java/lang/String", name := "hashCode", desc := "()I" } : Jvm.MethodName)) ∈ lw_all := lw_g (lw_at lw_m5 3 rfl) rfl
theorem q1074 : (Jvm.Cond.stringRef "ConditionWise$Node" (7 : Nat) "|") ∈ lw_tbl := lw_at lw_m5 60 rfl
theorem q1075 : (Jvm.Cond.methodLink "ConditionWise$Node" (9 : Nat) ({ cls := "java/lang/String", name := "equals", desc := "(Ljava/lang/Object;)Z" } : Jvm.MethodName)) ∈ lw_all := lw_g (lw_at lw_m5 61 rfl) rfl
theorem q1083 : (Jvm.Cond.stringRef "ConditionWise$Node" (13 : Nat) "^") ∈ lw_tbl := lw_at lw_m5 69 rfl
theorem q1084 : (Jvm.Cond.classLink "ConditionWise$Node" (15 : Nat) "ConditionWise$Or") ∈ lw_all := lw_g (lw_at lw_m5 70 rfl) rfl
theorem q1086 : (Jvm.Cond.methodLinkNest "ConditionWise$Node" (17 : Nat) ({ cls := "ConditionWise$Or", name := "<init>", desc := "(LConditionWise$Node;LConditionWise$Node;)V" } : Jvm.MethodName) "ConditionWise") ∈ lw_tbl := lw_at lw_m5 72 rfl
theorem q1097 : (Jvm.Cond.classLink "ConditionWise$Node" (21 : Nat) "ConditionWise$Unlike") ∈ lw_all := lw_g (lw_at lw_m5 83 rfl) rfl
theorem q1099 : (Jvm.Cond.methodLinkNest "ConditionWise$Node" (23 : Nat) ({ cls := "ConditionWise$Unlike", name := "<init>", desc := "(LConditionWise$Node;LConditionWise$Node;)V" } : Jvm.MethodName) "ConditionWise") ∈ lw_tbl := lw_at lw_m5 85 rfl
theorem q1110 : (Jvm.Cond.classLink "ConditionWise$Node" (24 : Nat) "ConditionWise$And") ∈ lw_all := lw_g (lw_at lw_m5 96 rfl) rfl
theorem q1112 : (Jvm.Cond.methodLinkNest "ConditionWise$Node" (26 : Nat) ({ cls := "ConditionWise$And", name := "<init>", desc := "(LConditionWise$Node;LConditionWise$Node;)V" } : Jvm.MethodName) "ConditionWise") ∈ lw_tbl := lw_at lw_m5 98 rfl
theorem q1231 : (Jvm.Cond.interfaceMethod "ConditionWise$Node" "ConditionWise$Node" "depth" "()I") ∈ lw_tbl := lw_at lw_m5 217 rfl
theorem q1232 : (Jvm.Cond.declares ({ cls := "ConditionWise$Node", name := "depth", desc := "()I" } : Jvm.MethodName)) ∈ lw_tbl := lw_at lw_m5 218 rfl
theorem q1243 : (Jvm.Cond.instanceMethod ({ cls := "ConditionWise$Node", name := "depth", desc := "()I" } : Jvm.MethodName)) ∈ lw_all := lw_g (lw_at lw_m5 229 rfl) rfl
theorem q1244 : (Jvm.Cond.publicMethod ({ cls := "ConditionWise$Node", name := "depth", desc := "()I" } : Jvm.MethodName)) ∈ lw_tbl := lw_at lw_m5 230 rfl
theorem q1245 : (Jvm.Cond.code ({ cls := "ConditionWise$Node", name := "depth", desc := "()I" } : Jvm.MethodName) prog_6_method_3_code (1 : Nat) (Option.some Jvm.ClassFile.FieldType.int)) ∈ lw_all := lw_g (lw_at lw_m5 231 rfl) rfl
theorem q1333 : (Jvm.Cond.interfaceMethod "ConditionWise$Node" "ConditionWise$Node" "ask" "(LConditionWise$Run;)Z") ∈ lw_tbl := lw_at lw_m6 79 rfl
theorem q1334 : (Jvm.Cond.declares ({ cls := "ConditionWise$Node", name := "ask", desc := "(LConditionWise$Run;)Z" } : Jvm.MethodName)) ∈ lw_tbl := lw_at lw_m6 80 rfl
theorem q1717 : (Jvm.Cond.interfaceMethod "ConditionWise$Node" "ConditionWise$Node" "tell" "(I)Z") ∈ lw_tbl := lw_at lw_m7 223 rfl
theorem q1718 : (Jvm.Cond.declares ({ cls := "ConditionWise$Node", name := "tell", desc := "(I)Z" } : Jvm.MethodName)) ∈ lw_tbl := lw_at lw_m7 224 rfl
/-! ConditionWise$Or -/
set_option maxRecDepth 100000
def RX8 : String := "ConditionWise$Or"
def TX8 : u_T := fun k => match k with
  | 0 => ("ConditionWise$Or", "left", "LConditionWise$Node;", true)
  | _ => ("ConditionWise$Or", "right", "LConditionWise$Node;", true)
def tyX8 : Nat → FieldType := fun k => match k with
  | 0 => .object "ConditionWise$Node"
  | _ => .object "ConditionWise$Node"
abbrev wsX80 : List Cond := u_ws RX8 TX8 2
theorem nmX8 : ∀ a, a < 2 → ∀ b, b < 2 → a ≠ b → (TX8 a).2.1 ≠ (TX8 b).2.1 := by decide +kernel
theorem tyX8_ok : ∀ k, k < 2 → parseFieldDescriptor (TX8 k).2.2.1 = some (tyX8 k) := by decide +kernel
abbrev cX8_init : ByteArray := prog_8_method_1_code
def yX8_init : MethodName := ⟨RX8, "<init>", "(LConditionWise$Node;LConditionWise$Node;)V"⟩
def dkwX8_init_0 : List UInt8 := [42, 183, 0, 1, 42, 43, 181, 0, 7, 42, 44, 181, 0, 13, 177]
abbrev dktX8_init_0 : List UInt8 := dkwX8_init_0 ++ []
theorem dksX8_init_0 : cX8_init.data.toList.drop 0 = dktX8_init_0 := by decide +kernel
theorem dX8_init_0 : decode cX8_init 0 = .ok (.aload_n 0, 1) := dk_42 (dk_at dksX8_init_0 0 rfl rfl)
theorem dX8_init_1 : decode cX8_init 1 = .ok (.invokespecial 1, 3) := dk_183 0 1 (dk_at dksX8_init_0 1 rfl rfl)
theorem dX8_init_4 : decode cX8_init 4 = .ok (.aload_n 0, 1) := dk_42 (dk_at dksX8_init_0 4 rfl rfl)
theorem dX8_init_5 : decode cX8_init 5 = .ok (.aload_n 1, 1) := dk_43 (dk_at dksX8_init_0 5 rfl rfl)
theorem dX8_init_6 : decode cX8_init 6 = .ok (.putfield 7, 3) := dk_181 0 7 (dk_at dksX8_init_0 6 rfl rfl)
theorem dX8_init_9 : decode cX8_init 9 = .ok (.aload_n 0, 1) := dk_42 (dk_at dksX8_init_0 9 rfl rfl)
theorem dX8_init_10 : decode cX8_init 10 = .ok (.aload_n 2, 1) := dk_44 (dk_at dksX8_init_0 10 rfl rfl)
theorem dX8_init_11 : decode cX8_init 11 = .ok (.putfield 13, 3) := dk_181 0 13 (dk_at dksX8_init_0 11 rfl rfl)
theorem dX8_init_14 : decode cX8_init 14 = .ok (.return_, 1) := dk_177 (dk_at dksX8_init_0 14 rfl rfl)
abbrev cX8_depth : ByteArray := prog_8_method_4_code
def yX8_depth : MethodName := ⟨RX8, "depth", "()I"⟩
def dkwX8_depth_0 : List UInt8 := [42, 180, 0, 7, 185, 0, 26, 1, 0, 42, 180, 0, 13, 185, 0, 26, 1, 0, 184, 0, 30, 4, 96, 172]
abbrev dktX8_depth_0 : List UInt8 := dkwX8_depth_0 ++ []
theorem dksX8_depth_0 : cX8_depth.data.toList.drop 0 = dktX8_depth_0 := by decide +kernel
theorem dX8_depth_0 : decode cX8_depth 0 = .ok (.aload_n 0, 1) := dk_42 (dk_at dksX8_depth_0 0 rfl rfl)
theorem dX8_depth_1 : decode cX8_depth 1 = .ok (.getfield 7, 3) := dk_180 0 7 (dk_at dksX8_depth_0 1 rfl rfl)
theorem dX8_depth_4 : decode cX8_depth 4 = .ok (.invokeinterface 26 1, 5) := by decide +kernel
theorem dX8_depth_9 : decode cX8_depth 9 = .ok (.aload_n 0, 1) := dk_42 (dk_at dksX8_depth_0 9 rfl rfl)
theorem dX8_depth_10 : decode cX8_depth 10 = .ok (.getfield 13, 3) := dk_180 0 13 (dk_at dksX8_depth_0 10 rfl rfl)
theorem dX8_depth_13 : decode cX8_depth 13 = .ok (.invokeinterface 26 1, 5) := by decide +kernel
theorem dX8_depth_18 : decode cX8_depth 18 = .ok (.invokestatic 30, 3) := dk_184 0 30 (dk_at dksX8_depth_0 18 rfl rfl)
theorem dX8_depth_21 : decode cX8_depth 21 = .ok (.iconst 1, 1) := dk_4 (dk_at dksX8_depth_0 21 rfl rfl)
theorem dX8_depth_22 : decode cX8_depth 22 = .ok (.iadd, 1) := dk_96 (dk_at dksX8_depth_0 22 rfl rfl)
theorem dX8_depth_23 : decode cX8_depth 23 = .ok (.ireturn, 1) := dk_172 (dk_at dksX8_depth_0 23 rfl rfl)
abbrev cX8_ask : ByteArray := prog_8_method_2_code
def yX8_ask : MethodName := ⟨RX8, "ask", "(LConditionWise$Run;)Z"⟩
def dkwX8_ask_1 : List UInt8 := [153, 0, 7, 4, 167, 0, 4, 3, 172]
abbrev dktX8_ask_1 : List UInt8 := dkwX8_ask_1 ++ []
def dkwX8_ask_0 : List UInt8 := [42, 180, 0, 7, 43, 185, 0, 16, 2, 0, 154, 0, 16, 42, 180, 0, 13, 43, 185, 0, 16, 2, 0]
abbrev dktX8_ask_0 : List UInt8 := dkwX8_ask_0 ++ dktX8_ask_1
theorem dksX8_ask_0 : cX8_ask.data.toList.drop 0 = dktX8_ask_0 := by decide +kernel
theorem dksX8_ask_1 : cX8_ask.data.toList.drop 23 = dktX8_ask_1 := dk_seg dksX8_ask_0 23 rfl rfl
theorem dX8_ask_0 : decode cX8_ask 0 = .ok (.aload_n 0, 1) := dk_42 (dk_at dksX8_ask_0 0 rfl rfl)
theorem dX8_ask_1 : decode cX8_ask 1 = .ok (.getfield 7, 3) := dk_180 0 7 (dk_at dksX8_ask_0 1 rfl rfl)
theorem dX8_ask_4 : decode cX8_ask 4 = .ok (.aload_n 1, 1) := dk_43 (dk_at dksX8_ask_0 4 rfl rfl)
theorem dX8_ask_5 : decode cX8_ask 5 = .ok (.invokeinterface 16 2, 5) := by decide +kernel
theorem dX8_ask_10 : decode cX8_ask 10 = .ok (.ifCond .ne 16, 3) := dk_154 0 16 (dk_at dksX8_ask_0 10 rfl rfl)
theorem dX8_ask_13 : decode cX8_ask 13 = .ok (.aload_n 0, 1) := dk_42 (dk_at dksX8_ask_0 13 rfl rfl)
theorem dX8_ask_14 : decode cX8_ask 14 = .ok (.getfield 13, 3) := dk_180 0 13 (dk_at dksX8_ask_0 14 rfl rfl)
theorem dX8_ask_17 : decode cX8_ask 17 = .ok (.aload_n 1, 1) := dk_43 (dk_at dksX8_ask_0 17 rfl rfl)
theorem dX8_ask_18 : decode cX8_ask 18 = .ok (.invokeinterface 16 2, 5) := by decide +kernel
theorem dX8_ask_23 : decode cX8_ask 23 = .ok (.ifCond .eq 7, 3) := dk_153 0 7 (dk_at dksX8_ask_1 0 rfl rfl)
theorem dX8_ask_26 : decode cX8_ask 26 = .ok (.iconst 1, 1) := dk_4 (dk_at dksX8_ask_1 3 rfl rfl)
theorem dX8_ask_27 : decode cX8_ask 27 = .ok (.goto 4, 3) := dk_167 0 4 (dk_at dksX8_ask_1 4 rfl rfl)
theorem dX8_ask_30 : decode cX8_ask 30 = .ok (.iconst 0, 1) := dk_3 (dk_at dksX8_ask_1 7 rfl rfl)
theorem dX8_ask_31 : decode cX8_ask 31 = .ok (.ireturn, 1) := dk_172 (dk_at dksX8_ask_1 8 rfl rfl)
abbrev cX8_tell : ByteArray := prog_8_method_3_code
def yX8_tell : MethodName := ⟨RX8, "tell", "(I)Z"⟩
def dkwX8_tell_0 : List UInt8 := [42, 180, 0, 7, 27, 185, 0, 22, 2, 0, 42, 180, 0, 13, 27, 185, 0, 22, 2, 0, 128, 172]
abbrev dktX8_tell_0 : List UInt8 := dkwX8_tell_0 ++ []
theorem dksX8_tell_0 : cX8_tell.data.toList.drop 0 = dktX8_tell_0 := by decide +kernel
theorem dX8_tell_0 : decode cX8_tell 0 = .ok (.aload_n 0, 1) := dk_42 (dk_at dksX8_tell_0 0 rfl rfl)
theorem dX8_tell_1 : decode cX8_tell 1 = .ok (.getfield 7, 3) := dk_180 0 7 (dk_at dksX8_tell_0 1 rfl rfl)
theorem dX8_tell_4 : decode cX8_tell 4 = .ok (.iload_n 1, 1) := dk_27 (dk_at dksX8_tell_0 4 rfl rfl)
theorem dX8_tell_5 : decode cX8_tell 5 = .ok (.invokeinterface 22 2, 5) := by decide +kernel
theorem dX8_tell_10 : decode cX8_tell 10 = .ok (.aload_n 0, 1) := dk_42 (dk_at dksX8_tell_0 10 rfl rfl)
theorem dX8_tell_11 : decode cX8_tell 11 = .ok (.getfield 13, 3) := dk_180 0 13 (dk_at dksX8_tell_0 11 rfl rfl)
theorem dX8_tell_14 : decode cX8_tell 14 = .ok (.iload_n 1, 1) := dk_27 (dk_at dksX8_tell_0 14 rfl rfl)
theorem dX8_tell_15 : decode cX8_tell 15 = .ok (.invokeinterface 22 2, 5) := by decide +kernel
theorem dX8_tell_20 : decode cX8_tell 20 = .ok (.ior, 1) := dk_128 (dk_at dksX8_tell_0 20 rfl rfl)
theorem dX8_tell_21 : decode cX8_tell 21 = .ok (.ireturn, 1) := dk_172 (dk_at dksX8_tell_0 21 rfl rfl)
theorem q90 : (Jvm.Cond.initialized "ConditionWise$Or") ∈ lw_all := lw_g (lw_at lw_m1 36 rfl) rfl
theorem q711 : (Jvm.Cond.selects "ConditionWise$Or" ({ cls := "java/lang/Object", name := "getClass", desc := "()Ljava/lang/Class;" } : Jvm.MethodName) ({ cls := "java/lang/Object", name := "getClass", desc := "()Ljava/lang/Class;" } : Jvm.MethodName)) ∈ lw_all := lw_g (lw_at lw_m3 177 rfl) rfl
theorem q1085 : (Jvm.Cond.instantiable "ConditionWise$Or" (2 : Nat)) ∈ lw_all := lw_g (lw_at lw_m5 71 rfl) rfl
theorem q1087 : (Jvm.Cond.instanceMethod ({ cls := "ConditionWise$Or", name := "<init>", desc := "(LConditionWise$Node;LConditionWise$Node;)V" } : Jvm.MethodName)) ∈ lw_all := lw_g (lw_at lw_m5 73 rfl) rfl
theorem q1088 : (Jvm.Cond.code ({ cls := "ConditionWise$Or", name := "<init>", desc := "(LConditionWise$Node;LConditionWise$Node;)V" } : Jvm.MethodName) prog_8_method_1_code (3 : Nat) (Option.none : Option Jvm.ClassFile.FieldType)) ∈ lw_all := lw_g (lw_at lw_m5 74 rfl) rfl
theorem q1089 : (Jvm.Cond.methodLink "ConditionWise$Or" (1 : Nat) ({ cls := "java/lang/Record", name := "<init>", desc := "()V" } : Jvm.MethodName)) ∈ lw_all := lw_g (lw_at lw_m5 75 rfl) rfl
theorem q1090 : (Jvm.Cond.fieldLink "ConditionWise$Or" (7 : Nat) "ConditionWise$Or" "left" "LConditionWise$Node;") ∈ lw_all := lw_g (lw_at lw_m5 76 rfl) rfl
theorem q1091 : (Jvm.Cond.fieldLink "ConditionWise$Or" (13 : Nat) "ConditionWise$Or" "right" "LConditionWise$Node;") ∈ lw_all := lw_g (lw_at lw_m5 77 rfl) rfl
theorem q1092 : (Jvm.Cond.laysFinal "ConditionWise$Or" "ConditionWise$Or" "left" "LConditionWise$Node;") ∈ lw_all := lw_g (lw_at lw_m5 78 rfl) rfl
theorem q1093 : (Jvm.Cond.soleField "ConditionWise$Or" "left") ∈ lw_all := lw_g (lw_at lw_m5 79 rfl) rfl
theorem q1094 : (Jvm.Cond.laysFinal "ConditionWise$Or" "ConditionWise$Or" "right" "LConditionWise$Node;") ∈ lw_all := lw_g (lw_at lw_m5 80 rfl) rfl
theorem q1095 : (Jvm.Cond.soleField "ConditionWise$Or" "right") ∈ lw_all := lw_g (lw_at lw_m5 81 rfl) rfl
theorem q1096 : (Jvm.Cond.superclass "ConditionWise$Or" "java/lang/Record") ∈ lw_all := lw_g (lw_at lw_m5 82 rfl) rfl
theorem q1254 : (Jvm.Cond.castable "ConditionWise$Or" "ConditionWise$Node") ∈ lw_tbl := lw_at lw_m6 0 rfl
theorem q1255 : (Jvm.Cond.selects "ConditionWise$Or" ({ cls := "ConditionWise$Node", name := "depth", desc := "()I" } : Jvm.MethodName) ({ cls := "ConditionWise$Or", name := "depth", desc := "()I" } : Jvm.MethodName)) ∈ lw_all := lw_g (lw_at lw_m6 1 rfl) rfl
theorem q1256 : (Jvm.Cond.unhidden "ConditionWise$Or" "depth" "()I") ∈ lw_tbl := lw_at lw_m6 2 rfl
theorem q1257 : (Jvm.Cond.instanceMethod ({ cls := "ConditionWise$Or", name := "depth", desc := "()I" } : Jvm.MethodName)) ∈ lw_all := lw_g (lw_at lw_m6 3 rfl) rfl
theorem q1258 : (Jvm.Cond.publicMethod ({ cls := "ConditionWise$Or", name := "depth", desc := "()I" } : Jvm.MethodName)) ∈ lw_tbl := lw_at lw_m6 4 rfl
theorem q1259 : (Jvm.Cond.code ({ cls := "ConditionWise$Or", name := "depth", desc := "()I" } : Jvm.MethodName) prog_8_method_4_code (1 : Nat) (Option.some Jvm.ClassFile.FieldType.int)) ∈ lw_all := lw_g (lw_at lw_m6 5 rfl) rfl
theorem q1260 : (Jvm.Cond.interfaceEntry "ConditionWise$Or" (26 : Nat)) ∈ lw_tbl := lw_at lw_m6 6 rfl
theorem q1261 : (Jvm.Cond.methodLink "ConditionWise$Or" (26 : Nat) ({ cls := "ConditionWise$Node", name := "depth", desc := "()I" } : Jvm.MethodName)) ∈ lw_all := lw_g (lw_at lw_m6 7 rfl) rfl
theorem q1271 : (Jvm.Cond.methodLink "ConditionWise$Or" (30 : Nat) ({ cls := "java/lang/Math", name := "max", desc := "(II)I" } : Jvm.MethodName)) ∈ lw_all := lw_g (lw_at lw_m6 17 rfl) rfl
theorem q1393 : (Jvm.Cond.selects "ConditionWise$Or" ({ cls := "ConditionWise$Node", name := "ask", desc := "(LConditionWise$Run;)Z" } : Jvm.MethodName) ({ cls := "ConditionWise$Or", name := "ask", desc := "(LConditionWise$Run;)Z" } : Jvm.MethodName)) ∈ lw_all := lw_g (lw_at lw_m6 139 rfl) rfl
theorem q1394 : (Jvm.Cond.unhidden "ConditionWise$Or" "ask" "(LConditionWise$Run;)Z") ∈ lw_tbl := lw_at lw_m6 140 rfl
theorem q1395 : (Jvm.Cond.instanceMethod ({ cls := "ConditionWise$Or", name := "ask", desc := "(LConditionWise$Run;)Z" } : Jvm.MethodName)) ∈ lw_all := lw_g (lw_at lw_m6 141 rfl) rfl
theorem q1396 : (Jvm.Cond.publicMethod ({ cls := "ConditionWise$Or", name := "ask", desc := "(LConditionWise$Run;)Z" } : Jvm.MethodName)) ∈ lw_tbl := lw_at lw_m6 142 rfl
theorem q1397 : (Jvm.Cond.code ({ cls := "ConditionWise$Or", name := "ask", desc := "(LConditionWise$Run;)Z" } : Jvm.MethodName) prog_8_method_2_code (2 : Nat) (Option.some Jvm.ClassFile.FieldType.boolean)) ∈ lw_all := lw_g (lw_at lw_m6 143 rfl) rfl
theorem q1398 : (Jvm.Cond.interfaceEntry "ConditionWise$Or" (16 : Nat)) ∈ lw_tbl := lw_at lw_m6 144 rfl
theorem q1399 : (Jvm.Cond.methodLink "ConditionWise$Or" (16 : Nat) ({ cls := "ConditionWise$Node", name := "ask", desc := "(LConditionWise$Run;)Z" } : Jvm.MethodName)) ∈ lw_all := lw_g (lw_at lw_m6 145 rfl) rfl
theorem q1738 : (Jvm.Cond.selects "ConditionWise$Or" ({ cls := "ConditionWise$Node", name := "tell", desc := "(I)Z" } : Jvm.MethodName) ({ cls := "ConditionWise$Or", name := "tell", desc := "(I)Z" } : Jvm.MethodName)) ∈ lw_all := lw_g (lw_at lw_m8 4 rfl) rfl
theorem q1739 : (Jvm.Cond.unhidden "ConditionWise$Or" "tell" "(I)Z") ∈ lw_tbl := lw_at lw_m8 5 rfl
theorem q1740 : (Jvm.Cond.instanceMethod ({ cls := "ConditionWise$Or", name := "tell", desc := "(I)Z" } : Jvm.MethodName)) ∈ lw_all := lw_g (lw_at lw_m8 6 rfl) rfl
theorem q1741 : (Jvm.Cond.publicMethod ({ cls := "ConditionWise$Or", name := "tell", desc := "(I)Z" } : Jvm.MethodName)) ∈ lw_tbl := lw_at lw_m8 7 rfl
theorem q1742 : (Jvm.Cond.code ({ cls := "ConditionWise$Or", name := "tell", desc := "(I)Z" } : Jvm.MethodName) prog_8_method_3_code (2 : Nat) (Option.some Jvm.ClassFile.FieldType.boolean)) ∈ lw_all := lw_g (lw_at lw_m8 8 rfl) rfl
theorem q1743 : (Jvm.Cond.interfaceEntry "ConditionWise$Or" (22 : Nat)) ∈ lw_tbl := lw_at lw_m8 9 rfl
theorem q1744 : (Jvm.Cond.methodLink "ConditionWise$Or" (22 : Nat) ({ cls := "ConditionWise$Node", name := "tell", desc := "(I)Z" } : Jvm.MethodName)) ∈ lw_all := lw_g (lw_at lw_m8 10 rfl) rfl
theorem q2162 : (Jvm.Cond.castable "ConditionWise$Or" "java/lang/Object") ∈ lw_tbl := lw_at lw_m9 188 rfl
theorem in_X8 : ∀ w ∈ wsX80, w ∈ lw_all := lw_in wsX80 [1092, 1094] (by decide +kernel) (by decide +kernel)
/-! ConditionWise$Unlike -/
set_option maxRecDepth 100000
def RX9 : String := "ConditionWise$Unlike"
def TX9 : u_T := fun k => match k with
  | 0 => ("ConditionWise$Unlike", "left", "LConditionWise$Node;", true)
  | _ => ("ConditionWise$Unlike", "right", "LConditionWise$Node;", true)
def tyX9 : Nat → FieldType := fun k => match k with
  | 0 => .object "ConditionWise$Node"
  | _ => .object "ConditionWise$Node"
abbrev wsX90 : List Cond := u_ws RX9 TX9 2
theorem nmX9 : ∀ a, a < 2 → ∀ b, b < 2 → a ≠ b → (TX9 a).2.1 ≠ (TX9 b).2.1 := by decide +kernel
theorem tyX9_ok : ∀ k, k < 2 → parseFieldDescriptor (TX9 k).2.2.1 = some (tyX9 k) := by decide +kernel
abbrev cX9_init : ByteArray := prog_13_method_1_code
def yX9_init : MethodName := ⟨RX9, "<init>", "(LConditionWise$Node;LConditionWise$Node;)V"⟩
def dkwX9_init_0 : List UInt8 := [42, 183, 0, 1, 42, 43, 181, 0, 7, 42, 44, 181, 0, 13, 177]
abbrev dktX9_init_0 : List UInt8 := dkwX9_init_0 ++ []
theorem dksX9_init_0 : cX9_init.data.toList.drop 0 = dktX9_init_0 := by decide +kernel
theorem dX9_init_0 : decode cX9_init 0 = .ok (.aload_n 0, 1) := dk_42 (dk_at dksX9_init_0 0 rfl rfl)
theorem dX9_init_1 : decode cX9_init 1 = .ok (.invokespecial 1, 3) := dk_183 0 1 (dk_at dksX9_init_0 1 rfl rfl)
theorem dX9_init_4 : decode cX9_init 4 = .ok (.aload_n 0, 1) := dk_42 (dk_at dksX9_init_0 4 rfl rfl)
theorem dX9_init_5 : decode cX9_init 5 = .ok (.aload_n 1, 1) := dk_43 (dk_at dksX9_init_0 5 rfl rfl)
theorem dX9_init_6 : decode cX9_init 6 = .ok (.putfield 7, 3) := dk_181 0 7 (dk_at dksX9_init_0 6 rfl rfl)
theorem dX9_init_9 : decode cX9_init 9 = .ok (.aload_n 0, 1) := dk_42 (dk_at dksX9_init_0 9 rfl rfl)
theorem dX9_init_10 : decode cX9_init 10 = .ok (.aload_n 2, 1) := dk_44 (dk_at dksX9_init_0 10 rfl rfl)
theorem dX9_init_11 : decode cX9_init 11 = .ok (.putfield 13, 3) := dk_181 0 13 (dk_at dksX9_init_0 11 rfl rfl)
theorem dX9_init_14 : decode cX9_init 14 = .ok (.return_, 1) := dk_177 (dk_at dksX9_init_0 14 rfl rfl)
abbrev cX9_depth : ByteArray := prog_13_method_4_code
def yX9_depth : MethodName := ⟨RX9, "depth", "()I"⟩
def dkwX9_depth_0 : List UInt8 := [42, 180, 0, 7, 185, 0, 26, 1, 0, 42, 180, 0, 13, 185, 0, 26, 1, 0, 184, 0, 30, 4, 96, 172]
abbrev dktX9_depth_0 : List UInt8 := dkwX9_depth_0 ++ []
theorem dksX9_depth_0 : cX9_depth.data.toList.drop 0 = dktX9_depth_0 := by decide +kernel
theorem dX9_depth_0 : decode cX9_depth 0 = .ok (.aload_n 0, 1) := dk_42 (dk_at dksX9_depth_0 0 rfl rfl)
theorem dX9_depth_1 : decode cX9_depth 1 = .ok (.getfield 7, 3) := dk_180 0 7 (dk_at dksX9_depth_0 1 rfl rfl)
theorem dX9_depth_4 : decode cX9_depth 4 = .ok (.invokeinterface 26 1, 5) := by decide +kernel
theorem dX9_depth_9 : decode cX9_depth 9 = .ok (.aload_n 0, 1) := dk_42 (dk_at dksX9_depth_0 9 rfl rfl)
theorem dX9_depth_10 : decode cX9_depth 10 = .ok (.getfield 13, 3) := dk_180 0 13 (dk_at dksX9_depth_0 10 rfl rfl)
theorem dX9_depth_13 : decode cX9_depth 13 = .ok (.invokeinterface 26 1, 5) := by decide +kernel
theorem dX9_depth_18 : decode cX9_depth 18 = .ok (.invokestatic 30, 3) := dk_184 0 30 (dk_at dksX9_depth_0 18 rfl rfl)
theorem dX9_depth_21 : decode cX9_depth 21 = .ok (.iconst 1, 1) := dk_4 (dk_at dksX9_depth_0 21 rfl rfl)
theorem dX9_depth_22 : decode cX9_depth 22 = .ok (.iadd, 1) := dk_96 (dk_at dksX9_depth_0 22 rfl rfl)
theorem dX9_depth_23 : decode cX9_depth 23 = .ok (.ireturn, 1) := dk_172 (dk_at dksX9_depth_0 23 rfl rfl)
abbrev cX9_ask : ByteArray := prog_13_method_2_code
def yX9_ask : MethodName := ⟨RX9, "ask", "(LConditionWise$Run;)Z"⟩
def dkwX9_ask_1 : List UInt8 := [167, 0, 4, 3, 172]
abbrev dktX9_ask_1 : List UInt8 := dkwX9_ask_1 ++ []
def dkwX9_ask_0 : List UInt8 := [42, 180, 0, 7, 43, 185, 0, 16, 2, 0, 42, 180, 0, 13, 43, 185, 0, 16, 2, 0, 159, 0, 7, 4]
abbrev dktX9_ask_0 : List UInt8 := dkwX9_ask_0 ++ dktX9_ask_1
theorem dksX9_ask_0 : cX9_ask.data.toList.drop 0 = dktX9_ask_0 := by decide +kernel
theorem dksX9_ask_1 : cX9_ask.data.toList.drop 24 = dktX9_ask_1 := dk_seg dksX9_ask_0 24 rfl rfl
theorem dX9_ask_0 : decode cX9_ask 0 = .ok (.aload_n 0, 1) := dk_42 (dk_at dksX9_ask_0 0 rfl rfl)
theorem dX9_ask_1 : decode cX9_ask 1 = .ok (.getfield 7, 3) := dk_180 0 7 (dk_at dksX9_ask_0 1 rfl rfl)
theorem dX9_ask_4 : decode cX9_ask 4 = .ok (.aload_n 1, 1) := dk_43 (dk_at dksX9_ask_0 4 rfl rfl)
theorem dX9_ask_5 : decode cX9_ask 5 = .ok (.invokeinterface 16 2, 5) := by decide +kernel
theorem dX9_ask_10 : decode cX9_ask 10 = .ok (.aload_n 0, 1) := dk_42 (dk_at dksX9_ask_0 10 rfl rfl)
theorem dX9_ask_11 : decode cX9_ask 11 = .ok (.getfield 13, 3) := dk_180 0 13 (dk_at dksX9_ask_0 11 rfl rfl)
theorem dX9_ask_14 : decode cX9_ask 14 = .ok (.aload_n 1, 1) := dk_43 (dk_at dksX9_ask_0 14 rfl rfl)
theorem dX9_ask_15 : decode cX9_ask 15 = .ok (.invokeinterface 16 2, 5) := by decide +kernel
theorem dX9_ask_20 : decode cX9_ask 20 = .ok (.if_icmp .eq 7, 3) := dk_159 0 7 (dk_at dksX9_ask_0 20 rfl rfl)
theorem dX9_ask_23 : decode cX9_ask 23 = .ok (.iconst 1, 1) := dk_4 (dk_at dksX9_ask_0 23 rfl rfl)
theorem dX9_ask_24 : decode cX9_ask 24 = .ok (.goto 4, 3) := dk_167 0 4 (dk_at dksX9_ask_1 0 rfl rfl)
theorem dX9_ask_27 : decode cX9_ask 27 = .ok (.iconst 0, 1) := dk_3 (dk_at dksX9_ask_1 3 rfl rfl)
theorem dX9_ask_28 : decode cX9_ask 28 = .ok (.ireturn, 1) := dk_172 (dk_at dksX9_ask_1 4 rfl rfl)
abbrev cX9_tell : ByteArray := prog_13_method_3_code
def yX9_tell : MethodName := ⟨RX9, "tell", "(I)Z"⟩
def dkwX9_tell_0 : List UInt8 := [42, 180, 0, 7, 27, 185, 0, 22, 2, 0, 42, 180, 0, 13, 27, 185, 0, 22, 2, 0, 130, 172]
abbrev dktX9_tell_0 : List UInt8 := dkwX9_tell_0 ++ []
theorem dksX9_tell_0 : cX9_tell.data.toList.drop 0 = dktX9_tell_0 := by decide +kernel
theorem dX9_tell_0 : decode cX9_tell 0 = .ok (.aload_n 0, 1) := dk_42 (dk_at dksX9_tell_0 0 rfl rfl)
theorem dX9_tell_1 : decode cX9_tell 1 = .ok (.getfield 7, 3) := dk_180 0 7 (dk_at dksX9_tell_0 1 rfl rfl)
theorem dX9_tell_4 : decode cX9_tell 4 = .ok (.iload_n 1, 1) := dk_27 (dk_at dksX9_tell_0 4 rfl rfl)
theorem dX9_tell_5 : decode cX9_tell 5 = .ok (.invokeinterface 22 2, 5) := by decide +kernel
theorem dX9_tell_10 : decode cX9_tell 10 = .ok (.aload_n 0, 1) := dk_42 (dk_at dksX9_tell_0 10 rfl rfl)
theorem dX9_tell_11 : decode cX9_tell 11 = .ok (.getfield 13, 3) := dk_180 0 13 (dk_at dksX9_tell_0 11 rfl rfl)
theorem dX9_tell_14 : decode cX9_tell 14 = .ok (.iload_n 1, 1) := dk_27 (dk_at dksX9_tell_0 14 rfl rfl)
theorem dX9_tell_15 : decode cX9_tell 15 = .ok (.invokeinterface 22 2, 5) := by decide +kernel
theorem dX9_tell_20 : decode cX9_tell 20 = .ok (.ixor, 1) := dk_130 (dk_at dksX9_tell_0 20 rfl rfl)
theorem dX9_tell_21 : decode cX9_tell 21 = .ok (.ireturn, 1) := dk_172 (dk_at dksX9_tell_0 21 rfl rfl)
theorem q91 : (Jvm.Cond.initialized "ConditionWise$Unlike") ∈ lw_all := lw_g (lw_at lw_m1 37 rfl) rfl
theorem q716 : (Jvm.Cond.selects "ConditionWise$Unlike" ({ cls := "java/lang/Object", name := "getClass", desc := "()Ljava/lang/Class;" } : Jvm.MethodName) ({ cls := "java/lang/Object", name := "getClass", desc := "()Ljava/lang/Class;" } : Jvm.MethodName)) ∈ lw_all := lw_g (lw_at lw_m3 182 rfl) rfl
theorem q1098 : (Jvm.Cond.instantiable "ConditionWise$Unlike" (2 : Nat)) ∈ lw_all := lw_g (lw_at lw_m5 84 rfl) rfl
theorem q1100 : (Jvm.Cond.instanceMethod ({ cls := "ConditionWise$Unlike", name := "<init>", desc := "(LConditionWise$Node;LConditionWise$Node;)V" } : Jvm.MethodName)) ∈ lw_all := lw_g (lw_at lw_m5 86 rfl) rfl
theorem q1101 : (Jvm.Cond.code ({ cls := "ConditionWise$Unlike", name := "<init>", desc := "(LConditionWise$Node;LConditionWise$Node;)V" } : Jvm.MethodName) prog_13_method_1_code (3 : Nat) (Option.none : Option Jvm.ClassFile.FieldType)) ∈ lw_all := lw_g (lw_at lw_m5 87 rfl) rfl
theorem q1102 : (Jvm.Cond.methodLink "ConditionWise$Unlike" (1 : Nat) ({ cls := "java/lang/Record", name := "<init>", desc := "()V" } : Jvm.MethodName)) ∈ lw_all := lw_g (lw_at lw_m5 88 rfl) rfl
theorem q1103 : (Jvm.Cond.fieldLink "ConditionWise$Unlike" (7 : Nat) "ConditionWise$Unlike" "left" "LConditionWise$Node;") ∈ lw_all := lw_g (lw_at lw_m5 89 rfl) rfl
theorem q1104 : (Jvm.Cond.fieldLink "ConditionWise$Unlike" (13 : Nat) "ConditionWise$Unlike" "right" "LConditionWise$Node;") ∈ lw_all := lw_g (lw_at lw_m5 90 rfl) rfl
theorem q1105 : (Jvm.Cond.laysFinal "ConditionWise$Unlike" "ConditionWise$Unlike" "left" "LConditionWise$Node;") ∈ lw_all := lw_g (lw_at lw_m5 91 rfl) rfl
theorem q1106 : (Jvm.Cond.soleField "ConditionWise$Unlike" "left") ∈ lw_all := lw_g (lw_at lw_m5 92 rfl) rfl
theorem q1107 : (Jvm.Cond.laysFinal "ConditionWise$Unlike" "ConditionWise$Unlike" "right" "LConditionWise$Node;") ∈ lw_all := lw_g (lw_at lw_m5 93 rfl) rfl
theorem q1108 : (Jvm.Cond.soleField "ConditionWise$Unlike" "right") ∈ lw_all := lw_g (lw_at lw_m5 94 rfl) rfl
theorem q1109 : (Jvm.Cond.superclass "ConditionWise$Unlike" "java/lang/Record") ∈ lw_all := lw_g (lw_at lw_m5 95 rfl) rfl
theorem q1262 : (Jvm.Cond.castable "ConditionWise$Unlike" "ConditionWise$Node") ∈ lw_tbl := lw_at lw_m6 8 rfl
theorem q1263 : (Jvm.Cond.selects "ConditionWise$Unlike" ({ cls := "ConditionWise$Node", name := "depth", desc := "()I" } : Jvm.MethodName) ({ cls := "ConditionWise$Unlike", name := "depth", desc := "()I" } : Jvm.MethodName)) ∈ lw_all := lw_g (lw_at lw_m6 9 rfl) rfl
theorem q1264 : (Jvm.Cond.unhidden "ConditionWise$Unlike" "depth" "()I") ∈ lw_tbl := lw_at lw_m6 10 rfl
theorem q1265 : (Jvm.Cond.instanceMethod ({ cls := "ConditionWise$Unlike", name := "depth", desc := "()I" } : Jvm.MethodName)) ∈ lw_all := lw_g (lw_at lw_m6 11 rfl) rfl
theorem q1266 : (Jvm.Cond.publicMethod ({ cls := "ConditionWise$Unlike", name := "depth", desc := "()I" } : Jvm.MethodName)) ∈ lw_tbl := lw_at lw_m6 12 rfl
theorem q1267 : (Jvm.Cond.code ({ cls := "ConditionWise$Unlike", name := "depth", desc := "()I" } : Jvm.MethodName) prog_13_method_4_code (1 : Nat) (Option.some Jvm.ClassFile.FieldType.int)) ∈ lw_all := lw_g (lw_at lw_m6 13 rfl) rfl
theorem q1268 : (Jvm.Cond.interfaceEntry "ConditionWise$Unlike" (26 : Nat)) ∈ lw_tbl := lw_at lw_m6 14 rfl
theorem q1269 : (Jvm.Cond.methodLink "ConditionWise$Unlike" (26 : Nat) ({ cls := "ConditionWise$Node", name := "depth", desc := "()I" } : Jvm.MethodName)) ∈ lw_all := lw_g (lw_at lw_m6 15 rfl) rfl
theorem q1270 : (Jvm.Cond.methodLink "ConditionWise$Unlike" (30 : Nat) ({ cls := "java/lang/Math", name := "max", desc := "(II)I" } : Jvm.MethodName)) ∈ lw_all := lw_g (lw_at lw_m6 16 rfl) rfl
theorem q1400 : (Jvm.Cond.selects "ConditionWise$Unlike" ({ cls := "ConditionWise$Node", name := "ask", desc := "(LConditionWise$Run;)Z" } : Jvm.MethodName) ({ cls := "ConditionWise$Unlike", name := "ask", desc := "(LConditionWise$Run;)Z" } : Jvm.MethodName)) ∈ lw_all := lw_g (lw_at lw_m6 146 rfl) rfl
theorem q1401 : (Jvm.Cond.unhidden "ConditionWise$Unlike" "ask" "(LConditionWise$Run;)Z") ∈ lw_tbl := lw_at lw_m6 147 rfl
theorem q1402 : (Jvm.Cond.instanceMethod ({ cls := "ConditionWise$Unlike", name := "ask", desc := "(LConditionWise$Run;)Z" } : Jvm.MethodName)) ∈ lw_all := lw_g (lw_at lw_m6 148 rfl) rfl
theorem q1403 : (Jvm.Cond.publicMethod ({ cls := "ConditionWise$Unlike", name := "ask", desc := "(LConditionWise$Run;)Z" } : Jvm.MethodName)) ∈ lw_tbl := lw_at lw_m6 149 rfl
theorem q1404 : (Jvm.Cond.code ({ cls := "ConditionWise$Unlike", name := "ask", desc := "(LConditionWise$Run;)Z" } : Jvm.MethodName) prog_13_method_2_code (2 : Nat) (Option.some Jvm.ClassFile.FieldType.boolean)) ∈ lw_all := lw_g (lw_at lw_m6 150 rfl) rfl
theorem q1405 : (Jvm.Cond.interfaceEntry "ConditionWise$Unlike" (16 : Nat)) ∈ lw_tbl := lw_at lw_m6 151 rfl
theorem q1406 : (Jvm.Cond.methodLink "ConditionWise$Unlike" (16 : Nat) ({ cls := "ConditionWise$Node", name := "ask", desc := "(LConditionWise$Run;)Z" } : Jvm.MethodName)) ∈ lw_all := lw_g (lw_at lw_m6 152 rfl) rfl
theorem q1745 : (Jvm.Cond.selects "ConditionWise$Unlike" ({ cls := "ConditionWise$Node", name := "tell", desc := "(I)Z" } : Jvm.MethodName) ({ cls := "ConditionWise$Unlike", name := "tell", desc := "(I)Z" } : Jvm.MethodName)) ∈ lw_all := lw_g (lw_at lw_m8 11 rfl) rfl
theorem q1746 : (Jvm.Cond.unhidden "ConditionWise$Unlike" "tell" "(I)Z") ∈ lw_tbl := lw_at lw_m8 12 rfl
theorem q1747 : (Jvm.Cond.instanceMethod ({ cls := "ConditionWise$Unlike", name := "tell", desc := "(I)Z" } : Jvm.MethodName)) ∈ lw_all := lw_g (lw_at lw_m8 13 rfl) rfl
theorem q1748 : (Jvm.Cond.publicMethod ({ cls := "ConditionWise$Unlike", name := "tell", desc := "(I)Z" } : Jvm.MethodName)) ∈ lw_tbl := lw_at lw_m8 14 rfl
theorem q1749 : (Jvm.Cond.code ({ cls := "ConditionWise$Unlike", name := "tell", desc := "(I)Z" } : Jvm.MethodName) prog_13_method_3_code (2 : Nat) (Option.some Jvm.ClassFile.FieldType.boolean)) ∈ lw_all := lw_g (lw_at lw_m8 15 rfl) rfl
theorem q1750 : (Jvm.Cond.interfaceEntry "ConditionWise$Unlike" (22 : Nat)) ∈ lw_tbl := lw_at lw_m8 16 rfl
theorem q1751 : (Jvm.Cond.methodLink "ConditionWise$Unlike" (22 : Nat) ({ cls := "ConditionWise$Node", name := "tell", desc := "(I)Z" } : Jvm.MethodName)) ∈ lw_all := lw_g (lw_at lw_m8 17 rfl) rfl
theorem q2163 : (Jvm.Cond.castable "ConditionWise$Unlike" "java/lang/Object") ∈ lw_tbl := lw_at lw_m9 189 rfl
theorem in_X9 : ∀ w ∈ wsX90, w ∈ lw_all := lw_in wsX90 [1105, 1107] (by decide +kernel) (by decide +kernel)
/-! ConditionWise$And -/
set_option maxRecDepth 100000
def RX10 : String := "ConditionWise$And"
def TX10 : u_T := fun k => match k with
  | 0 => ("ConditionWise$And", "left", "LConditionWise$Node;", true)
  | _ => ("ConditionWise$And", "right", "LConditionWise$Node;", true)
def tyX10 : Nat → FieldType := fun k => match k with
  | 0 => .object "ConditionWise$Node"
  | _ => .object "ConditionWise$Node"
abbrev wsX100 : List Cond := u_ws RX10 TX10 2
theorem nmX10 : ∀ a, a < 2 → ∀ b, b < 2 → a ≠ b → (TX10 a).2.1 ≠ (TX10 b).2.1 := by decide +kernel
theorem tyX10_ok : ∀ k, k < 2 → parseFieldDescriptor (TX10 k).2.2.1 = some (tyX10 k) := by decide +kernel
abbrev cX10_init : ByteArray := prog_2_method_1_code
def yX10_init : MethodName := ⟨RX10, "<init>", "(LConditionWise$Node;LConditionWise$Node;)V"⟩
def dkwX10_init_0 : List UInt8 := [42, 183, 0, 1, 42, 43, 181, 0, 7, 42, 44, 181, 0, 13, 177]
abbrev dktX10_init_0 : List UInt8 := dkwX10_init_0 ++ []
theorem dksX10_init_0 : cX10_init.data.toList.drop 0 = dktX10_init_0 := by decide +kernel
theorem dX10_init_0 : decode cX10_init 0 = .ok (.aload_n 0, 1) := dk_42 (dk_at dksX10_init_0 0 rfl rfl)
theorem dX10_init_1 : decode cX10_init 1 = .ok (.invokespecial 1, 3) := dk_183 0 1 (dk_at dksX10_init_0 1 rfl rfl)
theorem dX10_init_4 : decode cX10_init 4 = .ok (.aload_n 0, 1) := dk_42 (dk_at dksX10_init_0 4 rfl rfl)
theorem dX10_init_5 : decode cX10_init 5 = .ok (.aload_n 1, 1) := dk_43 (dk_at dksX10_init_0 5 rfl rfl)
theorem dX10_init_6 : decode cX10_init 6 = .ok (.putfield 7, 3) := dk_181 0 7 (dk_at dksX10_init_0 6 rfl rfl)
theorem dX10_init_9 : decode cX10_init 9 = .ok (.aload_n 0, 1) := dk_42 (dk_at dksX10_init_0 9 rfl rfl)
theorem dX10_init_10 : decode cX10_init 10 = .ok (.aload_n 2, 1) := dk_44 (dk_at dksX10_init_0 10 rfl rfl)
theorem dX10_init_11 : decode cX10_init 11 = .ok (.putfield 13, 3) := dk_181 0 13 (dk_at dksX10_init_0 11 rfl rfl)
theorem dX10_init_14 : decode cX10_init 14 = .ok (.return_, 1) := dk_177 (dk_at dksX10_init_0 14 rfl rfl)
abbrev cX10_depth : ByteArray := prog_2_method_4_code
def yX10_depth : MethodName := ⟨RX10, "depth", "()I"⟩
def dkwX10_depth_0 : List UInt8 := [42, 180, 0, 7, 185, 0, 26, 1, 0, 42, 180, 0, 13, 185, 0, 26, 1, 0, 184, 0, 30, 4, 96, 172]
abbrev dktX10_depth_0 : List UInt8 := dkwX10_depth_0 ++ []
theorem dksX10_depth_0 : cX10_depth.data.toList.drop 0 = dktX10_depth_0 := by decide +kernel
theorem dX10_depth_0 : decode cX10_depth 0 = .ok (.aload_n 0, 1) := dk_42 (dk_at dksX10_depth_0 0 rfl rfl)
theorem dX10_depth_1 : decode cX10_depth 1 = .ok (.getfield 7, 3) := dk_180 0 7 (dk_at dksX10_depth_0 1 rfl rfl)
theorem dX10_depth_4 : decode cX10_depth 4 = .ok (.invokeinterface 26 1, 5) := by decide +kernel
theorem dX10_depth_9 : decode cX10_depth 9 = .ok (.aload_n 0, 1) := dk_42 (dk_at dksX10_depth_0 9 rfl rfl)
theorem dX10_depth_10 : decode cX10_depth 10 = .ok (.getfield 13, 3) := dk_180 0 13 (dk_at dksX10_depth_0 10 rfl rfl)
theorem dX10_depth_13 : decode cX10_depth 13 = .ok (.invokeinterface 26 1, 5) := by decide +kernel
theorem dX10_depth_18 : decode cX10_depth 18 = .ok (.invokestatic 30, 3) := dk_184 0 30 (dk_at dksX10_depth_0 18 rfl rfl)
theorem dX10_depth_21 : decode cX10_depth 21 = .ok (.iconst 1, 1) := dk_4 (dk_at dksX10_depth_0 21 rfl rfl)
theorem dX10_depth_22 : decode cX10_depth 22 = .ok (.iadd, 1) := dk_96 (dk_at dksX10_depth_0 22 rfl rfl)
theorem dX10_depth_23 : decode cX10_depth 23 = .ok (.ireturn, 1) := dk_172 (dk_at dksX10_depth_0 23 rfl rfl)
abbrev cX10_ask : ByteArray := prog_2_method_2_code
def yX10_ask : MethodName := ⟨RX10, "ask", "(LConditionWise$Run;)Z"⟩
def dkwX10_ask_1 : List UInt8 := [153, 0, 7, 4, 167, 0, 4, 3, 172]
abbrev dktX10_ask_1 : List UInt8 := dkwX10_ask_1 ++ []
def dkwX10_ask_0 : List UInt8 := [42, 180, 0, 7, 43, 185, 0, 16, 2, 0, 153, 0, 20, 42, 180, 0, 13, 43, 185, 0, 16, 2, 0]
abbrev dktX10_ask_0 : List UInt8 := dkwX10_ask_0 ++ dktX10_ask_1
theorem dksX10_ask_0 : cX10_ask.data.toList.drop 0 = dktX10_ask_0 := by decide +kernel
theorem dksX10_ask_1 : cX10_ask.data.toList.drop 23 = dktX10_ask_1 := dk_seg dksX10_ask_0 23 rfl rfl
theorem dX10_ask_0 : decode cX10_ask 0 = .ok (.aload_n 0, 1) := dk_42 (dk_at dksX10_ask_0 0 rfl rfl)
theorem dX10_ask_1 : decode cX10_ask 1 = .ok (.getfield 7, 3) := dk_180 0 7 (dk_at dksX10_ask_0 1 rfl rfl)
theorem dX10_ask_4 : decode cX10_ask 4 = .ok (.aload_n 1, 1) := dk_43 (dk_at dksX10_ask_0 4 rfl rfl)
theorem dX10_ask_5 : decode cX10_ask 5 = .ok (.invokeinterface 16 2, 5) := by decide +kernel
theorem dX10_ask_10 : decode cX10_ask 10 = .ok (.ifCond .eq 20, 3) := dk_153 0 20 (dk_at dksX10_ask_0 10 rfl rfl)
theorem dX10_ask_13 : decode cX10_ask 13 = .ok (.aload_n 0, 1) := dk_42 (dk_at dksX10_ask_0 13 rfl rfl)
theorem dX10_ask_14 : decode cX10_ask 14 = .ok (.getfield 13, 3) := dk_180 0 13 (dk_at dksX10_ask_0 14 rfl rfl)
theorem dX10_ask_17 : decode cX10_ask 17 = .ok (.aload_n 1, 1) := dk_43 (dk_at dksX10_ask_0 17 rfl rfl)
theorem dX10_ask_18 : decode cX10_ask 18 = .ok (.invokeinterface 16 2, 5) := by decide +kernel
theorem dX10_ask_23 : decode cX10_ask 23 = .ok (.ifCond .eq 7, 3) := dk_153 0 7 (dk_at dksX10_ask_1 0 rfl rfl)
theorem dX10_ask_26 : decode cX10_ask 26 = .ok (.iconst 1, 1) := dk_4 (dk_at dksX10_ask_1 3 rfl rfl)
theorem dX10_ask_27 : decode cX10_ask 27 = .ok (.goto 4, 3) := dk_167 0 4 (dk_at dksX10_ask_1 4 rfl rfl)
theorem dX10_ask_30 : decode cX10_ask 30 = .ok (.iconst 0, 1) := dk_3 (dk_at dksX10_ask_1 7 rfl rfl)
theorem dX10_ask_31 : decode cX10_ask 31 = .ok (.ireturn, 1) := dk_172 (dk_at dksX10_ask_1 8 rfl rfl)
abbrev cX10_tell : ByteArray := prog_2_method_3_code
def yX10_tell : MethodName := ⟨RX10, "tell", "(I)Z"⟩
def dkwX10_tell_0 : List UInt8 := [42, 180, 0, 7, 27, 185, 0, 22, 2, 0, 42, 180, 0, 13, 27, 185, 0, 22, 2, 0, 126, 172]
abbrev dktX10_tell_0 : List UInt8 := dkwX10_tell_0 ++ []
theorem dksX10_tell_0 : cX10_tell.data.toList.drop 0 = dktX10_tell_0 := by decide +kernel
theorem dX10_tell_0 : decode cX10_tell 0 = .ok (.aload_n 0, 1) := dk_42 (dk_at dksX10_tell_0 0 rfl rfl)
theorem dX10_tell_1 : decode cX10_tell 1 = .ok (.getfield 7, 3) := dk_180 0 7 (dk_at dksX10_tell_0 1 rfl rfl)
theorem dX10_tell_4 : decode cX10_tell 4 = .ok (.iload_n 1, 1) := dk_27 (dk_at dksX10_tell_0 4 rfl rfl)
theorem dX10_tell_5 : decode cX10_tell 5 = .ok (.invokeinterface 22 2, 5) := by decide +kernel
theorem dX10_tell_10 : decode cX10_tell 10 = .ok (.aload_n 0, 1) := dk_42 (dk_at dksX10_tell_0 10 rfl rfl)
theorem dX10_tell_11 : decode cX10_tell 11 = .ok (.getfield 13, 3) := dk_180 0 13 (dk_at dksX10_tell_0 11 rfl rfl)
theorem dX10_tell_14 : decode cX10_tell 14 = .ok (.iload_n 1, 1) := dk_27 (dk_at dksX10_tell_0 14 rfl rfl)
theorem dX10_tell_15 : decode cX10_tell 15 = .ok (.invokeinterface 22 2, 5) := by decide +kernel
theorem dX10_tell_20 : decode cX10_tell 20 = .ok (.iand, 1) := dk_126 (dk_at dksX10_tell_0 20 rfl rfl)
theorem dX10_tell_21 : decode cX10_tell 21 = .ok (.ireturn, 1) := dk_172 (dk_at dksX10_tell_0 21 rfl rfl)
theorem q92 : (Jvm.Cond.initialized "ConditionWise$And") ∈ lw_all := lw_g (lw_at lw_m1 38 rfl) rfl
theorem q706 : (Jvm.Cond.selects "ConditionWise$And" ({ cls := "java/lang/Object", name := "getClass", desc := "()Ljava/lang/Class;" } : Jvm.MethodName) ({ cls := "java/lang/Object", name := "getClass", desc := "()Ljava/lang/Class;" } : Jvm.MethodName)) ∈ lw_all := lw_g (lw_at lw_m3 172 rfl) rfl
theorem q1111 : (Jvm.Cond.instantiable "ConditionWise$And" (2 : Nat)) ∈ lw_all := lw_g (lw_at lw_m5 97 rfl) rfl
theorem q1113 : (Jvm.Cond.instanceMethod ({ cls := "ConditionWise$And", name := "<init>", desc := "(LConditionWise$Node;LConditionWise$Node;)V" } : Jvm.MethodName)) ∈ lw_all := lw_g (lw_at lw_m5 99 rfl) rfl
theorem q1114 : (Jvm.Cond.code ({ cls := "ConditionWise$And", name := "<init>", desc := "(LConditionWise$Node;LConditionWise$Node;)V" } : Jvm.MethodName) prog_2_method_1_code (3 : Nat) (Option.none : Option Jvm.ClassFile.FieldType)) ∈ lw_all := lw_g (lw_at lw_m5 100 rfl) rfl
theorem q1115 : (Jvm.Cond.methodLink "ConditionWise$And" (1 : Nat) ({ cls := "java/lang/Record", name := "<init>", desc := "()V" } : Jvm.MethodName)) ∈ lw_all := lw_g (lw_at lw_m5 101 rfl) rfl
theorem q1116 : (Jvm.Cond.fieldLink "ConditionWise$And" (7 : Nat) "ConditionWise$And" "left" "LConditionWise$Node;") ∈ lw_all := lw_g (lw_at lw_m5 102 rfl) rfl
theorem q1117 : (Jvm.Cond.fieldLink "ConditionWise$And" (13 : Nat) "ConditionWise$And" "right" "LConditionWise$Node;") ∈ lw_all := lw_g (lw_at lw_m5 103 rfl) rfl
theorem q1118 : (Jvm.Cond.laysFinal "ConditionWise$And" "ConditionWise$And" "left" "LConditionWise$Node;") ∈ lw_all := lw_g (lw_at lw_m5 104 rfl) rfl
theorem q1119 : (Jvm.Cond.soleField "ConditionWise$And" "left") ∈ lw_all := lw_g (lw_at lw_m5 105 rfl) rfl
theorem q1120 : (Jvm.Cond.laysFinal "ConditionWise$And" "ConditionWise$And" "right" "LConditionWise$Node;") ∈ lw_all := lw_g (lw_at lw_m5 106 rfl) rfl
theorem q1121 : (Jvm.Cond.soleField "ConditionWise$And" "right") ∈ lw_all := lw_g (lw_at lw_m5 107 rfl) rfl
theorem q1122 : (Jvm.Cond.superclass "ConditionWise$And" "java/lang/Record") ∈ lw_all := lw_g (lw_at lw_m5 108 rfl) rfl
theorem q1233 : (Jvm.Cond.castable "ConditionWise$And" "ConditionWise$Node") ∈ lw_tbl := lw_at lw_m5 219 rfl
theorem q1234 : (Jvm.Cond.selects "ConditionWise$And" ({ cls := "ConditionWise$Node", name := "depth", desc := "()I" } : Jvm.MethodName) ({ cls := "ConditionWise$And", name := "depth", desc := "()I" } : Jvm.MethodName)) ∈ lw_all := lw_g (lw_at lw_m5 220 rfl) rfl
theorem q1235 : (Jvm.Cond.unhidden "ConditionWise$And" "depth" "()I") ∈ lw_tbl := lw_at lw_m5 221 rfl
theorem q1236 : (Jvm.Cond.instanceMethod ({ cls := "ConditionWise$And", name := "depth", desc := "()I" } : Jvm.MethodName)) ∈ lw_all := lw_g (lw_at lw_m5 222 rfl) rfl
theorem q1237 : (Jvm.Cond.publicMethod ({ cls := "ConditionWise$And", name := "depth", desc := "()I" } : Jvm.MethodName)) ∈ lw_tbl := lw_at lw_m5 223 rfl
theorem q1238 : (Jvm.Cond.code ({ cls := "ConditionWise$And", name := "depth", desc := "()I" } : Jvm.MethodName) prog_2_method_4_code (1 : Nat) (Option.some Jvm.ClassFile.FieldType.int)) ∈ lw_all := lw_g (lw_at lw_m5 224 rfl) rfl
theorem q1239 : (Jvm.Cond.interfaceEntry "ConditionWise$And" (26 : Nat)) ∈ lw_tbl := lw_at lw_m5 225 rfl
theorem q1240 : (Jvm.Cond.methodLink "ConditionWise$And" (26 : Nat) ({ cls := "ConditionWise$Node", name := "depth", desc := "()I" } : Jvm.MethodName)) ∈ lw_all := lw_g (lw_at lw_m5 226 rfl) rfl
theorem q1272 : (Jvm.Cond.methodLink "ConditionWise$And" (30 : Nat) ({ cls := "java/lang/Math", name := "max", desc := "(II)I" } : Jvm.MethodName)) ∈ lw_all := lw_g (lw_at lw_m6 18 rfl) rfl
theorem q1335 : (Jvm.Cond.selects "ConditionWise$And" ({ cls := "ConditionWise$Node", name := "ask", desc := "(LConditionWise$Run;)Z" } : Jvm.MethodName) ({ cls := "ConditionWise$And", name := "ask", desc := "(LConditionWise$Run;)Z" } : Jvm.MethodName)) ∈ lw_all := lw_g (lw_at lw_m6 81 rfl) rfl
theorem q1336 : (Jvm.Cond.unhidden "ConditionWise$And" "ask" "(LConditionWise$Run;)Z") ∈ lw_tbl := lw_at lw_m6 82 rfl
theorem q1337 : (Jvm.Cond.instanceMethod ({ cls := "ConditionWise$And", name := "ask", desc := "(LConditionWise$Run;)Z" } : Jvm.MethodName)) ∈ lw_all := lw_g (lw_at lw_m6 83 rfl) rfl
theorem q1338 : (Jvm.Cond.publicMethod ({ cls := "ConditionWise$And", name := "ask", desc := "(LConditionWise$Run;)Z" } : Jvm.MethodName)) ∈ lw_tbl := lw_at lw_m6 84 rfl
theorem q1339 : (Jvm.Cond.code ({ cls := "ConditionWise$And", name := "ask", desc := "(LConditionWise$Run;)Z" } : Jvm.MethodName) prog_2_method_2_code (2 : Nat) (Option.some Jvm.ClassFile.FieldType.boolean)) ∈ lw_all := lw_g (lw_at lw_m6 85 rfl) rfl
theorem q1340 : (Jvm.Cond.interfaceEntry "ConditionWise$And" (16 : Nat)) ∈ lw_tbl := lw_at lw_m6 86 rfl
theorem q1341 : (Jvm.Cond.methodLink "ConditionWise$And" (16 : Nat) ({ cls := "ConditionWise$Node", name := "ask", desc := "(LConditionWise$Run;)Z" } : Jvm.MethodName)) ∈ lw_all := lw_g (lw_at lw_m6 87 rfl) rfl
theorem q1719 : (Jvm.Cond.selects "ConditionWise$And" ({ cls := "ConditionWise$Node", name := "tell", desc := "(I)Z" } : Jvm.MethodName) ({ cls := "ConditionWise$And", name := "tell", desc := "(I)Z" } : Jvm.MethodName)) ∈ lw_all := lw_g (lw_at lw_m7 225 rfl) rfl
theorem q1720 : (Jvm.Cond.unhidden "ConditionWise$And" "tell" "(I)Z") ∈ lw_tbl := lw_at lw_m7 226 rfl
theorem q1721 : (Jvm.Cond.instanceMethod ({ cls := "ConditionWise$And", name := "tell", desc := "(I)Z" } : Jvm.MethodName)) ∈ lw_all := lw_g (lw_at lw_m7 227 rfl) rfl
theorem q1722 : (Jvm.Cond.publicMethod ({ cls := "ConditionWise$And", name := "tell", desc := "(I)Z" } : Jvm.MethodName)) ∈ lw_tbl := lw_at lw_m7 228 rfl
theorem q1723 : (Jvm.Cond.code ({ cls := "ConditionWise$And", name := "tell", desc := "(I)Z" } : Jvm.MethodName) prog_2_method_3_code (2 : Nat) (Option.some Jvm.ClassFile.FieldType.boolean)) ∈ lw_all := lw_g (lw_at lw_m7 229 rfl) rfl
theorem q1724 : (Jvm.Cond.interfaceEntry "ConditionWise$And" (22 : Nat)) ∈ lw_tbl := lw_at lw_m7 230 rfl
theorem q1725 : (Jvm.Cond.methodLink "ConditionWise$And" (22 : Nat) ({ cls := "ConditionWise$Node", name := "tell", desc := "(I)Z" } : Jvm.MethodName)) ∈ lw_all := lw_g (lw_at lw_m7 231 rfl) rfl
theorem q2164 : (Jvm.Cond.castable "ConditionWise$And" "java/lang/Object") ∈ lw_tbl := lw_at lw_m9 190 rfl
theorem in_X10 : ∀ w ∈ wsX100, w ∈ lw_all := lw_in wsX100 [1118, 1120] (by decide +kernel) (by decide +kernel)
/-! ConditionWise$Decision -/
set_option maxRecDepth 100000
def RX11 : String := "ConditionWise$Decision"
def TX11 : u_T := fun k => match k with
  | 0 => ("ConditionWise$Decision", "tree", "LConditionWise$Node;", true)
  | 1 => ("ConditionWise$Decision", "letters", "[I", true)
  | _ => ("ConditionWise$Decision", "tests", "I", false)
def tyX11 : Nat → FieldType := fun k => match k with
  | 0 => .object "ConditionWise$Node"
  | 1 => .array .int
  | _ => .int
abbrev wsX110 : List Cond := u_ws RX11 TX11 3
theorem nmX11 : ∀ a, a < 3 → ∀ b, b < 3 → a ≠ b → (TX11 a).2.1 ≠ (TX11 b).2.1 := by decide +kernel
theorem tyX11_ok : ∀ k, k < 3 → parseFieldDescriptor (TX11 k).2.2.1 = some (tyX11 k) := by decide +kernel
abbrev cX11_init : ByteArray := prog_3_method_1_code
def yX11_init : MethodName := ⟨RX11, "<init>", "(LConditionWise$Node;Ljava/util/List;)V"⟩
def dkwX11_init_2 : List UInt8 := [182, 0, 31, 79, 132, 3, 1, 167, 255, 225, 177]
abbrev dktX11_init_2 : List UInt8 := dkwX11_init_2 ++ []
def dkwX11_init_1 : List UInt8 := [42, 180, 0, 21, 190, 162, 0, 28, 42, 180, 0, 21, 29, 44, 29, 185, 0, 25, 2, 0, 192, 0, 29]
abbrev dktX11_init_1 : List UInt8 := dkwX11_init_1 ++ dktX11_init_2
def dkwX11_init_0 : List UInt8 := [42, 183, 0, 3, 42, 43, 181, 0, 9, 42, 44, 185, 0, 15, 1, 0, 188, 10, 181, 0, 21, 3, 62, 29]
abbrev dktX11_init_0 : List UInt8 := dkwX11_init_0 ++ dktX11_init_1
theorem dksX11_init_0 : cX11_init.data.toList.drop 0 = dktX11_init_0 := by decide +kernel
theorem dksX11_init_1 : cX11_init.data.toList.drop 24 = dktX11_init_1 := dk_seg dksX11_init_0 24 rfl rfl
theorem dksX11_init_2 : cX11_init.data.toList.drop 47 = dktX11_init_2 := dk_seg dksX11_init_1 23 rfl rfl
theorem dX11_init_0 : decode cX11_init 0 = .ok (.aload_n 0, 1) := dk_42 (dk_at dksX11_init_0 0 rfl rfl)
theorem dX11_init_1 : decode cX11_init 1 = .ok (.invokespecial 3, 3) := dk_183 0 3 (dk_at dksX11_init_0 1 rfl rfl)
theorem dX11_init_4 : decode cX11_init 4 = .ok (.aload_n 0, 1) := dk_42 (dk_at dksX11_init_0 4 rfl rfl)
theorem dX11_init_5 : decode cX11_init 5 = .ok (.aload_n 1, 1) := dk_43 (dk_at dksX11_init_0 5 rfl rfl)
theorem dX11_init_6 : decode cX11_init 6 = .ok (.putfield 9, 3) := dk_181 0 9 (dk_at dksX11_init_0 6 rfl rfl)
theorem dX11_init_9 : decode cX11_init 9 = .ok (.aload_n 0, 1) := dk_42 (dk_at dksX11_init_0 9 rfl rfl)
theorem dX11_init_10 : decode cX11_init 10 = .ok (.aload_n 2, 1) := dk_44 (dk_at dksX11_init_0 10 rfl rfl)
theorem dX11_init_11 : decode cX11_init 11 = .ok (.invokeinterface 15 1, 5) := by decide +kernel
theorem dX11_init_16 : decode cX11_init 16 = .ok (.newarray .int, 2) := dk_188_10 (dk_at dksX11_init_0 16 rfl rfl)
theorem dX11_init_18 : decode cX11_init 18 = .ok (.putfield 21, 3) := dk_181 0 21 (dk_at dksX11_init_0 18 rfl rfl)
theorem dX11_init_21 : decode cX11_init 21 = .ok (.iconst 0, 1) := dk_3 (dk_at dksX11_init_0 21 rfl rfl)
theorem dX11_init_22 : decode cX11_init 22 = .ok (.istore_n 3, 1) := dk_62 (dk_at dksX11_init_0 22 rfl rfl)
theorem dX11_init_23 : decode cX11_init 23 = .ok (.iload_n 3, 1) := dk_29 (dk_at dksX11_init_0 23 rfl rfl)
theorem dX11_init_24 : decode cX11_init 24 = .ok (.aload_n 0, 1) := dk_42 (dk_at dksX11_init_1 0 rfl rfl)
theorem dX11_init_25 : decode cX11_init 25 = .ok (.getfield 21, 3) := dk_180 0 21 (dk_at dksX11_init_1 1 rfl rfl)
theorem dX11_init_28 : decode cX11_init 28 = .ok (.arraylength, 1) := dk_190 (dk_at dksX11_init_1 4 rfl rfl)
theorem dX11_init_29 : decode cX11_init 29 = .ok (.if_icmp .ge 28, 3) := dk_162 0 28 (dk_at dksX11_init_1 5 rfl rfl)
theorem dX11_init_32 : decode cX11_init 32 = .ok (.aload_n 0, 1) := dk_42 (dk_at dksX11_init_1 8 rfl rfl)
theorem dX11_init_33 : decode cX11_init 33 = .ok (.getfield 21, 3) := dk_180 0 21 (dk_at dksX11_init_1 9 rfl rfl)
theorem dX11_init_36 : decode cX11_init 36 = .ok (.iload_n 3, 1) := dk_29 (dk_at dksX11_init_1 12 rfl rfl)
theorem dX11_init_37 : decode cX11_init 37 = .ok (.aload_n 2, 1) := dk_44 (dk_at dksX11_init_1 13 rfl rfl)
theorem dX11_init_38 : decode cX11_init 38 = .ok (.iload_n 3, 1) := dk_29 (dk_at dksX11_init_1 14 rfl rfl)
theorem dX11_init_39 : decode cX11_init 39 = .ok (.invokeinterface 25 2, 5) := by decide +kernel
theorem dX11_init_44 : decode cX11_init 44 = .ok (.checkcast 29, 3) := dk_192 0 29 (dk_at dksX11_init_1 20 rfl rfl)
theorem dX11_init_47 : decode cX11_init 47 = .ok (.invokevirtual 31, 3) := dk_182 0 31 (dk_at dksX11_init_2 0 rfl rfl)
theorem dX11_init_50 : decode cX11_init 50 = .ok (.iastore, 1) := dk_79 (dk_at dksX11_init_2 3 rfl rfl)
theorem dX11_init_51 : decode cX11_init 51 = .ok (.iinc 3 1, 3) := dk_132 3 1 (dk_at dksX11_init_2 4 rfl rfl)
theorem dX11_init_54 : decode cX11_init 54 = .ok (.goto (-31), 3) := dk_167 255 225 (dk_at dksX11_init_2 7 rfl rfl)
theorem dX11_init_57 : decode cX11_init 57 = .ok (.return_, 1) := dk_177 (dk_at dksX11_init_2 10 rfl rfl)
abbrev cX11_outcome : ByteArray := prog_3_method_2_code
def yX11_outcome : MethodName := ⟨RX11, "outcome", "(I)Z"⟩
def dkwX11_outcome_0 : List UInt8 := [42, 180, 0, 9, 187, 0, 34, 89, 27, 183, 0, 36, 185, 0, 39, 2, 0, 172]
abbrev dktX11_outcome_0 : List UInt8 := dkwX11_outcome_0 ++ []
theorem dksX11_outcome_0 : cX11_outcome.data.toList.drop 0 = dktX11_outcome_0 := by decide +kernel
theorem dX11_outcome_0 : decode cX11_outcome 0 = .ok (.aload_n 0, 1) := dk_42 (dk_at dksX11_outcome_0 0 rfl rfl)
theorem dX11_outcome_1 : decode cX11_outcome 1 = .ok (.getfield 9, 3) := dk_180 0 9 (dk_at dksX11_outcome_0 1 rfl rfl)
theorem dX11_outcome_4 : decode cX11_outcome 4 = .ok (.new 34, 3) := dk_187 0 34 (dk_at dksX11_outcome_0 4 rfl rfl)
theorem dX11_outcome_7 : decode cX11_outcome 7 = .ok (.dup, 1) := dk_89 (dk_at dksX11_outcome_0 7 rfl rfl)
theorem dX11_outcome_8 : decode cX11_outcome 8 = .ok (.iload_n 1, 1) := dk_27 (dk_at dksX11_outcome_0 8 rfl rfl)
theorem dX11_outcome_9 : decode cX11_outcome 9 = .ok (.invokespecial 36, 3) := dk_183 0 36 (dk_at dksX11_outcome_0 9 rfl rfl)
theorem dX11_outcome_12 : decode cX11_outcome 12 = .ok (.invokeinterface 39 2, 5) := by decide +kernel
theorem dX11_outcome_17 : decode cX11_outcome 17 = .ok (.ireturn, 1) := dk_172 (dk_at dksX11_outcome_0 17 rfl rfl)
abbrev cX11_state : ByteArray := prog_3_method_6_code
def yX11_state : MethodName := ⟨RX11, "state", "(II)I"⟩
def dkwX11_state_1 : List UInt8 := [153, 0, 7, 4, 167, 0, 4, 3, 172]
abbrev dktX11_state_1 : List UInt8 := dkwX11_state_1 ++ []
def dkwX11_state_0 : List UInt8 := [42, 28, 182, 0, 56, 27, 182, 0, 59, 154, 0, 7, 5, 167, 0, 17, 42, 27, 28, 182, 0, 63]
abbrev dktX11_state_0 : List UInt8 := dkwX11_state_0 ++ dktX11_state_1
theorem dksX11_state_0 : cX11_state.data.toList.drop 0 = dktX11_state_0 := by decide +kernel
theorem dksX11_state_1 : cX11_state.data.toList.drop 22 = dktX11_state_1 := dk_seg dksX11_state_0 22 rfl rfl
theorem dX11_state_0 : decode cX11_state 0 = .ok (.aload_n 0, 1) := dk_42 (dk_at dksX11_state_0 0 rfl rfl)
theorem dX11_state_1 : decode cX11_state 1 = .ok (.iload_n 2, 1) := dk_28 (dk_at dksX11_state_0 1 rfl rfl)
theorem dX11_state_2 : decode cX11_state 2 = .ok (.invokevirtual 56, 3) := dk_182 0 56 (dk_at dksX11_state_0 2 rfl rfl)
theorem dX11_state_5 : decode cX11_state 5 = .ok (.iload_n 1, 1) := dk_27 (dk_at dksX11_state_0 5 rfl rfl)
theorem dX11_state_6 : decode cX11_state 6 = .ok (.invokevirtual 59, 3) := dk_182 0 59 (dk_at dksX11_state_0 6 rfl rfl)
theorem dX11_state_9 : decode cX11_state 9 = .ok (.ifCond .ne 7, 3) := dk_154 0 7 (dk_at dksX11_state_0 9 rfl rfl)
theorem dX11_state_12 : decode cX11_state 12 = .ok (.iconst 2, 1) := dk_5 (dk_at dksX11_state_0 12 rfl rfl)
theorem dX11_state_13 : decode cX11_state 13 = .ok (.goto 17, 3) := dk_167 0 17 (dk_at dksX11_state_0 13 rfl rfl)
theorem dX11_state_16 : decode cX11_state 16 = .ok (.aload_n 0, 1) := dk_42 (dk_at dksX11_state_0 16 rfl rfl)
theorem dX11_state_17 : decode cX11_state 17 = .ok (.iload_n 1, 1) := dk_27 (dk_at dksX11_state_0 17 rfl rfl)
theorem dX11_state_18 : decode cX11_state 18 = .ok (.iload_n 2, 1) := dk_28 (dk_at dksX11_state_0 18 rfl rfl)
theorem dX11_state_19 : decode cX11_state 19 = .ok (.invokevirtual 63, 3) := dk_182 0 63 (dk_at dksX11_state_0 19 rfl rfl)
theorem dX11_state_22 : decode cX11_state 22 = .ok (.ifCond .eq 7, 3) := dk_153 0 7 (dk_at dksX11_state_1 0 rfl rfl)
theorem dX11_state_25 : decode cX11_state 25 = .ok (.iconst 1, 1) := dk_4 (dk_at dksX11_state_1 3 rfl rfl)
theorem dX11_state_26 : decode cX11_state 26 = .ok (.goto 4, 3) := dk_167 0 4 (dk_at dksX11_state_1 4 rfl rfl)
theorem dX11_state_29 : decode cX11_state 29 = .ok (.iconst 0, 1) := dk_3 (dk_at dksX11_state_1 7 rfl rfl)
theorem dX11_state_30 : decode cX11_state 30 = .ok (.ireturn, 1) := dk_172 (dk_at dksX11_state_1 8 rfl rfl)
abbrev cX11_asked : ByteArray := prog_3_method_5_code
def yX11_asked : MethodName := ⟨RX11, "asked", "(I)Ljava/util/BitSet;"⟩
def dkwX11_asked_1 : List UInt8 := [176]
abbrev dktX11_asked_1 : List UInt8 := dkwX11_asked_1 ++ []
def dkwX11_asked_0 : List UInt8 := [187, 0, 34, 89, 27, 183, 0, 36, 77, 42, 180, 0, 9, 44, 185, 0, 39, 2, 0, 62, 44, 180, 0, 52]
abbrev dktX11_asked_0 : List UInt8 := dkwX11_asked_0 ++ dktX11_asked_1
theorem dksX11_asked_0 : cX11_asked.data.toList.drop 0 = dktX11_asked_0 := by decide +kernel
theorem dksX11_asked_1 : cX11_asked.data.toList.drop 24 = dktX11_asked_1 := dk_seg dksX11_asked_0 24 rfl rfl
theorem dX11_asked_0 : decode cX11_asked 0 = .ok (.new 34, 3) := dk_187 0 34 (dk_at dksX11_asked_0 0 rfl rfl)
theorem dX11_asked_3 : decode cX11_asked 3 = .ok (.dup, 1) := dk_89 (dk_at dksX11_asked_0 3 rfl rfl)
theorem dX11_asked_4 : decode cX11_asked 4 = .ok (.iload_n 1, 1) := dk_27 (dk_at dksX11_asked_0 4 rfl rfl)
theorem dX11_asked_5 : decode cX11_asked 5 = .ok (.invokespecial 36, 3) := dk_183 0 36 (dk_at dksX11_asked_0 5 rfl rfl)
theorem dX11_asked_8 : decode cX11_asked 8 = .ok (.astore_n 2, 1) := dk_77 (dk_at dksX11_asked_0 8 rfl rfl)
theorem dX11_asked_9 : decode cX11_asked 9 = .ok (.aload_n 0, 1) := dk_42 (dk_at dksX11_asked_0 9 rfl rfl)
theorem dX11_asked_10 : decode cX11_asked 10 = .ok (.getfield 9, 3) := dk_180 0 9 (dk_at dksX11_asked_0 10 rfl rfl)
theorem dX11_asked_13 : decode cX11_asked 13 = .ok (.aload_n 2, 1) := dk_44 (dk_at dksX11_asked_0 13 rfl rfl)
theorem dX11_asked_14 : decode cX11_asked 14 = .ok (.invokeinterface 39 2, 5) := by decide +kernel
theorem dX11_asked_19 : decode cX11_asked 19 = .ok (.istore_n 3, 1) := dk_62 (dk_at dksX11_asked_0 19 rfl rfl)
theorem dX11_asked_20 : decode cX11_asked 20 = .ok (.aload_n 2, 1) := dk_44 (dk_at dksX11_asked_0 20 rfl rfl)
theorem dX11_asked_21 : decode cX11_asked 21 = .ok (.getfield 52, 3) := dk_180 0 52 (dk_at dksX11_asked_0 21 rfl rfl)
theorem dX11_asked_24 : decode cX11_asked 24 = .ok (.areturn, 1) := dk_176 (dk_at dksX11_asked_1 0 rfl rfl)
abbrev cX11_value : ByteArray := prog_3_method_4_code
def yX11_value : MethodName := ⟨RX11, "value", "(II)Z"⟩
def dkwX11_value_0 : List UInt8 := [28, 42, 180, 0, 21, 27, 46, 122, 4, 126, 4, 160, 0, 7, 4, 167, 0, 4, 3, 172]
abbrev dktX11_value_0 : List UInt8 := dkwX11_value_0 ++ []
theorem dksX11_value_0 : cX11_value.data.toList.drop 0 = dktX11_value_0 := by decide +kernel
theorem dX11_value_0 : decode cX11_value 0 = .ok (.iload_n 2, 1) := dk_28 (dk_at dksX11_value_0 0 rfl rfl)
theorem dX11_value_1 : decode cX11_value 1 = .ok (.aload_n 0, 1) := dk_42 (dk_at dksX11_value_0 1 rfl rfl)
theorem dX11_value_2 : decode cX11_value 2 = .ok (.getfield 21, 3) := dk_180 0 21 (dk_at dksX11_value_0 2 rfl rfl)
theorem dX11_value_5 : decode cX11_value 5 = .ok (.iload_n 1, 1) := dk_27 (dk_at dksX11_value_0 5 rfl rfl)
theorem dX11_value_6 : decode cX11_value 6 = .ok (.iaload, 1) := dk_46 (dk_at dksX11_value_0 6 rfl rfl)
theorem dX11_value_7 : decode cX11_value 7 = .ok (.ishr, 1) := dk_122 (dk_at dksX11_value_0 7 rfl rfl)
theorem dX11_value_8 : decode cX11_value 8 = .ok (.iconst 1, 1) := dk_4 (dk_at dksX11_value_0 8 rfl rfl)
theorem dX11_value_9 : decode cX11_value 9 = .ok (.iand, 1) := dk_126 (dk_at dksX11_value_0 9 rfl rfl)
theorem dX11_value_10 : decode cX11_value 10 = .ok (.iconst 1, 1) := dk_4 (dk_at dksX11_value_0 10 rfl rfl)
theorem dX11_value_11 : decode cX11_value 11 = .ok (.if_icmp .ne 7, 3) := dk_160 0 7 (dk_at dksX11_value_0 11 rfl rfl)
theorem dX11_value_14 : decode cX11_value 14 = .ok (.iconst 1, 1) := dk_4 (dk_at dksX11_value_0 14 rfl rfl)
theorem dX11_value_15 : decode cX11_value 15 = .ok (.goto 4, 3) := dk_167 0 4 (dk_at dksX11_value_0 15 rfl rfl)
theorem dX11_value_18 : decode cX11_value 18 = .ok (.iconst 0, 1) := dk_3 (dk_at dksX11_value_0 18 rfl rfl)
theorem dX11_value_19 : decode cX11_value 19 = .ok (.ireturn, 1) := dk_172 (dk_at dksX11_value_0 19 rfl rfl)
abbrev cX11_isDeciding : ByteArray := prog_3_method_3_code
def yX11_isDeciding : MethodName := ⟨RX11, "isDeciding", "(II)Z"⟩
def dkwX11_isDeciding_1 : List UInt8 := [159, 0, 7, 4, 167, 0, 4, 3, 172]
abbrev dktX11_isDeciding_1 : List UInt8 := dkwX11_isDeciding_1 ++ []
def dkwX11_isDeciding_0 : List UInt8 := [42, 180, 0, 9, 187, 0, 34, 89, 28, 27, 183, 0, 45, 185, 0, 39, 2, 0, 42, 28, 182, 0, 48]
abbrev dktX11_isDeciding_0 : List UInt8 := dkwX11_isDeciding_0 ++ dktX11_isDeciding_1
theorem dksX11_isDeciding_0 : cX11_isDeciding.data.toList.drop 0 = dktX11_isDeciding_0 := by decide +kernel
theorem dksX11_isDeciding_1 : cX11_isDeciding.data.toList.drop 23 = dktX11_isDeciding_1 := dk_seg dksX11_isDeciding_0 23 rfl rfl
theorem dX11_isDeciding_0 : decode cX11_isDeciding 0 = .ok (.aload_n 0, 1) := dk_42 (dk_at dksX11_isDeciding_0 0 rfl rfl)
theorem dX11_isDeciding_1 : decode cX11_isDeciding 1 = .ok (.getfield 9, 3) := dk_180 0 9 (dk_at dksX11_isDeciding_0 1 rfl rfl)
theorem dX11_isDeciding_4 : decode cX11_isDeciding 4 = .ok (.new 34, 3) := dk_187 0 34 (dk_at dksX11_isDeciding_0 4 rfl rfl)
theorem dX11_isDeciding_7 : decode cX11_isDeciding 7 = .ok (.dup, 1) := dk_89 (dk_at dksX11_isDeciding_0 7 rfl rfl)
theorem dX11_isDeciding_8 : decode cX11_isDeciding 8 = .ok (.iload_n 2, 1) := dk_28 (dk_at dksX11_isDeciding_0 8 rfl rfl)
theorem dX11_isDeciding_9 : decode cX11_isDeciding 9 = .ok (.iload_n 1, 1) := dk_27 (dk_at dksX11_isDeciding_0 9 rfl rfl)
theorem dX11_isDeciding_10 : decode cX11_isDeciding 10 = .ok (.invokespecial 45, 3) := dk_183 0 45 (dk_at dksX11_isDeciding_0 10 rfl rfl)
theorem dX11_isDeciding_13 : decode cX11_isDeciding 13 = .ok (.invokeinterface 39 2, 5) := by decide +kernel
theorem dX11_isDeciding_18 : decode cX11_isDeciding 18 = .ok (.aload_n 0, 1) := dk_42 (dk_at dksX11_isDeciding_0 18 rfl rfl)
theorem dX11_isDeciding_19 : decode cX11_isDeciding 19 = .ok (.iload_n 2, 1) := dk_28 (dk_at dksX11_isDeciding_0 19 rfl rfl)
theorem dX11_isDeciding_20 : decode cX11_isDeciding 20 = .ok (.invokevirtual 48, 3) := dk_182 0 48 (dk_at dksX11_isDeciding_0 20 rfl rfl)
theorem dX11_isDeciding_23 : decode cX11_isDeciding 23 = .ok (.if_icmp .eq 7, 3) := dk_159 0 7 (dk_at dksX11_isDeciding_1 0 rfl rfl)
theorem dX11_isDeciding_26 : decode cX11_isDeciding 26 = .ok (.iconst 1, 1) := dk_4 (dk_at dksX11_isDeciding_1 3 rfl rfl)
theorem dX11_isDeciding_27 : decode cX11_isDeciding 27 = .ok (.goto 4, 3) := dk_167 0 4 (dk_at dksX11_isDeciding_1 4 rfl rfl)
theorem dX11_isDeciding_30 : decode cX11_isDeciding 30 = .ok (.iconst 0, 1) := dk_3 (dk_at dksX11_isDeciding_1 7 rfl rfl)
theorem dX11_isDeciding_31 : decode cX11_isDeciding 31 = .ok (.ireturn, 1) := dk_172 (dk_at dksX11_isDeciding_1 8 rfl rfl)
abbrev cX11_values : ByteArray := prog_3_method_7_code
def yX11_values : MethodName := ⟨RX11, "values", "(I)I"⟩
def dkwX11_values_1 : List UInt8 := [29, 120, 167, 0, 4, 3, 128, 61, 132, 3, 1, 167, 255, 225, 28, 172]
abbrev dktX11_values_1 : List UInt8 := dkwX11_values_1 ++ []
def dkwX11_values_0 : List UInt8 := [3, 61, 3, 62, 29, 42, 180, 0, 21, 190, 162, 0, 28, 28, 42, 29, 27, 182, 0, 63, 153, 0, 9, 4]
abbrev dktX11_values_0 : List UInt8 := dkwX11_values_0 ++ dktX11_values_1
theorem dksX11_values_0 : cX11_values.data.toList.drop 0 = dktX11_values_0 := by decide +kernel
theorem dksX11_values_1 : cX11_values.data.toList.drop 24 = dktX11_values_1 := dk_seg dksX11_values_0 24 rfl rfl
theorem dX11_values_0 : decode cX11_values 0 = .ok (.iconst 0, 1) := dk_3 (dk_at dksX11_values_0 0 rfl rfl)
theorem dX11_values_1 : decode cX11_values 1 = .ok (.istore_n 2, 1) := dk_61 (dk_at dksX11_values_0 1 rfl rfl)
theorem dX11_values_2 : decode cX11_values 2 = .ok (.iconst 0, 1) := dk_3 (dk_at dksX11_values_0 2 rfl rfl)
theorem dX11_values_3 : decode cX11_values 3 = .ok (.istore_n 3, 1) := dk_62 (dk_at dksX11_values_0 3 rfl rfl)
theorem dX11_values_4 : decode cX11_values 4 = .ok (.iload_n 3, 1) := dk_29 (dk_at dksX11_values_0 4 rfl rfl)
theorem dX11_values_5 : decode cX11_values 5 = .ok (.aload_n 0, 1) := dk_42 (dk_at dksX11_values_0 5 rfl rfl)
theorem dX11_values_6 : decode cX11_values 6 = .ok (.getfield 21, 3) := dk_180 0 21 (dk_at dksX11_values_0 6 rfl rfl)
theorem dX11_values_9 : decode cX11_values 9 = .ok (.arraylength, 1) := dk_190 (dk_at dksX11_values_0 9 rfl rfl)
theorem dX11_values_10 : decode cX11_values 10 = .ok (.if_icmp .ge 28, 3) := dk_162 0 28 (dk_at dksX11_values_0 10 rfl rfl)
theorem dX11_values_13 : decode cX11_values 13 = .ok (.iload_n 2, 1) := dk_28 (dk_at dksX11_values_0 13 rfl rfl)
theorem dX11_values_14 : decode cX11_values 14 = .ok (.aload_n 0, 1) := dk_42 (dk_at dksX11_values_0 14 rfl rfl)
theorem dX11_values_15 : decode cX11_values 15 = .ok (.iload_n 3, 1) := dk_29 (dk_at dksX11_values_0 15 rfl rfl)
theorem dX11_values_16 : decode cX11_values 16 = .ok (.iload_n 1, 1) := dk_27 (dk_at dksX11_values_0 16 rfl rfl)
theorem dX11_values_17 : decode cX11_values 17 = .ok (.invokevirtual 63, 3) := dk_182 0 63 (dk_at dksX11_values_0 17 rfl rfl)
theorem dX11_values_20 : decode cX11_values 20 = .ok (.ifCond .eq 9, 3) := dk_153 0 9 (dk_at dksX11_values_0 20 rfl rfl)
theorem dX11_values_23 : decode cX11_values 23 = .ok (.iconst 1, 1) := dk_4 (dk_at dksX11_values_0 23 rfl rfl)
theorem dX11_values_24 : decode cX11_values 24 = .ok (.iload_n 3, 1) := dk_29 (dk_at dksX11_values_1 0 rfl rfl)
theorem dX11_values_25 : decode cX11_values 25 = .ok (.ishl, 1) := dk_120 (dk_at dksX11_values_1 1 rfl rfl)
theorem dX11_values_26 : decode cX11_values 26 = .ok (.goto 4, 3) := dk_167 0 4 (dk_at dksX11_values_1 2 rfl rfl)
theorem dX11_values_29 : decode cX11_values 29 = .ok (.iconst 0, 1) := dk_3 (dk_at dksX11_values_1 5 rfl rfl)
theorem dX11_values_30 : decode cX11_values 30 = .ok (.ior, 1) := dk_128 (dk_at dksX11_values_1 6 rfl rfl)
theorem dX11_values_31 : decode cX11_values 31 = .ok (.istore_n 2, 1) := dk_61 (dk_at dksX11_values_1 7 rfl rfl)
theorem dX11_values_32 : decode cX11_values 32 = .ok (.iinc 3 1, 3) := dk_132 3 1 (dk_at dksX11_values_1 8 rfl rfl)
theorem dX11_values_35 : decode cX11_values 35 = .ok (.goto (-31), 3) := dk_167 255 225 (dk_at dksX11_values_1 11 rfl rfl)
theorem dX11_values_38 : decode cX11_values 38 = .ok (.iload_n 2, 1) := dk_28 (dk_at dksX11_values_1 14 rfl rfl)
theorem dX11_values_39 : decode cX11_values 39 = .ok (.ireturn, 1) := dk_172 (dk_at dksX11_values_1 15 rfl rfl)
theorem q93 : (Jvm.Cond.initialized "ConditionWise$Decision") ∈ lw_all := lw_g (lw_at lw_m1 39 rfl) rfl
theorem q707 : (Jvm.Cond.selects "ConditionWise$Decision" ({ cls := "java/lang/Object", name := "getClass", desc := "()Ljava/lang/Class;" } : Jvm.MethodName) ({ cls := "java/lang/Object", name := "getClass", desc := "()Ljava/lang/Class;" } : Jvm.MethodName)) ∈ lw_all := lw_g (lw_at lw_m3 173 rfl) rfl
theorem q1124 : (Jvm.Cond.instantiable "ConditionWise$Decision" (3 : Nat)) ∈ lw_all := lw_g (lw_at lw_m5 110 rfl) rfl
theorem q1126 : (Jvm.Cond.instanceMethod ({ cls := "ConditionWise$Decision", name := "<init>", desc := "(LConditionWise$Node;Ljava/util/List;)V" } : Jvm.MethodName)) ∈ lw_all := lw_g (lw_at lw_m5 112 rfl) rfl
theorem q1127 : (Jvm.Cond.code ({ cls := "ConditionWise$Decision", name := "<init>", desc := "(LConditionWise$Node;Ljava/util/List;)V" } : Jvm.MethodName) prog_3_method_1_code (4 : Nat) (Option.none : Option Jvm.ClassFile.FieldType)) ∈ lw_all := lw_g (lw_at lw_m5 113 rfl) rfl
theorem q1128 : (Jvm.Cond.methodLink "ConditionWise$Decision" (3 : Nat) ({ cls := "java/lang/Object", name := "<init>", desc := "()V" } : Jvm.MethodName)) ∈ lw_all := lw_g (lw_at lw_m5 114 rfl) rfl
theorem q1129 : (Jvm.Cond.interfaceEntry "ConditionWise$Decision" (15 : Nat)) ∈ lw_tbl := lw_at lw_m5 115 rfl
theorem q1130 : (Jvm.Cond.methodLink "ConditionWise$Decision" (15 : Nat) ({ cls := "java/util/List", name := "size", desc := "()I" } : Jvm.MethodName)) ∈ lw_all := lw_g (lw_at lw_m5 116 rfl) rfl
theorem q1131 : (Jvm.Cond.interfaceEntry "ConditionWise$Decision" (25 : Nat)) ∈ lw_tbl := lw_at lw_m5 117 rfl
theorem q1132 : (Jvm.Cond.methodLink "ConditionWise$Decision" (25 : Nat) ({ cls := "java/util/List", name := "get", desc := "(I)Ljava/lang/Object;" } : Jvm.MethodName)) ∈ lw_all := lw_g (lw_at lw_m5 118 rfl) rfl
theorem q1151 : (Jvm.Cond.classLink "ConditionWise$Decision" (29 : Nat) "java/lang/Integer") ∈ lw_all := lw_g (lw_at lw_m5 137 rfl) rfl
theorem q1152 : (Jvm.Cond.methodLink "ConditionWise$Decision" (31 : Nat) ({ cls := "java/lang/Integer", name := "intValue", desc := "()I" } : Jvm.MethodName)) ∈ lw_all := lw_g (lw_at lw_m5 138 rfl) rfl
theorem q1156 : (Jvm.Cond.fieldLink "ConditionWise$Decision" (9 : Nat) "ConditionWise$Decision" "tree" "LConditionWise$Node;") ∈ lw_all := lw_g (lw_at lw_m5 142 rfl) rfl
theorem q1158 : (Jvm.Cond.fieldLink "ConditionWise$Decision" (21 : Nat) "ConditionWise$Decision" "letters" "[I") ∈ lw_all := lw_g (lw_at lw_m5 144 rfl) rfl
theorem q1162 : (Jvm.Cond.laysFinal "ConditionWise$Decision" "ConditionWise$Decision" "tree" "LConditionWise$Node;") ∈ lw_all := lw_g (lw_at lw_m5 148 rfl) rfl
theorem q1163 : (Jvm.Cond.soleField "ConditionWise$Decision" "tree") ∈ lw_all := lw_g (lw_at lw_m5 149 rfl) rfl
theorem q1164 : (Jvm.Cond.laysFinal "ConditionWise$Decision" "ConditionWise$Decision" "letters" "[I") ∈ lw_all := lw_g (lw_at lw_m5 150 rfl) rfl
theorem q1165 : (Jvm.Cond.soleField "ConditionWise$Decision" "letters") ∈ lw_all := lw_g (lw_at lw_m5 151 rfl) rfl
theorem q1166 : (Jvm.Cond.lays "ConditionWise$Decision" "ConditionWise$Decision" "tests" "I") ∈ lw_all := lw_g (lw_at lw_m5 152 rfl) rfl
theorem q1167 : (Jvm.Cond.soleField "ConditionWise$Decision" "tests") ∈ lw_all := lw_g (lw_at lw_m5 153 rfl) rfl
theorem q1168 : (Jvm.Cond.superclass "ConditionWise$Decision" "java/lang/Object") ∈ lw_all := lw_g (lw_at lw_m5 154 rfl) rfl
theorem q1284 : (Jvm.Cond.instanceMethod ({ cls := "ConditionWise$Decision", name := "outcome", desc := "(I)Z" } : Jvm.MethodName)) ∈ lw_all := lw_g (lw_at lw_m6 30 rfl) rfl
theorem q1285 : (Jvm.Cond.selects "ConditionWise$Decision" ({ cls := "ConditionWise$Decision", name := "outcome", desc := "(I)Z" } : Jvm.MethodName) ({ cls := "ConditionWise$Decision", name := "outcome", desc := "(I)Z" } : Jvm.MethodName)) ∈ lw_all := lw_g (lw_at lw_m6 31 rfl) rfl
theorem q1286 : (Jvm.Cond.code ({ cls := "ConditionWise$Decision", name := "outcome", desc := "(I)Z" } : Jvm.MethodName) prog_3_method_2_code (2 : Nat) (Option.some Jvm.ClassFile.FieldType.boolean)) ∈ lw_all := lw_g (lw_at lw_m6 32 rfl) rfl
theorem q1287 : (Jvm.Cond.classLink "ConditionWise$Decision" (34 : Nat) "ConditionWise$Run") ∈ lw_all := lw_g (lw_at lw_m6 33 rfl) rfl
theorem q1289 : (Jvm.Cond.methodLink "ConditionWise$Decision" (36 : Nat) ({ cls := "ConditionWise$Run", name := "<init>", desc := "(I)V" } : Jvm.MethodName)) ∈ lw_all := lw_g (lw_at lw_m6 35 rfl) rfl
theorem q1323 : (Jvm.Cond.fieldLinkNest "ConditionWise$Decision" (52 : Nat) "ConditionWise$Run" "asked" "Ljava/util/BitSet;" "ConditionWise") ∈ lw_tbl := lw_at lw_m6 69 rfl
theorem q1331 : (Jvm.Cond.interfaceEntry "ConditionWise$Decision" (39 : Nat)) ∈ lw_tbl := lw_at lw_m6 77 rfl
theorem q1332 : (Jvm.Cond.methodLink "ConditionWise$Decision" (39 : Nat) ({ cls := "ConditionWise$Node", name := "ask", desc := "(LConditionWise$Run;)Z" } : Jvm.MethodName)) ∈ lw_all := lw_g (lw_at lw_m6 78 rfl) rfl
theorem q1415 : (Jvm.Cond.instanceMethod ({ cls := "ConditionWise$Decision", name := "state", desc := "(II)I" } : Jvm.MethodName)) ∈ lw_all := lw_g (lw_at lw_m6 161 rfl) rfl
theorem q1416 : (Jvm.Cond.selects "ConditionWise$Decision" ({ cls := "ConditionWise$Decision", name := "state", desc := "(II)I" } : Jvm.MethodName) ({ cls := "ConditionWise$Decision", name := "state", desc := "(II)I" } : Jvm.MethodName)) ∈ lw_all := lw_g (lw_at lw_m6 162 rfl) rfl
theorem q1417 : (Jvm.Cond.code ({ cls := "ConditionWise$Decision", name := "state", desc := "(II)I" } : Jvm.MethodName) prog_3_method_6_code (3 : Nat) (Option.some Jvm.ClassFile.FieldType.int)) ∈ lw_all := lw_g (lw_at lw_m6 163 rfl) rfl
theorem q1418 : (Jvm.Cond.methodLink "ConditionWise$Decision" (56 : Nat) ({ cls := "ConditionWise$Decision", name := "asked", desc := "(I)Ljava/util/BitSet;" } : Jvm.MethodName)) ∈ lw_all := lw_g (lw_at lw_m6 164 rfl) rfl
theorem q1419 : (Jvm.Cond.instanceMethod ({ cls := "ConditionWise$Decision", name := "asked", desc := "(I)Ljava/util/BitSet;" } : Jvm.MethodName)) ∈ lw_all := lw_g (lw_at lw_m6 165 rfl) rfl
theorem q1420 : (Jvm.Cond.selects "ConditionWise$Decision" ({ cls := "ConditionWise$Decision", name := "asked", desc := "(I)Ljava/util/BitSet;" } : Jvm.MethodName) ({ cls := "ConditionWise$Decision", name := "asked", desc := "(I)Ljava/util/BitSet;" } : Jvm.MethodName)) ∈ lw_all := lw_g (lw_at lw_m6 166 rfl) rfl
theorem q1421 : (Jvm.Cond.code ({ cls := "ConditionWise$Decision", name := "asked", desc := "(I)Ljava/util/BitSet;" } : Jvm.MethodName) prog_3_method_5_code (4 : Nat) (Option.some (Jvm.ClassFile.FieldType.object "java/util/BitSet"))) ∈ lw_all := lw_g (lw_at lw_m6 167 rfl) rfl
theorem q1422 : (Jvm.Cond.methodLink "ConditionWise$Decision" (59 : Nat) ({ cls := "java/util/BitSet", name := "get", desc := "(I)Z" } : Jvm.MethodName)) ∈ lw_all := lw_g (lw_at lw_m6 168 rfl) rfl
theorem q1426 : (Jvm.Cond.methodLink "ConditionWise$Decision" (63 : Nat) ({ cls := "ConditionWise$Decision", name := "value", desc := "(II)Z" } : Jvm.MethodName)) ∈ lw_all := lw_g (lw_at lw_m6 172 rfl) rfl
theorem q1427 : (Jvm.Cond.instanceMethod ({ cls := "ConditionWise$Decision", name := "value", desc := "(II)Z" } : Jvm.MethodName)) ∈ lw_all := lw_g (lw_at lw_m6 173 rfl) rfl
theorem q1428 : (Jvm.Cond.selects "ConditionWise$Decision" ({ cls := "ConditionWise$Decision", name := "value", desc := "(II)Z" } : Jvm.MethodName) ({ cls := "ConditionWise$Decision", name := "value", desc := "(II)Z" } : Jvm.MethodName)) ∈ lw_all := lw_g (lw_at lw_m6 174 rfl) rfl
theorem q1429 : (Jvm.Cond.code ({ cls := "ConditionWise$Decision", name := "value", desc := "(II)Z" } : Jvm.MethodName) prog_3_method_4_code (3 : Nat) (Option.some Jvm.ClassFile.FieldType.boolean)) ∈ lw_all := lw_g (lw_at lw_m6 175 rfl) rfl
theorem q1438 : (Jvm.Cond.instanceMethod ({ cls := "ConditionWise$Decision", name := "isDeciding", desc := "(II)Z" } : Jvm.MethodName)) ∈ lw_all := lw_g (lw_at lw_m6 184 rfl) rfl
theorem q1439 : (Jvm.Cond.selects "ConditionWise$Decision" ({ cls := "ConditionWise$Decision", name := "isDeciding", desc := "(II)Z" } : Jvm.MethodName) ({ cls := "ConditionWise$Decision", name := "isDeciding", desc := "(II)Z" } : Jvm.MethodName)) ∈ lw_all := lw_g (lw_at lw_m6 185 rfl) rfl
theorem q1440 : (Jvm.Cond.code ({ cls := "ConditionWise$Decision", name := "isDeciding", desc := "(II)Z" } : Jvm.MethodName) prog_3_method_3_code (3 : Nat) (Option.some Jvm.ClassFile.FieldType.boolean)) ∈ lw_all := lw_g (lw_at lw_m6 186 rfl) rfl
theorem q1441 : (Jvm.Cond.methodLink "ConditionWise$Decision" (45 : Nat) ({ cls := "ConditionWise$Run", name := "<init>", desc := "(II)V" } : Jvm.MethodName)) ∈ lw_all := lw_g (lw_at lw_m6 187 rfl) rfl
theorem q1442 : (Jvm.Cond.methodLink "ConditionWise$Decision" (48 : Nat) ({ cls := "ConditionWise$Decision", name := "outcome", desc := "(I)Z" } : Jvm.MethodName)) ∈ lw_all := lw_g (lw_at lw_m6 188 rfl) rfl
theorem q1525 : (Jvm.Cond.instanceMethod ({ cls := "ConditionWise$Decision", name := "values", desc := "(I)I" } : Jvm.MethodName)) ∈ lw_all := lw_g (lw_at lw_m7 31 rfl) rfl
theorem q1526 : (Jvm.Cond.selects "ConditionWise$Decision" ({ cls := "ConditionWise$Decision", name := "values", desc := "(I)I" } : Jvm.MethodName) ({ cls := "ConditionWise$Decision", name := "values", desc := "(I)I" } : Jvm.MethodName)) ∈ lw_all := lw_g (lw_at lw_m7 32 rfl) rfl
theorem q1527 : (Jvm.Cond.code ({ cls := "ConditionWise$Decision", name := "values", desc := "(I)I" } : Jvm.MethodName) prog_3_method_7_code (4 : Nat) (Option.some Jvm.ClassFile.FieldType.int)) ∈ lw_all := lw_g (lw_at lw_m7 33 rfl) rfl
theorem q2165 : (Jvm.Cond.castable "ConditionWise$Decision" "java/lang/Object") ∈ lw_tbl := lw_at lw_m9 191 rfl
theorem in_X11 : ∀ w ∈ wsX110, w ∈ lw_all := lw_in wsX110 [1162, 1164, 1166] (by decide +kernel) (by decide +kernel)
/-! ConditionWise$Run -/
set_option maxRecDepth 100000
def RX12 : String := "ConditionWise$Run"
def TX12 : u_T := fun k => match k with
  | 0 => ("ConditionWise$Run", "vector", "I", true)
  | 1 => ("ConditionWise$Run", "turned", "I", true)
  | _ => ("ConditionWise$Run", "asked", "Ljava/util/BitSet;", true)
def tyX12 : Nat → FieldType := fun k => match k with
  | 0 => .int
  | 1 => .int
  | _ => .object "java/util/BitSet"
abbrev wsX120 : List Cond := u_ws RX12 TX12 3
theorem nmX12 : ∀ a, a < 3 → ∀ b, b < 3 → a ≠ b → (TX12 a).2.1 ≠ (TX12 b).2.1 := by decide +kernel
theorem tyX12_ok : ∀ k, k < 3 → parseFieldDescriptor (TX12 k).2.2.1 = some (tyX12 k) := by decide +kernel
abbrev cX12_init : ByteArray := prog_11_method_2_code
def yX12_init : MethodName := ⟨RX12, "<init>", "(I)V"⟩
def dkwX12_init_0 : List UInt8 := [42, 27, 2, 183, 0, 27, 177]
abbrev dktX12_init_0 : List UInt8 := dkwX12_init_0 ++ []
theorem dksX12_init_0 : cX12_init.data.toList.drop 0 = dktX12_init_0 := by decide +kernel
theorem dX12_init_0 : decode cX12_init 0 = .ok (.aload_n 0, 1) := dk_42 (dk_at dksX12_init_0 0 rfl rfl)
theorem dX12_init_1 : decode cX12_init 1 = .ok (.iload_n 1, 1) := dk_27 (dk_at dksX12_init_0 1 rfl rfl)
theorem dX12_init_2 : decode cX12_init 2 = .ok (.iconst (-1), 1) := dk_2 (dk_at dksX12_init_0 2 rfl rfl)
theorem dX12_init_3 : decode cX12_init 3 = .ok (.invokespecial 27, 3) := dk_183 0 27 (dk_at dksX12_init_0 3 rfl rfl)
theorem dX12_init_6 : decode cX12_init 6 = .ok (.return_, 1) := dk_177 (dk_at dksX12_init_0 6 rfl rfl)
abbrev cX12_init_2 : ByteArray := prog_11_method_1_code
def yX12_init_2 : MethodName := ⟨RX12, "<init>", "(II)V"⟩
def dkwX12_init_2_1 : List UInt8 := [181, 0, 24, 177]
abbrev dktX12_init_2_1 : List UInt8 := dkwX12_init_2_1 ++ []
def dkwX12_init_2_0 : List UInt8 := [42, 183, 0, 3, 42, 187, 0, 9, 89, 16, 8, 183, 0, 11, 181, 0, 14, 42, 27, 181, 0, 20, 42, 28]
abbrev dktX12_init_2_0 : List UInt8 := dkwX12_init_2_0 ++ dktX12_init_2_1
theorem dksX12_init_2_0 : cX12_init_2.data.toList.drop 0 = dktX12_init_2_0 := by decide +kernel
theorem dksX12_init_2_1 : cX12_init_2.data.toList.drop 24 = dktX12_init_2_1 := dk_seg dksX12_init_2_0 24 rfl rfl
theorem dX12_init_2_0 : decode cX12_init_2 0 = .ok (.aload_n 0, 1) := dk_42 (dk_at dksX12_init_2_0 0 rfl rfl)
theorem dX12_init_2_1 : decode cX12_init_2 1 = .ok (.invokespecial 3, 3) := dk_183 0 3 (dk_at dksX12_init_2_0 1 rfl rfl)
theorem dX12_init_2_4 : decode cX12_init_2 4 = .ok (.aload_n 0, 1) := dk_42 (dk_at dksX12_init_2_0 4 rfl rfl)
theorem dX12_init_2_5 : decode cX12_init_2 5 = .ok (.new 9, 3) := dk_187 0 9 (dk_at dksX12_init_2_0 5 rfl rfl)
theorem dX12_init_2_8 : decode cX12_init_2 8 = .ok (.dup, 1) := dk_89 (dk_at dksX12_init_2_0 8 rfl rfl)
theorem dX12_init_2_9 : decode cX12_init_2 9 = .ok (.bipush 8, 2) := dk_16 8 (dk_at dksX12_init_2_0 9 rfl rfl)
theorem dX12_init_2_11 : decode cX12_init_2 11 = .ok (.invokespecial 11, 3) := dk_183 0 11 (dk_at dksX12_init_2_0 11 rfl rfl)
theorem dX12_init_2_14 : decode cX12_init_2 14 = .ok (.putfield 14, 3) := dk_181 0 14 (dk_at dksX12_init_2_0 14 rfl rfl)
theorem dX12_init_2_17 : decode cX12_init_2 17 = .ok (.aload_n 0, 1) := dk_42 (dk_at dksX12_init_2_0 17 rfl rfl)
theorem dX12_init_2_18 : decode cX12_init_2 18 = .ok (.iload_n 1, 1) := dk_27 (dk_at dksX12_init_2_0 18 rfl rfl)
theorem dX12_init_2_19 : decode cX12_init_2 19 = .ok (.putfield 20, 3) := dk_181 0 20 (dk_at dksX12_init_2_0 19 rfl rfl)
theorem dX12_init_2_22 : decode cX12_init_2 22 = .ok (.aload_n 0, 1) := dk_42 (dk_at dksX12_init_2_0 22 rfl rfl)
theorem dX12_init_2_23 : decode cX12_init_2 23 = .ok (.iload_n 2, 1) := dk_28 (dk_at dksX12_init_2_0 23 rfl rfl)
theorem dX12_init_2_24 : decode cX12_init_2 24 = .ok (.putfield 24, 3) := dk_181 0 24 (dk_at dksX12_init_2_1 0 rfl rfl)
theorem dX12_init_2_27 : decode cX12_init_2 27 = .ok (.return_, 1) := dk_177 (dk_at dksX12_init_2_1 3 rfl rfl)
abbrev cX12_ask : ByteArray := prog_11_method_3_code
def yX12_ask : MethodName := ⟨RX12, "ask", "(II)Z"⟩
def dkwX12_ask_1 : List UInt8 := [3, 27, 42, 180, 0, 24, 160, 0, 7, 4, 167, 0, 4, 3, 159, 0, 7, 4, 167, 0, 4, 3, 172]
abbrev dktX12_ask_1 : List UInt8 := dkwX12_ask_1 ++ []
def dkwX12_ask_0 : List UInt8 := [42, 180, 0, 14, 27, 182, 0, 30, 42, 180, 0, 20, 28, 122, 4, 126, 4, 160, 0, 7, 4, 167, 0, 4]
abbrev dktX12_ask_0 : List UInt8 := dkwX12_ask_0 ++ dktX12_ask_1
theorem dksX12_ask_0 : cX12_ask.data.toList.drop 0 = dktX12_ask_0 := by decide +kernel
theorem dksX12_ask_1 : cX12_ask.data.toList.drop 24 = dktX12_ask_1 := dk_seg dksX12_ask_0 24 rfl rfl
theorem dX12_ask_0 : decode cX12_ask 0 = .ok (.aload_n 0, 1) := dk_42 (dk_at dksX12_ask_0 0 rfl rfl)
theorem dX12_ask_1 : decode cX12_ask 1 = .ok (.getfield 14, 3) := dk_180 0 14 (dk_at dksX12_ask_0 1 rfl rfl)
theorem dX12_ask_4 : decode cX12_ask 4 = .ok (.iload_n 1, 1) := dk_27 (dk_at dksX12_ask_0 4 rfl rfl)
theorem dX12_ask_5 : decode cX12_ask 5 = .ok (.invokevirtual 30, 3) := dk_182 0 30 (dk_at dksX12_ask_0 5 rfl rfl)
theorem dX12_ask_8 : decode cX12_ask 8 = .ok (.aload_n 0, 1) := dk_42 (dk_at dksX12_ask_0 8 rfl rfl)
theorem dX12_ask_9 : decode cX12_ask 9 = .ok (.getfield 20, 3) := dk_180 0 20 (dk_at dksX12_ask_0 9 rfl rfl)
theorem dX12_ask_12 : decode cX12_ask 12 = .ok (.iload_n 2, 1) := dk_28 (dk_at dksX12_ask_0 12 rfl rfl)
theorem dX12_ask_13 : decode cX12_ask 13 = .ok (.ishr, 1) := dk_122 (dk_at dksX12_ask_0 13 rfl rfl)
theorem dX12_ask_14 : decode cX12_ask 14 = .ok (.iconst 1, 1) := dk_4 (dk_at dksX12_ask_0 14 rfl rfl)
theorem dX12_ask_15 : decode cX12_ask 15 = .ok (.iand, 1) := dk_126 (dk_at dksX12_ask_0 15 rfl rfl)
theorem dX12_ask_16 : decode cX12_ask 16 = .ok (.iconst 1, 1) := dk_4 (dk_at dksX12_ask_0 16 rfl rfl)
theorem dX12_ask_17 : decode cX12_ask 17 = .ok (.if_icmp .ne 7, 3) := dk_160 0 7 (dk_at dksX12_ask_0 17 rfl rfl)
theorem dX12_ask_20 : decode cX12_ask 20 = .ok (.iconst 1, 1) := dk_4 (dk_at dksX12_ask_0 20 rfl rfl)
theorem dX12_ask_21 : decode cX12_ask 21 = .ok (.goto 4, 3) := dk_167 0 4 (dk_at dksX12_ask_0 21 rfl rfl)
theorem dX12_ask_24 : decode cX12_ask 24 = .ok (.iconst 0, 1) := dk_3 (dk_at dksX12_ask_1 0 rfl rfl)
theorem dX12_ask_25 : decode cX12_ask 25 = .ok (.iload_n 1, 1) := dk_27 (dk_at dksX12_ask_1 1 rfl rfl)
theorem dX12_ask_26 : decode cX12_ask 26 = .ok (.aload_n 0, 1) := dk_42 (dk_at dksX12_ask_1 2 rfl rfl)
theorem dX12_ask_27 : decode cX12_ask 27 = .ok (.getfield 24, 3) := dk_180 0 24 (dk_at dksX12_ask_1 3 rfl rfl)
theorem dX12_ask_30 : decode cX12_ask 30 = .ok (.if_icmp .ne 7, 3) := dk_160 0 7 (dk_at dksX12_ask_1 6 rfl rfl)
theorem dX12_ask_33 : decode cX12_ask 33 = .ok (.iconst 1, 1) := dk_4 (dk_at dksX12_ask_1 9 rfl rfl)
theorem dX12_ask_34 : decode cX12_ask 34 = .ok (.goto 4, 3) := dk_167 0 4 (dk_at dksX12_ask_1 10 rfl rfl)
theorem dX12_ask_37 : decode cX12_ask 37 = .ok (.iconst 0, 1) := dk_3 (dk_at dksX12_ask_1 13 rfl rfl)
theorem dX12_ask_38 : decode cX12_ask 38 = .ok (.if_icmp .eq 7, 3) := dk_159 0 7 (dk_at dksX12_ask_1 14 rfl rfl)
theorem dX12_ask_41 : decode cX12_ask 41 = .ok (.iconst 1, 1) := dk_4 (dk_at dksX12_ask_1 17 rfl rfl)
theorem dX12_ask_42 : decode cX12_ask 42 = .ok (.goto 4, 3) := dk_167 0 4 (dk_at dksX12_ask_1 18 rfl rfl)
theorem dX12_ask_45 : decode cX12_ask 45 = .ok (.iconst 0, 1) := dk_3 (dk_at dksX12_ask_1 21 rfl rfl)
theorem dX12_ask_46 : decode cX12_ask 46 = .ok (.ireturn, 1) := dk_172 (dk_at dksX12_ask_1 22 rfl rfl)
theorem q97 : (Jvm.Cond.initialized "ConditionWise$Run") ∈ lw_all := lw_g (lw_at lw_m1 43 rfl) rfl
theorem q714 : (Jvm.Cond.selects "ConditionWise$Run" ({ cls := "java/lang/Object", name := "getClass", desc := "()Ljava/lang/Class;" } : Jvm.MethodName) ({ cls := "java/lang/Object", name := "getClass", desc := "()Ljava/lang/Class;" } : Jvm.MethodName)) ∈ lw_all := lw_g (lw_at lw_m3 180 rfl) rfl
theorem q1288 : (Jvm.Cond.instantiable "ConditionWise$Run" (3 : Nat)) ∈ lw_all := lw_g (lw_at lw_m6 34 rfl) rfl
theorem q1290 : (Jvm.Cond.instanceMethod ({ cls := "ConditionWise$Run", name := "<init>", desc := "(I)V" } : Jvm.MethodName)) ∈ lw_all := lw_g (lw_at lw_m6 36 rfl) rfl
theorem q1291 : (Jvm.Cond.code ({ cls := "ConditionWise$Run", name := "<init>", desc := "(I)V" } : Jvm.MethodName) prog_11_method_2_code (2 : Nat) (Option.none : Option Jvm.ClassFile.FieldType)) ∈ lw_all := lw_g (lw_at lw_m6 37 rfl) rfl
theorem q1292 : (Jvm.Cond.methodLink "ConditionWise$Run" (27 : Nat) ({ cls := "ConditionWise$Run", name := "<init>", desc := "(II)V" } : Jvm.MethodName)) ∈ lw_all := lw_g (lw_at lw_m6 38 rfl) rfl
theorem q1293 : (Jvm.Cond.instanceMethod ({ cls := "ConditionWise$Run", name := "<init>", desc := "(II)V" } : Jvm.MethodName)) ∈ lw_all := lw_g (lw_at lw_m6 39 rfl) rfl
theorem q1294 : (Jvm.Cond.code ({ cls := "ConditionWise$Run", name := "<init>", desc := "(II)V" } : Jvm.MethodName) prog_11_method_1_code (3 : Nat) (Option.none : Option Jvm.ClassFile.FieldType)) ∈ lw_all := lw_g (lw_at lw_m6 40 rfl) rfl
theorem q1295 : (Jvm.Cond.methodLink "ConditionWise$Run" (3 : Nat) ({ cls := "java/lang/Object", name := "<init>", desc := "()V" } : Jvm.MethodName)) ∈ lw_all := lw_g (lw_at lw_m6 41 rfl) rfl
theorem q1296 : (Jvm.Cond.classLink "ConditionWise$Run" (9 : Nat) "java/util/BitSet") ∈ lw_all := lw_g (lw_at lw_m6 42 rfl) rfl
theorem q1298 : (Jvm.Cond.methodLink "ConditionWise$Run" (11 : Nat) ({ cls := "java/util/BitSet", name := "<init>", desc := "(I)V" } : Jvm.MethodName)) ∈ lw_all := lw_g (lw_at lw_m6 44 rfl) rfl
theorem q1320 : (Jvm.Cond.fieldLink "ConditionWise$Run" (20 : Nat) "ConditionWise$Run" "vector" "I") ∈ lw_all := lw_g (lw_at lw_m6 66 rfl) rfl
theorem q1321 : (Jvm.Cond.fieldLink "ConditionWise$Run" (24 : Nat) "ConditionWise$Run" "turned" "I") ∈ lw_all := lw_g (lw_at lw_m6 67 rfl) rfl
theorem q1322 : (Jvm.Cond.fieldLink "ConditionWise$Run" (14 : Nat) "ConditionWise$Run" "asked" "Ljava/util/BitSet;") ∈ lw_all := lw_g (lw_at lw_m6 68 rfl) rfl
theorem q1324 : (Jvm.Cond.laysFinal "ConditionWise$Run" "ConditionWise$Run" "vector" "I") ∈ lw_all := lw_g (lw_at lw_m6 70 rfl) rfl
theorem q1325 : (Jvm.Cond.soleField "ConditionWise$Run" "vector") ∈ lw_all := lw_g (lw_at lw_m6 71 rfl) rfl
theorem q1326 : (Jvm.Cond.laysFinal "ConditionWise$Run" "ConditionWise$Run" "turned" "I") ∈ lw_all := lw_g (lw_at lw_m6 72 rfl) rfl
theorem q1327 : (Jvm.Cond.soleField "ConditionWise$Run" "turned") ∈ lw_all := lw_g (lw_at lw_m6 73 rfl) rfl
theorem q1328 : (Jvm.Cond.laysFinal "ConditionWise$Run" "ConditionWise$Run" "asked" "Ljava/util/BitSet;") ∈ lw_all := lw_g (lw_at lw_m6 74 rfl) rfl
theorem q1329 : (Jvm.Cond.soleField "ConditionWise$Run" "asked") ∈ lw_all := lw_g (lw_at lw_m6 75 rfl) rfl
theorem q1330 : (Jvm.Cond.superclass "ConditionWise$Run" "java/lang/Object") ∈ lw_all := lw_g (lw_at lw_m6 76 rfl) rfl
theorem q1348 : (Jvm.Cond.instanceMethod ({ cls := "ConditionWise$Run", name := "ask", desc := "(II)Z" } : Jvm.MethodName)) ∈ lw_all := lw_g (lw_at lw_m6 94 rfl) rfl
theorem q1349 : (Jvm.Cond.selects "ConditionWise$Run" ({ cls := "ConditionWise$Run", name := "ask", desc := "(II)Z" } : Jvm.MethodName) ({ cls := "ConditionWise$Run", name := "ask", desc := "(II)Z" } : Jvm.MethodName)) ∈ lw_all := lw_g (lw_at lw_m6 95 rfl) rfl
theorem q1350 : (Jvm.Cond.code ({ cls := "ConditionWise$Run", name := "ask", desc := "(II)Z" } : Jvm.MethodName) prog_11_method_3_code (3 : Nat) (Option.some Jvm.ClassFile.FieldType.boolean)) ∈ lw_all := lw_g (lw_at lw_m6 96 rfl) rfl
theorem q1351 : (Jvm.Cond.methodLink "ConditionWise$Run" (30 : Nat) ({ cls := "java/util/BitSet", name := "set", desc := "(I)V" } : Jvm.MethodName)) ∈ lw_all := lw_g (lw_at lw_m6 97 rfl) rfl
theorem q2168 : (Jvm.Cond.castable "ConditionWise$Run" "java/lang/Object") ∈ lw_tbl := lw_at lw_m9 194 rfl
theorem in_X12 : ∀ w ∈ wsX120, w ∈ lw_all := lw_in wsX120 [1324, 1326, 1328] (by decide +kernel) (by decide +kernel)
/-! ConditionWise$Prohibition -/
set_option maxRecDepth 100000
def RX13 : String := "ConditionWise$Prohibition"
def TX13 : u_T := fun k => match k with
  | 0 => ("ConditionWise$Prohibition", "letter", "I", true)
  | 1 => ("ConditionWise$Prohibition", "value", "Z", true)
  | 2 => ("ConditionWise$Prohibition", "other", "I", true)
  | _ => ("ConditionWise$Prohibition", "otherValue", "Z", true)
def tyX13 : Nat → FieldType := fun k => match k with
  | 0 => .int
  | 1 => .boolean
  | 2 => .int
  | _ => .boolean
abbrev wsX130 : List Cond := u_ws RX13 TX13 4
theorem nmX13 : ∀ a, a < 4 → ∀ b, b < 4 → a ≠ b → (TX13 a).2.1 ≠ (TX13 b).2.1 := by decide +kernel
theorem tyX13_ok : ∀ k, k < 4 → parseFieldDescriptor (TX13 k).2.2.1 = some (tyX13 k) := by decide +kernel
abbrev cX13_forbids : ByteArray := prog_9_method_2_code
def yX13_forbids : MethodName := ⟨RX13, "forbids", "(I)Z"⟩
def dkwX13_forbids_2 : List UInt8 := [4, 167, 0, 4, 3, 172]
abbrev dktX13_forbids_2 : List UInt8 := dkwX13_forbids_2 ++ []
def dkwX13_forbids_1 : List UInt8 := [27, 42, 180, 0, 17, 122, 4, 126, 4, 160, 0, 7, 4, 167, 0, 4, 3, 42, 180, 0, 20, 160, 0, 7]
abbrev dktX13_forbids_1 : List UInt8 := dkwX13_forbids_1 ++ dktX13_forbids_2
def dkwX13_forbids_0 : List UInt8 := [27, 42, 180, 0, 7, 122, 4, 126, 4, 160, 0, 7, 4, 167, 0, 4, 3, 42, 180, 0, 13, 160, 0, 31]
abbrev dktX13_forbids_0 : List UInt8 := dkwX13_forbids_0 ++ dktX13_forbids_1
theorem dksX13_forbids_0 : cX13_forbids.data.toList.drop 0 = dktX13_forbids_0 := by decide +kernel
theorem dksX13_forbids_1 : cX13_forbids.data.toList.drop 24 = dktX13_forbids_1 := dk_seg dksX13_forbids_0 24 rfl rfl
theorem dksX13_forbids_2 : cX13_forbids.data.toList.drop 48 = dktX13_forbids_2 := dk_seg dksX13_forbids_1 24 rfl rfl
theorem dX13_forbids_0 : decode cX13_forbids 0 = .ok (.iload_n 1, 1) := dk_27 (dk_at dksX13_forbids_0 0 rfl rfl)
theorem dX13_forbids_1 : decode cX13_forbids 1 = .ok (.aload_n 0, 1) := dk_42 (dk_at dksX13_forbids_0 1 rfl rfl)
theorem dX13_forbids_2 : decode cX13_forbids 2 = .ok (.getfield 7, 3) := dk_180 0 7 (dk_at dksX13_forbids_0 2 rfl rfl)
theorem dX13_forbids_5 : decode cX13_forbids 5 = .ok (.ishr, 1) := dk_122 (dk_at dksX13_forbids_0 5 rfl rfl)
theorem dX13_forbids_6 : decode cX13_forbids 6 = .ok (.iconst 1, 1) := dk_4 (dk_at dksX13_forbids_0 6 rfl rfl)
theorem dX13_forbids_7 : decode cX13_forbids 7 = .ok (.iand, 1) := dk_126 (dk_at dksX13_forbids_0 7 rfl rfl)
theorem dX13_forbids_8 : decode cX13_forbids 8 = .ok (.iconst 1, 1) := dk_4 (dk_at dksX13_forbids_0 8 rfl rfl)
theorem dX13_forbids_9 : decode cX13_forbids 9 = .ok (.if_icmp .ne 7, 3) := dk_160 0 7 (dk_at dksX13_forbids_0 9 rfl rfl)
theorem dX13_forbids_12 : decode cX13_forbids 12 = .ok (.iconst 1, 1) := dk_4 (dk_at dksX13_forbids_0 12 rfl rfl)
theorem dX13_forbids_13 : decode cX13_forbids 13 = .ok (.goto 4, 3) := dk_167 0 4 (dk_at dksX13_forbids_0 13 rfl rfl)
theorem dX13_forbids_16 : decode cX13_forbids 16 = .ok (.iconst 0, 1) := dk_3 (dk_at dksX13_forbids_0 16 rfl rfl)
theorem dX13_forbids_17 : decode cX13_forbids 17 = .ok (.aload_n 0, 1) := dk_42 (dk_at dksX13_forbids_0 17 rfl rfl)
theorem dX13_forbids_18 : decode cX13_forbids 18 = .ok (.getfield 13, 3) := dk_180 0 13 (dk_at dksX13_forbids_0 18 rfl rfl)
theorem dX13_forbids_21 : decode cX13_forbids 21 = .ok (.if_icmp .ne 31, 3) := dk_160 0 31 (dk_at dksX13_forbids_0 21 rfl rfl)
theorem dX13_forbids_24 : decode cX13_forbids 24 = .ok (.iload_n 1, 1) := dk_27 (dk_at dksX13_forbids_1 0 rfl rfl)
theorem dX13_forbids_25 : decode cX13_forbids 25 = .ok (.aload_n 0, 1) := dk_42 (dk_at dksX13_forbids_1 1 rfl rfl)
theorem dX13_forbids_26 : decode cX13_forbids 26 = .ok (.getfield 17, 3) := dk_180 0 17 (dk_at dksX13_forbids_1 2 rfl rfl)
theorem dX13_forbids_29 : decode cX13_forbids 29 = .ok (.ishr, 1) := dk_122 (dk_at dksX13_forbids_1 5 rfl rfl)
theorem dX13_forbids_30 : decode cX13_forbids 30 = .ok (.iconst 1, 1) := dk_4 (dk_at dksX13_forbids_1 6 rfl rfl)
theorem dX13_forbids_31 : decode cX13_forbids 31 = .ok (.iand, 1) := dk_126 (dk_at dksX13_forbids_1 7 rfl rfl)
theorem dX13_forbids_32 : decode cX13_forbids 32 = .ok (.iconst 1, 1) := dk_4 (dk_at dksX13_forbids_1 8 rfl rfl)
theorem dX13_forbids_33 : decode cX13_forbids 33 = .ok (.if_icmp .ne 7, 3) := dk_160 0 7 (dk_at dksX13_forbids_1 9 rfl rfl)
theorem dX13_forbids_36 : decode cX13_forbids 36 = .ok (.iconst 1, 1) := dk_4 (dk_at dksX13_forbids_1 12 rfl rfl)
theorem dX13_forbids_37 : decode cX13_forbids 37 = .ok (.goto 4, 3) := dk_167 0 4 (dk_at dksX13_forbids_1 13 rfl rfl)
theorem dX13_forbids_40 : decode cX13_forbids 40 = .ok (.iconst 0, 1) := dk_3 (dk_at dksX13_forbids_1 16 rfl rfl)
theorem dX13_forbids_41 : decode cX13_forbids 41 = .ok (.aload_n 0, 1) := dk_42 (dk_at dksX13_forbids_1 17 rfl rfl)
theorem dX13_forbids_42 : decode cX13_forbids 42 = .ok (.getfield 20, 3) := dk_180 0 20 (dk_at dksX13_forbids_1 18 rfl rfl)
theorem dX13_forbids_45 : decode cX13_forbids 45 = .ok (.if_icmp .ne 7, 3) := dk_160 0 7 (dk_at dksX13_forbids_1 21 rfl rfl)
theorem dX13_forbids_48 : decode cX13_forbids 48 = .ok (.iconst 1, 1) := dk_4 (dk_at dksX13_forbids_2 0 rfl rfl)
theorem dX13_forbids_49 : decode cX13_forbids 49 = .ok (.goto 4, 3) := dk_167 0 4 (dk_at dksX13_forbids_2 1 rfl rfl)
theorem dX13_forbids_52 : decode cX13_forbids 52 = .ok (.iconst 0, 1) := dk_3 (dk_at dksX13_forbids_2 4 rfl rfl)
theorem dX13_forbids_53 : decode cX13_forbids 53 = .ok (.ireturn, 1) := dk_172 (dk_at dksX13_forbids_2 5 rfl rfl)
abbrev cX13_init : ByteArray := prog_9_method_1_code
def yX13_init : MethodName := ⟨RX13, "<init>", "(IZIZ)V"⟩
def dkwX13_init_1 : List UInt8 := [181, 0, 20, 177]
abbrev dktX13_init_1 : List UInt8 := dkwX13_init_1 ++ []
def dkwX13_init_0 : List UInt8 := [42, 183, 0, 1, 42, 27, 181, 0, 7, 42, 28, 181, 0, 13, 42, 29, 181, 0, 17, 42, 21, 4]
abbrev dktX13_init_0 : List UInt8 := dkwX13_init_0 ++ dktX13_init_1
theorem dksX13_init_0 : cX13_init.data.toList.drop 0 = dktX13_init_0 := by decide +kernel
theorem dksX13_init_1 : cX13_init.data.toList.drop 22 = dktX13_init_1 := dk_seg dksX13_init_0 22 rfl rfl
theorem dX13_init_0 : decode cX13_init 0 = .ok (.aload_n 0, 1) := dk_42 (dk_at dksX13_init_0 0 rfl rfl)
theorem dX13_init_1 : decode cX13_init 1 = .ok (.invokespecial 1, 3) := dk_183 0 1 (dk_at dksX13_init_0 1 rfl rfl)
theorem dX13_init_4 : decode cX13_init 4 = .ok (.aload_n 0, 1) := dk_42 (dk_at dksX13_init_0 4 rfl rfl)
theorem dX13_init_5 : decode cX13_init 5 = .ok (.iload_n 1, 1) := dk_27 (dk_at dksX13_init_0 5 rfl rfl)
theorem dX13_init_6 : decode cX13_init 6 = .ok (.putfield 7, 3) := dk_181 0 7 (dk_at dksX13_init_0 6 rfl rfl)
theorem dX13_init_9 : decode cX13_init 9 = .ok (.aload_n 0, 1) := dk_42 (dk_at dksX13_init_0 9 rfl rfl)
theorem dX13_init_10 : decode cX13_init 10 = .ok (.iload_n 2, 1) := dk_28 (dk_at dksX13_init_0 10 rfl rfl)
theorem dX13_init_11 : decode cX13_init 11 = .ok (.putfield 13, 3) := dk_181 0 13 (dk_at dksX13_init_0 11 rfl rfl)
theorem dX13_init_14 : decode cX13_init 14 = .ok (.aload_n 0, 1) := dk_42 (dk_at dksX13_init_0 14 rfl rfl)
theorem dX13_init_15 : decode cX13_init 15 = .ok (.iload_n 3, 1) := dk_29 (dk_at dksX13_init_0 15 rfl rfl)
theorem dX13_init_16 : decode cX13_init 16 = .ok (.putfield 17, 3) := dk_181 0 17 (dk_at dksX13_init_0 16 rfl rfl)
theorem dX13_init_19 : decode cX13_init 19 = .ok (.aload_n 0, 1) := dk_42 (dk_at dksX13_init_0 19 rfl rfl)
theorem dX13_init_20 : decode cX13_init 20 = .ok (.iload 4, 2) := dk_21 4 (dk_at dksX13_init_0 20 rfl rfl)
theorem dX13_init_22 : decode cX13_init 22 = .ok (.putfield 20, 3) := dk_181 0 20 (dk_at dksX13_init_1 0 rfl rfl)
theorem dX13_init_25 : decode cX13_init 25 = .ok (.return_, 1) := dk_177 (dk_at dksX13_init_1 3 rfl rfl)
theorem q99 : (Jvm.Cond.initialized "ConditionWise$Prohibition") ∈ lw_all := lw_g (lw_at lw_m1 45 rfl) rfl
theorem q608 : (Jvm.Cond.instanceMethod ({ cls := "ConditionWise$Prohibition", name := "forbids", desc := "(I)Z" } : Jvm.MethodName)) ∈ lw_all := lw_g (lw_at lw_m3 74 rfl) rfl
theorem q609 : (Jvm.Cond.selects "ConditionWise$Prohibition" ({ cls := "ConditionWise$Prohibition", name := "forbids", desc := "(I)Z" } : Jvm.MethodName) ({ cls := "ConditionWise$Prohibition", name := "forbids", desc := "(I)Z" } : Jvm.MethodName)) ∈ lw_all := lw_g (lw_at lw_m3 75 rfl) rfl
theorem q610 : (Jvm.Cond.code ({ cls := "ConditionWise$Prohibition", name := "forbids", desc := "(I)Z" } : Jvm.MethodName) prog_9_method_2_code (2 : Nat) (Option.some Jvm.ClassFile.FieldType.boolean)) ∈ lw_all := lw_g (lw_at lw_m3 76 rfl) rfl
theorem q712 : (Jvm.Cond.selects "ConditionWise$Prohibition" ({ cls := "java/lang/Object", name := "getClass", desc := "()Ljava/lang/Class;" } : Jvm.MethodName) ({ cls := "java/lang/Object", name := "getClass", desc := "()Ljava/lang/Class;" } : Jvm.MethodName)) ∈ lw_all := lw_g (lw_at lw_m3 178 rfl) rfl
theorem q1457 : (Jvm.Cond.instantiable "ConditionWise$Prohibition" (4 : Nat)) ∈ lw_all := lw_g (lw_at lw_m6 203 rfl) rfl
theorem q1459 : (Jvm.Cond.instanceMethod ({ cls := "ConditionWise$Prohibition", name := "<init>", desc := "(IZIZ)V" } : Jvm.MethodName)) ∈ lw_all := lw_g (lw_at lw_m6 205 rfl) rfl
theorem q1460 : (Jvm.Cond.code ({ cls := "ConditionWise$Prohibition", name := "<init>", desc := "(IZIZ)V" } : Jvm.MethodName) prog_9_method_1_code (5 : Nat) (Option.none : Option Jvm.ClassFile.FieldType)) ∈ lw_all := lw_g (lw_at lw_m6 206 rfl) rfl
theorem q1461 : (Jvm.Cond.methodLink "ConditionWise$Prohibition" (1 : Nat) ({ cls := "java/lang/Record", name := "<init>", desc := "()V" } : Jvm.MethodName)) ∈ lw_all := lw_g (lw_at lw_m6 207 rfl) rfl
theorem q1462 : (Jvm.Cond.fieldLink "ConditionWise$Prohibition" (7 : Nat) "ConditionWise$Prohibition" "letter" "I") ∈ lw_all := lw_g (lw_at lw_m6 208 rfl) rfl
theorem q1463 : (Jvm.Cond.fieldLink "ConditionWise$Prohibition" (13 : Nat) "ConditionWise$Prohibition" "value" "Z") ∈ lw_all := lw_g (lw_at lw_m6 209 rfl) rfl
theorem q1464 : (Jvm.Cond.fieldLink "ConditionWise$Prohibition" (17 : Nat) "ConditionWise$Prohibition" "other" "I") ∈ lw_all := lw_g (lw_at lw_m6 210 rfl) rfl
theorem q1465 : (Jvm.Cond.fieldLink "ConditionWise$Prohibition" (20 : Nat) "ConditionWise$Prohibition" "otherValue" "Z") ∈ lw_all := lw_g (lw_at lw_m6 211 rfl) rfl
theorem q1466 : (Jvm.Cond.laysFinal "ConditionWise$Prohibition" "ConditionWise$Prohibition" "letter" "I") ∈ lw_all := lw_g (lw_at lw_m6 212 rfl) rfl
theorem q1467 : (Jvm.Cond.soleField "ConditionWise$Prohibition" "letter") ∈ lw_all := lw_g (lw_at lw_m6 213 rfl) rfl
theorem q1468 : (Jvm.Cond.laysFinal "ConditionWise$Prohibition" "ConditionWise$Prohibition" "value" "Z") ∈ lw_all := lw_g (lw_at lw_m6 214 rfl) rfl
theorem q1469 : (Jvm.Cond.soleField "ConditionWise$Prohibition" "value") ∈ lw_all := lw_g (lw_at lw_m6 215 rfl) rfl
theorem q1470 : (Jvm.Cond.laysFinal "ConditionWise$Prohibition" "ConditionWise$Prohibition" "other" "I") ∈ lw_all := lw_g (lw_at lw_m6 216 rfl) rfl
theorem q1471 : (Jvm.Cond.soleField "ConditionWise$Prohibition" "other") ∈ lw_all := lw_g (lw_at lw_m6 217 rfl) rfl
theorem q1472 : (Jvm.Cond.laysFinal "ConditionWise$Prohibition" "ConditionWise$Prohibition" "otherValue" "Z") ∈ lw_all := lw_g (lw_at lw_m6 218 rfl) rfl
theorem q1473 : (Jvm.Cond.soleField "ConditionWise$Prohibition" "otherValue") ∈ lw_all := lw_g (lw_at lw_m6 219 rfl) rfl
theorem q1474 : (Jvm.Cond.superclass "ConditionWise$Prohibition" "java/lang/Record") ∈ lw_all := lw_g (lw_at lw_m6 220 rfl) rfl
theorem q2170 : (Jvm.Cond.castable "ConditionWise$Prohibition" "java/lang/Object") ∈ lw_tbl := lw_at lw_m9 196 rfl
theorem in_X13 : ∀ w ∈ wsX130, w ∈ lw_all := lw_in wsX130 [1466, 1468, 1470, 1472] (by decide +kernel) (by decide +kernel)
/-! ConditionWise$Table -/
set_option maxRecDepth 100000
def RX14 : String := "ConditionWise$Table"
def TX14 : u_T := fun k => match k with
  | 0 => ("ConditionWise$Table", "decision", "LConditionWise$Decision;", true)
  | 1 => ("ConditionWise$Table", "rule", "I", true)
  | 2 => ("ConditionWise$Table", "allowed", "I", true)
  | 3 => ("ConditionWise$Table", "outcomes", "[Z", true)
  | 4 => ("ConditionWise$Table", "values", "[I", true)
  | 5 => ("ConditionWise$Table", "asked", "[I", true)
  | 6 => ("ConditionWise$Table", "deciding", "[I", true)
  | 7 => ("ConditionWise$Table", "partners", "[[I", true)
  | _ => ("ConditionWise$Table", "this$0", "LConditionWise;", true)
def tyX14 : Nat → FieldType := fun k => match k with
  | 0 => .object "ConditionWise$Decision"
  | 1 => .int
  | 2 => .int
  | 3 => .array .boolean
  | 4 => .array .int
  | 5 => .array .int
  | 6 => .array .int
  | 7 => .array (.array .int)
  | _ => .object "ConditionWise"
abbrev wsX140 : List Cond := u_ws RX14 TX14 9
theorem nmX14 : ∀ a, a < 9 → ∀ b, b < 9 → a ≠ b → (TX14 a).2.1 ≠ (TX14 b).2.1 := by decide +kernel
theorem tyX14_ok : ∀ k, k < 9 → parseFieldDescriptor (TX14 k).2.2.1 = some (tyX14 k) := by decide +kernel
abbrev cX14_init : ByteArray := prog_12_method_1_code
def yX14_init : MethodName := ⟨RX14, "<init>", "(LConditionWise;LConditionWise$Decision;I)V"⟩
def dkwX14_init_9 : List UInt8 := [180, 0, 69, 190, 162, 0, 15, 42, 21, 4, 182, 0, 72, 132, 4, 1, 167, 255, 237, 177]
abbrev dktX14_init_9 : List UInt8 := dkwX14_init_9 ++ []
def dkwX14_init_8 : List UInt8 := [167, 255, 136, 42, 44, 180, 0, 55, 190, 16, 16, 197, 0, 67, 2, 181, 0, 69, 3, 54, 4, 21, 4, 42]
abbrev dktX14_init_8 : List UInt8 := dkwX14_init_8 ++ dktX14_init_9
def dkwX14_init_7 : List UInt8 := [153, 0, 10, 4, 21, 6, 120, 167, 0, 4, 3, 128, 79, 132, 6, 1, 167, 255, 186, 132, 4, 1]
abbrev dktX14_init_7 : List UInt8 := dkwX14_init_7 ++ dktX14_init_8
def dkwX14_init_6 : List UInt8 := [120, 167, 0, 4, 3, 128, 79, 42, 180, 0, 33, 21, 4, 92, 46, 44, 21, 6, 21, 4, 182, 0, 63]
abbrev dktX14_init_6 : List UInt8 := dkwX14_init_6 ++ dktX14_init_7
def dkwX14_init_5 : List UInt8 := [162, 0, 66, 42, 180, 0, 30, 21, 4, 92, 46, 25, 5, 21, 6, 182, 0, 58, 153, 0, 10, 4, 21, 6]
abbrev dktX14_init_5 : List UInt8 := dkwX14_init_5 ++ dktX14_init_6
def dkwX14_init_4 : List UInt8 := [21, 4, 182, 0, 49, 79, 44, 21, 4, 182, 0, 52, 58, 5, 3, 54, 6, 21, 6, 44, 180, 0, 55, 190]
abbrev dktX14_init_4 : List UInt8 := dkwX14_init_4 ++ dktX14_init_5
def dkwX14_init_3 : List UInt8 := [162, 0, 119, 42, 180, 0, 22, 21, 4, 44, 21, 4, 182, 0, 43, 84, 42, 180, 0, 26, 21, 4, 44]
abbrev dktX14_init_3 : List UInt8 := dkwX14_init_3 ++ dktX14_init_4
def dkwX14_init_2 : List UInt8 := [188, 10, 181, 0, 33, 42, 44, 181, 0, 36, 42, 29, 181, 0, 40, 3, 54, 4, 21, 4, 16, 16]
abbrev dktX14_init_2 : List UInt8 := dkwX14_init_2 ++ dktX14_init_3
def dkwX14_init_1 : List UInt8 := [188, 4, 181, 0, 22, 42, 16, 16, 188, 10, 181, 0, 26, 42, 16, 16, 188, 10, 181, 0, 30, 42, 16, 16]
abbrev dktX14_init_1 : List UInt8 := dkwX14_init_1 ++ dktX14_init_2
def dkwX14_init_0 : List UInt8 := [42, 43, 181, 0, 3, 42, 183, 0, 9, 42, 42, 180, 0, 3, 182, 0, 15, 181, 0, 19, 42, 16, 16]
abbrev dktX14_init_0 : List UInt8 := dkwX14_init_0 ++ dktX14_init_1
theorem dksX14_init_0 : cX14_init.data.toList.drop 0 = dktX14_init_0 := by decide +kernel
theorem dksX14_init_1 : cX14_init.data.toList.drop 23 = dktX14_init_1 := dk_seg dksX14_init_0 23 rfl rfl
theorem dksX14_init_2 : cX14_init.data.toList.drop 47 = dktX14_init_2 := dk_seg dksX14_init_1 24 rfl rfl
theorem dksX14_init_3 : cX14_init.data.toList.drop 69 = dktX14_init_3 := dk_seg dksX14_init_2 22 rfl rfl
theorem dksX14_init_4 : cX14_init.data.toList.drop 92 = dktX14_init_4 := dk_seg dksX14_init_3 23 rfl rfl
theorem dksX14_init_5 : cX14_init.data.toList.drop 116 = dktX14_init_5 := dk_seg dksX14_init_4 24 rfl rfl
theorem dksX14_init_6 : cX14_init.data.toList.drop 140 = dktX14_init_6 := dk_seg dksX14_init_5 24 rfl rfl
theorem dksX14_init_7 : cX14_init.data.toList.drop 163 = dktX14_init_7 := dk_seg dksX14_init_6 23 rfl rfl
theorem dksX14_init_8 : cX14_init.data.toList.drop 185 = dktX14_init_8 := dk_seg dksX14_init_7 22 rfl rfl
theorem dksX14_init_9 : cX14_init.data.toList.drop 209 = dktX14_init_9 := dk_seg dksX14_init_8 24 rfl rfl
theorem dX14_init_0 : decode cX14_init 0 = .ok (.aload_n 0, 1) := dk_42 (dk_at dksX14_init_0 0 rfl rfl)
theorem dX14_init_1 : decode cX14_init 1 = .ok (.aload_n 1, 1) := dk_43 (dk_at dksX14_init_0 1 rfl rfl)
theorem dX14_init_2 : decode cX14_init 2 = .ok (.putfield 3, 3) := dk_181 0 3 (dk_at dksX14_init_0 2 rfl rfl)
theorem dX14_init_5 : decode cX14_init 5 = .ok (.aload_n 0, 1) := dk_42 (dk_at dksX14_init_0 5 rfl rfl)
theorem dX14_init_6 : decode cX14_init 6 = .ok (.invokespecial 9, 3) := dk_183 0 9 (dk_at dksX14_init_0 6 rfl rfl)
theorem dX14_init_9 : decode cX14_init 9 = .ok (.aload_n 0, 1) := dk_42 (dk_at dksX14_init_0 9 rfl rfl)
theorem dX14_init_10 : decode cX14_init 10 = .ok (.aload_n 0, 1) := dk_42 (dk_at dksX14_init_0 10 rfl rfl)
theorem dX14_init_11 : decode cX14_init 11 = .ok (.getfield 3, 3) := dk_180 0 3 (dk_at dksX14_init_0 11 rfl rfl)
theorem dX14_init_14 : decode cX14_init 14 = .ok (.invokevirtual 15, 3) := dk_182 0 15 (dk_at dksX14_init_0 14 rfl rfl)
theorem dX14_init_17 : decode cX14_init 17 = .ok (.putfield 19, 3) := dk_181 0 19 (dk_at dksX14_init_0 17 rfl rfl)
theorem dX14_init_20 : decode cX14_init 20 = .ok (.aload_n 0, 1) := dk_42 (dk_at dksX14_init_0 20 rfl rfl)
theorem dX14_init_21 : decode cX14_init 21 = .ok (.bipush 16, 2) := dk_16 16 (dk_at dksX14_init_0 21 rfl rfl)
theorem dX14_init_23 : decode cX14_init 23 = .ok (.newarray .boolean, 2) := dk_188_4 (dk_at dksX14_init_1 0 rfl rfl)
theorem dX14_init_25 : decode cX14_init 25 = .ok (.putfield 22, 3) := dk_181 0 22 (dk_at dksX14_init_1 2 rfl rfl)
theorem dX14_init_28 : decode cX14_init 28 = .ok (.aload_n 0, 1) := dk_42 (dk_at dksX14_init_1 5 rfl rfl)
theorem dX14_init_29 : decode cX14_init 29 = .ok (.bipush 16, 2) := dk_16 16 (dk_at dksX14_init_1 6 rfl rfl)
theorem dX14_init_31 : decode cX14_init 31 = .ok (.newarray .int, 2) := dk_188_10 (dk_at dksX14_init_1 8 rfl rfl)
theorem dX14_init_33 : decode cX14_init 33 = .ok (.putfield 26, 3) := dk_181 0 26 (dk_at dksX14_init_1 10 rfl rfl)
theorem dX14_init_36 : decode cX14_init 36 = .ok (.aload_n 0, 1) := dk_42 (dk_at dksX14_init_1 13 rfl rfl)
theorem dX14_init_37 : decode cX14_init 37 = .ok (.bipush 16, 2) := dk_16 16 (dk_at dksX14_init_1 14 rfl rfl)
theorem dX14_init_39 : decode cX14_init 39 = .ok (.newarray .int, 2) := dk_188_10 (dk_at dksX14_init_1 16 rfl rfl)
theorem dX14_init_41 : decode cX14_init 41 = .ok (.putfield 30, 3) := dk_181 0 30 (dk_at dksX14_init_1 18 rfl rfl)
theorem dX14_init_44 : decode cX14_init 44 = .ok (.aload_n 0, 1) := dk_42 (dk_at dksX14_init_1 21 rfl rfl)
theorem dX14_init_45 : decode cX14_init 45 = .ok (.bipush 16, 2) := dk_16 16 (dk_at dksX14_init_1 22 rfl rfl)
theorem dX14_init_47 : decode cX14_init 47 = .ok (.newarray .int, 2) := dk_188_10 (dk_at dksX14_init_2 0 rfl rfl)
theorem dX14_init_49 : decode cX14_init 49 = .ok (.putfield 33, 3) := dk_181 0 33 (dk_at dksX14_init_2 2 rfl rfl)
theorem dX14_init_52 : decode cX14_init 52 = .ok (.aload_n 0, 1) := dk_42 (dk_at dksX14_init_2 5 rfl rfl)
theorem dX14_init_53 : decode cX14_init 53 = .ok (.aload_n 2, 1) := dk_44 (dk_at dksX14_init_2 6 rfl rfl)
theorem dX14_init_54 : decode cX14_init 54 = .ok (.putfield 36, 3) := dk_181 0 36 (dk_at dksX14_init_2 7 rfl rfl)
theorem dX14_init_57 : decode cX14_init 57 = .ok (.aload_n 0, 1) := dk_42 (dk_at dksX14_init_2 10 rfl rfl)
theorem dX14_init_58 : decode cX14_init 58 = .ok (.iload_n 3, 1) := dk_29 (dk_at dksX14_init_2 11 rfl rfl)
theorem dX14_init_59 : decode cX14_init 59 = .ok (.putfield 40, 3) := dk_181 0 40 (dk_at dksX14_init_2 12 rfl rfl)
theorem dX14_init_62 : decode cX14_init 62 = .ok (.iconst 0, 1) := dk_3 (dk_at dksX14_init_2 15 rfl rfl)
theorem dX14_init_63 : decode cX14_init 63 = .ok (.istore 4, 2) := dk_54 4 (dk_at dksX14_init_2 16 rfl rfl)
theorem dX14_init_65 : decode cX14_init 65 = .ok (.iload 4, 2) := dk_21 4 (dk_at dksX14_init_2 18 rfl rfl)
theorem dX14_init_67 : decode cX14_init 67 = .ok (.bipush 16, 2) := dk_16 16 (dk_at dksX14_init_2 20 rfl rfl)
theorem dX14_init_69 : decode cX14_init 69 = .ok (.if_icmp .ge 119, 3) := dk_162 0 119 (dk_at dksX14_init_3 0 rfl rfl)
theorem dX14_init_72 : decode cX14_init 72 = .ok (.aload_n 0, 1) := dk_42 (dk_at dksX14_init_3 3 rfl rfl)
theorem dX14_init_73 : decode cX14_init 73 = .ok (.getfield 22, 3) := dk_180 0 22 (dk_at dksX14_init_3 4 rfl rfl)
theorem dX14_init_76 : decode cX14_init 76 = .ok (.iload 4, 2) := dk_21 4 (dk_at dksX14_init_3 7 rfl rfl)
theorem dX14_init_78 : decode cX14_init 78 = .ok (.aload_n 2, 1) := dk_44 (dk_at dksX14_init_3 9 rfl rfl)
theorem dX14_init_79 : decode cX14_init 79 = .ok (.iload 4, 2) := dk_21 4 (dk_at dksX14_init_3 10 rfl rfl)
theorem dX14_init_81 : decode cX14_init 81 = .ok (.invokevirtual 43, 3) := dk_182 0 43 (dk_at dksX14_init_3 12 rfl rfl)
theorem dX14_init_84 : decode cX14_init 84 = .ok (.bastore, 1) := dk_84 (dk_at dksX14_init_3 15 rfl rfl)
theorem dX14_init_85 : decode cX14_init 85 = .ok (.aload_n 0, 1) := dk_42 (dk_at dksX14_init_3 16 rfl rfl)
theorem dX14_init_86 : decode cX14_init 86 = .ok (.getfield 26, 3) := dk_180 0 26 (dk_at dksX14_init_3 17 rfl rfl)
theorem dX14_init_89 : decode cX14_init 89 = .ok (.iload 4, 2) := dk_21 4 (dk_at dksX14_init_3 20 rfl rfl)
theorem dX14_init_91 : decode cX14_init 91 = .ok (.aload_n 2, 1) := dk_44 (dk_at dksX14_init_3 22 rfl rfl)
theorem dX14_init_92 : decode cX14_init 92 = .ok (.iload 4, 2) := dk_21 4 (dk_at dksX14_init_4 0 rfl rfl)
theorem dX14_init_94 : decode cX14_init 94 = .ok (.invokevirtual 49, 3) := dk_182 0 49 (dk_at dksX14_init_4 2 rfl rfl)
theorem dX14_init_97 : decode cX14_init 97 = .ok (.iastore, 1) := dk_79 (dk_at dksX14_init_4 5 rfl rfl)
theorem dX14_init_98 : decode cX14_init 98 = .ok (.aload_n 2, 1) := dk_44 (dk_at dksX14_init_4 6 rfl rfl)
theorem dX14_init_99 : decode cX14_init 99 = .ok (.iload 4, 2) := dk_21 4 (dk_at dksX14_init_4 7 rfl rfl)
theorem dX14_init_101 : decode cX14_init 101 = .ok (.invokevirtual 52, 3) := dk_182 0 52 (dk_at dksX14_init_4 9 rfl rfl)
theorem dX14_init_104 : decode cX14_init 104 = .ok (.astore 5, 2) := dk_58 5 (dk_at dksX14_init_4 12 rfl rfl)
theorem dX14_init_106 : decode cX14_init 106 = .ok (.iconst 0, 1) := dk_3 (dk_at dksX14_init_4 14 rfl rfl)
theorem dX14_init_107 : decode cX14_init 107 = .ok (.istore 6, 2) := dk_54 6 (dk_at dksX14_init_4 15 rfl rfl)
theorem dX14_init_109 : decode cX14_init 109 = .ok (.iload 6, 2) := dk_21 6 (dk_at dksX14_init_4 17 rfl rfl)
theorem dX14_init_111 : decode cX14_init 111 = .ok (.aload_n 2, 1) := dk_44 (dk_at dksX14_init_4 19 rfl rfl)
theorem dX14_init_112 : decode cX14_init 112 = .ok (.getfield 55, 3) := dk_180 0 55 (dk_at dksX14_init_4 20 rfl rfl)
theorem dX14_init_115 : decode cX14_init 115 = .ok (.arraylength, 1) := dk_190 (dk_at dksX14_init_4 23 rfl rfl)
theorem dX14_init_116 : decode cX14_init 116 = .ok (.if_icmp .ge 66, 3) := dk_162 0 66 (dk_at dksX14_init_5 0 rfl rfl)
theorem dX14_init_119 : decode cX14_init 119 = .ok (.aload_n 0, 1) := dk_42 (dk_at dksX14_init_5 3 rfl rfl)
theorem dX14_init_120 : decode cX14_init 120 = .ok (.getfield 30, 3) := dk_180 0 30 (dk_at dksX14_init_5 4 rfl rfl)
theorem dX14_init_123 : decode cX14_init 123 = .ok (.iload 4, 2) := dk_21 4 (dk_at dksX14_init_5 7 rfl rfl)
theorem dX14_init_125 : decode cX14_init 125 = .ok (.dup2, 1) := dk_92 (dk_at dksX14_init_5 9 rfl rfl)
theorem dX14_init_126 : decode cX14_init 126 = .ok (.iaload, 1) := dk_46 (dk_at dksX14_init_5 10 rfl rfl)
theorem dX14_init_127 : decode cX14_init 127 = .ok (.aload 5, 2) := dk_25 5 (dk_at dksX14_init_5 11 rfl rfl)
theorem dX14_init_129 : decode cX14_init 129 = .ok (.iload 6, 2) := dk_21 6 (dk_at dksX14_init_5 13 rfl rfl)
theorem dX14_init_131 : decode cX14_init 131 = .ok (.invokevirtual 58, 3) := dk_182 0 58 (dk_at dksX14_init_5 15 rfl rfl)
theorem dX14_init_134 : decode cX14_init 134 = .ok (.ifCond .eq 10, 3) := dk_153 0 10 (dk_at dksX14_init_5 18 rfl rfl)
theorem dX14_init_137 : decode cX14_init 137 = .ok (.iconst 1, 1) := dk_4 (dk_at dksX14_init_5 21 rfl rfl)
theorem dX14_init_138 : decode cX14_init 138 = .ok (.iload 6, 2) := dk_21 6 (dk_at dksX14_init_5 22 rfl rfl)
theorem dX14_init_140 : decode cX14_init 140 = .ok (.ishl, 1) := dk_120 (dk_at dksX14_init_6 0 rfl rfl)
theorem dX14_init_141 : decode cX14_init 141 = .ok (.goto 4, 3) := dk_167 0 4 (dk_at dksX14_init_6 1 rfl rfl)
theorem dX14_init_144 : decode cX14_init 144 = .ok (.iconst 0, 1) := dk_3 (dk_at dksX14_init_6 4 rfl rfl)
theorem dX14_init_145 : decode cX14_init 145 = .ok (.ior, 1) := dk_128 (dk_at dksX14_init_6 5 rfl rfl)
theorem dX14_init_146 : decode cX14_init 146 = .ok (.iastore, 1) := dk_79 (dk_at dksX14_init_6 6 rfl rfl)
theorem dX14_init_147 : decode cX14_init 147 = .ok (.aload_n 0, 1) := dk_42 (dk_at dksX14_init_6 7 rfl rfl)
theorem dX14_init_148 : decode cX14_init 148 = .ok (.getfield 33, 3) := dk_180 0 33 (dk_at dksX14_init_6 8 rfl rfl)
theorem dX14_init_151 : decode cX14_init 151 = .ok (.iload 4, 2) := dk_21 4 (dk_at dksX14_init_6 11 rfl rfl)
theorem dX14_init_153 : decode cX14_init 153 = .ok (.dup2, 1) := dk_92 (dk_at dksX14_init_6 13 rfl rfl)
theorem dX14_init_154 : decode cX14_init 154 = .ok (.iaload, 1) := dk_46 (dk_at dksX14_init_6 14 rfl rfl)
theorem dX14_init_155 : decode cX14_init 155 = .ok (.aload_n 2, 1) := dk_44 (dk_at dksX14_init_6 15 rfl rfl)
theorem dX14_init_156 : decode cX14_init 156 = .ok (.iload 6, 2) := dk_21 6 (dk_at dksX14_init_6 16 rfl rfl)
theorem dX14_init_158 : decode cX14_init 158 = .ok (.iload 4, 2) := dk_21 4 (dk_at dksX14_init_6 18 rfl rfl)
theorem dX14_init_160 : decode cX14_init 160 = .ok (.invokevirtual 63, 3) := dk_182 0 63 (dk_at dksX14_init_6 20 rfl rfl)
theorem dX14_init_163 : decode cX14_init 163 = .ok (.ifCond .eq 10, 3) := dk_153 0 10 (dk_at dksX14_init_7 0 rfl rfl)
theorem dX14_init_166 : decode cX14_init 166 = .ok (.iconst 1, 1) := dk_4 (dk_at dksX14_init_7 3 rfl rfl)
theorem dX14_init_167 : decode cX14_init 167 = .ok (.iload 6, 2) := dk_21 6 (dk_at dksX14_init_7 4 rfl rfl)
theorem dX14_init_169 : decode cX14_init 169 = .ok (.ishl, 1) := dk_120 (dk_at dksX14_init_7 6 rfl rfl)
theorem dX14_init_170 : decode cX14_init 170 = .ok (.goto 4, 3) := dk_167 0 4 (dk_at dksX14_init_7 7 rfl rfl)
theorem dX14_init_173 : decode cX14_init 173 = .ok (.iconst 0, 1) := dk_3 (dk_at dksX14_init_7 10 rfl rfl)
theorem dX14_init_174 : decode cX14_init 174 = .ok (.ior, 1) := dk_128 (dk_at dksX14_init_7 11 rfl rfl)
theorem dX14_init_175 : decode cX14_init 175 = .ok (.iastore, 1) := dk_79 (dk_at dksX14_init_7 12 rfl rfl)
theorem dX14_init_176 : decode cX14_init 176 = .ok (.iinc 6 1, 3) := dk_132 6 1 (dk_at dksX14_init_7 13 rfl rfl)
theorem dX14_init_179 : decode cX14_init 179 = .ok (.goto (-70), 3) := dk_167 255 186 (dk_at dksX14_init_7 16 rfl rfl)
theorem dX14_init_182 : decode cX14_init 182 = .ok (.iinc 4 1, 3) := dk_132 4 1 (dk_at dksX14_init_7 19 rfl rfl)
theorem dX14_init_185 : decode cX14_init 185 = .ok (.goto (-120), 3) := dk_167 255 136 (dk_at dksX14_init_8 0 rfl rfl)
theorem dX14_init_188 : decode cX14_init 188 = .ok (.aload_n 0, 1) := dk_42 (dk_at dksX14_init_8 3 rfl rfl)
theorem dX14_init_189 : decode cX14_init 189 = .ok (.aload_n 2, 1) := dk_44 (dk_at dksX14_init_8 4 rfl rfl)
theorem dX14_init_190 : decode cX14_init 190 = .ok (.getfield 55, 3) := dk_180 0 55 (dk_at dksX14_init_8 5 rfl rfl)
theorem dX14_init_193 : decode cX14_init 193 = .ok (.arraylength, 1) := dk_190 (dk_at dksX14_init_8 8 rfl rfl)
theorem dX14_init_194 : decode cX14_init 194 = .ok (.bipush 16, 2) := dk_16 16 (dk_at dksX14_init_8 9 rfl rfl)
theorem dX14_init_196 : decode cX14_init 196 = .ok (.multianewarray 67 2, 4) := by decide +kernel
theorem dX14_init_200 : decode cX14_init 200 = .ok (.putfield 69, 3) := dk_181 0 69 (dk_at dksX14_init_8 15 rfl rfl)
theorem dX14_init_203 : decode cX14_init 203 = .ok (.iconst 0, 1) := dk_3 (dk_at dksX14_init_8 18 rfl rfl)
theorem dX14_init_204 : decode cX14_init 204 = .ok (.istore 4, 2) := dk_54 4 (dk_at dksX14_init_8 19 rfl rfl)
theorem dX14_init_206 : decode cX14_init 206 = .ok (.iload 4, 2) := dk_21 4 (dk_at dksX14_init_8 21 rfl rfl)
theorem dX14_init_208 : decode cX14_init 208 = .ok (.aload_n 0, 1) := dk_42 (dk_at dksX14_init_8 23 rfl rfl)
theorem dX14_init_209 : decode cX14_init 209 = .ok (.getfield 69, 3) := dk_180 0 69 (dk_at dksX14_init_9 0 rfl rfl)
theorem dX14_init_212 : decode cX14_init 212 = .ok (.arraylength, 1) := dk_190 (dk_at dksX14_init_9 3 rfl rfl)
theorem dX14_init_213 : decode cX14_init 213 = .ok (.if_icmp .ge 15, 3) := dk_162 0 15 (dk_at dksX14_init_9 4 rfl rfl)
theorem dX14_init_216 : decode cX14_init 216 = .ok (.aload_n 0, 1) := dk_42 (dk_at dksX14_init_9 7 rfl rfl)
theorem dX14_init_217 : decode cX14_init 217 = .ok (.iload 4, 2) := dk_21 4 (dk_at dksX14_init_9 8 rfl rfl)
theorem dX14_init_219 : decode cX14_init 219 = .ok (.invokevirtual 72, 3) := dk_182 0 72 (dk_at dksX14_init_9 10 rfl rfl)
theorem dX14_init_222 : decode cX14_init 222 = .ok (.iinc 4 1, 3) := dk_132 4 1 (dk_at dksX14_init_9 13 rfl rfl)
theorem dX14_init_225 : decode cX14_init 225 = .ok (.goto (-19), 3) := dk_167 255 237 (dk_at dksX14_init_9 16 rfl rfl)
theorem dX14_init_228 : decode cX14_init 228 = .ok (.return_, 1) := dk_177 (dk_at dksX14_init_9 19 rfl rfl)
abbrev cX14_pairUp : ByteArray := prog_12_method_2_code
def yX14_pairUp : MethodName := ⟨RX14, "pairUp", "(I)V"⟩
def dkwX14_pairUp_2 : List UInt8 := [167, 255, 219, 132, 2, 1, 167, 255, 205, 177]
abbrev dktX14_pairUp_2 : List UInt8 := dkwX14_pairUp_2 ++ []
def dkwX14_pairUp_1 : List UInt8 := [46, 42, 27, 28, 29, 182, 0, 76, 153, 0, 9, 4, 29, 120, 167, 0, 4, 3, 128, 79, 132, 3, 1]
abbrev dktX14_pairUp_1 : List UInt8 := dkwX14_pairUp_1 ++ dktX14_pairUp_2
def dkwX14_pairUp_0 : List UInt8 := [3, 61, 28, 16, 16, 162, 0, 51, 3, 62, 29, 16, 16, 162, 0, 37, 42, 180, 0, 69, 27, 50, 28, 92]
abbrev dktX14_pairUp_0 : List UInt8 := dkwX14_pairUp_0 ++ dktX14_pairUp_1
theorem dksX14_pairUp_0 : cX14_pairUp.data.toList.drop 0 = dktX14_pairUp_0 := by decide +kernel
theorem dksX14_pairUp_1 : cX14_pairUp.data.toList.drop 24 = dktX14_pairUp_1 := dk_seg dksX14_pairUp_0 24 rfl rfl
theorem dksX14_pairUp_2 : cX14_pairUp.data.toList.drop 47 = dktX14_pairUp_2 := dk_seg dksX14_pairUp_1 23 rfl rfl
theorem dX14_pairUp_0 : decode cX14_pairUp 0 = .ok (.iconst 0, 1) := dk_3 (dk_at dksX14_pairUp_0 0 rfl rfl)
theorem dX14_pairUp_1 : decode cX14_pairUp 1 = .ok (.istore_n 2, 1) := dk_61 (dk_at dksX14_pairUp_0 1 rfl rfl)
theorem dX14_pairUp_2 : decode cX14_pairUp 2 = .ok (.iload_n 2, 1) := dk_28 (dk_at dksX14_pairUp_0 2 rfl rfl)
theorem dX14_pairUp_3 : decode cX14_pairUp 3 = .ok (.bipush 16, 2) := dk_16 16 (dk_at dksX14_pairUp_0 3 rfl rfl)
theorem dX14_pairUp_5 : decode cX14_pairUp 5 = .ok (.if_icmp .ge 51, 3) := dk_162 0 51 (dk_at dksX14_pairUp_0 5 rfl rfl)
theorem dX14_pairUp_8 : decode cX14_pairUp 8 = .ok (.iconst 0, 1) := dk_3 (dk_at dksX14_pairUp_0 8 rfl rfl)
theorem dX14_pairUp_9 : decode cX14_pairUp 9 = .ok (.istore_n 3, 1) := dk_62 (dk_at dksX14_pairUp_0 9 rfl rfl)
theorem dX14_pairUp_10 : decode cX14_pairUp 10 = .ok (.iload_n 3, 1) := dk_29 (dk_at dksX14_pairUp_0 10 rfl rfl)
theorem dX14_pairUp_11 : decode cX14_pairUp 11 = .ok (.bipush 16, 2) := dk_16 16 (dk_at dksX14_pairUp_0 11 rfl rfl)
theorem dX14_pairUp_13 : decode cX14_pairUp 13 = .ok (.if_icmp .ge 37, 3) := dk_162 0 37 (dk_at dksX14_pairUp_0 13 rfl rfl)
theorem dX14_pairUp_16 : decode cX14_pairUp 16 = .ok (.aload_n 0, 1) := dk_42 (dk_at dksX14_pairUp_0 16 rfl rfl)
theorem dX14_pairUp_17 : decode cX14_pairUp 17 = .ok (.getfield 69, 3) := dk_180 0 69 (dk_at dksX14_pairUp_0 17 rfl rfl)
theorem dX14_pairUp_20 : decode cX14_pairUp 20 = .ok (.iload_n 1, 1) := dk_27 (dk_at dksX14_pairUp_0 20 rfl rfl)
theorem dX14_pairUp_21 : decode cX14_pairUp 21 = .ok (.aaload, 1) := dk_50 (dk_at dksX14_pairUp_0 21 rfl rfl)
theorem dX14_pairUp_22 : decode cX14_pairUp 22 = .ok (.iload_n 2, 1) := dk_28 (dk_at dksX14_pairUp_0 22 rfl rfl)
theorem dX14_pairUp_23 : decode cX14_pairUp 23 = .ok (.dup2, 1) := dk_92 (dk_at dksX14_pairUp_0 23 rfl rfl)
theorem dX14_pairUp_24 : decode cX14_pairUp 24 = .ok (.iaload, 1) := dk_46 (dk_at dksX14_pairUp_1 0 rfl rfl)
theorem dX14_pairUp_25 : decode cX14_pairUp 25 = .ok (.aload_n 0, 1) := dk_42 (dk_at dksX14_pairUp_1 1 rfl rfl)
theorem dX14_pairUp_26 : decode cX14_pairUp 26 = .ok (.iload_n 1, 1) := dk_27 (dk_at dksX14_pairUp_1 2 rfl rfl)
theorem dX14_pairUp_27 : decode cX14_pairUp 27 = .ok (.iload_n 2, 1) := dk_28 (dk_at dksX14_pairUp_1 3 rfl rfl)
theorem dX14_pairUp_28 : decode cX14_pairUp 28 = .ok (.iload_n 3, 1) := dk_29 (dk_at dksX14_pairUp_1 4 rfl rfl)
theorem dX14_pairUp_29 : decode cX14_pairUp 29 = .ok (.invokevirtual 76, 3) := dk_182 0 76 (dk_at dksX14_pairUp_1 5 rfl rfl)
theorem dX14_pairUp_32 : decode cX14_pairUp 32 = .ok (.ifCond .eq 9, 3) := dk_153 0 9 (dk_at dksX14_pairUp_1 8 rfl rfl)
theorem dX14_pairUp_35 : decode cX14_pairUp 35 = .ok (.iconst 1, 1) := dk_4 (dk_at dksX14_pairUp_1 11 rfl rfl)
theorem dX14_pairUp_36 : decode cX14_pairUp 36 = .ok (.iload_n 3, 1) := dk_29 (dk_at dksX14_pairUp_1 12 rfl rfl)
theorem dX14_pairUp_37 : decode cX14_pairUp 37 = .ok (.ishl, 1) := dk_120 (dk_at dksX14_pairUp_1 13 rfl rfl)
theorem dX14_pairUp_38 : decode cX14_pairUp 38 = .ok (.goto 4, 3) := dk_167 0 4 (dk_at dksX14_pairUp_1 14 rfl rfl)
theorem dX14_pairUp_41 : decode cX14_pairUp 41 = .ok (.iconst 0, 1) := dk_3 (dk_at dksX14_pairUp_1 17 rfl rfl)
theorem dX14_pairUp_42 : decode cX14_pairUp 42 = .ok (.ior, 1) := dk_128 (dk_at dksX14_pairUp_1 18 rfl rfl)
theorem dX14_pairUp_43 : decode cX14_pairUp 43 = .ok (.iastore, 1) := dk_79 (dk_at dksX14_pairUp_1 19 rfl rfl)
theorem dX14_pairUp_44 : decode cX14_pairUp 44 = .ok (.iinc 3 1, 3) := dk_132 3 1 (dk_at dksX14_pairUp_1 20 rfl rfl)
theorem dX14_pairUp_47 : decode cX14_pairUp 47 = .ok (.goto (-37), 3) := dk_167 255 219 (dk_at dksX14_pairUp_2 0 rfl rfl)
theorem dX14_pairUp_50 : decode cX14_pairUp 50 = .ok (.iinc 2 1, 3) := dk_132 2 1 (dk_at dksX14_pairUp_2 3 rfl rfl)
theorem dX14_pairUp_53 : decode cX14_pairUp 53 = .ok (.goto (-51), 3) := dk_167 255 205 (dk_at dksX14_pairUp_2 6 rfl rfl)
theorem dX14_pairUp_56 : decode cX14_pairUp 56 = .ok (.return_, 1) := dk_177 (dk_at dksX14_pairUp_2 9 rfl rfl)
abbrev cX14_isPair : ByteArray := prog_12_method_3_code
def yX14_isPair : MethodName := ⟨RX14, "isPair", "(III)Z"⟩
def dkwX14_isPair_7 : List UInt8 := [42, 180, 0, 33, 29, 46, 126, 21, 4, 126, 153, 0, 7, 4, 167, 0, 4, 3, 172]
abbrev dktX14_isPair_7 : List UInt8 := dkwX14_isPair_7 ++ []
def dkwX14_isPair_6 : List UInt8 := [21, 5, 21, 7, 126, 21, 4, 160, 0, 7, 4, 167, 0, 31, 3, 167, 0, 27, 42, 180, 0, 33, 28, 46]
abbrev dktX14_isPair_6 : List UInt8 := dkwX14_isPair_6 ++ dktX14_isPair_7
def dkwX14_isPair_5 : List UInt8 := [21, 5, 21, 4, 160, 0, 7, 4, 167, 0, 57, 3, 167, 0, 53, 21, 7, 21, 4, 126, 153, 0, 17]
abbrev dktX14_isPair_5 : List UInt8 := dkwX14_isPair_5 ++ dktX14_isPair_6
def dkwX14_isPair_4 : List UInt8 := [171, 0, 0, 0, 66, 0, 0, 0, 2, 0, 0, 0, 0, 0, 0, 0, 25, 0, 0, 0, 1, 0, 0, 0, 40]
abbrev dktX14_isPair_4 : List UInt8 := dkwX14_isPair_4 ++ dktX14_isPair_5
def dkwX14_isPair_3 : List UInt8 := [154, 0, 5, 3, 172, 42, 180, 0, 30, 28, 46, 42, 180, 0, 30, 29, 46, 126, 54, 7, 42, 180, 0, 40]
abbrev dktX14_isPair_3 : List UInt8 := dkwX14_isPair_3 ++ dktX14_isPair_4
def dkwX14_isPair_2 : List UInt8 := [153, 0, 26, 42, 180, 0, 22, 28, 51, 42, 180, 0, 22, 29, 51, 159, 0, 11, 21, 5, 21, 4, 126]
abbrev dktX14_isPair_2 : List UInt8 := dkwX14_isPair_2 ++ dktX14_isPair_3
def dkwX14_isPair_1 : List UInt8 := [28, 122, 42, 180, 0, 19, 29, 122, 126, 4, 126, 4, 160, 0, 7, 4, 167, 0, 4, 3, 54, 6, 21, 6]
abbrev dktX14_isPair_1 : List UInt8 := dkwX14_isPair_1 ++ dktX14_isPair_2
def dkwX14_isPair_0 : List UInt8 := [4, 27, 120, 54, 4, 42, 180, 0, 26, 28, 46, 42, 180, 0, 26, 29, 46, 130, 54, 5, 42, 180, 0, 19]
abbrev dktX14_isPair_0 : List UInt8 := dkwX14_isPair_0 ++ dktX14_isPair_1
theorem dksX14_isPair_0 : cX14_isPair.data.toList.drop 0 = dktX14_isPair_0 := by decide +kernel
theorem dksX14_isPair_1 : cX14_isPair.data.toList.drop 24 = dktX14_isPair_1 := dk_seg dksX14_isPair_0 24 rfl rfl
theorem dksX14_isPair_2 : cX14_isPair.data.toList.drop 48 = dktX14_isPair_2 := dk_seg dksX14_isPair_1 24 rfl rfl
theorem dksX14_isPair_3 : cX14_isPair.data.toList.drop 71 = dktX14_isPair_3 := dk_seg dksX14_isPair_2 23 rfl rfl
theorem dksX14_isPair_4 : cX14_isPair.data.toList.drop 95 = dktX14_isPair_4 := dk_seg dksX14_isPair_3 24 rfl rfl
theorem dksX14_isPair_5 : cX14_isPair.data.toList.drop 120 = dktX14_isPair_5 := dk_seg dksX14_isPair_4 25 rfl rfl
theorem dksX14_isPair_6 : cX14_isPair.data.toList.drop 143 = dktX14_isPair_6 := dk_seg dksX14_isPair_5 23 rfl rfl
theorem dksX14_isPair_7 : cX14_isPair.data.toList.drop 167 = dktX14_isPair_7 := dk_seg dksX14_isPair_6 24 rfl rfl
theorem dX14_isPair_0 : decode cX14_isPair 0 = .ok (.iconst 1, 1) := dk_4 (dk_at dksX14_isPair_0 0 rfl rfl)
theorem dX14_isPair_1 : decode cX14_isPair 1 = .ok (.iload_n 1, 1) := dk_27 (dk_at dksX14_isPair_0 1 rfl rfl)
theorem dX14_isPair_2 : decode cX14_isPair 2 = .ok (.ishl, 1) := dk_120 (dk_at dksX14_isPair_0 2 rfl rfl)
theorem dX14_isPair_3 : decode cX14_isPair 3 = .ok (.istore 4, 2) := dk_54 4 (dk_at dksX14_isPair_0 3 rfl rfl)
theorem dX14_isPair_5 : decode cX14_isPair 5 = .ok (.aload_n 0, 1) := dk_42 (dk_at dksX14_isPair_0 5 rfl rfl)
theorem dX14_isPair_6 : decode cX14_isPair 6 = .ok (.getfield 26, 3) := dk_180 0 26 (dk_at dksX14_isPair_0 6 rfl rfl)
theorem dX14_isPair_9 : decode cX14_isPair 9 = .ok (.iload_n 2, 1) := dk_28 (dk_at dksX14_isPair_0 9 rfl rfl)
theorem dX14_isPair_10 : decode cX14_isPair 10 = .ok (.iaload, 1) := dk_46 (dk_at dksX14_isPair_0 10 rfl rfl)
theorem dX14_isPair_11 : decode cX14_isPair 11 = .ok (.aload_n 0, 1) := dk_42 (dk_at dksX14_isPair_0 11 rfl rfl)
theorem dX14_isPair_12 : decode cX14_isPair 12 = .ok (.getfield 26, 3) := dk_180 0 26 (dk_at dksX14_isPair_0 12 rfl rfl)
theorem dX14_isPair_15 : decode cX14_isPair 15 = .ok (.iload_n 3, 1) := dk_29 (dk_at dksX14_isPair_0 15 rfl rfl)
theorem dX14_isPair_16 : decode cX14_isPair 16 = .ok (.iaload, 1) := dk_46 (dk_at dksX14_isPair_0 16 rfl rfl)
theorem dX14_isPair_17 : decode cX14_isPair 17 = .ok (.ixor, 1) := dk_130 (dk_at dksX14_isPair_0 17 rfl rfl)
theorem dX14_isPair_18 : decode cX14_isPair 18 = .ok (.istore 5, 2) := dk_54 5 (dk_at dksX14_isPair_0 18 rfl rfl)
theorem dX14_isPair_20 : decode cX14_isPair 20 = .ok (.aload_n 0, 1) := dk_42 (dk_at dksX14_isPair_0 20 rfl rfl)
theorem dX14_isPair_21 : decode cX14_isPair 21 = .ok (.getfield 19, 3) := dk_180 0 19 (dk_at dksX14_isPair_0 21 rfl rfl)
theorem dX14_isPair_24 : decode cX14_isPair 24 = .ok (.iload_n 2, 1) := dk_28 (dk_at dksX14_isPair_1 0 rfl rfl)
theorem dX14_isPair_25 : decode cX14_isPair 25 = .ok (.ishr, 1) := dk_122 (dk_at dksX14_isPair_1 1 rfl rfl)
theorem dX14_isPair_26 : decode cX14_isPair 26 = .ok (.aload_n 0, 1) := dk_42 (dk_at dksX14_isPair_1 2 rfl rfl)
theorem dX14_isPair_27 : decode cX14_isPair 27 = .ok (.getfield 19, 3) := dk_180 0 19 (dk_at dksX14_isPair_1 3 rfl rfl)
theorem dX14_isPair_30 : decode cX14_isPair 30 = .ok (.iload_n 3, 1) := dk_29 (dk_at dksX14_isPair_1 6 rfl rfl)
theorem dX14_isPair_31 : decode cX14_isPair 31 = .ok (.ishr, 1) := dk_122 (dk_at dksX14_isPair_1 7 rfl rfl)
theorem dX14_isPair_32 : decode cX14_isPair 32 = .ok (.iand, 1) := dk_126 (dk_at dksX14_isPair_1 8 rfl rfl)
theorem dX14_isPair_33 : decode cX14_isPair 33 = .ok (.iconst 1, 1) := dk_4 (dk_at dksX14_isPair_1 9 rfl rfl)
theorem dX14_isPair_34 : decode cX14_isPair 34 = .ok (.iand, 1) := dk_126 (dk_at dksX14_isPair_1 10 rfl rfl)
theorem dX14_isPair_35 : decode cX14_isPair 35 = .ok (.iconst 1, 1) := dk_4 (dk_at dksX14_isPair_1 11 rfl rfl)
theorem dX14_isPair_36 : decode cX14_isPair 36 = .ok (.if_icmp .ne 7, 3) := dk_160 0 7 (dk_at dksX14_isPair_1 12 rfl rfl)
theorem dX14_isPair_39 : decode cX14_isPair 39 = .ok (.iconst 1, 1) := dk_4 (dk_at dksX14_isPair_1 15 rfl rfl)
theorem dX14_isPair_40 : decode cX14_isPair 40 = .ok (.goto 4, 3) := dk_167 0 4 (dk_at dksX14_isPair_1 16 rfl rfl)
theorem dX14_isPair_43 : decode cX14_isPair 43 = .ok (.iconst 0, 1) := dk_3 (dk_at dksX14_isPair_1 19 rfl rfl)
theorem dX14_isPair_44 : decode cX14_isPair 44 = .ok (.istore 6, 2) := dk_54 6 (dk_at dksX14_isPair_1 20 rfl rfl)
theorem dX14_isPair_46 : decode cX14_isPair 46 = .ok (.iload 6, 2) := dk_21 6 (dk_at dksX14_isPair_1 22 rfl rfl)
theorem dX14_isPair_48 : decode cX14_isPair 48 = .ok (.ifCond .eq 26, 3) := dk_153 0 26 (dk_at dksX14_isPair_2 0 rfl rfl)
theorem dX14_isPair_51 : decode cX14_isPair 51 = .ok (.aload_n 0, 1) := dk_42 (dk_at dksX14_isPair_2 3 rfl rfl)
theorem dX14_isPair_52 : decode cX14_isPair 52 = .ok (.getfield 22, 3) := dk_180 0 22 (dk_at dksX14_isPair_2 4 rfl rfl)
theorem dX14_isPair_55 : decode cX14_isPair 55 = .ok (.iload_n 2, 1) := dk_28 (dk_at dksX14_isPair_2 7 rfl rfl)
theorem dX14_isPair_56 : decode cX14_isPair 56 = .ok (.baload, 1) := dk_51 (dk_at dksX14_isPair_2 8 rfl rfl)
theorem dX14_isPair_57 : decode cX14_isPair 57 = .ok (.aload_n 0, 1) := dk_42 (dk_at dksX14_isPair_2 9 rfl rfl)
theorem dX14_isPair_58 : decode cX14_isPair 58 = .ok (.getfield 22, 3) := dk_180 0 22 (dk_at dksX14_isPair_2 10 rfl rfl)
theorem dX14_isPair_61 : decode cX14_isPair 61 = .ok (.iload_n 3, 1) := dk_29 (dk_at dksX14_isPair_2 13 rfl rfl)
theorem dX14_isPair_62 : decode cX14_isPair 62 = .ok (.baload, 1) := dk_51 (dk_at dksX14_isPair_2 14 rfl rfl)
theorem dX14_isPair_63 : decode cX14_isPair 63 = .ok (.if_icmp .eq 11, 3) := dk_159 0 11 (dk_at dksX14_isPair_2 15 rfl rfl)
theorem dX14_isPair_66 : decode cX14_isPair 66 = .ok (.iload 5, 2) := dk_21 5 (dk_at dksX14_isPair_2 18 rfl rfl)
theorem dX14_isPair_68 : decode cX14_isPair 68 = .ok (.iload 4, 2) := dk_21 4 (dk_at dksX14_isPair_2 20 rfl rfl)
theorem dX14_isPair_70 : decode cX14_isPair 70 = .ok (.iand, 1) := dk_126 (dk_at dksX14_isPair_2 22 rfl rfl)
theorem dX14_isPair_71 : decode cX14_isPair 71 = .ok (.ifCond .ne 5, 3) := dk_154 0 5 (dk_at dksX14_isPair_3 0 rfl rfl)
theorem dX14_isPair_74 : decode cX14_isPair 74 = .ok (.iconst 0, 1) := dk_3 (dk_at dksX14_isPair_3 3 rfl rfl)
theorem dX14_isPair_75 : decode cX14_isPair 75 = .ok (.ireturn, 1) := dk_172 (dk_at dksX14_isPair_3 4 rfl rfl)
theorem dX14_isPair_76 : decode cX14_isPair 76 = .ok (.aload_n 0, 1) := dk_42 (dk_at dksX14_isPair_3 5 rfl rfl)
theorem dX14_isPair_77 : decode cX14_isPair 77 = .ok (.getfield 30, 3) := dk_180 0 30 (dk_at dksX14_isPair_3 6 rfl rfl)
theorem dX14_isPair_80 : decode cX14_isPair 80 = .ok (.iload_n 2, 1) := dk_28 (dk_at dksX14_isPair_3 9 rfl rfl)
theorem dX14_isPair_81 : decode cX14_isPair 81 = .ok (.iaload, 1) := dk_46 (dk_at dksX14_isPair_3 10 rfl rfl)
theorem dX14_isPair_82 : decode cX14_isPair 82 = .ok (.aload_n 0, 1) := dk_42 (dk_at dksX14_isPair_3 11 rfl rfl)
theorem dX14_isPair_83 : decode cX14_isPair 83 = .ok (.getfield 30, 3) := dk_180 0 30 (dk_at dksX14_isPair_3 12 rfl rfl)
theorem dX14_isPair_86 : decode cX14_isPair 86 = .ok (.iload_n 3, 1) := dk_29 (dk_at dksX14_isPair_3 15 rfl rfl)
theorem dX14_isPair_87 : decode cX14_isPair 87 = .ok (.iaload, 1) := dk_46 (dk_at dksX14_isPair_3 16 rfl rfl)
theorem dX14_isPair_88 : decode cX14_isPair 88 = .ok (.iand, 1) := dk_126 (dk_at dksX14_isPair_3 17 rfl rfl)
theorem dX14_isPair_89 : decode cX14_isPair 89 = .ok (.istore 7, 2) := dk_54 7 (dk_at dksX14_isPair_3 18 rfl rfl)
theorem dX14_isPair_91 : decode cX14_isPair 91 = .ok (.aload_n 0, 1) := dk_42 (dk_at dksX14_isPair_3 20 rfl rfl)
theorem dX14_isPair_92 : decode cX14_isPair 92 = .ok (.getfield 40, 3) := dk_180 0 40 (dk_at dksX14_isPair_3 21 rfl rfl)
theorem dX14_isPair_95 : decode cX14_isPair 95 = .ok (.lookupswitch 66 #[(0, 25), (1, 40)], 25) := by decide +kernel
theorem dX14_isPair_120 : decode cX14_isPair 120 = .ok (.iload 5, 2) := dk_21 5 (dk_at dksX14_isPair_5 0 rfl rfl)
theorem dX14_isPair_122 : decode cX14_isPair 122 = .ok (.iload 4, 2) := dk_21 4 (dk_at dksX14_isPair_5 2 rfl rfl)
theorem dX14_isPair_124 : decode cX14_isPair 124 = .ok (.if_icmp .ne 7, 3) := dk_160 0 7 (dk_at dksX14_isPair_5 4 rfl rfl)
theorem dX14_isPair_127 : decode cX14_isPair 127 = .ok (.iconst 1, 1) := dk_4 (dk_at dksX14_isPair_5 7 rfl rfl)
theorem dX14_isPair_128 : decode cX14_isPair 128 = .ok (.goto 57, 3) := dk_167 0 57 (dk_at dksX14_isPair_5 8 rfl rfl)
theorem dX14_isPair_131 : decode cX14_isPair 131 = .ok (.iconst 0, 1) := dk_3 (dk_at dksX14_isPair_5 11 rfl rfl)
theorem dX14_isPair_132 : decode cX14_isPair 132 = .ok (.goto 53, 3) := dk_167 0 53 (dk_at dksX14_isPair_5 12 rfl rfl)
theorem dX14_isPair_135 : decode cX14_isPair 135 = .ok (.iload 7, 2) := dk_21 7 (dk_at dksX14_isPair_5 15 rfl rfl)
theorem dX14_isPair_137 : decode cX14_isPair 137 = .ok (.iload 4, 2) := dk_21 4 (dk_at dksX14_isPair_5 17 rfl rfl)
theorem dX14_isPair_139 : decode cX14_isPair 139 = .ok (.iand, 1) := dk_126 (dk_at dksX14_isPair_5 19 rfl rfl)
theorem dX14_isPair_140 : decode cX14_isPair 140 = .ok (.ifCond .eq 17, 3) := dk_153 0 17 (dk_at dksX14_isPair_5 20 rfl rfl)
theorem dX14_isPair_143 : decode cX14_isPair 143 = .ok (.iload 5, 2) := dk_21 5 (dk_at dksX14_isPair_6 0 rfl rfl)
theorem dX14_isPair_145 : decode cX14_isPair 145 = .ok (.iload 7, 2) := dk_21 7 (dk_at dksX14_isPair_6 2 rfl rfl)
theorem dX14_isPair_147 : decode cX14_isPair 147 = .ok (.iand, 1) := dk_126 (dk_at dksX14_isPair_6 4 rfl rfl)
theorem dX14_isPair_148 : decode cX14_isPair 148 = .ok (.iload 4, 2) := dk_21 4 (dk_at dksX14_isPair_6 5 rfl rfl)
theorem dX14_isPair_150 : decode cX14_isPair 150 = .ok (.if_icmp .ne 7, 3) := dk_160 0 7 (dk_at dksX14_isPair_6 7 rfl rfl)
theorem dX14_isPair_153 : decode cX14_isPair 153 = .ok (.iconst 1, 1) := dk_4 (dk_at dksX14_isPair_6 10 rfl rfl)
theorem dX14_isPair_154 : decode cX14_isPair 154 = .ok (.goto 31, 3) := dk_167 0 31 (dk_at dksX14_isPair_6 11 rfl rfl)
theorem dX14_isPair_157 : decode cX14_isPair 157 = .ok (.iconst 0, 1) := dk_3 (dk_at dksX14_isPair_6 14 rfl rfl)
theorem dX14_isPair_158 : decode cX14_isPair 158 = .ok (.goto 27, 3) := dk_167 0 27 (dk_at dksX14_isPair_6 15 rfl rfl)
theorem dX14_isPair_161 : decode cX14_isPair 161 = .ok (.aload_n 0, 1) := dk_42 (dk_at dksX14_isPair_6 18 rfl rfl)
theorem dX14_isPair_162 : decode cX14_isPair 162 = .ok (.getfield 33, 3) := dk_180 0 33 (dk_at dksX14_isPair_6 19 rfl rfl)
theorem dX14_isPair_165 : decode cX14_isPair 165 = .ok (.iload_n 2, 1) := dk_28 (dk_at dksX14_isPair_6 22 rfl rfl)
theorem dX14_isPair_166 : decode cX14_isPair 166 = .ok (.iaload, 1) := dk_46 (dk_at dksX14_isPair_6 23 rfl rfl)
theorem dX14_isPair_167 : decode cX14_isPair 167 = .ok (.aload_n 0, 1) := dk_42 (dk_at dksX14_isPair_7 0 rfl rfl)
theorem dX14_isPair_168 : decode cX14_isPair 168 = .ok (.getfield 33, 3) := dk_180 0 33 (dk_at dksX14_isPair_7 1 rfl rfl)
theorem dX14_isPair_171 : decode cX14_isPair 171 = .ok (.iload_n 3, 1) := dk_29 (dk_at dksX14_isPair_7 4 rfl rfl)
theorem dX14_isPair_172 : decode cX14_isPair 172 = .ok (.iaload, 1) := dk_46 (dk_at dksX14_isPair_7 5 rfl rfl)
theorem dX14_isPair_173 : decode cX14_isPair 173 = .ok (.iand, 1) := dk_126 (dk_at dksX14_isPair_7 6 rfl rfl)
theorem dX14_isPair_174 : decode cX14_isPair 174 = .ok (.iload 4, 2) := dk_21 4 (dk_at dksX14_isPair_7 7 rfl rfl)
theorem dX14_isPair_176 : decode cX14_isPair 176 = .ok (.iand, 1) := dk_126 (dk_at dksX14_isPair_7 9 rfl rfl)
theorem dX14_isPair_177 : decode cX14_isPair 177 = .ok (.ifCond .eq 7, 3) := dk_153 0 7 (dk_at dksX14_isPair_7 10 rfl rfl)
theorem dX14_isPair_180 : decode cX14_isPair 180 = .ok (.iconst 1, 1) := dk_4 (dk_at dksX14_isPair_7 13 rfl rfl)
theorem dX14_isPair_181 : decode cX14_isPair 181 = .ok (.goto 4, 3) := dk_167 0 4 (dk_at dksX14_isPair_7 14 rfl rfl)
theorem dX14_isPair_184 : decode cX14_isPair 184 = .ok (.iconst 0, 1) := dk_3 (dk_at dksX14_isPair_7 17 rfl rfl)
theorem dX14_isPair_185 : decode cX14_isPair 185 = .ok (.ireturn, 1) := dk_172 (dk_at dksX14_isPair_7 18 rfl rfl)
abbrev cX14_pairs : ByteArray := prog_12_method_6_code
def yX14_pairs : MethodName := ⟨RX14, "pairs", "(I)I"⟩
def dkwX14_pairs_1 : List UInt8 := [132, 3, 1, 167, 255, 233, 28, 5, 108, 172]
abbrev dktX14_pairs_1 : List UInt8 := dkwX14_pairs_1 ++ []
def dkwX14_pairs_0 : List UInt8 := [3, 61, 3, 62, 29, 16, 16, 162, 0, 23, 28, 42, 180, 0, 69, 27, 50, 29, 46, 184, 0, 84, 96, 61]
abbrev dktX14_pairs_0 : List UInt8 := dkwX14_pairs_0 ++ dktX14_pairs_1
theorem dksX14_pairs_0 : cX14_pairs.data.toList.drop 0 = dktX14_pairs_0 := by decide +kernel
theorem dksX14_pairs_1 : cX14_pairs.data.toList.drop 24 = dktX14_pairs_1 := dk_seg dksX14_pairs_0 24 rfl rfl
theorem dX14_pairs_0 : decode cX14_pairs 0 = .ok (.iconst 0, 1) := dk_3 (dk_at dksX14_pairs_0 0 rfl rfl)
theorem dX14_pairs_1 : decode cX14_pairs 1 = .ok (.istore_n 2, 1) := dk_61 (dk_at dksX14_pairs_0 1 rfl rfl)
theorem dX14_pairs_2 : decode cX14_pairs 2 = .ok (.iconst 0, 1) := dk_3 (dk_at dksX14_pairs_0 2 rfl rfl)
theorem dX14_pairs_3 : decode cX14_pairs 3 = .ok (.istore_n 3, 1) := dk_62 (dk_at dksX14_pairs_0 3 rfl rfl)
theorem dX14_pairs_4 : decode cX14_pairs 4 = .ok (.iload_n 3, 1) := dk_29 (dk_at dksX14_pairs_0 4 rfl rfl)
theorem dX14_pairs_5 : decode cX14_pairs 5 = .ok (.bipush 16, 2) := dk_16 16 (dk_at dksX14_pairs_0 5 rfl rfl)
theorem dX14_pairs_7 : decode cX14_pairs 7 = .ok (.if_icmp .ge 23, 3) := dk_162 0 23 (dk_at dksX14_pairs_0 7 rfl rfl)
theorem dX14_pairs_10 : decode cX14_pairs 10 = .ok (.iload_n 2, 1) := dk_28 (dk_at dksX14_pairs_0 10 rfl rfl)
theorem dX14_pairs_11 : decode cX14_pairs 11 = .ok (.aload_n 0, 1) := dk_42 (dk_at dksX14_pairs_0 11 rfl rfl)
theorem dX14_pairs_12 : decode cX14_pairs 12 = .ok (.getfield 69, 3) := dk_180 0 69 (dk_at dksX14_pairs_0 12 rfl rfl)
theorem dX14_pairs_15 : decode cX14_pairs 15 = .ok (.iload_n 1, 1) := dk_27 (dk_at dksX14_pairs_0 15 rfl rfl)
theorem dX14_pairs_16 : decode cX14_pairs 16 = .ok (.aaload, 1) := dk_50 (dk_at dksX14_pairs_0 16 rfl rfl)
theorem dX14_pairs_17 : decode cX14_pairs 17 = .ok (.iload_n 3, 1) := dk_29 (dk_at dksX14_pairs_0 17 rfl rfl)
theorem dX14_pairs_18 : decode cX14_pairs 18 = .ok (.iaload, 1) := dk_46 (dk_at dksX14_pairs_0 18 rfl rfl)
theorem dX14_pairs_19 : decode cX14_pairs 19 = .ok (.invokestatic 84, 3) := dk_184 0 84 (dk_at dksX14_pairs_0 19 rfl rfl)
theorem dX14_pairs_22 : decode cX14_pairs 22 = .ok (.iadd, 1) := dk_96 (dk_at dksX14_pairs_0 22 rfl rfl)
theorem dX14_pairs_23 : decode cX14_pairs 23 = .ok (.istore_n 2, 1) := dk_61 (dk_at dksX14_pairs_0 23 rfl rfl)
theorem dX14_pairs_24 : decode cX14_pairs 24 = .ok (.iinc 3 1, 3) := dk_132 3 1 (dk_at dksX14_pairs_1 0 rfl rfl)
theorem dX14_pairs_27 : decode cX14_pairs 27 = .ok (.goto (-23), 3) := dk_167 255 233 (dk_at dksX14_pairs_1 3 rfl rfl)
theorem dX14_pairs_30 : decode cX14_pairs 30 = .ok (.iload_n 2, 1) := dk_28 (dk_at dksX14_pairs_1 6 rfl rfl)
theorem dX14_pairs_31 : decode cX14_pairs 31 = .ok (.iconst 2, 1) := dk_5 (dk_at dksX14_pairs_1 7 rfl rfl)
theorem dX14_pairs_32 : decode cX14_pairs 32 = .ok (.idiv, 1) := dk_108 (dk_at dksX14_pairs_1 8 rfl rfl)
theorem dX14_pairs_33 : decode cX14_pairs 33 = .ok (.ireturn, 1) := dk_172 (dk_at dksX14_pairs_1 9 rfl rfl)
abbrev cX14_pairAt : ByteArray := prog_12_method_7_code
def yX14_pairAt : MethodName := ⟨RX14, "pairAt", "(II)I"⟩
def dkwX14_pairAt_4 : List UInt8 := [167, 255, 171, 2, 172]
abbrev dktX14_pairAt_4 : List UInt8 := dkwX14_pairAt_4 ++ []
def dkwX14_pairAt_3 : List UInt8 := [29, 21, 6, 153, 0, 7, 4, 167, 0, 4, 3, 100, 62, 132, 5, 1, 167, 255, 190, 132, 4, 1]
abbrev dktX14_pairAt_3 : List UInt8 := dkwX14_pairAt_3 ++ dktX14_pairAt_4
def dkwX14_pairAt_2 : List UInt8 := [167, 0, 4, 3, 54, 6, 21, 6, 153, 0, 16, 29, 154, 0, 12, 16, 16, 21, 4, 104, 21, 5, 96, 172]
abbrev dktX14_pairAt_2 : List UInt8 := dkwX14_pairAt_2 ++ dktX14_pairAt_3
def dkwX14_pairAt_1 : List UInt8 := [162, 0, 65, 42, 180, 0, 69, 27, 50, 21, 4, 46, 21, 5, 122, 4, 126, 4, 160, 0, 7, 4]
abbrev dktX14_pairAt_1 : List UInt8 := dkwX14_pairAt_1 ++ dktX14_pairAt_2
def dkwX14_pairAt_0 : List UInt8 := [28, 62, 3, 54, 4, 21, 4, 16, 16, 162, 0, 84, 21, 4, 4, 96, 54, 5, 21, 5, 16, 16]
abbrev dktX14_pairAt_0 : List UInt8 := dkwX14_pairAt_0 ++ dktX14_pairAt_1
theorem dksX14_pairAt_0 : cX14_pairAt.data.toList.drop 0 = dktX14_pairAt_0 := by decide +kernel
theorem dksX14_pairAt_1 : cX14_pairAt.data.toList.drop 22 = dktX14_pairAt_1 := dk_seg dksX14_pairAt_0 22 rfl rfl
theorem dksX14_pairAt_2 : cX14_pairAt.data.toList.drop 44 = dktX14_pairAt_2 := dk_seg dksX14_pairAt_1 22 rfl rfl
theorem dksX14_pairAt_3 : cX14_pairAt.data.toList.drop 68 = dktX14_pairAt_3 := dk_seg dksX14_pairAt_2 24 rfl rfl
theorem dksX14_pairAt_4 : cX14_pairAt.data.toList.drop 90 = dktX14_pairAt_4 := dk_seg dksX14_pairAt_3 22 rfl rfl
theorem dX14_pairAt_0 : decode cX14_pairAt 0 = .ok (.iload_n 2, 1) := dk_28 (dk_at dksX14_pairAt_0 0 rfl rfl)
theorem dX14_pairAt_1 : decode cX14_pairAt 1 = .ok (.istore_n 3, 1) := dk_62 (dk_at dksX14_pairAt_0 1 rfl rfl)
theorem dX14_pairAt_2 : decode cX14_pairAt 2 = .ok (.iconst 0, 1) := dk_3 (dk_at dksX14_pairAt_0 2 rfl rfl)
theorem dX14_pairAt_3 : decode cX14_pairAt 3 = .ok (.istore 4, 2) := dk_54 4 (dk_at dksX14_pairAt_0 3 rfl rfl)
theorem dX14_pairAt_5 : decode cX14_pairAt 5 = .ok (.iload 4, 2) := dk_21 4 (dk_at dksX14_pairAt_0 5 rfl rfl)
theorem dX14_pairAt_7 : decode cX14_pairAt 7 = .ok (.bipush 16, 2) := dk_16 16 (dk_at dksX14_pairAt_0 7 rfl rfl)
theorem dX14_pairAt_9 : decode cX14_pairAt 9 = .ok (.if_icmp .ge 84, 3) := dk_162 0 84 (dk_at dksX14_pairAt_0 9 rfl rfl)
theorem dX14_pairAt_12 : decode cX14_pairAt 12 = .ok (.iload 4, 2) := dk_21 4 (dk_at dksX14_pairAt_0 12 rfl rfl)
theorem dX14_pairAt_14 : decode cX14_pairAt 14 = .ok (.iconst 1, 1) := dk_4 (dk_at dksX14_pairAt_0 14 rfl rfl)
theorem dX14_pairAt_15 : decode cX14_pairAt 15 = .ok (.iadd, 1) := dk_96 (dk_at dksX14_pairAt_0 15 rfl rfl)
theorem dX14_pairAt_16 : decode cX14_pairAt 16 = .ok (.istore 5, 2) := dk_54 5 (dk_at dksX14_pairAt_0 16 rfl rfl)
theorem dX14_pairAt_18 : decode cX14_pairAt 18 = .ok (.iload 5, 2) := dk_21 5 (dk_at dksX14_pairAt_0 18 rfl rfl)
theorem dX14_pairAt_20 : decode cX14_pairAt 20 = .ok (.bipush 16, 2) := dk_16 16 (dk_at dksX14_pairAt_0 20 rfl rfl)
theorem dX14_pairAt_22 : decode cX14_pairAt 22 = .ok (.if_icmp .ge 65, 3) := dk_162 0 65 (dk_at dksX14_pairAt_1 0 rfl rfl)
theorem dX14_pairAt_25 : decode cX14_pairAt 25 = .ok (.aload_n 0, 1) := dk_42 (dk_at dksX14_pairAt_1 3 rfl rfl)
theorem dX14_pairAt_26 : decode cX14_pairAt 26 = .ok (.getfield 69, 3) := dk_180 0 69 (dk_at dksX14_pairAt_1 4 rfl rfl)
theorem dX14_pairAt_29 : decode cX14_pairAt 29 = .ok (.iload_n 1, 1) := dk_27 (dk_at dksX14_pairAt_1 7 rfl rfl)
theorem dX14_pairAt_30 : decode cX14_pairAt 30 = .ok (.aaload, 1) := dk_50 (dk_at dksX14_pairAt_1 8 rfl rfl)
theorem dX14_pairAt_31 : decode cX14_pairAt 31 = .ok (.iload 4, 2) := dk_21 4 (dk_at dksX14_pairAt_1 9 rfl rfl)
theorem dX14_pairAt_33 : decode cX14_pairAt 33 = .ok (.iaload, 1) := dk_46 (dk_at dksX14_pairAt_1 11 rfl rfl)
theorem dX14_pairAt_34 : decode cX14_pairAt 34 = .ok (.iload 5, 2) := dk_21 5 (dk_at dksX14_pairAt_1 12 rfl rfl)
theorem dX14_pairAt_36 : decode cX14_pairAt 36 = .ok (.ishr, 1) := dk_122 (dk_at dksX14_pairAt_1 14 rfl rfl)
theorem dX14_pairAt_37 : decode cX14_pairAt 37 = .ok (.iconst 1, 1) := dk_4 (dk_at dksX14_pairAt_1 15 rfl rfl)
theorem dX14_pairAt_38 : decode cX14_pairAt 38 = .ok (.iand, 1) := dk_126 (dk_at dksX14_pairAt_1 16 rfl rfl)
theorem dX14_pairAt_39 : decode cX14_pairAt 39 = .ok (.iconst 1, 1) := dk_4 (dk_at dksX14_pairAt_1 17 rfl rfl)
theorem dX14_pairAt_40 : decode cX14_pairAt 40 = .ok (.if_icmp .ne 7, 3) := dk_160 0 7 (dk_at dksX14_pairAt_1 18 rfl rfl)
theorem dX14_pairAt_43 : decode cX14_pairAt 43 = .ok (.iconst 1, 1) := dk_4 (dk_at dksX14_pairAt_1 21 rfl rfl)
theorem dX14_pairAt_44 : decode cX14_pairAt 44 = .ok (.goto 4, 3) := dk_167 0 4 (dk_at dksX14_pairAt_2 0 rfl rfl)
theorem dX14_pairAt_47 : decode cX14_pairAt 47 = .ok (.iconst 0, 1) := dk_3 (dk_at dksX14_pairAt_2 3 rfl rfl)
theorem dX14_pairAt_48 : decode cX14_pairAt 48 = .ok (.istore 6, 2) := dk_54 6 (dk_at dksX14_pairAt_2 4 rfl rfl)
theorem dX14_pairAt_50 : decode cX14_pairAt 50 = .ok (.iload 6, 2) := dk_21 6 (dk_at dksX14_pairAt_2 6 rfl rfl)
theorem dX14_pairAt_52 : decode cX14_pairAt 52 = .ok (.ifCond .eq 16, 3) := dk_153 0 16 (dk_at dksX14_pairAt_2 8 rfl rfl)
theorem dX14_pairAt_55 : decode cX14_pairAt 55 = .ok (.iload_n 3, 1) := dk_29 (dk_at dksX14_pairAt_2 11 rfl rfl)
theorem dX14_pairAt_56 : decode cX14_pairAt 56 = .ok (.ifCond .ne 12, 3) := dk_154 0 12 (dk_at dksX14_pairAt_2 12 rfl rfl)
theorem dX14_pairAt_59 : decode cX14_pairAt 59 = .ok (.bipush 16, 2) := dk_16 16 (dk_at dksX14_pairAt_2 15 rfl rfl)
theorem dX14_pairAt_61 : decode cX14_pairAt 61 = .ok (.iload 4, 2) := dk_21 4 (dk_at dksX14_pairAt_2 17 rfl rfl)
theorem dX14_pairAt_63 : decode cX14_pairAt 63 = .ok (.imul, 1) := dk_104 (dk_at dksX14_pairAt_2 19 rfl rfl)
theorem dX14_pairAt_64 : decode cX14_pairAt 64 = .ok (.iload 5, 2) := dk_21 5 (dk_at dksX14_pairAt_2 20 rfl rfl)
theorem dX14_pairAt_66 : decode cX14_pairAt 66 = .ok (.iadd, 1) := dk_96 (dk_at dksX14_pairAt_2 22 rfl rfl)
theorem dX14_pairAt_67 : decode cX14_pairAt 67 = .ok (.ireturn, 1) := dk_172 (dk_at dksX14_pairAt_2 23 rfl rfl)
theorem dX14_pairAt_68 : decode cX14_pairAt 68 = .ok (.iload_n 3, 1) := dk_29 (dk_at dksX14_pairAt_3 0 rfl rfl)
theorem dX14_pairAt_69 : decode cX14_pairAt 69 = .ok (.iload 6, 2) := dk_21 6 (dk_at dksX14_pairAt_3 1 rfl rfl)
theorem dX14_pairAt_71 : decode cX14_pairAt 71 = .ok (.ifCond .eq 7, 3) := dk_153 0 7 (dk_at dksX14_pairAt_3 3 rfl rfl)
theorem dX14_pairAt_74 : decode cX14_pairAt 74 = .ok (.iconst 1, 1) := dk_4 (dk_at dksX14_pairAt_3 6 rfl rfl)
theorem dX14_pairAt_75 : decode cX14_pairAt 75 = .ok (.goto 4, 3) := dk_167 0 4 (dk_at dksX14_pairAt_3 7 rfl rfl)
theorem dX14_pairAt_78 : decode cX14_pairAt 78 = .ok (.iconst 0, 1) := dk_3 (dk_at dksX14_pairAt_3 10 rfl rfl)
theorem dX14_pairAt_79 : decode cX14_pairAt 79 = .ok (.isub, 1) := dk_100 (dk_at dksX14_pairAt_3 11 rfl rfl)
theorem dX14_pairAt_80 : decode cX14_pairAt 80 = .ok (.istore_n 3, 1) := dk_62 (dk_at dksX14_pairAt_3 12 rfl rfl)
theorem dX14_pairAt_81 : decode cX14_pairAt 81 = .ok (.iinc 5 1, 3) := dk_132 5 1 (dk_at dksX14_pairAt_3 13 rfl rfl)
theorem dX14_pairAt_84 : decode cX14_pairAt 84 = .ok (.goto (-66), 3) := dk_167 255 190 (dk_at dksX14_pairAt_3 16 rfl rfl)
theorem dX14_pairAt_87 : decode cX14_pairAt 87 = .ok (.iinc 4 1, 3) := dk_132 4 1 (dk_at dksX14_pairAt_3 19 rfl rfl)
theorem dX14_pairAt_90 : decode cX14_pairAt 90 = .ok (.goto (-85), 3) := dk_167 255 171 (dk_at dksX14_pairAt_4 0 rfl rfl)
theorem dX14_pairAt_93 : decode cX14_pairAt 93 = .ok (.iconst (-1), 1) := dk_2 (dk_at dksX14_pairAt_4 3 rfl rfl)
theorem dX14_pairAt_94 : decode cX14_pairAt 94 = .ok (.ireturn, 1) := dk_172 (dk_at dksX14_pairAt_4 4 rfl rfl)
abbrev cX14_possible : ByteArray := prog_12_method_5_code
def yX14_possible : MethodName := ⟨RX14, "possible", "()I"⟩
def dkwX14_possible_0 : List UInt8 := [42, 18, 80, 182, 0, 81, 172]
abbrev dktX14_possible_0 : List UInt8 := dkwX14_possible_0 ++ []
theorem dksX14_possible_0 : cX14_possible.data.toList.drop 0 = dktX14_possible_0 := by decide +kernel
theorem dX14_possible_0 : decode cX14_possible 0 = .ok (.aload_n 0, 1) := dk_42 (dk_at dksX14_possible_0 0 rfl rfl)
theorem dX14_possible_1 : decode cX14_possible 1 = .ok (.ldc 80, 2) := dk_18 80 (dk_at dksX14_possible_0 1 rfl rfl)
theorem dX14_possible_3 : decode cX14_possible 3 = .ok (.invokevirtual 81, 3) := dk_182 0 81 (dk_at dksX14_possible_0 3 rfl rfl)
theorem dX14_possible_6 : decode cX14_possible 6 = .ok (.ireturn, 1) := dk_172 (dk_at dksX14_possible_0 6 rfl rfl)
abbrev cX14_covered : ByteArray := prog_12_method_4_code
def yX14_covered : MethodName := ⟨RX14, "covered", "(I)I"⟩
def dkwX14_covered_3 : List UInt8 := [167, 255, 200, 132, 3, 1, 167, 255, 182, 28, 172]
abbrev dktX14_covered_3 : List UInt8 := dkwX14_covered_3 ++ []
def dkwX14_covered_2 : List UInt8 := [167, 0, 4, 3, 54, 5, 28, 21, 5, 153, 0, 9, 4, 29, 120, 167, 0, 4, 3, 128, 61, 132, 4, 1]
abbrev dktX14_covered_2 : List UInt8 := dkwX14_covered_2 ++ dktX14_covered_3
def dkwX14_covered_1 : List UInt8 := [21, 4, 122, 4, 126, 4, 160, 0, 21, 42, 180, 0, 69, 29, 50, 21, 4, 46, 27, 126, 153, 0, 7, 4]
abbrev dktX14_covered_1 : List UInt8 := dkwX14_covered_1 ++ dktX14_covered_2
def dkwX14_covered_0 : List UInt8 := [3, 61, 3, 62, 29, 42, 180, 0, 69, 190, 162, 0, 71, 3, 54, 4, 21, 4, 16, 16, 162, 0, 55, 27]
abbrev dktX14_covered_0 : List UInt8 := dkwX14_covered_0 ++ dktX14_covered_1
theorem dksX14_covered_0 : cX14_covered.data.toList.drop 0 = dktX14_covered_0 := by decide +kernel
theorem dksX14_covered_1 : cX14_covered.data.toList.drop 24 = dktX14_covered_1 := dk_seg dksX14_covered_0 24 rfl rfl
theorem dksX14_covered_2 : cX14_covered.data.toList.drop 48 = dktX14_covered_2 := dk_seg dksX14_covered_1 24 rfl rfl
theorem dksX14_covered_3 : cX14_covered.data.toList.drop 72 = dktX14_covered_3 := dk_seg dksX14_covered_2 24 rfl rfl
theorem dX14_covered_0 : decode cX14_covered 0 = .ok (.iconst 0, 1) := dk_3 (dk_at dksX14_covered_0 0 rfl rfl)
theorem dX14_covered_1 : decode cX14_covered 1 = .ok (.istore_n 2, 1) := dk_61 (dk_at dksX14_covered_0 1 rfl rfl)
theorem dX14_covered_2 : decode cX14_covered 2 = .ok (.iconst 0, 1) := dk_3 (dk_at dksX14_covered_0 2 rfl rfl)
theorem dX14_covered_3 : decode cX14_covered 3 = .ok (.istore_n 3, 1) := dk_62 (dk_at dksX14_covered_0 3 rfl rfl)
theorem dX14_covered_4 : decode cX14_covered 4 = .ok (.iload_n 3, 1) := dk_29 (dk_at dksX14_covered_0 4 rfl rfl)
theorem dX14_covered_5 : decode cX14_covered 5 = .ok (.aload_n 0, 1) := dk_42 (dk_at dksX14_covered_0 5 rfl rfl)
theorem dX14_covered_6 : decode cX14_covered 6 = .ok (.getfield 69, 3) := dk_180 0 69 (dk_at dksX14_covered_0 6 rfl rfl)
theorem dX14_covered_9 : decode cX14_covered 9 = .ok (.arraylength, 1) := dk_190 (dk_at dksX14_covered_0 9 rfl rfl)
theorem dX14_covered_10 : decode cX14_covered 10 = .ok (.if_icmp .ge 71, 3) := dk_162 0 71 (dk_at dksX14_covered_0 10 rfl rfl)
theorem dX14_covered_13 : decode cX14_covered 13 = .ok (.iconst 0, 1) := dk_3 (dk_at dksX14_covered_0 13 rfl rfl)
theorem dX14_covered_14 : decode cX14_covered 14 = .ok (.istore 4, 2) := dk_54 4 (dk_at dksX14_covered_0 14 rfl rfl)
theorem dX14_covered_16 : decode cX14_covered 16 = .ok (.iload 4, 2) := dk_21 4 (dk_at dksX14_covered_0 16 rfl rfl)
theorem dX14_covered_18 : decode cX14_covered 18 = .ok (.bipush 16, 2) := dk_16 16 (dk_at dksX14_covered_0 18 rfl rfl)
theorem dX14_covered_20 : decode cX14_covered 20 = .ok (.if_icmp .ge 55, 3) := dk_162 0 55 (dk_at dksX14_covered_0 20 rfl rfl)
theorem dX14_covered_23 : decode cX14_covered 23 = .ok (.iload_n 1, 1) := dk_27 (dk_at dksX14_covered_0 23 rfl rfl)
theorem dX14_covered_24 : decode cX14_covered 24 = .ok (.iload 4, 2) := dk_21 4 (dk_at dksX14_covered_1 0 rfl rfl)
theorem dX14_covered_26 : decode cX14_covered 26 = .ok (.ishr, 1) := dk_122 (dk_at dksX14_covered_1 2 rfl rfl)
theorem dX14_covered_27 : decode cX14_covered 27 = .ok (.iconst 1, 1) := dk_4 (dk_at dksX14_covered_1 3 rfl rfl)
theorem dX14_covered_28 : decode cX14_covered 28 = .ok (.iand, 1) := dk_126 (dk_at dksX14_covered_1 4 rfl rfl)
theorem dX14_covered_29 : decode cX14_covered 29 = .ok (.iconst 1, 1) := dk_4 (dk_at dksX14_covered_1 5 rfl rfl)
theorem dX14_covered_30 : decode cX14_covered 30 = .ok (.if_icmp .ne 21, 3) := dk_160 0 21 (dk_at dksX14_covered_1 6 rfl rfl)
theorem dX14_covered_33 : decode cX14_covered 33 = .ok (.aload_n 0, 1) := dk_42 (dk_at dksX14_covered_1 9 rfl rfl)
theorem dX14_covered_34 : decode cX14_covered 34 = .ok (.getfield 69, 3) := dk_180 0 69 (dk_at dksX14_covered_1 10 rfl rfl)
theorem dX14_covered_37 : decode cX14_covered 37 = .ok (.iload_n 3, 1) := dk_29 (dk_at dksX14_covered_1 13 rfl rfl)
theorem dX14_covered_38 : decode cX14_covered 38 = .ok (.aaload, 1) := dk_50 (dk_at dksX14_covered_1 14 rfl rfl)
theorem dX14_covered_39 : decode cX14_covered 39 = .ok (.iload 4, 2) := dk_21 4 (dk_at dksX14_covered_1 15 rfl rfl)
theorem dX14_covered_41 : decode cX14_covered 41 = .ok (.iaload, 1) := dk_46 (dk_at dksX14_covered_1 17 rfl rfl)
theorem dX14_covered_42 : decode cX14_covered 42 = .ok (.iload_n 1, 1) := dk_27 (dk_at dksX14_covered_1 18 rfl rfl)
theorem dX14_covered_43 : decode cX14_covered 43 = .ok (.iand, 1) := dk_126 (dk_at dksX14_covered_1 19 rfl rfl)
theorem dX14_covered_44 : decode cX14_covered 44 = .ok (.ifCond .eq 7, 3) := dk_153 0 7 (dk_at dksX14_covered_1 20 rfl rfl)
theorem dX14_covered_47 : decode cX14_covered 47 = .ok (.iconst 1, 1) := dk_4 (dk_at dksX14_covered_1 23 rfl rfl)
theorem dX14_covered_48 : decode cX14_covered 48 = .ok (.goto 4, 3) := dk_167 0 4 (dk_at dksX14_covered_2 0 rfl rfl)
theorem dX14_covered_51 : decode cX14_covered 51 = .ok (.iconst 0, 1) := dk_3 (dk_at dksX14_covered_2 3 rfl rfl)
theorem dX14_covered_52 : decode cX14_covered 52 = .ok (.istore 5, 2) := dk_54 5 (dk_at dksX14_covered_2 4 rfl rfl)
theorem dX14_covered_54 : decode cX14_covered 54 = .ok (.iload_n 2, 1) := dk_28 (dk_at dksX14_covered_2 6 rfl rfl)
theorem dX14_covered_55 : decode cX14_covered 55 = .ok (.iload 5, 2) := dk_21 5 (dk_at dksX14_covered_2 7 rfl rfl)
theorem dX14_covered_57 : decode cX14_covered 57 = .ok (.ifCond .eq 9, 3) := dk_153 0 9 (dk_at dksX14_covered_2 9 rfl rfl)
theorem dX14_covered_60 : decode cX14_covered 60 = .ok (.iconst 1, 1) := dk_4 (dk_at dksX14_covered_2 12 rfl rfl)
theorem dX14_covered_61 : decode cX14_covered 61 = .ok (.iload_n 3, 1) := dk_29 (dk_at dksX14_covered_2 13 rfl rfl)
theorem dX14_covered_62 : decode cX14_covered 62 = .ok (.ishl, 1) := dk_120 (dk_at dksX14_covered_2 14 rfl rfl)
theorem dX14_covered_63 : decode cX14_covered 63 = .ok (.goto 4, 3) := dk_167 0 4 (dk_at dksX14_covered_2 15 rfl rfl)
theorem dX14_covered_66 : decode cX14_covered 66 = .ok (.iconst 0, 1) := dk_3 (dk_at dksX14_covered_2 18 rfl rfl)
theorem dX14_covered_67 : decode cX14_covered 67 = .ok (.ior, 1) := dk_128 (dk_at dksX14_covered_2 19 rfl rfl)
theorem dX14_covered_68 : decode cX14_covered 68 = .ok (.istore_n 2, 1) := dk_61 (dk_at dksX14_covered_2 20 rfl rfl)
theorem dX14_covered_69 : decode cX14_covered 69 = .ok (.iinc 4 1, 3) := dk_132 4 1 (dk_at dksX14_covered_2 21 rfl rfl)
theorem dX14_covered_72 : decode cX14_covered 72 = .ok (.goto (-56), 3) := dk_167 255 200 (dk_at dksX14_covered_3 0 rfl rfl)
theorem dX14_covered_75 : decode cX14_covered 75 = .ok (.iinc 3 1, 3) := dk_132 3 1 (dk_at dksX14_covered_3 3 rfl rfl)
theorem dX14_covered_78 : decode cX14_covered 78 = .ok (.goto (-74), 3) := dk_167 255 182 (dk_at dksX14_covered_3 6 rfl rfl)
theorem dX14_covered_81 : decode cX14_covered 81 = .ok (.iload_n 2, 1) := dk_28 (dk_at dksX14_covered_3 9 rfl rfl)
theorem dX14_covered_82 : decode cX14_covered 82 = .ok (.ireturn, 1) := dk_172 (dk_at dksX14_covered_3 10 rfl rfl)
abbrev cX14_fewest : ByteArray := prog_12_method_8_code
def yX14_fewest : MethodName := ⟨RX14, "fewest", "(II)I"⟩
def dkwX14_fewest_1 : List UInt8 := [182, 0, 92, 54, 5, 21, 5, 2, 159, 0, 6, 21, 5, 172, 132, 4, 1, 167, 255, 224, 2, 172]
abbrev dktX14_fewest_1 : List UInt8 := dkwX14_fewest_1 ++ []
def dkwX14_fewest_0 : List UInt8 := [42, 182, 0, 89, 62, 3, 54, 4, 21, 4, 27, 184, 0, 84, 163, 0, 29, 42, 21, 4, 27, 28, 29]
abbrev dktX14_fewest_0 : List UInt8 := dkwX14_fewest_0 ++ dktX14_fewest_1
theorem dksX14_fewest_0 : cX14_fewest.data.toList.drop 0 = dktX14_fewest_0 := by decide +kernel
theorem dksX14_fewest_1 : cX14_fewest.data.toList.drop 23 = dktX14_fewest_1 := dk_seg dksX14_fewest_0 23 rfl rfl
theorem dX14_fewest_0 : decode cX14_fewest 0 = .ok (.aload_n 0, 1) := dk_42 (dk_at dksX14_fewest_0 0 rfl rfl)
theorem dX14_fewest_1 : decode cX14_fewest 1 = .ok (.invokevirtual 89, 3) := dk_182 0 89 (dk_at dksX14_fewest_0 1 rfl rfl)
theorem dX14_fewest_4 : decode cX14_fewest 4 = .ok (.istore_n 3, 1) := dk_62 (dk_at dksX14_fewest_0 4 rfl rfl)
theorem dX14_fewest_5 : decode cX14_fewest 5 = .ok (.iconst 0, 1) := dk_3 (dk_at dksX14_fewest_0 5 rfl rfl)
theorem dX14_fewest_6 : decode cX14_fewest 6 = .ok (.istore 4, 2) := dk_54 4 (dk_at dksX14_fewest_0 6 rfl rfl)
theorem dX14_fewest_8 : decode cX14_fewest 8 = .ok (.iload 4, 2) := dk_21 4 (dk_at dksX14_fewest_0 8 rfl rfl)
theorem dX14_fewest_10 : decode cX14_fewest 10 = .ok (.iload_n 1, 1) := dk_27 (dk_at dksX14_fewest_0 10 rfl rfl)
theorem dX14_fewest_11 : decode cX14_fewest 11 = .ok (.invokestatic 84, 3) := dk_184 0 84 (dk_at dksX14_fewest_0 11 rfl rfl)
theorem dX14_fewest_14 : decode cX14_fewest 14 = .ok (.if_icmp .gt 29, 3) := dk_163 0 29 (dk_at dksX14_fewest_0 14 rfl rfl)
theorem dX14_fewest_17 : decode cX14_fewest 17 = .ok (.aload_n 0, 1) := dk_42 (dk_at dksX14_fewest_0 17 rfl rfl)
theorem dX14_fewest_18 : decode cX14_fewest 18 = .ok (.iload 4, 2) := dk_21 4 (dk_at dksX14_fewest_0 18 rfl rfl)
theorem dX14_fewest_20 : decode cX14_fewest 20 = .ok (.iload_n 1, 1) := dk_27 (dk_at dksX14_fewest_0 20 rfl rfl)
theorem dX14_fewest_21 : decode cX14_fewest 21 = .ok (.iload_n 2, 1) := dk_28 (dk_at dksX14_fewest_0 21 rfl rfl)
theorem dX14_fewest_22 : decode cX14_fewest 22 = .ok (.iload_n 3, 1) := dk_29 (dk_at dksX14_fewest_0 22 rfl rfl)
theorem dX14_fewest_23 : decode cX14_fewest 23 = .ok (.invokevirtual 92, 3) := dk_182 0 92 (dk_at dksX14_fewest_1 0 rfl rfl)
theorem dX14_fewest_26 : decode cX14_fewest 26 = .ok (.istore 5, 2) := dk_54 5 (dk_at dksX14_fewest_1 3 rfl rfl)
theorem dX14_fewest_28 : decode cX14_fewest 28 = .ok (.iload 5, 2) := dk_21 5 (dk_at dksX14_fewest_1 5 rfl rfl)
theorem dX14_fewest_30 : decode cX14_fewest 30 = .ok (.iconst (-1), 1) := dk_2 (dk_at dksX14_fewest_1 7 rfl rfl)
theorem dX14_fewest_31 : decode cX14_fewest 31 = .ok (.if_icmp .eq 6, 3) := dk_159 0 6 (dk_at dksX14_fewest_1 8 rfl rfl)
theorem dX14_fewest_34 : decode cX14_fewest 34 = .ok (.iload 5, 2) := dk_21 5 (dk_at dksX14_fewest_1 11 rfl rfl)
theorem dX14_fewest_36 : decode cX14_fewest 36 = .ok (.ireturn, 1) := dk_172 (dk_at dksX14_fewest_1 13 rfl rfl)
theorem dX14_fewest_37 : decode cX14_fewest 37 = .ok (.iinc 4 1, 3) := dk_132 4 1 (dk_at dksX14_fewest_1 14 rfl rfl)
theorem dX14_fewest_40 : decode cX14_fewest 40 = .ok (.goto (-32), 3) := dk_167 255 224 (dk_at dksX14_fewest_1 17 rfl rfl)
theorem dX14_fewest_43 : decode cX14_fewest 43 = .ok (.iconst (-1), 1) := dk_2 (dk_at dksX14_fewest_1 20 rfl rfl)
theorem dX14_fewest_44 : decode cX14_fewest 44 = .ok (.ireturn, 1) := dk_172 (dk_at dksX14_fewest_1 21 rfl rfl)
abbrev cX14_first : ByteArray := prog_12_method_9_code
def yX14_first : MethodName := ⟨RX14, "first", "(IIII)I"⟩
def dkwX14_first_3 : List UInt8 := [54, 7, 21, 5, 21, 7, 130, 5, 124, 21, 6, 108, 21, 7, 128, 54, 5, 167, 255, 194, 2, 172]
abbrev dktX14_first_3 : List UInt8 := dkwX14_first_3 ++ []
def dkwX14_first_2 : List UInt8 := [182, 0, 81, 21, 4, 160, 0, 6, 21, 5, 172, 21, 5, 21, 5, 116, 126, 54, 6, 21, 5, 21, 6, 96]
abbrev dktX14_first_2 : List UInt8 := dkwX14_first_2 ++ dktX14_first_3
def dkwX14_first_1 : List UInt8 := [100, 54, 5, 21, 5, 18, 80, 163, 0, 61, 21, 5, 28, 2, 130, 126, 154, 0, 19, 42, 21, 5, 29, 128]
abbrev dktX14_first_1 : List UInt8 := dkwX14_first_1 ++ dktX14_first_2
def dkwX14_first_0 : List UInt8 := [27, 154, 0, 19, 42, 29, 182, 0, 81, 21, 4, 160, 0, 7, 3, 167, 0, 4, 2, 172, 4, 27, 120, 4]
abbrev dktX14_first_0 : List UInt8 := dkwX14_first_0 ++ dktX14_first_1
theorem dksX14_first_0 : cX14_first.data.toList.drop 0 = dktX14_first_0 := by decide +kernel
theorem dksX14_first_1 : cX14_first.data.toList.drop 24 = dktX14_first_1 := dk_seg dksX14_first_0 24 rfl rfl
theorem dksX14_first_2 : cX14_first.data.toList.drop 48 = dktX14_first_2 := dk_seg dksX14_first_1 24 rfl rfl
theorem dksX14_first_3 : cX14_first.data.toList.drop 72 = dktX14_first_3 := dk_seg dksX14_first_2 24 rfl rfl
theorem dX14_first_0 : decode cX14_first 0 = .ok (.iload_n 1, 1) := dk_27 (dk_at dksX14_first_0 0 rfl rfl)
theorem dX14_first_1 : decode cX14_first 1 = .ok (.ifCond .ne 19, 3) := dk_154 0 19 (dk_at dksX14_first_0 1 rfl rfl)
theorem dX14_first_4 : decode cX14_first 4 = .ok (.aload_n 0, 1) := dk_42 (dk_at dksX14_first_0 4 rfl rfl)
theorem dX14_first_5 : decode cX14_first 5 = .ok (.iload_n 3, 1) := dk_29 (dk_at dksX14_first_0 5 rfl rfl)
theorem dX14_first_6 : decode cX14_first 6 = .ok (.invokevirtual 81, 3) := dk_182 0 81 (dk_at dksX14_first_0 6 rfl rfl)
theorem dX14_first_9 : decode cX14_first 9 = .ok (.iload 4, 2) := dk_21 4 (dk_at dksX14_first_0 9 rfl rfl)
theorem dX14_first_11 : decode cX14_first 11 = .ok (.if_icmp .ne 7, 3) := dk_160 0 7 (dk_at dksX14_first_0 11 rfl rfl)
theorem dX14_first_14 : decode cX14_first 14 = .ok (.iconst 0, 1) := dk_3 (dk_at dksX14_first_0 14 rfl rfl)
theorem dX14_first_15 : decode cX14_first 15 = .ok (.goto 4, 3) := dk_167 0 4 (dk_at dksX14_first_0 15 rfl rfl)
theorem dX14_first_18 : decode cX14_first 18 = .ok (.iconst (-1), 1) := dk_2 (dk_at dksX14_first_0 18 rfl rfl)
theorem dX14_first_19 : decode cX14_first 19 = .ok (.ireturn, 1) := dk_172 (dk_at dksX14_first_0 19 rfl rfl)
theorem dX14_first_20 : decode cX14_first 20 = .ok (.iconst 1, 1) := dk_4 (dk_at dksX14_first_0 20 rfl rfl)
theorem dX14_first_21 : decode cX14_first 21 = .ok (.iload_n 1, 1) := dk_27 (dk_at dksX14_first_0 21 rfl rfl)
theorem dX14_first_22 : decode cX14_first 22 = .ok (.ishl, 1) := dk_120 (dk_at dksX14_first_0 22 rfl rfl)
theorem dX14_first_23 : decode cX14_first 23 = .ok (.iconst 1, 1) := dk_4 (dk_at dksX14_first_0 23 rfl rfl)
theorem dX14_first_24 : decode cX14_first 24 = .ok (.isub, 1) := dk_100 (dk_at dksX14_first_1 0 rfl rfl)
theorem dX14_first_25 : decode cX14_first 25 = .ok (.istore 5, 2) := dk_54 5 (dk_at dksX14_first_1 1 rfl rfl)
theorem dX14_first_27 : decode cX14_first 27 = .ok (.iload 5, 2) := dk_21 5 (dk_at dksX14_first_1 3 rfl rfl)
theorem dX14_first_29 : decode cX14_first 29 = .ok (.ldc 80, 2) := dk_18 80 (dk_at dksX14_first_1 5 rfl rfl)
theorem dX14_first_31 : decode cX14_first 31 = .ok (.if_icmp .gt 61, 3) := dk_163 0 61 (dk_at dksX14_first_1 7 rfl rfl)
theorem dX14_first_34 : decode cX14_first 34 = .ok (.iload 5, 2) := dk_21 5 (dk_at dksX14_first_1 10 rfl rfl)
theorem dX14_first_36 : decode cX14_first 36 = .ok (.iload_n 2, 1) := dk_28 (dk_at dksX14_first_1 12 rfl rfl)
theorem dX14_first_37 : decode cX14_first 37 = .ok (.iconst (-1), 1) := dk_2 (dk_at dksX14_first_1 13 rfl rfl)
theorem dX14_first_38 : decode cX14_first 38 = .ok (.ixor, 1) := dk_130 (dk_at dksX14_first_1 14 rfl rfl)
theorem dX14_first_39 : decode cX14_first 39 = .ok (.iand, 1) := dk_126 (dk_at dksX14_first_1 15 rfl rfl)
theorem dX14_first_40 : decode cX14_first 40 = .ok (.ifCond .ne 19, 3) := dk_154 0 19 (dk_at dksX14_first_1 16 rfl rfl)
theorem dX14_first_43 : decode cX14_first 43 = .ok (.aload_n 0, 1) := dk_42 (dk_at dksX14_first_1 19 rfl rfl)
theorem dX14_first_44 : decode cX14_first 44 = .ok (.iload 5, 2) := dk_21 5 (dk_at dksX14_first_1 20 rfl rfl)
theorem dX14_first_46 : decode cX14_first 46 = .ok (.iload_n 3, 1) := dk_29 (dk_at dksX14_first_1 22 rfl rfl)
theorem dX14_first_47 : decode cX14_first 47 = .ok (.ior, 1) := dk_128 (dk_at dksX14_first_1 23 rfl rfl)
theorem dX14_first_48 : decode cX14_first 48 = .ok (.invokevirtual 81, 3) := dk_182 0 81 (dk_at dksX14_first_2 0 rfl rfl)
theorem dX14_first_51 : decode cX14_first 51 = .ok (.iload 4, 2) := dk_21 4 (dk_at dksX14_first_2 3 rfl rfl)
theorem dX14_first_53 : decode cX14_first 53 = .ok (.if_icmp .ne 6, 3) := dk_160 0 6 (dk_at dksX14_first_2 5 rfl rfl)
theorem dX14_first_56 : decode cX14_first 56 = .ok (.iload 5, 2) := dk_21 5 (dk_at dksX14_first_2 8 rfl rfl)
theorem dX14_first_58 : decode cX14_first 58 = .ok (.ireturn, 1) := dk_172 (dk_at dksX14_first_2 10 rfl rfl)
theorem dX14_first_59 : decode cX14_first 59 = .ok (.iload 5, 2) := dk_21 5 (dk_at dksX14_first_2 11 rfl rfl)
theorem dX14_first_61 : decode cX14_first 61 = .ok (.iload 5, 2) := dk_21 5 (dk_at dksX14_first_2 13 rfl rfl)
theorem dX14_first_63 : decode cX14_first 63 = .ok (.ineg, 1) := dk_116 (dk_at dksX14_first_2 15 rfl rfl)
theorem dX14_first_64 : decode cX14_first 64 = .ok (.iand, 1) := dk_126 (dk_at dksX14_first_2 16 rfl rfl)
theorem dX14_first_65 : decode cX14_first 65 = .ok (.istore 6, 2) := dk_54 6 (dk_at dksX14_first_2 17 rfl rfl)
theorem dX14_first_67 : decode cX14_first 67 = .ok (.iload 5, 2) := dk_21 5 (dk_at dksX14_first_2 19 rfl rfl)
theorem dX14_first_69 : decode cX14_first 69 = .ok (.iload 6, 2) := dk_21 6 (dk_at dksX14_first_2 21 rfl rfl)
theorem dX14_first_71 : decode cX14_first 71 = .ok (.iadd, 1) := dk_96 (dk_at dksX14_first_2 23 rfl rfl)
theorem dX14_first_72 : decode cX14_first 72 = .ok (.istore 7, 2) := dk_54 7 (dk_at dksX14_first_3 0 rfl rfl)
theorem dX14_first_74 : decode cX14_first 74 = .ok (.iload 5, 2) := dk_21 5 (dk_at dksX14_first_3 2 rfl rfl)
theorem dX14_first_76 : decode cX14_first 76 = .ok (.iload 7, 2) := dk_21 7 (dk_at dksX14_first_3 4 rfl rfl)
theorem dX14_first_78 : decode cX14_first 78 = .ok (.ixor, 1) := dk_130 (dk_at dksX14_first_3 6 rfl rfl)
theorem dX14_first_79 : decode cX14_first 79 = .ok (.iconst 2, 1) := dk_5 (dk_at dksX14_first_3 7 rfl rfl)
theorem dX14_first_80 : decode cX14_first 80 = .ok (.iushr, 1) := dk_124 (dk_at dksX14_first_3 8 rfl rfl)
theorem dX14_first_81 : decode cX14_first 81 = .ok (.iload 6, 2) := dk_21 6 (dk_at dksX14_first_3 9 rfl rfl)
theorem dX14_first_83 : decode cX14_first 83 = .ok (.idiv, 1) := dk_108 (dk_at dksX14_first_3 11 rfl rfl)
theorem dX14_first_84 : decode cX14_first 84 = .ok (.iload 7, 2) := dk_21 7 (dk_at dksX14_first_3 12 rfl rfl)
theorem dX14_first_86 : decode cX14_first 86 = .ok (.ior, 1) := dk_128 (dk_at dksX14_first_3 14 rfl rfl)
theorem dX14_first_87 : decode cX14_first 87 = .ok (.istore 5, 2) := dk_54 5 (dk_at dksX14_first_3 15 rfl rfl)
theorem dX14_first_89 : decode cX14_first 89 = .ok (.goto (-62), 3) := dk_167 255 194 (dk_at dksX14_first_3 17 rfl rfl)
theorem dX14_first_92 : decode cX14_first 92 = .ok (.iconst (-1), 1) := dk_2 (dk_at dksX14_first_3 20 rfl rfl)
theorem dX14_first_93 : decode cX14_first 93 = .ok (.ireturn, 1) := dk_172 (dk_at dksX14_first_3 21 rfl rfl)
theorem q100 : (Jvm.Cond.initialized "ConditionWise$Table") ∈ lw_all := lw_g (lw_at lw_m1 46 rfl) rfl
theorem q715 : (Jvm.Cond.selects "ConditionWise$Table" ({ cls := "java/lang/Object", name := "getClass", desc := "()Ljava/lang/Class;" } : Jvm.MethodName) ({ cls := "java/lang/Object", name := "getClass", desc := "()Ljava/lang/Class;" } : Jvm.MethodName)) ∈ lw_all := lw_g (lw_at lw_m3 181 rfl) rfl
theorem q1159 : (Jvm.Cond.fieldLinkNest "ConditionWise$Table" (55 : Nat) "ConditionWise$Decision" "letters" "[I" "ConditionWise") ∈ lw_tbl := lw_at lw_m5 145 rfl
theorem q1517 : (Jvm.Cond.instantiable "ConditionWise$Table" (9 : Nat)) ∈ lw_all := lw_g (lw_at lw_m7 23 rfl) rfl
theorem q1519 : (Jvm.Cond.instanceMethod ({ cls := "ConditionWise$Table", name := "<init>", desc := "(LConditionWise;LConditionWise$Decision;I)V" } : Jvm.MethodName)) ∈ lw_all := lw_g (lw_at lw_m7 25 rfl) rfl
theorem q1520 : (Jvm.Cond.code ({ cls := "ConditionWise$Table", name := "<init>", desc := "(LConditionWise;LConditionWise$Decision;I)V" } : Jvm.MethodName) prog_12_method_1_code (7 : Nat) (Option.none : Option Jvm.ClassFile.FieldType)) ∈ lw_all := lw_g (lw_at lw_m7 26 rfl) rfl
theorem q1521 : (Jvm.Cond.methodLink "ConditionWise$Table" (9 : Nat) ({ cls := "java/lang/Object", name := "<init>", desc := "()V" } : Jvm.MethodName)) ∈ lw_all := lw_g (lw_at lw_m7 27 rfl) rfl
theorem q1522 : (Jvm.Cond.methodLink "ConditionWise$Table" (15 : Nat) ({ cls := "ConditionWise", name := "allowed", desc := "()I" } : Jvm.MethodName)) ∈ lw_all := lw_g (lw_at lw_m7 28 rfl) rfl
theorem q1523 : (Jvm.Cond.methodLink "ConditionWise$Table" (43 : Nat) ({ cls := "ConditionWise$Decision", name := "outcome", desc := "(I)Z" } : Jvm.MethodName)) ∈ lw_all := lw_g (lw_at lw_m7 29 rfl) rfl
theorem q1524 : (Jvm.Cond.methodLink "ConditionWise$Table" (49 : Nat) ({ cls := "ConditionWise$Decision", name := "values", desc := "(I)I" } : Jvm.MethodName)) ∈ lw_all := lw_g (lw_at lw_m7 30 rfl) rfl
theorem q1528 : (Jvm.Cond.methodLink "ConditionWise$Table" (52 : Nat) ({ cls := "ConditionWise$Decision", name := "asked", desc := "(I)Ljava/util/BitSet;" } : Jvm.MethodName)) ∈ lw_all := lw_g (lw_at lw_m7 34 rfl) rfl
theorem q1529 : (Jvm.Cond.methodLink "ConditionWise$Table" (58 : Nat) ({ cls := "java/util/BitSet", name := "get", desc := "(I)Z" } : Jvm.MethodName)) ∈ lw_all := lw_g (lw_at lw_m7 35 rfl) rfl
theorem q1530 : (Jvm.Cond.methodLink "ConditionWise$Table" (63 : Nat) ({ cls := "ConditionWise$Decision", name := "isDeciding", desc := "(II)Z" } : Jvm.MethodName)) ∈ lw_all := lw_g (lw_at lw_m7 36 rfl) rfl
theorem q1531 : (Jvm.Cond.classLink "ConditionWise$Table" (67 : Nat) "[[I") ∈ lw_all := lw_g (lw_at lw_m7 37 rfl) rfl
theorem q1533 : (Jvm.Cond.methodLink "ConditionWise$Table" (72 : Nat) ({ cls := "ConditionWise$Table", name := "pairUp", desc := "(I)V" } : Jvm.MethodName)) ∈ lw_all := lw_g (lw_at lw_m7 39 rfl) rfl
theorem q1534 : (Jvm.Cond.privateMethod ({ cls := "ConditionWise$Table", name := "pairUp", desc := "(I)V" } : Jvm.MethodName)) ∈ lw_tbl := lw_at lw_m7 40 rfl
theorem q1535 : (Jvm.Cond.instanceMethod ({ cls := "ConditionWise$Table", name := "pairUp", desc := "(I)V" } : Jvm.MethodName)) ∈ lw_all := lw_g (lw_at lw_m7 41 rfl) rfl
theorem q1536 : (Jvm.Cond.code ({ cls := "ConditionWise$Table", name := "pairUp", desc := "(I)V" } : Jvm.MethodName) prog_12_method_2_code (4 : Nat) (Option.none : Option Jvm.ClassFile.FieldType)) ∈ lw_all := lw_g (lw_at lw_m7 42 rfl) rfl
theorem q1537 : (Jvm.Cond.methodLink "ConditionWise$Table" (76 : Nat) ({ cls := "ConditionWise$Table", name := "isPair", desc := "(III)Z" } : Jvm.MethodName)) ∈ lw_all := lw_g (lw_at lw_m7 43 rfl) rfl
theorem q1538 : (Jvm.Cond.privateMethod ({ cls := "ConditionWise$Table", name := "isPair", desc := "(III)Z" } : Jvm.MethodName)) ∈ lw_tbl := lw_at lw_m7 44 rfl
theorem q1539 : (Jvm.Cond.instanceMethod ({ cls := "ConditionWise$Table", name := "isPair", desc := "(III)Z" } : Jvm.MethodName)) ∈ lw_all := lw_g (lw_at lw_m7 45 rfl) rfl
theorem q1540 : (Jvm.Cond.code ({ cls := "ConditionWise$Table", name := "isPair", desc := "(III)Z" } : Jvm.MethodName) prog_12_method_3_code (8 : Nat) (Option.some Jvm.ClassFile.FieldType.boolean)) ∈ lw_all := lw_g (lw_at lw_m7 46 rfl) rfl
theorem q1541 : (Jvm.Cond.fieldLink "ConditionWise$Table" (36 : Nat) "ConditionWise$Table" "decision" "LConditionWise$Decision;") ∈ lw_all := lw_g (lw_at lw_m7 47 rfl) rfl
theorem q1543 : (Jvm.Cond.fieldLink "ConditionWise$Table" (40 : Nat) "ConditionWise$Table" "rule" "I") ∈ lw_all := lw_g (lw_at lw_m7 49 rfl) rfl
theorem q1544 : (Jvm.Cond.fieldLink "ConditionWise$Table" (19 : Nat) "ConditionWise$Table" "allowed" "I") ∈ lw_all := lw_g (lw_at lw_m7 50 rfl) rfl
theorem q1546 : (Jvm.Cond.fieldLink "ConditionWise$Table" (22 : Nat) "ConditionWise$Table" "outcomes" "[Z") ∈ lw_all := lw_g (lw_at lw_m7 52 rfl) rfl
theorem q1547 : (Jvm.Cond.fieldLink "ConditionWise$Table" (26 : Nat) "ConditionWise$Table" "values" "[I") ∈ lw_all := lw_g (lw_at lw_m7 53 rfl) rfl
theorem q1548 : (Jvm.Cond.fieldLink "ConditionWise$Table" (30 : Nat) "ConditionWise$Table" "asked" "[I") ∈ lw_all := lw_g (lw_at lw_m7 54 rfl) rfl
theorem q1549 : (Jvm.Cond.fieldLink "ConditionWise$Table" (33 : Nat) "ConditionWise$Table" "deciding" "[I") ∈ lw_all := lw_g (lw_at lw_m7 55 rfl) rfl
theorem q1550 : (Jvm.Cond.fieldLink "ConditionWise$Table" (69 : Nat) "ConditionWise$Table" "partners" "[[I") ∈ lw_all := lw_g (lw_at lw_m7 56 rfl) rfl
theorem q1552 : (Jvm.Cond.fieldLink "ConditionWise$Table" (3 : Nat) "ConditionWise$Table" "this$0" "LConditionWise;") ∈ lw_all := lw_g (lw_at lw_m7 58 rfl) rfl
theorem q1553 : (Jvm.Cond.laysFinal "ConditionWise$Table" "ConditionWise$Table" "decision" "LConditionWise$Decision;") ∈ lw_all := lw_g (lw_at lw_m7 59 rfl) rfl
theorem q1554 : (Jvm.Cond.soleField "ConditionWise$Table" "decision") ∈ lw_all := lw_g (lw_at lw_m7 60 rfl) rfl
theorem q1555 : (Jvm.Cond.laysFinal "ConditionWise$Table" "ConditionWise$Table" "rule" "I") ∈ lw_all := lw_g (lw_at lw_m7 61 rfl) rfl
theorem q1556 : (Jvm.Cond.soleField "ConditionWise$Table" "rule") ∈ lw_all := lw_g (lw_at lw_m7 62 rfl) rfl
theorem q1557 : (Jvm.Cond.laysFinal "ConditionWise$Table" "ConditionWise$Table" "allowed" "I") ∈ lw_all := lw_g (lw_at lw_m7 63 rfl) rfl
theorem q1558 : (Jvm.Cond.soleField "ConditionWise$Table" "allowed") ∈ lw_all := lw_g (lw_at lw_m7 64 rfl) rfl
theorem q1559 : (Jvm.Cond.laysFinal "ConditionWise$Table" "ConditionWise$Table" "outcomes" "[Z") ∈ lw_all := lw_g (lw_at lw_m7 65 rfl) rfl
theorem q1560 : (Jvm.Cond.soleField "ConditionWise$Table" "outcomes") ∈ lw_all := lw_g (lw_at lw_m7 66 rfl) rfl
theorem q1561 : (Jvm.Cond.laysFinal "ConditionWise$Table" "ConditionWise$Table" "values" "[I") ∈ lw_all := lw_g (lw_at lw_m7 67 rfl) rfl
theorem q1562 : (Jvm.Cond.soleField "ConditionWise$Table" "values") ∈ lw_all := lw_g (lw_at lw_m7 68 rfl) rfl
theorem q1563 : (Jvm.Cond.laysFinal "ConditionWise$Table" "ConditionWise$Table" "asked" "[I") ∈ lw_all := lw_g (lw_at lw_m7 69 rfl) rfl
theorem q1564 : (Jvm.Cond.soleField "ConditionWise$Table" "asked") ∈ lw_all := lw_g (lw_at lw_m7 70 rfl) rfl
theorem q1565 : (Jvm.Cond.laysFinal "ConditionWise$Table" "ConditionWise$Table" "deciding" "[I") ∈ lw_all := lw_g (lw_at lw_m7 71 rfl) rfl
theorem q1566 : (Jvm.Cond.soleField "ConditionWise$Table" "deciding") ∈ lw_all := lw_g (lw_at lw_m7 72 rfl) rfl
theorem q1567 : (Jvm.Cond.laysFinal "ConditionWise$Table" "ConditionWise$Table" "partners" "[[I") ∈ lw_all := lw_g (lw_at lw_m7 73 rfl) rfl
theorem q1568 : (Jvm.Cond.soleField "ConditionWise$Table" "partners") ∈ lw_all := lw_g (lw_at lw_m7 74 rfl) rfl
theorem q1569 : (Jvm.Cond.laysFinal "ConditionWise$Table" "ConditionWise$Table" "this$0" "LConditionWise;") ∈ lw_all := lw_g (lw_at lw_m7 75 rfl) rfl
theorem q1570 : (Jvm.Cond.soleField "ConditionWise$Table" "this$0") ∈ lw_all := lw_g (lw_at lw_m7 76 rfl) rfl
theorem q1571 : (Jvm.Cond.superclass "ConditionWise$Table" "java/lang/Object") ∈ lw_all := lw_g (lw_at lw_m7 77 rfl) rfl
theorem q1581 : (Jvm.Cond.instanceMethod ({ cls := "ConditionWise$Table", name := "pairs", desc := "(I)I" } : Jvm.MethodName)) ∈ lw_all := lw_g (lw_at lw_m7 87 rfl) rfl
theorem q1582 : (Jvm.Cond.selects "ConditionWise$Table" ({ cls := "ConditionWise$Table", name := "pairs", desc := "(I)I" } : Jvm.MethodName) ({ cls := "ConditionWise$Table", name := "pairs", desc := "(I)I" } : Jvm.MethodName)) ∈ lw_all := lw_g (lw_at lw_m7 88 rfl) rfl
theorem q1583 : (Jvm.Cond.code ({ cls := "ConditionWise$Table", name := "pairs", desc := "(I)I" } : Jvm.MethodName) prog_12_method_6_code (4 : Nat) (Option.some Jvm.ClassFile.FieldType.int)) ∈ lw_all := lw_g (lw_at lw_m7 89 rfl) rfl
theorem q1584 : (Jvm.Cond.methodLink "ConditionWise$Table" (84 : Nat) ({ cls := "java/lang/Integer", name := "bitCount", desc := "(I)I" } : Jvm.MethodName)) ∈ lw_all := lw_g (lw_at lw_m7 90 rfl) rfl
theorem q1594 : (Jvm.Cond.instanceMethod ({ cls := "ConditionWise$Table", name := "pairAt", desc := "(II)I" } : Jvm.MethodName)) ∈ lw_all := lw_g (lw_at lw_m7 100 rfl) rfl
theorem q1595 : (Jvm.Cond.selects "ConditionWise$Table" ({ cls := "ConditionWise$Table", name := "pairAt", desc := "(II)I" } : Jvm.MethodName) ({ cls := "ConditionWise$Table", name := "pairAt", desc := "(II)I" } : Jvm.MethodName)) ∈ lw_all := lw_g (lw_at lw_m7 101 rfl) rfl
theorem q1596 : (Jvm.Cond.code ({ cls := "ConditionWise$Table", name := "pairAt", desc := "(II)I" } : Jvm.MethodName) prog_12_method_7_code (7 : Nat) (Option.some Jvm.ClassFile.FieldType.int)) ∈ lw_all := lw_g (lw_at lw_m7 102 rfl) rfl
theorem q1620 : (Jvm.Cond.instanceMethod ({ cls := "ConditionWise$Table", name := "possible", desc := "()I" } : Jvm.MethodName)) ∈ lw_all := lw_g (lw_at lw_m7 126 rfl) rfl
theorem q1621 : (Jvm.Cond.selects "ConditionWise$Table" ({ cls := "ConditionWise$Table", name := "possible", desc := "()I" } : Jvm.MethodName) ({ cls := "ConditionWise$Table", name := "possible", desc := "()I" } : Jvm.MethodName)) ∈ lw_all := lw_g (lw_at lw_m7 127 rfl) rfl
theorem q1622 : (Jvm.Cond.code ({ cls := "ConditionWise$Table", name := "possible", desc := "()I" } : Jvm.MethodName) prog_12_method_5_code (1 : Nat) (Option.some Jvm.ClassFile.FieldType.int)) ∈ lw_all := lw_g (lw_at lw_m7 128 rfl) rfl
theorem q1623 : (Jvm.Cond.constant "ConditionWise$Table" (80 : Nat) (65535 : Int32)) ∈ lw_all := lw_g (lw_at lw_m7 129 rfl) rfl
theorem q1624 : (Jvm.Cond.methodLink "ConditionWise$Table" (81 : Nat) ({ cls := "ConditionWise$Table", name := "covered", desc := "(I)I" } : Jvm.MethodName)) ∈ lw_all := lw_g (lw_at lw_m7 130 rfl) rfl
theorem q1625 : (Jvm.Cond.instanceMethod ({ cls := "ConditionWise$Table", name := "covered", desc := "(I)I" } : Jvm.MethodName)) ∈ lw_all := lw_g (lw_at lw_m7 131 rfl) rfl
theorem q1626 : (Jvm.Cond.selects "ConditionWise$Table" ({ cls := "ConditionWise$Table", name := "covered", desc := "(I)I" } : Jvm.MethodName) ({ cls := "ConditionWise$Table", name := "covered", desc := "(I)I" } : Jvm.MethodName)) ∈ lw_all := lw_g (lw_at lw_m7 132 rfl) rfl
theorem q1627 : (Jvm.Cond.code ({ cls := "ConditionWise$Table", name := "covered", desc := "(I)I" } : Jvm.MethodName) prog_12_method_4_code (6 : Nat) (Option.some Jvm.ClassFile.FieldType.int)) ∈ lw_all := lw_g (lw_at lw_m7 133 rfl) rfl
theorem q1686 : (Jvm.Cond.instanceMethod ({ cls := "ConditionWise$Table", name := "fewest", desc := "(II)I" } : Jvm.MethodName)) ∈ lw_all := lw_g (lw_at lw_m7 192 rfl) rfl
theorem q1687 : (Jvm.Cond.selects "ConditionWise$Table" ({ cls := "ConditionWise$Table", name := "fewest", desc := "(II)I" } : Jvm.MethodName) ({ cls := "ConditionWise$Table", name := "fewest", desc := "(II)I" } : Jvm.MethodName)) ∈ lw_all := lw_g (lw_at lw_m7 193 rfl) rfl
theorem q1688 : (Jvm.Cond.code ({ cls := "ConditionWise$Table", name := "fewest", desc := "(II)I" } : Jvm.MethodName) prog_12_method_8_code (6 : Nat) (Option.some Jvm.ClassFile.FieldType.int)) ∈ lw_all := lw_g (lw_at lw_m7 194 rfl) rfl
theorem q1689 : (Jvm.Cond.methodLink "ConditionWise$Table" (89 : Nat) ({ cls := "ConditionWise$Table", name := "possible", desc := "()I" } : Jvm.MethodName)) ∈ lw_all := lw_g (lw_at lw_m7 195 rfl) rfl
theorem q1690 : (Jvm.Cond.methodLink "ConditionWise$Table" (92 : Nat) ({ cls := "ConditionWise$Table", name := "first", desc := "(IIII)I" } : Jvm.MethodName)) ∈ lw_all := lw_g (lw_at lw_m7 196 rfl) rfl
theorem q1691 : (Jvm.Cond.privateMethod ({ cls := "ConditionWise$Table", name := "first", desc := "(IIII)I" } : Jvm.MethodName)) ∈ lw_tbl := lw_at lw_m7 197 rfl
theorem q1692 : (Jvm.Cond.instanceMethod ({ cls := "ConditionWise$Table", name := "first", desc := "(IIII)I" } : Jvm.MethodName)) ∈ lw_all := lw_g (lw_at lw_m7 198 rfl) rfl
theorem q1693 : (Jvm.Cond.code ({ cls := "ConditionWise$Table", name := "first", desc := "(IIII)I" } : Jvm.MethodName) prog_12_method_9_code (8 : Nat) (Option.some Jvm.ClassFile.FieldType.int)) ∈ lw_all := lw_g (lw_at lw_m7 199 rfl) rfl
theorem q2171 : (Jvm.Cond.castable "ConditionWise$Table" "java/lang/Object") ∈ lw_tbl := lw_at lw_m9 197 rfl
theorem in_X14 : ∀ w ∈ wsX140, w ∈ lw_all := lw_in wsX140 [1553, 1555, 1557, 1559, 1561, 1563, 1565, 1567, 1569] (by decide +kernel) (by decide +kernel)
