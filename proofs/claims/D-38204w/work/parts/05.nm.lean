/-! CanecrushModel -/
set_option maxRecDepth 100000
def RX3 : String := "CanecrushModel"
def TX3 : u_T := fun k => match k with
  | 0 => ("CanecrushModel", "thrown", "I", false)
  | 1 => ("CanecrushModel", "estate", "LCanecrushModel$Estate;", true)
  | 2 => ("CanecrushModel", "paid", "[I", true)
  | _ => ("CanecrushModel", "behind", "I", false)
def tyX3 : Nat → FieldType := fun k => match k with
  | 0 => .int
  | 1 => .object "CanecrushModel$Estate"
  | 2 => .array .int
  | _ => .int
abbrev wsX30 : List Cond := u_ws RX3 TX3 4
theorem nmX3 : ∀ a, a < 4 → ∀ b, b < 4 → a ≠ b → (TX3 a).2.1 ≠ (TX3 b).2.1 := by decide +kernel
theorem tyX3_ok : ∀ k, k < 4 → parseFieldDescriptor (TX3 k).2.2.1 = some (tyX3 k) := by decide +kernel
abbrev cX3_init : ByteArray := prog_7_method_3_code
def yX3_init : MethodName := ⟨RX3, "<init>", "()V"⟩
def dkwX3_init_0 : List UInt8 := [42, 183, 0, 10, 42, 187, 0, 16, 89, 183, 0, 18, 181, 0, 19, 42, 7, 188, 10, 181, 0, 25, 177]
abbrev dktX3_init_0 : List UInt8 := dkwX3_init_0 ++ []
theorem dksX3_init_0 : cX3_init.data.toList.drop 0 = dktX3_init_0 := by decide +kernel
theorem dX3_init_0 : decode cX3_init 0 = .ok (.aload_n 0, 1) := dk_42 (dk_at dksX3_init_0 0 rfl rfl)
theorem dX3_init_1 : decode cX3_init 1 = .ok (.invokespecial 10, 3) := dk_183 0 10 (dk_at dksX3_init_0 1 rfl rfl)
theorem dX3_init_4 : decode cX3_init 4 = .ok (.aload_n 0, 1) := dk_42 (dk_at dksX3_init_0 4 rfl rfl)
theorem dX3_init_5 : decode cX3_init 5 = .ok (.new 16, 3) := dk_187 0 16 (dk_at dksX3_init_0 5 rfl rfl)
theorem dX3_init_8 : decode cX3_init 8 = .ok (.dup, 1) := dk_89 (dk_at dksX3_init_0 8 rfl rfl)
theorem dX3_init_9 : decode cX3_init 9 = .ok (.invokespecial 18, 3) := dk_183 0 18 (dk_at dksX3_init_0 9 rfl rfl)
theorem dX3_init_12 : decode cX3_init 12 = .ok (.putfield 19, 3) := dk_181 0 19 (dk_at dksX3_init_0 12 rfl rfl)
theorem dX3_init_15 : decode cX3_init 15 = .ok (.aload_n 0, 1) := dk_42 (dk_at dksX3_init_0 15 rfl rfl)
theorem dX3_init_16 : decode cX3_init 16 = .ok (.iconst 4, 1) := dk_7 (dk_at dksX3_init_0 16 rfl rfl)
theorem dX3_init_17 : decode cX3_init 17 = .ok (.newarray .int, 2) := dk_188_10 (dk_at dksX3_init_0 17 rfl rfl)
theorem dX3_init_19 : decode cX3_init 19 = .ok (.putfield 25, 3) := dk_181 0 25 (dk_at dksX3_init_0 19 rfl rfl)
theorem dX3_init_22 : decode cX3_init 22 = .ok (.return_, 1) := dk_177 (dk_at dksX3_init_0 22 rfl rfl)
abbrev cX3_thrown : ByteArray := prog_7_method_4_code
def yX3_thrown : MethodName := ⟨RX3, "thrown", "()I"⟩
theorem dX3_thrown_0 : decode cX3_thrown 0 = .ok (.aload_n 0, 1) := by decide +kernel
theorem dX3_thrown_1 : decode cX3_thrown 1 = .ok (.getfield 29, 3) := by decide +kernel
theorem dX3_thrown_4 : decode cX3_thrown 4 = .ok (.ireturn, 1) := by decide +kernel
abbrev cX3_field : ByteArray := prog_7_method_12_code
def yX3_field : MethodName := ⟨RX3, "field", "(III)I"⟩
def dkwX3_field_4 : List UInt8 := [182, 0, 69, 87, 42, 180, 0, 19, 180, 0, 41, 182, 0, 45, 4, 100, 172]
abbrev dktX3_field_4 : List UInt8 := dkwX3_field_4 ++ []
def dkwX3_field_3 : List UInt8 := [153, 0, 5, 3, 172, 42, 180, 0, 19, 180, 0, 41, 187, 0, 64, 89, 27, 28, 29, 183, 0, 66]
abbrev dktX3_field_3 : List UInt8 := dkwX3_field_3 ++ dktX3_field_4
def dkwX3_field_2 : List UInt8 := [180, 0, 19, 180, 0, 41, 182, 0, 45, 16, 10, 160, 0, 7, 4, 167, 0, 4, 3, 6, 182, 0, 33]
abbrev dktX3_field_2 : List UInt8 := dkwX3_field_2 ++ dktX3_field_3
def dkwX3_field_1 : List UInt8 := [4, 16, 6, 184, 0, 37, 154, 0, 7, 4, 167, 0, 4, 3, 5, 182, 0, 33, 154, 0, 31, 42, 42]
abbrev dktX3_field_1 : List UInt8 := dkwX3_field_1 ++ dktX3_field_2
def dkwX3_field_0 : List UInt8 := [42, 27, 184, 0, 57, 4, 182, 0, 61, 154, 0, 64, 42, 28, 4, 16, 9, 184, 0, 37, 153, 0, 13, 29]
abbrev dktX3_field_0 : List UInt8 := dkwX3_field_0 ++ dktX3_field_1
theorem dksX3_field_0 : cX3_field.data.toList.drop 0 = dktX3_field_0 := by decide +kernel
theorem dksX3_field_1 : cX3_field.data.toList.drop 24 = dktX3_field_1 := dk_seg dksX3_field_0 24 rfl rfl
theorem dksX3_field_2 : cX3_field.data.toList.drop 47 = dktX3_field_2 := dk_seg dksX3_field_1 23 rfl rfl
theorem dksX3_field_3 : cX3_field.data.toList.drop 70 = dktX3_field_3 := dk_seg dksX3_field_2 23 rfl rfl
theorem dksX3_field_4 : cX3_field.data.toList.drop 92 = dktX3_field_4 := dk_seg dksX3_field_3 22 rfl rfl
theorem dX3_field_0 : decode cX3_field 0 = .ok (.aload_n 0, 1) := dk_42 (dk_at dksX3_field_0 0 rfl rfl)
theorem dX3_field_1 : decode cX3_field 1 = .ok (.iload_n 1, 1) := dk_27 (dk_at dksX3_field_0 1 rfl rfl)
theorem dX3_field_2 : decode cX3_field 2 = .ok (.invokestatic 57, 3) := dk_184 0 57 (dk_at dksX3_field_0 2 rfl rfl)
theorem dX3_field_5 : decode cX3_field 5 = .ok (.iconst 1, 1) := dk_4 (dk_at dksX3_field_0 5 rfl rfl)
theorem dX3_field_6 : decode cX3_field 6 = .ok (.invokevirtual 61, 3) := dk_182 0 61 (dk_at dksX3_field_0 6 rfl rfl)
theorem dX3_field_9 : decode cX3_field 9 = .ok (.ifCond .ne 64, 3) := dk_154 0 64 (dk_at dksX3_field_0 9 rfl rfl)
theorem dX3_field_12 : decode cX3_field 12 = .ok (.aload_n 0, 1) := dk_42 (dk_at dksX3_field_0 12 rfl rfl)
theorem dX3_field_13 : decode cX3_field 13 = .ok (.iload_n 2, 1) := dk_28 (dk_at dksX3_field_0 13 rfl rfl)
theorem dX3_field_14 : decode cX3_field 14 = .ok (.iconst 1, 1) := dk_4 (dk_at dksX3_field_0 14 rfl rfl)
theorem dX3_field_15 : decode cX3_field 15 = .ok (.bipush 9, 2) := dk_16 9 (dk_at dksX3_field_0 15 rfl rfl)
theorem dX3_field_17 : decode cX3_field 17 = .ok (.invokestatic 37, 3) := dk_184 0 37 (dk_at dksX3_field_0 17 rfl rfl)
theorem dX3_field_20 : decode cX3_field 20 = .ok (.ifCond .eq 13, 3) := dk_153 0 13 (dk_at dksX3_field_0 20 rfl rfl)
theorem dX3_field_23 : decode cX3_field 23 = .ok (.iload_n 3, 1) := dk_29 (dk_at dksX3_field_0 23 rfl rfl)
theorem dX3_field_24 : decode cX3_field 24 = .ok (.iconst 1, 1) := dk_4 (dk_at dksX3_field_1 0 rfl rfl)
theorem dX3_field_25 : decode cX3_field 25 = .ok (.bipush 6, 2) := dk_16 6 (dk_at dksX3_field_1 1 rfl rfl)
theorem dX3_field_27 : decode cX3_field 27 = .ok (.invokestatic 37, 3) := dk_184 0 37 (dk_at dksX3_field_1 3 rfl rfl)
theorem dX3_field_30 : decode cX3_field 30 = .ok (.ifCond .ne 7, 3) := dk_154 0 7 (dk_at dksX3_field_1 6 rfl rfl)
theorem dX3_field_33 : decode cX3_field 33 = .ok (.iconst 1, 1) := dk_4 (dk_at dksX3_field_1 9 rfl rfl)
theorem dX3_field_34 : decode cX3_field 34 = .ok (.goto 4, 3) := dk_167 0 4 (dk_at dksX3_field_1 10 rfl rfl)
theorem dX3_field_37 : decode cX3_field 37 = .ok (.iconst 0, 1) := dk_3 (dk_at dksX3_field_1 13 rfl rfl)
theorem dX3_field_38 : decode cX3_field 38 = .ok (.iconst 2, 1) := dk_5 (dk_at dksX3_field_1 14 rfl rfl)
theorem dX3_field_39 : decode cX3_field 39 = .ok (.invokevirtual 33, 3) := dk_182 0 33 (dk_at dksX3_field_1 15 rfl rfl)
theorem dX3_field_42 : decode cX3_field 42 = .ok (.ifCond .ne 31, 3) := dk_154 0 31 (dk_at dksX3_field_1 18 rfl rfl)
theorem dX3_field_45 : decode cX3_field 45 = .ok (.aload_n 0, 1) := dk_42 (dk_at dksX3_field_1 21 rfl rfl)
theorem dX3_field_46 : decode cX3_field 46 = .ok (.aload_n 0, 1) := dk_42 (dk_at dksX3_field_1 22 rfl rfl)
theorem dX3_field_47 : decode cX3_field 47 = .ok (.getfield 19, 3) := dk_180 0 19 (dk_at dksX3_field_2 0 rfl rfl)
theorem dX3_field_50 : decode cX3_field 50 = .ok (.getfield 41, 3) := dk_180 0 41 (dk_at dksX3_field_2 3 rfl rfl)
theorem dX3_field_53 : decode cX3_field 53 = .ok (.invokevirtual 45, 3) := dk_182 0 45 (dk_at dksX3_field_2 6 rfl rfl)
theorem dX3_field_56 : decode cX3_field 56 = .ok (.bipush 10, 2) := dk_16 10 (dk_at dksX3_field_2 9 rfl rfl)
theorem dX3_field_58 : decode cX3_field 58 = .ok (.if_icmp .ne 7, 3) := dk_160 0 7 (dk_at dksX3_field_2 11 rfl rfl)
theorem dX3_field_61 : decode cX3_field 61 = .ok (.iconst 1, 1) := dk_4 (dk_at dksX3_field_2 14 rfl rfl)
theorem dX3_field_62 : decode cX3_field 62 = .ok (.goto 4, 3) := dk_167 0 4 (dk_at dksX3_field_2 15 rfl rfl)
theorem dX3_field_65 : decode cX3_field 65 = .ok (.iconst 0, 1) := dk_3 (dk_at dksX3_field_2 18 rfl rfl)
theorem dX3_field_66 : decode cX3_field 66 = .ok (.iconst 3, 1) := dk_6 (dk_at dksX3_field_2 19 rfl rfl)
theorem dX3_field_67 : decode cX3_field 67 = .ok (.invokevirtual 33, 3) := dk_182 0 33 (dk_at dksX3_field_2 20 rfl rfl)
theorem dX3_field_70 : decode cX3_field 70 = .ok (.ifCond .eq 5, 3) := dk_153 0 5 (dk_at dksX3_field_3 0 rfl rfl)
theorem dX3_field_73 : decode cX3_field 73 = .ok (.iconst 0, 1) := dk_3 (dk_at dksX3_field_3 3 rfl rfl)
theorem dX3_field_74 : decode cX3_field 74 = .ok (.ireturn, 1) := dk_172 (dk_at dksX3_field_3 4 rfl rfl)
theorem dX3_field_75 : decode cX3_field 75 = .ok (.aload_n 0, 1) := dk_42 (dk_at dksX3_field_3 5 rfl rfl)
theorem dX3_field_76 : decode cX3_field 76 = .ok (.getfield 19, 3) := dk_180 0 19 (dk_at dksX3_field_3 6 rfl rfl)
theorem dX3_field_79 : decode cX3_field 79 = .ok (.getfield 41, 3) := dk_180 0 41 (dk_at dksX3_field_3 9 rfl rfl)
theorem dX3_field_82 : decode cX3_field 82 = .ok (.new 64, 3) := dk_187 0 64 (dk_at dksX3_field_3 12 rfl rfl)
theorem dX3_field_85 : decode cX3_field 85 = .ok (.dup, 1) := dk_89 (dk_at dksX3_field_3 15 rfl rfl)
theorem dX3_field_86 : decode cX3_field 86 = .ok (.iload_n 1, 1) := dk_27 (dk_at dksX3_field_3 16 rfl rfl)
theorem dX3_field_87 : decode cX3_field 87 = .ok (.iload_n 2, 1) := dk_28 (dk_at dksX3_field_3 17 rfl rfl)
theorem dX3_field_88 : decode cX3_field 88 = .ok (.iload_n 3, 1) := dk_29 (dk_at dksX3_field_3 18 rfl rfl)
theorem dX3_field_89 : decode cX3_field 89 = .ok (.invokespecial 66, 3) := dk_183 0 66 (dk_at dksX3_field_3 19 rfl rfl)
theorem dX3_field_92 : decode cX3_field 92 = .ok (.invokevirtual 69, 3) := dk_182 0 69 (dk_at dksX3_field_4 0 rfl rfl)
theorem dX3_field_95 : decode cX3_field 95 = .ok (.pop, 1) := dk_87 (dk_at dksX3_field_4 3 rfl rfl)
theorem dX3_field_96 : decode cX3_field 96 = .ok (.aload_n 0, 1) := dk_42 (dk_at dksX3_field_4 4 rfl rfl)
theorem dX3_field_97 : decode cX3_field 97 = .ok (.getfield 19, 3) := dk_180 0 19 (dk_at dksX3_field_4 5 rfl rfl)
theorem dX3_field_100 : decode cX3_field 100 = .ok (.getfield 41, 3) := dk_180 0 41 (dk_at dksX3_field_4 8 rfl rfl)
theorem dX3_field_103 : decode cX3_field 103 = .ok (.invokevirtual 45, 3) := dk_182 0 45 (dk_at dksX3_field_4 11 rfl rfl)
theorem dX3_field_106 : decode cX3_field 106 = .ok (.iconst 1, 1) := dk_4 (dk_at dksX3_field_4 14 rfl rfl)
theorem dX3_field_107 : decode cX3_field 107 = .ok (.isub, 1) := dk_100 (dk_at dksX3_field_4 15 rfl rfl)
theorem dX3_field_108 : decode cX3_field 108 = .ok (.ireturn, 1) := dk_172 (dk_at dksX3_field_4 16 rfl rfl)
abbrev cX3_isNoGrower : ByteArray := prog_7_method_7_code
def yX3_isNoGrower : MethodName := ⟨RX3, "isNoGrower", "(I)Z"⟩
def dkwX3_isNoGrower_0 : List UInt8 := [26, 3, 6, 184, 0, 37, 154, 0, 7, 4, 167, 0, 4, 3, 172]
abbrev dktX3_isNoGrower_0 : List UInt8 := dkwX3_isNoGrower_0 ++ []
theorem dksX3_isNoGrower_0 : cX3_isNoGrower.data.toList.drop 0 = dktX3_isNoGrower_0 := by decide +kernel
theorem dX3_isNoGrower_0 : decode cX3_isNoGrower 0 = .ok (.iload_n 0, 1) := dk_26 (dk_at dksX3_isNoGrower_0 0 rfl rfl)
theorem dX3_isNoGrower_1 : decode cX3_isNoGrower 1 = .ok (.iconst 0, 1) := dk_3 (dk_at dksX3_isNoGrower_0 1 rfl rfl)
theorem dX3_isNoGrower_2 : decode cX3_isNoGrower 2 = .ok (.iconst 3, 1) := dk_6 (dk_at dksX3_isNoGrower_0 2 rfl rfl)
theorem dX3_isNoGrower_3 : decode cX3_isNoGrower 3 = .ok (.invokestatic 37, 3) := dk_184 0 37 (dk_at dksX3_isNoGrower_0 3 rfl rfl)
theorem dX3_isNoGrower_6 : decode cX3_isNoGrower 6 = .ok (.ifCond .ne 7, 3) := dk_154 0 7 (dk_at dksX3_isNoGrower_0 6 rfl rfl)
theorem dX3_isNoGrower_9 : decode cX3_isNoGrower 9 = .ok (.iconst 1, 1) := dk_4 (dk_at dksX3_isNoGrower_0 9 rfl rfl)
theorem dX3_isNoGrower_10 : decode cX3_isNoGrower 10 = .ok (.goto 4, 3) := dk_167 0 4 (dk_at dksX3_isNoGrower_0 10 rfl rfl)
theorem dX3_isNoGrower_13 : decode cX3_isNoGrower 13 = .ok (.iconst 0, 1) := dk_3 (dk_at dksX3_isNoGrower_0 13 rfl rfl)
theorem dX3_isNoGrower_14 : decode cX3_isNoGrower 14 = .ok (.ireturn, 1) := dk_172 (dk_at dksX3_isNoGrower_0 14 rfl rfl)
abbrev cX3_isIn : ByteArray := prog_7_method_1_code
def yX3_isIn : MethodName := ⟨RX3, "isIn", "(III)Z"⟩
def dkwX3_isIn_0 : List UInt8 := [26, 27, 161, 0, 12, 26, 28, 163, 0, 7, 4, 167, 0, 4, 3, 172]
abbrev dktX3_isIn_0 : List UInt8 := dkwX3_isIn_0 ++ []
theorem dksX3_isIn_0 : cX3_isIn.data.toList.drop 0 = dktX3_isIn_0 := by decide +kernel
theorem dX3_isIn_0 : decode cX3_isIn 0 = .ok (.iload_n 0, 1) := dk_26 (dk_at dksX3_isIn_0 0 rfl rfl)
theorem dX3_isIn_1 : decode cX3_isIn 1 = .ok (.iload_n 1, 1) := dk_27 (dk_at dksX3_isIn_0 1 rfl rfl)
theorem dX3_isIn_2 : decode cX3_isIn 2 = .ok (.if_icmp .lt 12, 3) := dk_161 0 12 (dk_at dksX3_isIn_0 2 rfl rfl)
theorem dX3_isIn_5 : decode cX3_isIn 5 = .ok (.iload_n 0, 1) := dk_26 (dk_at dksX3_isIn_0 5 rfl rfl)
theorem dX3_isIn_6 : decode cX3_isIn 6 = .ok (.iload_n 2, 1) := dk_28 (dk_at dksX3_isIn_0 6 rfl rfl)
theorem dX3_isIn_7 : decode cX3_isIn 7 = .ok (.if_icmp .gt 7, 3) := dk_163 0 7 (dk_at dksX3_isIn_0 7 rfl rfl)
theorem dX3_isIn_10 : decode cX3_isIn 10 = .ok (.iconst 1, 1) := dk_4 (dk_at dksX3_isIn_0 10 rfl rfl)
theorem dX3_isIn_11 : decode cX3_isIn 11 = .ok (.goto 4, 3) := dk_167 0 4 (dk_at dksX3_isIn_0 11 rfl rfl)
theorem dX3_isIn_14 : decode cX3_isIn 14 = .ok (.iconst 0, 1) := dk_3 (dk_at dksX3_isIn_0 14 rfl rfl)
theorem dX3_isIn_15 : decode cX3_isIn 15 = .ok (.ireturn, 1) := dk_172 (dk_at dksX3_isIn_0 15 rfl rfl)
abbrev cX3_start : ByteArray := prog_7_method_6_code
def yX3_start : MethodName := ⟨RX3, "start", "(ZI)Z"⟩
def dkwX3_start_0 : List UInt8 := [42, 3, 181, 0, 29, 42, 27, 28, 182, 0, 33, 172]
abbrev dktX3_start_0 : List UInt8 := dkwX3_start_0 ++ []
theorem dksX3_start_0 : cX3_start.data.toList.drop 0 = dktX3_start_0 := by decide +kernel
theorem dX3_start_0 : decode cX3_start 0 = .ok (.aload_n 0, 1) := dk_42 (dk_at dksX3_start_0 0 rfl rfl)
theorem dX3_start_1 : decode cX3_start 1 = .ok (.iconst 0, 1) := dk_3 (dk_at dksX3_start_0 1 rfl rfl)
theorem dX3_start_2 : decode cX3_start 2 = .ok (.putfield 29, 3) := dk_181 0 29 (dk_at dksX3_start_0 2 rfl rfl)
theorem dX3_start_5 : decode cX3_start 5 = .ok (.aload_n 0, 1) := dk_42 (dk_at dksX3_start_0 5 rfl rfl)
theorem dX3_start_6 : decode cX3_start 6 = .ok (.iload_n 1, 1) := dk_27 (dk_at dksX3_start_0 6 rfl rfl)
theorem dX3_start_7 : decode cX3_start 7 = .ok (.iload_n 2, 1) := dk_28 (dk_at dksX3_start_0 7 rfl rfl)
theorem dX3_start_8 : decode cX3_start 8 = .ok (.invokevirtual 33, 3) := dk_182 0 33 (dk_at dksX3_start_0 8 rfl rfl)
theorem dX3_start_11 : decode cX3_start 11 = .ok (.ireturn, 1) := dk_172 (dk_at dksX3_start_0 11 rfl rfl)
abbrev cX3_refuse : ByteArray := prog_7_method_5_code
def yX3_refuse : MethodName := ⟨RX3, "refuse", "(ZI)Z"⟩
def dkwX3_refuse_1 : List UInt8 := [167, 0, 4, 3, 172]
abbrev dktX3_refuse_1 : List UInt8 := dkwX3_refuse_1 ++ []
def dkwX3_refuse_0 : List UInt8 := [27, 153, 0, 15, 42, 180, 0, 29, 154, 0, 8, 42, 28, 181, 0, 29, 42, 180, 0, 29, 158, 0, 7, 4]
abbrev dktX3_refuse_0 : List UInt8 := dkwX3_refuse_0 ++ dktX3_refuse_1
theorem dksX3_refuse_0 : cX3_refuse.data.toList.drop 0 = dktX3_refuse_0 := by decide +kernel
theorem dksX3_refuse_1 : cX3_refuse.data.toList.drop 24 = dktX3_refuse_1 := dk_seg dksX3_refuse_0 24 rfl rfl
theorem dX3_refuse_0 : decode cX3_refuse 0 = .ok (.iload_n 1, 1) := dk_27 (dk_at dksX3_refuse_0 0 rfl rfl)
theorem dX3_refuse_1 : decode cX3_refuse 1 = .ok (.ifCond .eq 15, 3) := dk_153 0 15 (dk_at dksX3_refuse_0 1 rfl rfl)
theorem dX3_refuse_4 : decode cX3_refuse 4 = .ok (.aload_n 0, 1) := dk_42 (dk_at dksX3_refuse_0 4 rfl rfl)
theorem dX3_refuse_5 : decode cX3_refuse 5 = .ok (.getfield 29, 3) := dk_180 0 29 (dk_at dksX3_refuse_0 5 rfl rfl)
theorem dX3_refuse_8 : decode cX3_refuse 8 = .ok (.ifCond .ne 8, 3) := dk_154 0 8 (dk_at dksX3_refuse_0 8 rfl rfl)
theorem dX3_refuse_11 : decode cX3_refuse 11 = .ok (.aload_n 0, 1) := dk_42 (dk_at dksX3_refuse_0 11 rfl rfl)
theorem dX3_refuse_12 : decode cX3_refuse 12 = .ok (.iload_n 2, 1) := dk_28 (dk_at dksX3_refuse_0 12 rfl rfl)
theorem dX3_refuse_13 : decode cX3_refuse 13 = .ok (.putfield 29, 3) := dk_181 0 29 (dk_at dksX3_refuse_0 13 rfl rfl)
theorem dX3_refuse_16 : decode cX3_refuse 16 = .ok (.aload_n 0, 1) := dk_42 (dk_at dksX3_refuse_0 16 rfl rfl)
theorem dX3_refuse_17 : decode cX3_refuse 17 = .ok (.getfield 29, 3) := dk_180 0 29 (dk_at dksX3_refuse_0 17 rfl rfl)
theorem dX3_refuse_20 : decode cX3_refuse 20 = .ok (.ifCond .le 7, 3) := dk_158 0 7 (dk_at dksX3_refuse_0 20 rfl rfl)
theorem dX3_refuse_23 : decode cX3_refuse 23 = .ok (.iconst 1, 1) := dk_4 (dk_at dksX3_refuse_0 23 rfl rfl)
theorem dX3_refuse_24 : decode cX3_refuse 24 = .ok (.goto 4, 3) := dk_167 0 4 (dk_at dksX3_refuse_1 0 rfl rfl)
theorem dX3_refuse_27 : decode cX3_refuse 27 = .ok (.iconst 0, 1) := dk_3 (dk_at dksX3_refuse_1 3 rfl rfl)
theorem dX3_refuse_28 : decode cX3_refuse 28 = .ok (.ireturn, 1) := dk_172 (dk_at dksX3_refuse_1 4 rfl rfl)
abbrev cX3_truck : ByteArray := prog_7_method_13_code
def yX3_truck : MethodName := ⟨RX3, "truck", "()I"⟩
def dkwX3_truck_2 : List UInt8 := [180, 0, 19, 180, 0, 51, 182, 0, 45, 4, 100, 172]
abbrev dktX3_truck_2 : List UInt8 := dkwX3_truck_2 ++ []
def dkwX3_truck_1 : List UInt8 := [153, 0, 5, 3, 172, 42, 180, 0, 19, 180, 0, 51, 187, 0, 73, 89, 183, 0, 75, 182, 0, 69, 87, 42]
abbrev dktX3_truck_1 : List UInt8 := dkwX3_truck_1 ++ dktX3_truck_2
def dkwX3_truck_0 : List UInt8 := [42, 42, 180, 0, 19, 180, 0, 51, 182, 0, 45, 8, 160, 0, 7, 4, 167, 0, 4, 3, 4, 182, 0, 61]
abbrev dktX3_truck_0 : List UInt8 := dkwX3_truck_0 ++ dktX3_truck_1
theorem dksX3_truck_0 : cX3_truck.data.toList.drop 0 = dktX3_truck_0 := by decide +kernel
theorem dksX3_truck_1 : cX3_truck.data.toList.drop 24 = dktX3_truck_1 := dk_seg dksX3_truck_0 24 rfl rfl
theorem dksX3_truck_2 : cX3_truck.data.toList.drop 48 = dktX3_truck_2 := dk_seg dksX3_truck_1 24 rfl rfl
theorem dX3_truck_0 : decode cX3_truck 0 = .ok (.aload_n 0, 1) := dk_42 (dk_at dksX3_truck_0 0 rfl rfl)
theorem dX3_truck_1 : decode cX3_truck 1 = .ok (.aload_n 0, 1) := dk_42 (dk_at dksX3_truck_0 1 rfl rfl)
theorem dX3_truck_2 : decode cX3_truck 2 = .ok (.getfield 19, 3) := dk_180 0 19 (dk_at dksX3_truck_0 2 rfl rfl)
theorem dX3_truck_5 : decode cX3_truck 5 = .ok (.getfield 51, 3) := dk_180 0 51 (dk_at dksX3_truck_0 5 rfl rfl)
theorem dX3_truck_8 : decode cX3_truck 8 = .ok (.invokevirtual 45, 3) := dk_182 0 45 (dk_at dksX3_truck_0 8 rfl rfl)
theorem dX3_truck_11 : decode cX3_truck 11 = .ok (.iconst 5, 1) := dk_8 (dk_at dksX3_truck_0 11 rfl rfl)
theorem dX3_truck_12 : decode cX3_truck 12 = .ok (.if_icmp .ne 7, 3) := dk_160 0 7 (dk_at dksX3_truck_0 12 rfl rfl)
theorem dX3_truck_15 : decode cX3_truck 15 = .ok (.iconst 1, 1) := dk_4 (dk_at dksX3_truck_0 15 rfl rfl)
theorem dX3_truck_16 : decode cX3_truck 16 = .ok (.goto 4, 3) := dk_167 0 4 (dk_at dksX3_truck_0 16 rfl rfl)
theorem dX3_truck_19 : decode cX3_truck 19 = .ok (.iconst 0, 1) := dk_3 (dk_at dksX3_truck_0 19 rfl rfl)
theorem dX3_truck_20 : decode cX3_truck 20 = .ok (.iconst 1, 1) := dk_4 (dk_at dksX3_truck_0 20 rfl rfl)
theorem dX3_truck_21 : decode cX3_truck 21 = .ok (.invokevirtual 61, 3) := dk_182 0 61 (dk_at dksX3_truck_0 21 rfl rfl)
theorem dX3_truck_24 : decode cX3_truck 24 = .ok (.ifCond .eq 5, 3) := dk_153 0 5 (dk_at dksX3_truck_1 0 rfl rfl)
theorem dX3_truck_27 : decode cX3_truck 27 = .ok (.iconst 0, 1) := dk_3 (dk_at dksX3_truck_1 3 rfl rfl)
theorem dX3_truck_28 : decode cX3_truck 28 = .ok (.ireturn, 1) := dk_172 (dk_at dksX3_truck_1 4 rfl rfl)
theorem dX3_truck_29 : decode cX3_truck 29 = .ok (.aload_n 0, 1) := dk_42 (dk_at dksX3_truck_1 5 rfl rfl)
theorem dX3_truck_30 : decode cX3_truck 30 = .ok (.getfield 19, 3) := dk_180 0 19 (dk_at dksX3_truck_1 6 rfl rfl)
theorem dX3_truck_33 : decode cX3_truck 33 = .ok (.getfield 51, 3) := dk_180 0 51 (dk_at dksX3_truck_1 9 rfl rfl)
theorem dX3_truck_36 : decode cX3_truck 36 = .ok (.new 73, 3) := dk_187 0 73 (dk_at dksX3_truck_1 12 rfl rfl)
theorem dX3_truck_39 : decode cX3_truck 39 = .ok (.dup, 1) := dk_89 (dk_at dksX3_truck_1 15 rfl rfl)
theorem dX3_truck_40 : decode cX3_truck 40 = .ok (.invokespecial 75, 3) := dk_183 0 75 (dk_at dksX3_truck_1 16 rfl rfl)
theorem dX3_truck_43 : decode cX3_truck 43 = .ok (.invokevirtual 69, 3) := dk_182 0 69 (dk_at dksX3_truck_1 19 rfl rfl)
theorem dX3_truck_46 : decode cX3_truck 46 = .ok (.pop, 1) := dk_87 (dk_at dksX3_truck_1 22 rfl rfl)
theorem dX3_truck_47 : decode cX3_truck 47 = .ok (.aload_n 0, 1) := dk_42 (dk_at dksX3_truck_1 23 rfl rfl)
theorem dX3_truck_48 : decode cX3_truck 48 = .ok (.getfield 19, 3) := dk_180 0 19 (dk_at dksX3_truck_2 0 rfl rfl)
theorem dX3_truck_51 : decode cX3_truck 51 = .ok (.getfield 51, 3) := dk_180 0 51 (dk_at dksX3_truck_2 3 rfl rfl)
theorem dX3_truck_54 : decode cX3_truck 54 = .ok (.invokevirtual 45, 3) := dk_182 0 45 (dk_at dksX3_truck_2 6 rfl rfl)
theorem dX3_truck_57 : decode cX3_truck 57 = .ok (.iconst 1, 1) := dk_4 (dk_at dksX3_truck_2 9 rfl rfl)
theorem dX3_truck_58 : decode cX3_truck 58 = .ok (.isub, 1) := dk_100 (dk_at dksX3_truck_2 10 rfl rfl)
theorem dX3_truck_59 : decode cX3_truck 59 = .ok (.ireturn, 1) := dk_172 (dk_at dksX3_truck_2 11 rfl rfl)
abbrev cX3_smut : ByteArray := prog_7_method_14_code
def yX3_smut : MethodName := ⟨RX3, "smut", "(II)I"⟩
def dkwX3_smut_3 : List UInt8 := [180, 0, 83, 172]
abbrev dktX3_smut_3 : List UInt8 := dkwX3_smut_3 ++ []
def dkwX3_smut_2 : List UInt8 := [182, 0, 79, 192, 0, 64, 78, 45, 16, 100, 45, 180, 0, 83, 28, 96, 184, 0, 1, 181, 0, 83, 45]
abbrev dktX3_smut_2 : List UInt8 := dkwX3_smut_2 ++ dktX3_smut_3
def dkwX3_smut_1 : List UInt8 := [4, 167, 0, 4, 3, 5, 182, 0, 33, 153, 0, 5, 3, 172, 42, 180, 0, 19, 180, 0, 41, 27]
abbrev dktX3_smut_1 : List UInt8 := dkwX3_smut_1 ++ dktX3_smut_2
def dkwX3_smut_0 : List UInt8 := [42, 42, 27, 182, 0, 76, 4, 182, 0, 61, 154, 0, 26, 42, 28, 4, 16, 50, 184, 0, 37, 154, 0, 7]
abbrev dktX3_smut_0 : List UInt8 := dkwX3_smut_0 ++ dktX3_smut_1
theorem dksX3_smut_0 : cX3_smut.data.toList.drop 0 = dktX3_smut_0 := by decide +kernel
theorem dksX3_smut_1 : cX3_smut.data.toList.drop 24 = dktX3_smut_1 := dk_seg dksX3_smut_0 24 rfl rfl
theorem dksX3_smut_2 : cX3_smut.data.toList.drop 46 = dktX3_smut_2 := dk_seg dksX3_smut_1 22 rfl rfl
theorem dksX3_smut_3 : cX3_smut.data.toList.drop 69 = dktX3_smut_3 := dk_seg dksX3_smut_2 23 rfl rfl
theorem dX3_smut_0 : decode cX3_smut 0 = .ok (.aload_n 0, 1) := dk_42 (dk_at dksX3_smut_0 0 rfl rfl)
theorem dX3_smut_1 : decode cX3_smut 1 = .ok (.aload_n 0, 1) := dk_42 (dk_at dksX3_smut_0 1 rfl rfl)
theorem dX3_smut_2 : decode cX3_smut 2 = .ok (.iload_n 1, 1) := dk_27 (dk_at dksX3_smut_0 2 rfl rfl)
theorem dX3_smut_3 : decode cX3_smut 3 = .ok (.invokevirtual 76, 3) := dk_182 0 76 (dk_at dksX3_smut_0 3 rfl rfl)
theorem dX3_smut_6 : decode cX3_smut 6 = .ok (.iconst 1, 1) := dk_4 (dk_at dksX3_smut_0 6 rfl rfl)
theorem dX3_smut_7 : decode cX3_smut 7 = .ok (.invokevirtual 61, 3) := dk_182 0 61 (dk_at dksX3_smut_0 7 rfl rfl)
theorem dX3_smut_10 : decode cX3_smut 10 = .ok (.ifCond .ne 26, 3) := dk_154 0 26 (dk_at dksX3_smut_0 10 rfl rfl)
theorem dX3_smut_13 : decode cX3_smut 13 = .ok (.aload_n 0, 1) := dk_42 (dk_at dksX3_smut_0 13 rfl rfl)
theorem dX3_smut_14 : decode cX3_smut 14 = .ok (.iload_n 2, 1) := dk_28 (dk_at dksX3_smut_0 14 rfl rfl)
theorem dX3_smut_15 : decode cX3_smut 15 = .ok (.iconst 1, 1) := dk_4 (dk_at dksX3_smut_0 15 rfl rfl)
theorem dX3_smut_16 : decode cX3_smut 16 = .ok (.bipush 50, 2) := dk_16 50 (dk_at dksX3_smut_0 16 rfl rfl)
theorem dX3_smut_18 : decode cX3_smut 18 = .ok (.invokestatic 37, 3) := dk_184 0 37 (dk_at dksX3_smut_0 18 rfl rfl)
theorem dX3_smut_21 : decode cX3_smut 21 = .ok (.ifCond .ne 7, 3) := dk_154 0 7 (dk_at dksX3_smut_0 21 rfl rfl)
theorem dX3_smut_24 : decode cX3_smut 24 = .ok (.iconst 1, 1) := dk_4 (dk_at dksX3_smut_1 0 rfl rfl)
theorem dX3_smut_25 : decode cX3_smut 25 = .ok (.goto 4, 3) := dk_167 0 4 (dk_at dksX3_smut_1 1 rfl rfl)
theorem dX3_smut_28 : decode cX3_smut 28 = .ok (.iconst 0, 1) := dk_3 (dk_at dksX3_smut_1 4 rfl rfl)
theorem dX3_smut_29 : decode cX3_smut 29 = .ok (.iconst 2, 1) := dk_5 (dk_at dksX3_smut_1 5 rfl rfl)
theorem dX3_smut_30 : decode cX3_smut 30 = .ok (.invokevirtual 33, 3) := dk_182 0 33 (dk_at dksX3_smut_1 6 rfl rfl)
theorem dX3_smut_33 : decode cX3_smut 33 = .ok (.ifCond .eq 5, 3) := dk_153 0 5 (dk_at dksX3_smut_1 9 rfl rfl)
theorem dX3_smut_36 : decode cX3_smut 36 = .ok (.iconst 0, 1) := dk_3 (dk_at dksX3_smut_1 12 rfl rfl)
theorem dX3_smut_37 : decode cX3_smut 37 = .ok (.ireturn, 1) := dk_172 (dk_at dksX3_smut_1 13 rfl rfl)
theorem dX3_smut_38 : decode cX3_smut 38 = .ok (.aload_n 0, 1) := dk_42 (dk_at dksX3_smut_1 14 rfl rfl)
theorem dX3_smut_39 : decode cX3_smut 39 = .ok (.getfield 19, 3) := dk_180 0 19 (dk_at dksX3_smut_1 15 rfl rfl)
theorem dX3_smut_42 : decode cX3_smut 42 = .ok (.getfield 41, 3) := dk_180 0 41 (dk_at dksX3_smut_1 18 rfl rfl)
theorem dX3_smut_45 : decode cX3_smut 45 = .ok (.iload_n 1, 1) := dk_27 (dk_at dksX3_smut_1 21 rfl rfl)
theorem dX3_smut_46 : decode cX3_smut 46 = .ok (.invokevirtual 79, 3) := dk_182 0 79 (dk_at dksX3_smut_2 0 rfl rfl)
theorem dX3_smut_49 : decode cX3_smut 49 = .ok (.checkcast 64, 3) := dk_192 0 64 (dk_at dksX3_smut_2 3 rfl rfl)
theorem dX3_smut_52 : decode cX3_smut 52 = .ok (.astore_n 3, 1) := dk_78 (dk_at dksX3_smut_2 6 rfl rfl)
theorem dX3_smut_53 : decode cX3_smut 53 = .ok (.aload_n 3, 1) := dk_45 (dk_at dksX3_smut_2 7 rfl rfl)
theorem dX3_smut_54 : decode cX3_smut 54 = .ok (.bipush 100, 2) := dk_16 100 (dk_at dksX3_smut_2 8 rfl rfl)
theorem dX3_smut_56 : decode cX3_smut 56 = .ok (.aload_n 3, 1) := dk_45 (dk_at dksX3_smut_2 10 rfl rfl)
theorem dX3_smut_57 : decode cX3_smut 57 = .ok (.getfield 83, 3) := dk_180 0 83 (dk_at dksX3_smut_2 11 rfl rfl)
theorem dX3_smut_60 : decode cX3_smut 60 = .ok (.iload_n 2, 1) := dk_28 (dk_at dksX3_smut_2 14 rfl rfl)
theorem dX3_smut_61 : decode cX3_smut 61 = .ok (.iadd, 1) := dk_96 (dk_at dksX3_smut_2 15 rfl rfl)
theorem dX3_smut_62 : decode cX3_smut 62 = .ok (.invokestatic 1, 3) := dk_184 0 1 (dk_at dksX3_smut_2 16 rfl rfl)
theorem dX3_smut_65 : decode cX3_smut 65 = .ok (.putfield 83, 3) := dk_181 0 83 (dk_at dksX3_smut_2 19 rfl rfl)
theorem dX3_smut_68 : decode cX3_smut 68 = .ok (.aload_n 3, 1) := dk_45 (dk_at dksX3_smut_2 22 rfl rfl)
theorem dX3_smut_69 : decode cX3_smut 69 = .ok (.getfield 83, 3) := dk_180 0 83 (dk_at dksX3_smut_3 0 rfl rfl)
theorem dX3_smut_72 : decode cX3_smut 72 = .ok (.ireturn, 1) := dk_172 (dk_at dksX3_smut_3 3 rfl rfl)
abbrev cX3_isNoField : ByteArray := prog_7_method_8_code
def yX3_isNoField : MethodName := ⟨RX3, "isNoField", "(I)Z"⟩
def dkwX3_isNoField_1 : List UInt8 := [3, 172]
abbrev dktX3_isNoField_1 : List UInt8 := dkwX3_isNoField_1 ++ []
def dkwX3_isNoField_0 : List UInt8 := [27, 3, 42, 180, 0, 19, 180, 0, 41, 182, 0, 45, 4, 100, 184, 0, 37, 154, 0, 7, 4, 167, 0, 4]
abbrev dktX3_isNoField_0 : List UInt8 := dkwX3_isNoField_0 ++ dktX3_isNoField_1
theorem dksX3_isNoField_0 : cX3_isNoField.data.toList.drop 0 = dktX3_isNoField_0 := by decide +kernel
theorem dksX3_isNoField_1 : cX3_isNoField.data.toList.drop 24 = dktX3_isNoField_1 := dk_seg dksX3_isNoField_0 24 rfl rfl
theorem dX3_isNoField_0 : decode cX3_isNoField 0 = .ok (.iload_n 1, 1) := dk_27 (dk_at dksX3_isNoField_0 0 rfl rfl)
theorem dX3_isNoField_1 : decode cX3_isNoField 1 = .ok (.iconst 0, 1) := dk_3 (dk_at dksX3_isNoField_0 1 rfl rfl)
theorem dX3_isNoField_2 : decode cX3_isNoField 2 = .ok (.aload_n 0, 1) := dk_42 (dk_at dksX3_isNoField_0 2 rfl rfl)
theorem dX3_isNoField_3 : decode cX3_isNoField 3 = .ok (.getfield 19, 3) := dk_180 0 19 (dk_at dksX3_isNoField_0 3 rfl rfl)
theorem dX3_isNoField_6 : decode cX3_isNoField 6 = .ok (.getfield 41, 3) := dk_180 0 41 (dk_at dksX3_isNoField_0 6 rfl rfl)
theorem dX3_isNoField_9 : decode cX3_isNoField 9 = .ok (.invokevirtual 45, 3) := dk_182 0 45 (dk_at dksX3_isNoField_0 9 rfl rfl)
theorem dX3_isNoField_12 : decode cX3_isNoField 12 = .ok (.iconst 1, 1) := dk_4 (dk_at dksX3_isNoField_0 12 rfl rfl)
theorem dX3_isNoField_13 : decode cX3_isNoField 13 = .ok (.isub, 1) := dk_100 (dk_at dksX3_isNoField_0 13 rfl rfl)
theorem dX3_isNoField_14 : decode cX3_isNoField 14 = .ok (.invokestatic 37, 3) := dk_184 0 37 (dk_at dksX3_isNoField_0 14 rfl rfl)
theorem dX3_isNoField_17 : decode cX3_isNoField 17 = .ok (.ifCond .ne 7, 3) := dk_154 0 7 (dk_at dksX3_isNoField_0 17 rfl rfl)
theorem dX3_isNoField_20 : decode cX3_isNoField 20 = .ok (.iconst 1, 1) := dk_4 (dk_at dksX3_isNoField_0 20 rfl rfl)
theorem dX3_isNoField_21 : decode cX3_isNoField 21 = .ok (.goto 4, 3) := dk_167 0 4 (dk_at dksX3_isNoField_0 21 rfl rfl)
theorem dX3_isNoField_24 : decode cX3_isNoField 24 = .ok (.iconst 0, 1) := dk_3 (dk_at dksX3_isNoField_1 0 rfl rfl)
theorem dX3_isNoField_25 : decode cX3_isNoField 25 = .ok (.ireturn, 1) := dk_172 (dk_at dksX3_isNoField_1 1 rfl rfl)
abbrev cX3_set : ByteArray := prog_7_method_15_code
def yX3_set : MethodName := ⟨RX3, "set", "(III)I"⟩
def dkwX3_set_3 : List UInt8 := [42, 180, 0, 19, 29, 181, 0, 86, 21, 4, 172]
abbrev dktX3_set_3 : List UInt8 := dkwX3_set_3 ++ []
def dkwX3_set_2 : List UInt8 := [180, 0, 19, 180, 0, 86, 54, 4, 42, 180, 0, 19, 27, 181, 0, 89, 42, 180, 0, 19, 28, 181, 0, 92]
abbrev dktX3_set_2 : List UInt8 := dkwX3_set_2 ++ dktX3_set_3
def dkwX3_set_1 : List UInt8 := [5, 184, 0, 37, 154, 0, 7, 4, 167, 0, 4, 3, 4, 182, 0, 61, 153, 0, 5, 3, 172, 42]
abbrev dktX3_set_1 : List UInt8 := dkwX3_set_1 ++ dktX3_set_2
def dkwX3_set_0 : List UInt8 := [42, 27, 16, 20, 16, 80, 184, 0, 37, 153, 0, 22, 28, 3, 16, 9, 184, 0, 37, 153, 0, 12, 29, 3]
abbrev dktX3_set_0 : List UInt8 := dkwX3_set_0 ++ dktX3_set_1
theorem dksX3_set_0 : cX3_set.data.toList.drop 0 = dktX3_set_0 := by decide +kernel
theorem dksX3_set_1 : cX3_set.data.toList.drop 24 = dktX3_set_1 := dk_seg dksX3_set_0 24 rfl rfl
theorem dksX3_set_2 : cX3_set.data.toList.drop 46 = dktX3_set_2 := dk_seg dksX3_set_1 22 rfl rfl
theorem dksX3_set_3 : cX3_set.data.toList.drop 70 = dktX3_set_3 := dk_seg dksX3_set_2 24 rfl rfl
theorem dX3_set_0 : decode cX3_set 0 = .ok (.aload_n 0, 1) := dk_42 (dk_at dksX3_set_0 0 rfl rfl)
theorem dX3_set_1 : decode cX3_set 1 = .ok (.iload_n 1, 1) := dk_27 (dk_at dksX3_set_0 1 rfl rfl)
theorem dX3_set_2 : decode cX3_set 2 = .ok (.bipush 20, 2) := dk_16 20 (dk_at dksX3_set_0 2 rfl rfl)
theorem dX3_set_4 : decode cX3_set 4 = .ok (.bipush 80, 2) := dk_16 80 (dk_at dksX3_set_0 4 rfl rfl)
theorem dX3_set_6 : decode cX3_set 6 = .ok (.invokestatic 37, 3) := dk_184 0 37 (dk_at dksX3_set_0 6 rfl rfl)
theorem dX3_set_9 : decode cX3_set 9 = .ok (.ifCond .eq 22, 3) := dk_153 0 22 (dk_at dksX3_set_0 9 rfl rfl)
theorem dX3_set_12 : decode cX3_set 12 = .ok (.iload_n 2, 1) := dk_28 (dk_at dksX3_set_0 12 rfl rfl)
theorem dX3_set_13 : decode cX3_set 13 = .ok (.iconst 0, 1) := dk_3 (dk_at dksX3_set_0 13 rfl rfl)
theorem dX3_set_14 : decode cX3_set 14 = .ok (.bipush 9, 2) := dk_16 9 (dk_at dksX3_set_0 14 rfl rfl)
theorem dX3_set_16 : decode cX3_set 16 = .ok (.invokestatic 37, 3) := dk_184 0 37 (dk_at dksX3_set_0 16 rfl rfl)
theorem dX3_set_19 : decode cX3_set 19 = .ok (.ifCond .eq 12, 3) := dk_153 0 12 (dk_at dksX3_set_0 19 rfl rfl)
theorem dX3_set_22 : decode cX3_set 22 = .ok (.iload_n 3, 1) := dk_29 (dk_at dksX3_set_0 22 rfl rfl)
theorem dX3_set_23 : decode cX3_set 23 = .ok (.iconst 0, 1) := dk_3 (dk_at dksX3_set_0 23 rfl rfl)
theorem dX3_set_24 : decode cX3_set 24 = .ok (.iconst 2, 1) := dk_5 (dk_at dksX3_set_1 0 rfl rfl)
theorem dX3_set_25 : decode cX3_set 25 = .ok (.invokestatic 37, 3) := dk_184 0 37 (dk_at dksX3_set_1 1 rfl rfl)
theorem dX3_set_28 : decode cX3_set 28 = .ok (.ifCond .ne 7, 3) := dk_154 0 7 (dk_at dksX3_set_1 4 rfl rfl)
theorem dX3_set_31 : decode cX3_set 31 = .ok (.iconst 1, 1) := dk_4 (dk_at dksX3_set_1 7 rfl rfl)
theorem dX3_set_32 : decode cX3_set 32 = .ok (.goto 4, 3) := dk_167 0 4 (dk_at dksX3_set_1 8 rfl rfl)
theorem dX3_set_35 : decode cX3_set 35 = .ok (.iconst 0, 1) := dk_3 (dk_at dksX3_set_1 11 rfl rfl)
theorem dX3_set_36 : decode cX3_set 36 = .ok (.iconst 1, 1) := dk_4 (dk_at dksX3_set_1 12 rfl rfl)
theorem dX3_set_37 : decode cX3_set 37 = .ok (.invokevirtual 61, 3) := dk_182 0 61 (dk_at dksX3_set_1 13 rfl rfl)
theorem dX3_set_40 : decode cX3_set 40 = .ok (.ifCond .eq 5, 3) := dk_153 0 5 (dk_at dksX3_set_1 16 rfl rfl)
theorem dX3_set_43 : decode cX3_set 43 = .ok (.iconst 0, 1) := dk_3 (dk_at dksX3_set_1 19 rfl rfl)
theorem dX3_set_44 : decode cX3_set 44 = .ok (.ireturn, 1) := dk_172 (dk_at dksX3_set_1 20 rfl rfl)
theorem dX3_set_45 : decode cX3_set 45 = .ok (.aload_n 0, 1) := dk_42 (dk_at dksX3_set_1 21 rfl rfl)
theorem dX3_set_46 : decode cX3_set 46 = .ok (.getfield 19, 3) := dk_180 0 19 (dk_at dksX3_set_2 0 rfl rfl)
theorem dX3_set_49 : decode cX3_set 49 = .ok (.getfield 86, 3) := dk_180 0 86 (dk_at dksX3_set_2 3 rfl rfl)
theorem dX3_set_52 : decode cX3_set 52 = .ok (.istore 4, 2) := dk_54 4 (dk_at dksX3_set_2 6 rfl rfl)
theorem dX3_set_54 : decode cX3_set 54 = .ok (.aload_n 0, 1) := dk_42 (dk_at dksX3_set_2 8 rfl rfl)
theorem dX3_set_55 : decode cX3_set 55 = .ok (.getfield 19, 3) := dk_180 0 19 (dk_at dksX3_set_2 9 rfl rfl)
theorem dX3_set_58 : decode cX3_set 58 = .ok (.iload_n 1, 1) := dk_27 (dk_at dksX3_set_2 12 rfl rfl)
theorem dX3_set_59 : decode cX3_set 59 = .ok (.putfield 89, 3) := dk_181 0 89 (dk_at dksX3_set_2 13 rfl rfl)
theorem dX3_set_62 : decode cX3_set 62 = .ok (.aload_n 0, 1) := dk_42 (dk_at dksX3_set_2 16 rfl rfl)
theorem dX3_set_63 : decode cX3_set 63 = .ok (.getfield 19, 3) := dk_180 0 19 (dk_at dksX3_set_2 17 rfl rfl)
theorem dX3_set_66 : decode cX3_set 66 = .ok (.iload_n 2, 1) := dk_28 (dk_at dksX3_set_2 20 rfl rfl)
theorem dX3_set_67 : decode cX3_set 67 = .ok (.putfield 92, 3) := dk_181 0 92 (dk_at dksX3_set_2 21 rfl rfl)
theorem dX3_set_70 : decode cX3_set 70 = .ok (.aload_n 0, 1) := dk_42 (dk_at dksX3_set_3 0 rfl rfl)
theorem dX3_set_71 : decode cX3_set 71 = .ok (.getfield 19, 3) := dk_180 0 19 (dk_at dksX3_set_3 1 rfl rfl)
theorem dX3_set_74 : decode cX3_set 74 = .ok (.iload_n 3, 1) := dk_29 (dk_at dksX3_set_3 4 rfl rfl)
theorem dX3_set_75 : decode cX3_set 75 = .ok (.putfield 86, 3) := dk_181 0 86 (dk_at dksX3_set_3 5 rfl rfl)
theorem dX3_set_78 : decode cX3_set 78 = .ok (.iload 4, 2) := dk_21 4 (dk_at dksX3_set_3 8 rfl rfl)
theorem dX3_set_80 : decode cX3_set 80 = .ok (.ireturn, 1) := dk_172 (dk_at dksX3_set_3 10 rfl rfl)
abbrev cX3_burn : ByteArray := prog_7_method_16_code
def yX3_burn : MethodName := ⟨RX3, "burn", "(I)Z"⟩
def dkwX3_burn_3 : List UInt8 := [180, 0, 41, 27, 182, 0, 79, 192, 0, 64, 4, 181, 0, 98, 28, 154, 0, 7, 4, 167, 0, 4, 3, 172]
abbrev dktX3_burn_3 : List UInt8 := dkwX3_burn_3 ++ []
def dkwX3_burn_2 : List UInt8 := [3, 172, 42, 180, 0, 19, 180, 0, 41, 27, 182, 0, 79, 192, 0, 64, 180, 0, 98, 61, 42, 180, 0, 19]
abbrev dktX3_burn_2 : List UInt8 := dkwX3_burn_2 ++ dktX3_burn_3
def dkwX3_burn_1 : List UInt8 := [182, 0, 79, 192, 0, 64, 180, 0, 95, 154, 0, 7, 4, 167, 0, 4, 3, 5, 182, 0, 33, 153, 0, 5]
abbrev dktX3_burn_1 : List UInt8 := dkwX3_burn_1 ++ dktX3_burn_2
def dkwX3_burn_0 : List UInt8 := [42, 42, 27, 182, 0, 76, 4, 182, 0, 61, 154, 0, 36, 42, 42, 180, 0, 19, 180, 0, 41, 27]
abbrev dktX3_burn_0 : List UInt8 := dkwX3_burn_0 ++ dktX3_burn_1
theorem dksX3_burn_0 : cX3_burn.data.toList.drop 0 = dktX3_burn_0 := by decide +kernel
theorem dksX3_burn_1 : cX3_burn.data.toList.drop 22 = dktX3_burn_1 := dk_seg dksX3_burn_0 22 rfl rfl
theorem dksX3_burn_2 : cX3_burn.data.toList.drop 46 = dktX3_burn_2 := dk_seg dksX3_burn_1 24 rfl rfl
theorem dksX3_burn_3 : cX3_burn.data.toList.drop 70 = dktX3_burn_3 := dk_seg dksX3_burn_2 24 rfl rfl
theorem dX3_burn_0 : decode cX3_burn 0 = .ok (.aload_n 0, 1) := dk_42 (dk_at dksX3_burn_0 0 rfl rfl)
theorem dX3_burn_1 : decode cX3_burn 1 = .ok (.aload_n 0, 1) := dk_42 (dk_at dksX3_burn_0 1 rfl rfl)
theorem dX3_burn_2 : decode cX3_burn 2 = .ok (.iload_n 1, 1) := dk_27 (dk_at dksX3_burn_0 2 rfl rfl)
theorem dX3_burn_3 : decode cX3_burn 3 = .ok (.invokevirtual 76, 3) := dk_182 0 76 (dk_at dksX3_burn_0 3 rfl rfl)
theorem dX3_burn_6 : decode cX3_burn 6 = .ok (.iconst 1, 1) := dk_4 (dk_at dksX3_burn_0 6 rfl rfl)
theorem dX3_burn_7 : decode cX3_burn 7 = .ok (.invokevirtual 61, 3) := dk_182 0 61 (dk_at dksX3_burn_0 7 rfl rfl)
theorem dX3_burn_10 : decode cX3_burn 10 = .ok (.ifCond .ne 36, 3) := dk_154 0 36 (dk_at dksX3_burn_0 10 rfl rfl)
theorem dX3_burn_13 : decode cX3_burn 13 = .ok (.aload_n 0, 1) := dk_42 (dk_at dksX3_burn_0 13 rfl rfl)
theorem dX3_burn_14 : decode cX3_burn 14 = .ok (.aload_n 0, 1) := dk_42 (dk_at dksX3_burn_0 14 rfl rfl)
theorem dX3_burn_15 : decode cX3_burn 15 = .ok (.getfield 19, 3) := dk_180 0 19 (dk_at dksX3_burn_0 15 rfl rfl)
theorem dX3_burn_18 : decode cX3_burn 18 = .ok (.getfield 41, 3) := dk_180 0 41 (dk_at dksX3_burn_0 18 rfl rfl)
theorem dX3_burn_21 : decode cX3_burn 21 = .ok (.iload_n 1, 1) := dk_27 (dk_at dksX3_burn_0 21 rfl rfl)
theorem dX3_burn_22 : decode cX3_burn 22 = .ok (.invokevirtual 79, 3) := dk_182 0 79 (dk_at dksX3_burn_1 0 rfl rfl)
theorem dX3_burn_25 : decode cX3_burn 25 = .ok (.checkcast 64, 3) := dk_192 0 64 (dk_at dksX3_burn_1 3 rfl rfl)
theorem dX3_burn_28 : decode cX3_burn 28 = .ok (.getfield 95, 3) := dk_180 0 95 (dk_at dksX3_burn_1 6 rfl rfl)
theorem dX3_burn_31 : decode cX3_burn 31 = .ok (.ifCond .ne 7, 3) := dk_154 0 7 (dk_at dksX3_burn_1 9 rfl rfl)
theorem dX3_burn_34 : decode cX3_burn 34 = .ok (.iconst 1, 1) := dk_4 (dk_at dksX3_burn_1 12 rfl rfl)
theorem dX3_burn_35 : decode cX3_burn 35 = .ok (.goto 4, 3) := dk_167 0 4 (dk_at dksX3_burn_1 13 rfl rfl)
theorem dX3_burn_38 : decode cX3_burn 38 = .ok (.iconst 0, 1) := dk_3 (dk_at dksX3_burn_1 16 rfl rfl)
theorem dX3_burn_39 : decode cX3_burn 39 = .ok (.iconst 2, 1) := dk_5 (dk_at dksX3_burn_1 17 rfl rfl)
theorem dX3_burn_40 : decode cX3_burn 40 = .ok (.invokevirtual 33, 3) := dk_182 0 33 (dk_at dksX3_burn_1 18 rfl rfl)
theorem dX3_burn_43 : decode cX3_burn 43 = .ok (.ifCond .eq 5, 3) := dk_153 0 5 (dk_at dksX3_burn_1 21 rfl rfl)
theorem dX3_burn_46 : decode cX3_burn 46 = .ok (.iconst 0, 1) := dk_3 (dk_at dksX3_burn_2 0 rfl rfl)
theorem dX3_burn_47 : decode cX3_burn 47 = .ok (.ireturn, 1) := dk_172 (dk_at dksX3_burn_2 1 rfl rfl)
theorem dX3_burn_48 : decode cX3_burn 48 = .ok (.aload_n 0, 1) := dk_42 (dk_at dksX3_burn_2 2 rfl rfl)
theorem dX3_burn_49 : decode cX3_burn 49 = .ok (.getfield 19, 3) := dk_180 0 19 (dk_at dksX3_burn_2 3 rfl rfl)
theorem dX3_burn_52 : decode cX3_burn 52 = .ok (.getfield 41, 3) := dk_180 0 41 (dk_at dksX3_burn_2 6 rfl rfl)
theorem dX3_burn_55 : decode cX3_burn 55 = .ok (.iload_n 1, 1) := dk_27 (dk_at dksX3_burn_2 9 rfl rfl)
theorem dX3_burn_56 : decode cX3_burn 56 = .ok (.invokevirtual 79, 3) := dk_182 0 79 (dk_at dksX3_burn_2 10 rfl rfl)
theorem dX3_burn_59 : decode cX3_burn 59 = .ok (.checkcast 64, 3) := dk_192 0 64 (dk_at dksX3_burn_2 13 rfl rfl)
theorem dX3_burn_62 : decode cX3_burn 62 = .ok (.getfield 98, 3) := dk_180 0 98 (dk_at dksX3_burn_2 16 rfl rfl)
theorem dX3_burn_65 : decode cX3_burn 65 = .ok (.istore_n 2, 1) := dk_61 (dk_at dksX3_burn_2 19 rfl rfl)
theorem dX3_burn_66 : decode cX3_burn 66 = .ok (.aload_n 0, 1) := dk_42 (dk_at dksX3_burn_2 20 rfl rfl)
theorem dX3_burn_67 : decode cX3_burn 67 = .ok (.getfield 19, 3) := dk_180 0 19 (dk_at dksX3_burn_2 21 rfl rfl)
theorem dX3_burn_70 : decode cX3_burn 70 = .ok (.getfield 41, 3) := dk_180 0 41 (dk_at dksX3_burn_3 0 rfl rfl)
theorem dX3_burn_73 : decode cX3_burn 73 = .ok (.iload_n 1, 1) := dk_27 (dk_at dksX3_burn_3 3 rfl rfl)
theorem dX3_burn_74 : decode cX3_burn 74 = .ok (.invokevirtual 79, 3) := dk_182 0 79 (dk_at dksX3_burn_3 4 rfl rfl)
theorem dX3_burn_77 : decode cX3_burn 77 = .ok (.checkcast 64, 3) := dk_192 0 64 (dk_at dksX3_burn_3 7 rfl rfl)
theorem dX3_burn_80 : decode cX3_burn 80 = .ok (.iconst 1, 1) := dk_4 (dk_at dksX3_burn_3 10 rfl rfl)
theorem dX3_burn_81 : decode cX3_burn 81 = .ok (.putfield 98, 3) := dk_181 0 98 (dk_at dksX3_burn_3 11 rfl rfl)
theorem dX3_burn_84 : decode cX3_burn 84 = .ok (.iload_n 2, 1) := dk_28 (dk_at dksX3_burn_3 14 rfl rfl)
theorem dX3_burn_85 : decode cX3_burn 85 = .ok (.ifCond .ne 7, 3) := dk_154 0 7 (dk_at dksX3_burn_3 15 rfl rfl)
theorem dX3_burn_88 : decode cX3_burn 88 = .ok (.iconst 1, 1) := dk_4 (dk_at dksX3_burn_3 18 rfl rfl)
theorem dX3_burn_89 : decode cX3_burn 89 = .ok (.goto 4, 3) := dk_167 0 4 (dk_at dksX3_burn_3 19 rfl rfl)
theorem dX3_burn_92 : decode cX3_burn 92 = .ok (.iconst 0, 1) := dk_3 (dk_at dksX3_burn_3 22 rfl rfl)
theorem dX3_burn_93 : decode cX3_burn 93 = .ok (.ireturn, 1) := dk_172 (dk_at dksX3_burn_3 23 rfl rfl)
abbrev cX3_cut : ByteArray := prog_7_method_17_code
def yX3_cut : MethodName := ⟨RX3, "cut", "(II)I"⟩
def dkwX3_cut_10 : List UInt8 := [21, 6, 172]
abbrev dktX3_cut_10 : List UInt8 := dkwX3_cut_10 ++ []
def dkwX3_cut_9 : List UInt8 := [183, 0, 119, 182, 0, 69, 87, 132, 7, 236, 167, 255, 203, 45, 180, 0, 95, 154, 0, 7, 45, 182, 0, 122]
abbrev dktX3_cut_9 : List UInt8 := dkwX3_cut_9 ++ dktX3_cut_10
def dkwX3_cut_8 : List UInt8 := [16, 20, 21, 7, 184, 0, 1, 45, 180, 0, 113, 45, 180, 0, 98, 42, 180, 0, 19, 180, 0, 116]
abbrev dktX3_cut_8 : List UInt8 := dkwX3_cut_8 ++ dktX3_cut_9
def dkwX3_cut_7 : List UInt8 := [100, 54, 7, 21, 7, 158, 0, 54, 42, 180, 0, 19, 180, 0, 54, 187, 0, 108, 89, 27, 45, 180, 0, 110]
abbrev dktX3_cut_7 : List UInt8 := dkwX3_cut_7 ++ dktX3_cut_8
def dkwX3_cut_6 : List UInt8 := [180, 0, 95, 21, 4, 100, 181, 0, 95, 42, 89, 180, 0, 105, 21, 5, 96, 181, 0, 105, 21, 4, 21, 5]
abbrev dktX3_cut_6 : List UInt8 := dkwX3_cut_6 ++ dktX3_cut_7
def dkwX3_cut_5 : List UInt8 := [21, 6, 96, 16, 90, 164, 0, 7, 4, 167, 0, 4, 3, 6, 182, 0, 33, 153, 0, 5, 3, 172, 45, 89]
abbrev dktX3_cut_5 : List UInt8 := dkwX3_cut_5 ++ dktX3_cut_6
def dkwX3_cut_4 : List UInt8 := [100, 16, 20, 108, 54, 6, 42, 45, 180, 0, 95, 153, 0, 21, 42, 180, 0, 19, 180, 0, 54, 182, 0, 45]
abbrev dktX3_cut_4 : List UInt8 := dkwX3_cut_4 ++ dktX3_cut_5
def dkwX3_cut_3 : List UInt8 := [153, 0, 12, 21, 4, 7, 96, 8, 108, 167, 0, 4, 3, 54, 5, 21, 4, 21, 5, 100, 16, 20, 96, 4]
abbrev dktX3_cut_3 : List UInt8 := dkwX3_cut_3 ++ dktX3_cut_4
def dkwX3_cut_2 : List UInt8 := [27, 182, 0, 79, 192, 0, 64, 78, 28, 45, 180, 0, 95, 184, 0, 1, 54, 4, 45, 180, 0, 102]
abbrev dktX3_cut_2 : List UInt8 := dkwX3_cut_2 ++ dktX3_cut_3
def dkwX3_cut_1 : List UInt8 := [154, 0, 7, 4, 167, 0, 4, 3, 5, 182, 0, 33, 153, 0, 5, 3, 172, 42, 180, 0, 19, 180, 0, 41]
abbrev dktX3_cut_1 : List UInt8 := dkwX3_cut_1 ++ dktX3_cut_2
def dkwX3_cut_0 : List UInt8 := [42, 42, 27, 182, 0, 76, 4, 182, 0, 61, 154, 0, 27, 42, 28, 4, 17, 0, 200, 184, 0, 37]
abbrev dktX3_cut_0 : List UInt8 := dkwX3_cut_0 ++ dktX3_cut_1
theorem dksX3_cut_0 : cX3_cut.data.toList.drop 0 = dktX3_cut_0 := by decide +kernel
theorem dksX3_cut_1 : cX3_cut.data.toList.drop 22 = dktX3_cut_1 := dk_seg dksX3_cut_0 22 rfl rfl
theorem dksX3_cut_2 : cX3_cut.data.toList.drop 46 = dktX3_cut_2 := dk_seg dksX3_cut_1 24 rfl rfl
theorem dksX3_cut_3 : cX3_cut.data.toList.drop 68 = dktX3_cut_3 := dk_seg dksX3_cut_2 22 rfl rfl
theorem dksX3_cut_4 : cX3_cut.data.toList.drop 92 = dktX3_cut_4 := dk_seg dksX3_cut_3 24 rfl rfl
theorem dksX3_cut_5 : cX3_cut.data.toList.drop 116 = dktX3_cut_5 := dk_seg dksX3_cut_4 24 rfl rfl
theorem dksX3_cut_6 : cX3_cut.data.toList.drop 140 = dktX3_cut_6 := dk_seg dksX3_cut_5 24 rfl rfl
theorem dksX3_cut_7 : cX3_cut.data.toList.drop 164 = dktX3_cut_7 := dk_seg dksX3_cut_6 24 rfl rfl
theorem dksX3_cut_8 : cX3_cut.data.toList.drop 188 = dktX3_cut_8 := dk_seg dksX3_cut_7 24 rfl rfl
theorem dksX3_cut_9 : cX3_cut.data.toList.drop 210 = dktX3_cut_9 := dk_seg dksX3_cut_8 22 rfl rfl
theorem dksX3_cut_10 : cX3_cut.data.toList.drop 234 = dktX3_cut_10 := dk_seg dksX3_cut_9 24 rfl rfl
theorem dX3_cut_0 : decode cX3_cut 0 = .ok (.aload_n 0, 1) := dk_42 (dk_at dksX3_cut_0 0 rfl rfl)
theorem dX3_cut_1 : decode cX3_cut 1 = .ok (.aload_n 0, 1) := dk_42 (dk_at dksX3_cut_0 1 rfl rfl)
theorem dX3_cut_2 : decode cX3_cut 2 = .ok (.iload_n 1, 1) := dk_27 (dk_at dksX3_cut_0 2 rfl rfl)
theorem dX3_cut_3 : decode cX3_cut 3 = .ok (.invokevirtual 76, 3) := dk_182 0 76 (dk_at dksX3_cut_0 3 rfl rfl)
theorem dX3_cut_6 : decode cX3_cut 6 = .ok (.iconst 1, 1) := dk_4 (dk_at dksX3_cut_0 6 rfl rfl)
theorem dX3_cut_7 : decode cX3_cut 7 = .ok (.invokevirtual 61, 3) := dk_182 0 61 (dk_at dksX3_cut_0 7 rfl rfl)
theorem dX3_cut_10 : decode cX3_cut 10 = .ok (.ifCond .ne 27, 3) := dk_154 0 27 (dk_at dksX3_cut_0 10 rfl rfl)
theorem dX3_cut_13 : decode cX3_cut 13 = .ok (.aload_n 0, 1) := dk_42 (dk_at dksX3_cut_0 13 rfl rfl)
theorem dX3_cut_14 : decode cX3_cut 14 = .ok (.iload_n 2, 1) := dk_28 (dk_at dksX3_cut_0 14 rfl rfl)
theorem dX3_cut_15 : decode cX3_cut 15 = .ok (.iconst 1, 1) := dk_4 (dk_at dksX3_cut_0 15 rfl rfl)
theorem dX3_cut_16 : decode cX3_cut 16 = .ok (.sipush 200, 3) := dk_17 0 200 (dk_at dksX3_cut_0 16 rfl rfl)
theorem dX3_cut_19 : decode cX3_cut 19 = .ok (.invokestatic 37, 3) := dk_184 0 37 (dk_at dksX3_cut_0 19 rfl rfl)
theorem dX3_cut_22 : decode cX3_cut 22 = .ok (.ifCond .ne 7, 3) := dk_154 0 7 (dk_at dksX3_cut_1 0 rfl rfl)
theorem dX3_cut_25 : decode cX3_cut 25 = .ok (.iconst 1, 1) := dk_4 (dk_at dksX3_cut_1 3 rfl rfl)
theorem dX3_cut_26 : decode cX3_cut 26 = .ok (.goto 4, 3) := dk_167 0 4 (dk_at dksX3_cut_1 4 rfl rfl)
theorem dX3_cut_29 : decode cX3_cut 29 = .ok (.iconst 0, 1) := dk_3 (dk_at dksX3_cut_1 7 rfl rfl)
theorem dX3_cut_30 : decode cX3_cut 30 = .ok (.iconst 2, 1) := dk_5 (dk_at dksX3_cut_1 8 rfl rfl)
theorem dX3_cut_31 : decode cX3_cut 31 = .ok (.invokevirtual 33, 3) := dk_182 0 33 (dk_at dksX3_cut_1 9 rfl rfl)
theorem dX3_cut_34 : decode cX3_cut 34 = .ok (.ifCond .eq 5, 3) := dk_153 0 5 (dk_at dksX3_cut_1 12 rfl rfl)
theorem dX3_cut_37 : decode cX3_cut 37 = .ok (.iconst 0, 1) := dk_3 (dk_at dksX3_cut_1 15 rfl rfl)
theorem dX3_cut_38 : decode cX3_cut 38 = .ok (.ireturn, 1) := dk_172 (dk_at dksX3_cut_1 16 rfl rfl)
theorem dX3_cut_39 : decode cX3_cut 39 = .ok (.aload_n 0, 1) := dk_42 (dk_at dksX3_cut_1 17 rfl rfl)
theorem dX3_cut_40 : decode cX3_cut 40 = .ok (.getfield 19, 3) := dk_180 0 19 (dk_at dksX3_cut_1 18 rfl rfl)
theorem dX3_cut_43 : decode cX3_cut 43 = .ok (.getfield 41, 3) := dk_180 0 41 (dk_at dksX3_cut_1 21 rfl rfl)
theorem dX3_cut_46 : decode cX3_cut 46 = .ok (.iload_n 1, 1) := dk_27 (dk_at dksX3_cut_2 0 rfl rfl)
theorem dX3_cut_47 : decode cX3_cut 47 = .ok (.invokevirtual 79, 3) := dk_182 0 79 (dk_at dksX3_cut_2 1 rfl rfl)
theorem dX3_cut_50 : decode cX3_cut 50 = .ok (.checkcast 64, 3) := dk_192 0 64 (dk_at dksX3_cut_2 4 rfl rfl)
theorem dX3_cut_53 : decode cX3_cut 53 = .ok (.astore_n 3, 1) := dk_78 (dk_at dksX3_cut_2 7 rfl rfl)
theorem dX3_cut_54 : decode cX3_cut 54 = .ok (.iload_n 2, 1) := dk_28 (dk_at dksX3_cut_2 8 rfl rfl)
theorem dX3_cut_55 : decode cX3_cut 55 = .ok (.aload_n 3, 1) := dk_45 (dk_at dksX3_cut_2 9 rfl rfl)
theorem dX3_cut_56 : decode cX3_cut 56 = .ok (.getfield 95, 3) := dk_180 0 95 (dk_at dksX3_cut_2 10 rfl rfl)
theorem dX3_cut_59 : decode cX3_cut 59 = .ok (.invokestatic 1, 3) := dk_184 0 1 (dk_at dksX3_cut_2 13 rfl rfl)
theorem dX3_cut_62 : decode cX3_cut 62 = .ok (.istore 4, 2) := dk_54 4 (dk_at dksX3_cut_2 16 rfl rfl)
theorem dX3_cut_64 : decode cX3_cut 64 = .ok (.aload_n 3, 1) := dk_45 (dk_at dksX3_cut_2 18 rfl rfl)
theorem dX3_cut_65 : decode cX3_cut 65 = .ok (.getfield 102, 3) := dk_180 0 102 (dk_at dksX3_cut_2 19 rfl rfl)
theorem dX3_cut_68 : decode cX3_cut 68 = .ok (.ifCond .eq 12, 3) := dk_153 0 12 (dk_at dksX3_cut_3 0 rfl rfl)
theorem dX3_cut_71 : decode cX3_cut 71 = .ok (.iload 4, 2) := dk_21 4 (dk_at dksX3_cut_3 3 rfl rfl)
theorem dX3_cut_73 : decode cX3_cut 73 = .ok (.iconst 4, 1) := dk_7 (dk_at dksX3_cut_3 5 rfl rfl)
theorem dX3_cut_74 : decode cX3_cut 74 = .ok (.iadd, 1) := dk_96 (dk_at dksX3_cut_3 6 rfl rfl)
theorem dX3_cut_75 : decode cX3_cut 75 = .ok (.iconst 5, 1) := dk_8 (dk_at dksX3_cut_3 7 rfl rfl)
theorem dX3_cut_76 : decode cX3_cut 76 = .ok (.idiv, 1) := dk_108 (dk_at dksX3_cut_3 8 rfl rfl)
theorem dX3_cut_77 : decode cX3_cut 77 = .ok (.goto 4, 3) := dk_167 0 4 (dk_at dksX3_cut_3 9 rfl rfl)
theorem dX3_cut_80 : decode cX3_cut 80 = .ok (.iconst 0, 1) := dk_3 (dk_at dksX3_cut_3 12 rfl rfl)
theorem dX3_cut_81 : decode cX3_cut 81 = .ok (.istore 5, 2) := dk_54 5 (dk_at dksX3_cut_3 13 rfl rfl)
theorem dX3_cut_83 : decode cX3_cut 83 = .ok (.iload 4, 2) := dk_21 4 (dk_at dksX3_cut_3 15 rfl rfl)
theorem dX3_cut_85 : decode cX3_cut 85 = .ok (.iload 5, 2) := dk_21 5 (dk_at dksX3_cut_3 17 rfl rfl)
theorem dX3_cut_87 : decode cX3_cut 87 = .ok (.isub, 1) := dk_100 (dk_at dksX3_cut_3 19 rfl rfl)
theorem dX3_cut_88 : decode cX3_cut 88 = .ok (.bipush 20, 2) := dk_16 20 (dk_at dksX3_cut_3 20 rfl rfl)
theorem dX3_cut_90 : decode cX3_cut 90 = .ok (.iadd, 1) := dk_96 (dk_at dksX3_cut_3 22 rfl rfl)
theorem dX3_cut_91 : decode cX3_cut 91 = .ok (.iconst 1, 1) := dk_4 (dk_at dksX3_cut_3 23 rfl rfl)
theorem dX3_cut_92 : decode cX3_cut 92 = .ok (.isub, 1) := dk_100 (dk_at dksX3_cut_4 0 rfl rfl)
theorem dX3_cut_93 : decode cX3_cut 93 = .ok (.bipush 20, 2) := dk_16 20 (dk_at dksX3_cut_4 1 rfl rfl)
theorem dX3_cut_95 : decode cX3_cut 95 = .ok (.idiv, 1) := dk_108 (dk_at dksX3_cut_4 3 rfl rfl)
theorem dX3_cut_96 : decode cX3_cut 96 = .ok (.istore 6, 2) := dk_54 6 (dk_at dksX3_cut_4 4 rfl rfl)
theorem dX3_cut_98 : decode cX3_cut 98 = .ok (.aload_n 0, 1) := dk_42 (dk_at dksX3_cut_4 6 rfl rfl)
theorem dX3_cut_99 : decode cX3_cut 99 = .ok (.aload_n 3, 1) := dk_45 (dk_at dksX3_cut_4 7 rfl rfl)
theorem dX3_cut_100 : decode cX3_cut 100 = .ok (.getfield 95, 3) := dk_180 0 95 (dk_at dksX3_cut_4 8 rfl rfl)
theorem dX3_cut_103 : decode cX3_cut 103 = .ok (.ifCond .eq 21, 3) := dk_153 0 21 (dk_at dksX3_cut_4 11 rfl rfl)
theorem dX3_cut_106 : decode cX3_cut 106 = .ok (.aload_n 0, 1) := dk_42 (dk_at dksX3_cut_4 14 rfl rfl)
theorem dX3_cut_107 : decode cX3_cut 107 = .ok (.getfield 19, 3) := dk_180 0 19 (dk_at dksX3_cut_4 15 rfl rfl)
theorem dX3_cut_110 : decode cX3_cut 110 = .ok (.getfield 54, 3) := dk_180 0 54 (dk_at dksX3_cut_4 18 rfl rfl)
theorem dX3_cut_113 : decode cX3_cut 113 = .ok (.invokevirtual 45, 3) := dk_182 0 45 (dk_at dksX3_cut_4 21 rfl rfl)
theorem dX3_cut_116 : decode cX3_cut 116 = .ok (.iload 6, 2) := dk_21 6 (dk_at dksX3_cut_5 0 rfl rfl)
theorem dX3_cut_118 : decode cX3_cut 118 = .ok (.iadd, 1) := dk_96 (dk_at dksX3_cut_5 2 rfl rfl)
theorem dX3_cut_119 : decode cX3_cut 119 = .ok (.bipush 90, 2) := dk_16 90 (dk_at dksX3_cut_5 3 rfl rfl)
theorem dX3_cut_121 : decode cX3_cut 121 = .ok (.if_icmp .le 7, 3) := dk_164 0 7 (dk_at dksX3_cut_5 5 rfl rfl)
theorem dX3_cut_124 : decode cX3_cut 124 = .ok (.iconst 1, 1) := dk_4 (dk_at dksX3_cut_5 8 rfl rfl)
theorem dX3_cut_125 : decode cX3_cut 125 = .ok (.goto 4, 3) := dk_167 0 4 (dk_at dksX3_cut_5 9 rfl rfl)
theorem dX3_cut_128 : decode cX3_cut 128 = .ok (.iconst 0, 1) := dk_3 (dk_at dksX3_cut_5 12 rfl rfl)
theorem dX3_cut_129 : decode cX3_cut 129 = .ok (.iconst 3, 1) := dk_6 (dk_at dksX3_cut_5 13 rfl rfl)
theorem dX3_cut_130 : decode cX3_cut 130 = .ok (.invokevirtual 33, 3) := dk_182 0 33 (dk_at dksX3_cut_5 14 rfl rfl)
theorem dX3_cut_133 : decode cX3_cut 133 = .ok (.ifCond .eq 5, 3) := dk_153 0 5 (dk_at dksX3_cut_5 17 rfl rfl)
theorem dX3_cut_136 : decode cX3_cut 136 = .ok (.iconst 0, 1) := dk_3 (dk_at dksX3_cut_5 20 rfl rfl)
theorem dX3_cut_137 : decode cX3_cut 137 = .ok (.ireturn, 1) := dk_172 (dk_at dksX3_cut_5 21 rfl rfl)
theorem dX3_cut_138 : decode cX3_cut 138 = .ok (.aload_n 3, 1) := dk_45 (dk_at dksX3_cut_5 22 rfl rfl)
theorem dX3_cut_139 : decode cX3_cut 139 = .ok (.dup, 1) := dk_89 (dk_at dksX3_cut_5 23 rfl rfl)
theorem dX3_cut_140 : decode cX3_cut 140 = .ok (.getfield 95, 3) := dk_180 0 95 (dk_at dksX3_cut_6 0 rfl rfl)
theorem dX3_cut_143 : decode cX3_cut 143 = .ok (.iload 4, 2) := dk_21 4 (dk_at dksX3_cut_6 3 rfl rfl)
theorem dX3_cut_145 : decode cX3_cut 145 = .ok (.isub, 1) := dk_100 (dk_at dksX3_cut_6 5 rfl rfl)
theorem dX3_cut_146 : decode cX3_cut 146 = .ok (.putfield 95, 3) := dk_181 0 95 (dk_at dksX3_cut_6 6 rfl rfl)
theorem dX3_cut_149 : decode cX3_cut 149 = .ok (.aload_n 0, 1) := dk_42 (dk_at dksX3_cut_6 9 rfl rfl)
theorem dX3_cut_150 : decode cX3_cut 150 = .ok (.dup, 1) := dk_89 (dk_at dksX3_cut_6 10 rfl rfl)
theorem dX3_cut_151 : decode cX3_cut 151 = .ok (.getfield 105, 3) := dk_180 0 105 (dk_at dksX3_cut_6 11 rfl rfl)
theorem dX3_cut_154 : decode cX3_cut 154 = .ok (.iload 5, 2) := dk_21 5 (dk_at dksX3_cut_6 14 rfl rfl)
theorem dX3_cut_156 : decode cX3_cut 156 = .ok (.iadd, 1) := dk_96 (dk_at dksX3_cut_6 16 rfl rfl)
theorem dX3_cut_157 : decode cX3_cut 157 = .ok (.putfield 105, 3) := dk_181 0 105 (dk_at dksX3_cut_6 17 rfl rfl)
theorem dX3_cut_160 : decode cX3_cut 160 = .ok (.iload 4, 2) := dk_21 4 (dk_at dksX3_cut_6 20 rfl rfl)
theorem dX3_cut_162 : decode cX3_cut 162 = .ok (.iload 5, 2) := dk_21 5 (dk_at dksX3_cut_6 22 rfl rfl)
theorem dX3_cut_164 : decode cX3_cut 164 = .ok (.isub, 1) := dk_100 (dk_at dksX3_cut_7 0 rfl rfl)
theorem dX3_cut_165 : decode cX3_cut 165 = .ok (.istore 7, 2) := dk_54 7 (dk_at dksX3_cut_7 1 rfl rfl)
theorem dX3_cut_167 : decode cX3_cut 167 = .ok (.iload 7, 2) := dk_21 7 (dk_at dksX3_cut_7 3 rfl rfl)
theorem dX3_cut_169 : decode cX3_cut 169 = .ok (.ifCond .le 54, 3) := dk_158 0 54 (dk_at dksX3_cut_7 5 rfl rfl)
theorem dX3_cut_172 : decode cX3_cut 172 = .ok (.aload_n 0, 1) := dk_42 (dk_at dksX3_cut_7 8 rfl rfl)
theorem dX3_cut_173 : decode cX3_cut 173 = .ok (.getfield 19, 3) := dk_180 0 19 (dk_at dksX3_cut_7 9 rfl rfl)
theorem dX3_cut_176 : decode cX3_cut 176 = .ok (.getfield 54, 3) := dk_180 0 54 (dk_at dksX3_cut_7 12 rfl rfl)
theorem dX3_cut_179 : decode cX3_cut 179 = .ok (.new 108, 3) := dk_187 0 108 (dk_at dksX3_cut_7 15 rfl rfl)
theorem dX3_cut_182 : decode cX3_cut 182 = .ok (.dup, 1) := dk_89 (dk_at dksX3_cut_7 18 rfl rfl)
theorem dX3_cut_183 : decode cX3_cut 183 = .ok (.iload_n 1, 1) := dk_27 (dk_at dksX3_cut_7 19 rfl rfl)
theorem dX3_cut_184 : decode cX3_cut 184 = .ok (.aload_n 3, 1) := dk_45 (dk_at dksX3_cut_7 20 rfl rfl)
theorem dX3_cut_185 : decode cX3_cut 185 = .ok (.getfield 110, 3) := dk_180 0 110 (dk_at dksX3_cut_7 21 rfl rfl)
theorem dX3_cut_188 : decode cX3_cut 188 = .ok (.bipush 20, 2) := dk_16 20 (dk_at dksX3_cut_8 0 rfl rfl)
theorem dX3_cut_190 : decode cX3_cut 190 = .ok (.iload 7, 2) := dk_21 7 (dk_at dksX3_cut_8 2 rfl rfl)
theorem dX3_cut_192 : decode cX3_cut 192 = .ok (.invokestatic 1, 3) := dk_184 0 1 (dk_at dksX3_cut_8 4 rfl rfl)
theorem dX3_cut_195 : decode cX3_cut 195 = .ok (.aload_n 3, 1) := dk_45 (dk_at dksX3_cut_8 7 rfl rfl)
theorem dX3_cut_196 : decode cX3_cut 196 = .ok (.getfield 113, 3) := dk_180 0 113 (dk_at dksX3_cut_8 8 rfl rfl)
theorem dX3_cut_199 : decode cX3_cut 199 = .ok (.aload_n 3, 1) := dk_45 (dk_at dksX3_cut_8 11 rfl rfl)
theorem dX3_cut_200 : decode cX3_cut 200 = .ok (.getfield 98, 3) := dk_180 0 98 (dk_at dksX3_cut_8 12 rfl rfl)
theorem dX3_cut_203 : decode cX3_cut 203 = .ok (.aload_n 0, 1) := dk_42 (dk_at dksX3_cut_8 15 rfl rfl)
theorem dX3_cut_204 : decode cX3_cut 204 = .ok (.getfield 19, 3) := dk_180 0 19 (dk_at dksX3_cut_8 16 rfl rfl)
theorem dX3_cut_207 : decode cX3_cut 207 = .ok (.getfield 116, 3) := dk_180 0 116 (dk_at dksX3_cut_8 19 rfl rfl)
theorem dX3_cut_210 : decode cX3_cut 210 = .ok (.invokespecial 119, 3) := dk_183 0 119 (dk_at dksX3_cut_9 0 rfl rfl)
theorem dX3_cut_213 : decode cX3_cut 213 = .ok (.invokevirtual 69, 3) := dk_182 0 69 (dk_at dksX3_cut_9 3 rfl rfl)
theorem dX3_cut_216 : decode cX3_cut 216 = .ok (.pop, 1) := dk_87 (dk_at dksX3_cut_9 6 rfl rfl)
theorem dX3_cut_217 : decode cX3_cut 217 = .ok (.iinc 7 (-20), 3) := dk_132 7 236 (dk_at dksX3_cut_9 7 rfl rfl)
theorem dX3_cut_220 : decode cX3_cut 220 = .ok (.goto (-53), 3) := dk_167 255 203 (dk_at dksX3_cut_9 10 rfl rfl)
theorem dX3_cut_223 : decode cX3_cut 223 = .ok (.aload_n 3, 1) := dk_45 (dk_at dksX3_cut_9 13 rfl rfl)
theorem dX3_cut_224 : decode cX3_cut 224 = .ok (.getfield 95, 3) := dk_180 0 95 (dk_at dksX3_cut_9 14 rfl rfl)
theorem dX3_cut_227 : decode cX3_cut 227 = .ok (.ifCond .ne 7, 3) := dk_154 0 7 (dk_at dksX3_cut_9 17 rfl rfl)
theorem dX3_cut_230 : decode cX3_cut 230 = .ok (.aload_n 3, 1) := dk_45 (dk_at dksX3_cut_9 20 rfl rfl)
theorem dX3_cut_231 : decode cX3_cut 231 = .ok (.invokevirtual 122, 3) := dk_182 0 122 (dk_at dksX3_cut_9 21 rfl rfl)
theorem dX3_cut_234 : decode cX3_cut 234 = .ok (.iload 6, 2) := dk_21 6 (dk_at dksX3_cut_10 0 rfl rfl)
theorem dX3_cut_236 : decode cX3_cut 236 = .ok (.ireturn, 1) := dk_172 (dk_at dksX3_cut_10 2 rfl rfl)
abbrev cX3_send : ByteArray := prog_7_method_18_code
def yX3_send : MethodName := ⟨RX3, "send", "(II)I"⟩
def dkwX3_send_4 : List UInt8 := [180, 0, 41, 28, 182, 0, 79, 192, 0, 64, 180, 0, 134, 181, 0, 137, 45, 180, 0, 137, 172]
abbrev dktX3_send_4 : List UInt8 := dkwX3_send_4 ++ []
def dkwX3_send_3 : List UInt8 := [27, 182, 0, 79, 192, 0, 73, 78, 45, 4, 181, 0, 128, 45, 28, 181, 0, 131, 45, 42, 180, 0, 19]
abbrev dktX3_send_3 : List UInt8 := dkwX3_send_3 ++ dktX3_send_4
def dkwX3_send_2 : List UInt8 := [153, 0, 7, 4, 167, 0, 4, 3, 5, 182, 0, 33, 153, 0, 5, 3, 172, 42, 180, 0, 19, 180, 0, 51]
abbrev dktX3_send_2 : List UInt8 := dkwX3_send_2 ++ dktX3_send_3
def dkwX3_send_1 : List UInt8 := [182, 0, 61, 154, 0, 36, 42, 42, 180, 0, 19, 180, 0, 51, 27, 182, 0, 79, 192, 0, 73, 180, 0, 128]
abbrev dktX3_send_1 : List UInt8 := dkwX3_send_1 ++ dktX3_send_2
def dkwX3_send_0 : List UInt8 := [42, 42, 27, 182, 0, 125, 154, 0, 11, 42, 28, 182, 0, 76, 153, 0, 7, 4, 167, 0, 4, 3, 4]
abbrev dktX3_send_0 : List UInt8 := dkwX3_send_0 ++ dktX3_send_1
theorem dksX3_send_0 : cX3_send.data.toList.drop 0 = dktX3_send_0 := by decide +kernel
theorem dksX3_send_1 : cX3_send.data.toList.drop 23 = dktX3_send_1 := dk_seg dksX3_send_0 23 rfl rfl
theorem dksX3_send_2 : cX3_send.data.toList.drop 47 = dktX3_send_2 := dk_seg dksX3_send_1 24 rfl rfl
theorem dksX3_send_3 : cX3_send.data.toList.drop 71 = dktX3_send_3 := dk_seg dksX3_send_2 24 rfl rfl
theorem dksX3_send_4 : cX3_send.data.toList.drop 94 = dktX3_send_4 := dk_seg dksX3_send_3 23 rfl rfl
theorem dX3_send_0 : decode cX3_send 0 = .ok (.aload_n 0, 1) := dk_42 (dk_at dksX3_send_0 0 rfl rfl)
theorem dX3_send_1 : decode cX3_send 1 = .ok (.aload_n 0, 1) := dk_42 (dk_at dksX3_send_0 1 rfl rfl)
theorem dX3_send_2 : decode cX3_send 2 = .ok (.iload_n 1, 1) := dk_27 (dk_at dksX3_send_0 2 rfl rfl)
theorem dX3_send_3 : decode cX3_send 3 = .ok (.invokevirtual 125, 3) := dk_182 0 125 (dk_at dksX3_send_0 3 rfl rfl)
theorem dX3_send_6 : decode cX3_send 6 = .ok (.ifCond .ne 11, 3) := dk_154 0 11 (dk_at dksX3_send_0 6 rfl rfl)
theorem dX3_send_9 : decode cX3_send 9 = .ok (.aload_n 0, 1) := dk_42 (dk_at dksX3_send_0 9 rfl rfl)
theorem dX3_send_10 : decode cX3_send 10 = .ok (.iload_n 2, 1) := dk_28 (dk_at dksX3_send_0 10 rfl rfl)
theorem dX3_send_11 : decode cX3_send 11 = .ok (.invokevirtual 76, 3) := dk_182 0 76 (dk_at dksX3_send_0 11 rfl rfl)
theorem dX3_send_14 : decode cX3_send 14 = .ok (.ifCond .eq 7, 3) := dk_153 0 7 (dk_at dksX3_send_0 14 rfl rfl)
theorem dX3_send_17 : decode cX3_send 17 = .ok (.iconst 1, 1) := dk_4 (dk_at dksX3_send_0 17 rfl rfl)
theorem dX3_send_18 : decode cX3_send 18 = .ok (.goto 4, 3) := dk_167 0 4 (dk_at dksX3_send_0 18 rfl rfl)
theorem dX3_send_21 : decode cX3_send 21 = .ok (.iconst 0, 1) := dk_3 (dk_at dksX3_send_0 21 rfl rfl)
theorem dX3_send_22 : decode cX3_send 22 = .ok (.iconst 1, 1) := dk_4 (dk_at dksX3_send_0 22 rfl rfl)
theorem dX3_send_23 : decode cX3_send 23 = .ok (.invokevirtual 61, 3) := dk_182 0 61 (dk_at dksX3_send_1 0 rfl rfl)
theorem dX3_send_26 : decode cX3_send 26 = .ok (.ifCond .ne 36, 3) := dk_154 0 36 (dk_at dksX3_send_1 3 rfl rfl)
theorem dX3_send_29 : decode cX3_send 29 = .ok (.aload_n 0, 1) := dk_42 (dk_at dksX3_send_1 6 rfl rfl)
theorem dX3_send_30 : decode cX3_send 30 = .ok (.aload_n 0, 1) := dk_42 (dk_at dksX3_send_1 7 rfl rfl)
theorem dX3_send_31 : decode cX3_send 31 = .ok (.getfield 19, 3) := dk_180 0 19 (dk_at dksX3_send_1 8 rfl rfl)
theorem dX3_send_34 : decode cX3_send 34 = .ok (.getfield 51, 3) := dk_180 0 51 (dk_at dksX3_send_1 11 rfl rfl)
theorem dX3_send_37 : decode cX3_send 37 = .ok (.iload_n 1, 1) := dk_27 (dk_at dksX3_send_1 14 rfl rfl)
theorem dX3_send_38 : decode cX3_send 38 = .ok (.invokevirtual 79, 3) := dk_182 0 79 (dk_at dksX3_send_1 15 rfl rfl)
theorem dX3_send_41 : decode cX3_send 41 = .ok (.checkcast 73, 3) := dk_192 0 73 (dk_at dksX3_send_1 18 rfl rfl)
theorem dX3_send_44 : decode cX3_send 44 = .ok (.getfield 128, 3) := dk_180 0 128 (dk_at dksX3_send_1 21 rfl rfl)
theorem dX3_send_47 : decode cX3_send 47 = .ok (.ifCond .eq 7, 3) := dk_153 0 7 (dk_at dksX3_send_2 0 rfl rfl)
theorem dX3_send_50 : decode cX3_send 50 = .ok (.iconst 1, 1) := dk_4 (dk_at dksX3_send_2 3 rfl rfl)
theorem dX3_send_51 : decode cX3_send 51 = .ok (.goto 4, 3) := dk_167 0 4 (dk_at dksX3_send_2 4 rfl rfl)
theorem dX3_send_54 : decode cX3_send 54 = .ok (.iconst 0, 1) := dk_3 (dk_at dksX3_send_2 7 rfl rfl)
theorem dX3_send_55 : decode cX3_send 55 = .ok (.iconst 2, 1) := dk_5 (dk_at dksX3_send_2 8 rfl rfl)
theorem dX3_send_56 : decode cX3_send 56 = .ok (.invokevirtual 33, 3) := dk_182 0 33 (dk_at dksX3_send_2 9 rfl rfl)
theorem dX3_send_59 : decode cX3_send 59 = .ok (.ifCond .eq 5, 3) := dk_153 0 5 (dk_at dksX3_send_2 12 rfl rfl)
theorem dX3_send_62 : decode cX3_send 62 = .ok (.iconst 0, 1) := dk_3 (dk_at dksX3_send_2 15 rfl rfl)
theorem dX3_send_63 : decode cX3_send 63 = .ok (.ireturn, 1) := dk_172 (dk_at dksX3_send_2 16 rfl rfl)
theorem dX3_send_64 : decode cX3_send 64 = .ok (.aload_n 0, 1) := dk_42 (dk_at dksX3_send_2 17 rfl rfl)
theorem dX3_send_65 : decode cX3_send 65 = .ok (.getfield 19, 3) := dk_180 0 19 (dk_at dksX3_send_2 18 rfl rfl)
theorem dX3_send_68 : decode cX3_send 68 = .ok (.getfield 51, 3) := dk_180 0 51 (dk_at dksX3_send_2 21 rfl rfl)
theorem dX3_send_71 : decode cX3_send 71 = .ok (.iload_n 1, 1) := dk_27 (dk_at dksX3_send_3 0 rfl rfl)
theorem dX3_send_72 : decode cX3_send 72 = .ok (.invokevirtual 79, 3) := dk_182 0 79 (dk_at dksX3_send_3 1 rfl rfl)
theorem dX3_send_75 : decode cX3_send 75 = .ok (.checkcast 73, 3) := dk_192 0 73 (dk_at dksX3_send_3 4 rfl rfl)
theorem dX3_send_78 : decode cX3_send 78 = .ok (.astore_n 3, 1) := dk_78 (dk_at dksX3_send_3 7 rfl rfl)
theorem dX3_send_79 : decode cX3_send 79 = .ok (.aload_n 3, 1) := dk_45 (dk_at dksX3_send_3 8 rfl rfl)
theorem dX3_send_80 : decode cX3_send 80 = .ok (.iconst 1, 1) := dk_4 (dk_at dksX3_send_3 9 rfl rfl)
theorem dX3_send_81 : decode cX3_send 81 = .ok (.putfield 128, 3) := dk_181 0 128 (dk_at dksX3_send_3 10 rfl rfl)
theorem dX3_send_84 : decode cX3_send 84 = .ok (.aload_n 3, 1) := dk_45 (dk_at dksX3_send_3 13 rfl rfl)
theorem dX3_send_85 : decode cX3_send 85 = .ok (.iload_n 2, 1) := dk_28 (dk_at dksX3_send_3 14 rfl rfl)
theorem dX3_send_86 : decode cX3_send 86 = .ok (.putfield 131, 3) := dk_181 0 131 (dk_at dksX3_send_3 15 rfl rfl)
theorem dX3_send_89 : decode cX3_send 89 = .ok (.aload_n 3, 1) := dk_45 (dk_at dksX3_send_3 18 rfl rfl)
theorem dX3_send_90 : decode cX3_send 90 = .ok (.aload_n 0, 1) := dk_42 (dk_at dksX3_send_3 19 rfl rfl)
theorem dX3_send_91 : decode cX3_send 91 = .ok (.getfield 19, 3) := dk_180 0 19 (dk_at dksX3_send_3 20 rfl rfl)
theorem dX3_send_94 : decode cX3_send 94 = .ok (.getfield 41, 3) := dk_180 0 41 (dk_at dksX3_send_4 0 rfl rfl)
theorem dX3_send_97 : decode cX3_send 97 = .ok (.iload_n 2, 1) := dk_28 (dk_at dksX3_send_4 3 rfl rfl)
theorem dX3_send_98 : decode cX3_send 98 = .ok (.invokevirtual 79, 3) := dk_182 0 79 (dk_at dksX3_send_4 4 rfl rfl)
theorem dX3_send_101 : decode cX3_send 101 = .ok (.checkcast 64, 3) := dk_192 0 64 (dk_at dksX3_send_4 7 rfl rfl)
theorem dX3_send_104 : decode cX3_send 104 = .ok (.getfield 134, 3) := dk_180 0 134 (dk_at dksX3_send_4 10 rfl rfl)
theorem dX3_send_107 : decode cX3_send 107 = .ok (.putfield 137, 3) := dk_181 0 137 (dk_at dksX3_send_4 13 rfl rfl)
theorem dX3_send_110 : decode cX3_send 110 = .ok (.aload_n 3, 1) := dk_45 (dk_at dksX3_send_4 16 rfl rfl)
theorem dX3_send_111 : decode cX3_send 111 = .ok (.getfield 137, 3) := dk_180 0 137 (dk_at dksX3_send_4 17 rfl rfl)
theorem dX3_send_114 : decode cX3_send 114 = .ok (.ireturn, 1) := dk_172 (dk_at dksX3_send_4 20 rfl rfl)
abbrev cX3_isNoTruck : ByteArray := prog_7_method_9_code
def yX3_isNoTruck : MethodName := ⟨RX3, "isNoTruck", "(I)Z"⟩
def dkwX3_isNoTruck_1 : List UInt8 := [3, 172]
abbrev dktX3_isNoTruck_1 : List UInt8 := dkwX3_isNoTruck_1 ++ []
def dkwX3_isNoTruck_0 : List UInt8 := [27, 3, 42, 180, 0, 19, 180, 0, 51, 182, 0, 45, 4, 100, 184, 0, 37, 154, 0, 7, 4, 167, 0, 4]
abbrev dktX3_isNoTruck_0 : List UInt8 := dkwX3_isNoTruck_0 ++ dktX3_isNoTruck_1
theorem dksX3_isNoTruck_0 : cX3_isNoTruck.data.toList.drop 0 = dktX3_isNoTruck_0 := by decide +kernel
theorem dksX3_isNoTruck_1 : cX3_isNoTruck.data.toList.drop 24 = dktX3_isNoTruck_1 := dk_seg dksX3_isNoTruck_0 24 rfl rfl
theorem dX3_isNoTruck_0 : decode cX3_isNoTruck 0 = .ok (.iload_n 1, 1) := dk_27 (dk_at dksX3_isNoTruck_0 0 rfl rfl)
theorem dX3_isNoTruck_1 : decode cX3_isNoTruck 1 = .ok (.iconst 0, 1) := dk_3 (dk_at dksX3_isNoTruck_0 1 rfl rfl)
theorem dX3_isNoTruck_2 : decode cX3_isNoTruck 2 = .ok (.aload_n 0, 1) := dk_42 (dk_at dksX3_isNoTruck_0 2 rfl rfl)
theorem dX3_isNoTruck_3 : decode cX3_isNoTruck 3 = .ok (.getfield 19, 3) := dk_180 0 19 (dk_at dksX3_isNoTruck_0 3 rfl rfl)
theorem dX3_isNoTruck_6 : decode cX3_isNoTruck 6 = .ok (.getfield 51, 3) := dk_180 0 51 (dk_at dksX3_isNoTruck_0 6 rfl rfl)
theorem dX3_isNoTruck_9 : decode cX3_isNoTruck 9 = .ok (.invokevirtual 45, 3) := dk_182 0 45 (dk_at dksX3_isNoTruck_0 9 rfl rfl)
theorem dX3_isNoTruck_12 : decode cX3_isNoTruck 12 = .ok (.iconst 1, 1) := dk_4 (dk_at dksX3_isNoTruck_0 12 rfl rfl)
theorem dX3_isNoTruck_13 : decode cX3_isNoTruck 13 = .ok (.isub, 1) := dk_100 (dk_at dksX3_isNoTruck_0 13 rfl rfl)
theorem dX3_isNoTruck_14 : decode cX3_isNoTruck 14 = .ok (.invokestatic 37, 3) := dk_184 0 37 (dk_at dksX3_isNoTruck_0 14 rfl rfl)
theorem dX3_isNoTruck_17 : decode cX3_isNoTruck 17 = .ok (.ifCond .ne 7, 3) := dk_154 0 7 (dk_at dksX3_isNoTruck_0 17 rfl rfl)
theorem dX3_isNoTruck_20 : decode cX3_isNoTruck 20 = .ok (.iconst 1, 1) := dk_4 (dk_at dksX3_isNoTruck_0 20 rfl rfl)
theorem dX3_isNoTruck_21 : decode cX3_isNoTruck 21 = .ok (.goto 4, 3) := dk_167 0 4 (dk_at dksX3_isNoTruck_0 21 rfl rfl)
theorem dX3_isNoTruck_24 : decode cX3_isNoTruck 24 = .ok (.iconst 0, 1) := dk_3 (dk_at dksX3_isNoTruck_1 0 rfl rfl)
theorem dX3_isNoTruck_25 : decode cX3_isNoTruck 25 = .ok (.ireturn, 1) := dk_172 (dk_at dksX3_isNoTruck_1 1 rfl rfl)
abbrev cX3_recall : ByteArray := prog_7_method_19_code
def yX3_recall : MethodName := ⟨RX3, "recall", "(I)I"⟩
def dkwX3_recall_3 : List UInt8 := [62, 44, 3, 181, 0, 128, 44, 2, 181, 0, 131, 44, 3, 181, 0, 137, 29, 172]
abbrev dktX3_recall_3 : List UInt8 := dkwX3_recall_3 ++ []
def dkwX3_recall_2 : List UInt8 := [153, 0, 5, 3, 172, 42, 180, 0, 19, 180, 0, 51, 27, 182, 0, 79, 192, 0, 73, 77, 44, 180, 0, 131]
abbrev dktX3_recall_2 : List UInt8 := dkwX3_recall_2 ++ dktX3_recall_3
def dkwX3_recall_1 : List UInt8 := [182, 0, 79, 192, 0, 73, 180, 0, 128, 4, 159, 0, 7, 4, 167, 0, 4, 3, 5, 182, 0, 33]
abbrev dktX3_recall_1 : List UInt8 := dkwX3_recall_1 ++ dktX3_recall_2
def dkwX3_recall_0 : List UInt8 := [42, 42, 27, 182, 0, 125, 4, 182, 0, 61, 154, 0, 37, 42, 42, 180, 0, 19, 180, 0, 51, 27]
abbrev dktX3_recall_0 : List UInt8 := dkwX3_recall_0 ++ dktX3_recall_1
theorem dksX3_recall_0 : cX3_recall.data.toList.drop 0 = dktX3_recall_0 := by decide +kernel
theorem dksX3_recall_1 : cX3_recall.data.toList.drop 22 = dktX3_recall_1 := dk_seg dksX3_recall_0 22 rfl rfl
theorem dksX3_recall_2 : cX3_recall.data.toList.drop 44 = dktX3_recall_2 := dk_seg dksX3_recall_1 22 rfl rfl
theorem dksX3_recall_3 : cX3_recall.data.toList.drop 68 = dktX3_recall_3 := dk_seg dksX3_recall_2 24 rfl rfl
theorem dX3_recall_0 : decode cX3_recall 0 = .ok (.aload_n 0, 1) := dk_42 (dk_at dksX3_recall_0 0 rfl rfl)
theorem dX3_recall_1 : decode cX3_recall 1 = .ok (.aload_n 0, 1) := dk_42 (dk_at dksX3_recall_0 1 rfl rfl)
theorem dX3_recall_2 : decode cX3_recall 2 = .ok (.iload_n 1, 1) := dk_27 (dk_at dksX3_recall_0 2 rfl rfl)
theorem dX3_recall_3 : decode cX3_recall 3 = .ok (.invokevirtual 125, 3) := dk_182 0 125 (dk_at dksX3_recall_0 3 rfl rfl)
theorem dX3_recall_6 : decode cX3_recall 6 = .ok (.iconst 1, 1) := dk_4 (dk_at dksX3_recall_0 6 rfl rfl)
theorem dX3_recall_7 : decode cX3_recall 7 = .ok (.invokevirtual 61, 3) := dk_182 0 61 (dk_at dksX3_recall_0 7 rfl rfl)
theorem dX3_recall_10 : decode cX3_recall 10 = .ok (.ifCond .ne 37, 3) := dk_154 0 37 (dk_at dksX3_recall_0 10 rfl rfl)
theorem dX3_recall_13 : decode cX3_recall 13 = .ok (.aload_n 0, 1) := dk_42 (dk_at dksX3_recall_0 13 rfl rfl)
theorem dX3_recall_14 : decode cX3_recall 14 = .ok (.aload_n 0, 1) := dk_42 (dk_at dksX3_recall_0 14 rfl rfl)
theorem dX3_recall_15 : decode cX3_recall 15 = .ok (.getfield 19, 3) := dk_180 0 19 (dk_at dksX3_recall_0 15 rfl rfl)
theorem dX3_recall_18 : decode cX3_recall 18 = .ok (.getfield 51, 3) := dk_180 0 51 (dk_at dksX3_recall_0 18 rfl rfl)
theorem dX3_recall_21 : decode cX3_recall 21 = .ok (.iload_n 1, 1) := dk_27 (dk_at dksX3_recall_0 21 rfl rfl)
theorem dX3_recall_22 : decode cX3_recall 22 = .ok (.invokevirtual 79, 3) := dk_182 0 79 (dk_at dksX3_recall_1 0 rfl rfl)
theorem dX3_recall_25 : decode cX3_recall 25 = .ok (.checkcast 73, 3) := dk_192 0 73 (dk_at dksX3_recall_1 3 rfl rfl)
theorem dX3_recall_28 : decode cX3_recall 28 = .ok (.getfield 128, 3) := dk_180 0 128 (dk_at dksX3_recall_1 6 rfl rfl)
theorem dX3_recall_31 : decode cX3_recall 31 = .ok (.iconst 1, 1) := dk_4 (dk_at dksX3_recall_1 9 rfl rfl)
theorem dX3_recall_32 : decode cX3_recall 32 = .ok (.if_icmp .eq 7, 3) := dk_159 0 7 (dk_at dksX3_recall_1 10 rfl rfl)
theorem dX3_recall_35 : decode cX3_recall 35 = .ok (.iconst 1, 1) := dk_4 (dk_at dksX3_recall_1 13 rfl rfl)
theorem dX3_recall_36 : decode cX3_recall 36 = .ok (.goto 4, 3) := dk_167 0 4 (dk_at dksX3_recall_1 14 rfl rfl)
theorem dX3_recall_39 : decode cX3_recall 39 = .ok (.iconst 0, 1) := dk_3 (dk_at dksX3_recall_1 17 rfl rfl)
theorem dX3_recall_40 : decode cX3_recall 40 = .ok (.iconst 2, 1) := dk_5 (dk_at dksX3_recall_1 18 rfl rfl)
theorem dX3_recall_41 : decode cX3_recall 41 = .ok (.invokevirtual 33, 3) := dk_182 0 33 (dk_at dksX3_recall_1 19 rfl rfl)
theorem dX3_recall_44 : decode cX3_recall 44 = .ok (.ifCond .eq 5, 3) := dk_153 0 5 (dk_at dksX3_recall_2 0 rfl rfl)
theorem dX3_recall_47 : decode cX3_recall 47 = .ok (.iconst 0, 1) := dk_3 (dk_at dksX3_recall_2 3 rfl rfl)
theorem dX3_recall_48 : decode cX3_recall 48 = .ok (.ireturn, 1) := dk_172 (dk_at dksX3_recall_2 4 rfl rfl)
theorem dX3_recall_49 : decode cX3_recall 49 = .ok (.aload_n 0, 1) := dk_42 (dk_at dksX3_recall_2 5 rfl rfl)
theorem dX3_recall_50 : decode cX3_recall 50 = .ok (.getfield 19, 3) := dk_180 0 19 (dk_at dksX3_recall_2 6 rfl rfl)
theorem dX3_recall_53 : decode cX3_recall 53 = .ok (.getfield 51, 3) := dk_180 0 51 (dk_at dksX3_recall_2 9 rfl rfl)
theorem dX3_recall_56 : decode cX3_recall 56 = .ok (.iload_n 1, 1) := dk_27 (dk_at dksX3_recall_2 12 rfl rfl)
theorem dX3_recall_57 : decode cX3_recall 57 = .ok (.invokevirtual 79, 3) := dk_182 0 79 (dk_at dksX3_recall_2 13 rfl rfl)
theorem dX3_recall_60 : decode cX3_recall 60 = .ok (.checkcast 73, 3) := dk_192 0 73 (dk_at dksX3_recall_2 16 rfl rfl)
theorem dX3_recall_63 : decode cX3_recall 63 = .ok (.astore_n 2, 1) := dk_77 (dk_at dksX3_recall_2 19 rfl rfl)
theorem dX3_recall_64 : decode cX3_recall 64 = .ok (.aload_n 2, 1) := dk_44 (dk_at dksX3_recall_2 20 rfl rfl)
theorem dX3_recall_65 : decode cX3_recall 65 = .ok (.getfield 131, 3) := dk_180 0 131 (dk_at dksX3_recall_2 21 rfl rfl)
theorem dX3_recall_68 : decode cX3_recall 68 = .ok (.istore_n 3, 1) := dk_62 (dk_at dksX3_recall_3 0 rfl rfl)
theorem dX3_recall_69 : decode cX3_recall 69 = .ok (.aload_n 2, 1) := dk_44 (dk_at dksX3_recall_3 1 rfl rfl)
theorem dX3_recall_70 : decode cX3_recall 70 = .ok (.iconst 0, 1) := dk_3 (dk_at dksX3_recall_3 2 rfl rfl)
theorem dX3_recall_71 : decode cX3_recall 71 = .ok (.putfield 128, 3) := dk_181 0 128 (dk_at dksX3_recall_3 3 rfl rfl)
theorem dX3_recall_74 : decode cX3_recall 74 = .ok (.aload_n 2, 1) := dk_44 (dk_at dksX3_recall_3 6 rfl rfl)
theorem dX3_recall_75 : decode cX3_recall 75 = .ok (.iconst (-1), 1) := dk_2 (dk_at dksX3_recall_3 7 rfl rfl)
theorem dX3_recall_76 : decode cX3_recall 76 = .ok (.putfield 131, 3) := dk_181 0 131 (dk_at dksX3_recall_3 8 rfl rfl)
theorem dX3_recall_79 : decode cX3_recall 79 = .ok (.aload_n 2, 1) := dk_44 (dk_at dksX3_recall_3 11 rfl rfl)
theorem dX3_recall_80 : decode cX3_recall 80 = .ok (.iconst 0, 1) := dk_3 (dk_at dksX3_recall_3 12 rfl rfl)
theorem dX3_recall_81 : decode cX3_recall 81 = .ok (.putfield 137, 3) := dk_181 0 137 (dk_at dksX3_recall_3 13 rfl rfl)
theorem dX3_recall_84 : decode cX3_recall 84 = .ok (.iload_n 3, 1) := dk_29 (dk_at dksX3_recall_3 16 rfl rfl)
theorem dX3_recall_85 : decode cX3_recall 85 = .ok (.ireturn, 1) := dk_172 (dk_at dksX3_recall_3 17 rfl rfl)
abbrev cX3_start_2 : ByteArray := prog_7_method_20_code
def yX3_start_2 : MethodName := ⟨RX3, "start", "()I"⟩
def dkwX3_start_2_2 : List UInt8 := [181, 0, 146, 42, 180, 0, 19, 16, 10, 182, 0, 149, 172]
abbrev dktX3_start_2_2 : List UInt8 := dkwX3_start_2_2 ++ []
def dkwX3_start_2_1 : List UInt8 := [172, 42, 180, 0, 19, 4, 181, 0, 140, 42, 180, 0, 19, 5, 181, 0, 143, 42, 180, 0, 19, 3]
abbrev dktX3_start_2_1 : List UInt8 := dkwX3_start_2_1 ++ dktX3_start_2_2
def dkwX3_start_2_0 : List UInt8 := [42, 42, 180, 0, 19, 180, 0, 140, 153, 0, 7, 4, 167, 0, 4, 3, 4, 182, 0, 61, 153, 0, 5, 3]
abbrev dktX3_start_2_0 : List UInt8 := dkwX3_start_2_0 ++ dktX3_start_2_1
theorem dksX3_start_2_0 : cX3_start_2.data.toList.drop 0 = dktX3_start_2_0 := by decide +kernel
theorem dksX3_start_2_1 : cX3_start_2.data.toList.drop 24 = dktX3_start_2_1 := dk_seg dksX3_start_2_0 24 rfl rfl
theorem dksX3_start_2_2 : cX3_start_2.data.toList.drop 46 = dktX3_start_2_2 := dk_seg dksX3_start_2_1 22 rfl rfl
theorem dX3_start_2_0 : decode cX3_start_2 0 = .ok (.aload_n 0, 1) := dk_42 (dk_at dksX3_start_2_0 0 rfl rfl)
theorem dX3_start_2_1 : decode cX3_start_2 1 = .ok (.aload_n 0, 1) := dk_42 (dk_at dksX3_start_2_0 1 rfl rfl)
theorem dX3_start_2_2 : decode cX3_start_2 2 = .ok (.getfield 19, 3) := dk_180 0 19 (dk_at dksX3_start_2_0 2 rfl rfl)
theorem dX3_start_2_5 : decode cX3_start_2 5 = .ok (.getfield 140, 3) := dk_180 0 140 (dk_at dksX3_start_2_0 5 rfl rfl)
theorem dX3_start_2_8 : decode cX3_start_2 8 = .ok (.ifCond .eq 7, 3) := dk_153 0 7 (dk_at dksX3_start_2_0 8 rfl rfl)
theorem dX3_start_2_11 : decode cX3_start_2 11 = .ok (.iconst 1, 1) := dk_4 (dk_at dksX3_start_2_0 11 rfl rfl)
theorem dX3_start_2_12 : decode cX3_start_2 12 = .ok (.goto 4, 3) := dk_167 0 4 (dk_at dksX3_start_2_0 12 rfl rfl)
theorem dX3_start_2_15 : decode cX3_start_2 15 = .ok (.iconst 0, 1) := dk_3 (dk_at dksX3_start_2_0 15 rfl rfl)
theorem dX3_start_2_16 : decode cX3_start_2 16 = .ok (.iconst 1, 1) := dk_4 (dk_at dksX3_start_2_0 16 rfl rfl)
theorem dX3_start_2_17 : decode cX3_start_2 17 = .ok (.invokevirtual 61, 3) := dk_182 0 61 (dk_at dksX3_start_2_0 17 rfl rfl)
theorem dX3_start_2_20 : decode cX3_start_2 20 = .ok (.ifCond .eq 5, 3) := dk_153 0 5 (dk_at dksX3_start_2_0 20 rfl rfl)
theorem dX3_start_2_23 : decode cX3_start_2 23 = .ok (.iconst 0, 1) := dk_3 (dk_at dksX3_start_2_0 23 rfl rfl)
theorem dX3_start_2_24 : decode cX3_start_2 24 = .ok (.ireturn, 1) := dk_172 (dk_at dksX3_start_2_1 0 rfl rfl)
theorem dX3_start_2_25 : decode cX3_start_2 25 = .ok (.aload_n 0, 1) := dk_42 (dk_at dksX3_start_2_1 1 rfl rfl)
theorem dX3_start_2_26 : decode cX3_start_2 26 = .ok (.getfield 19, 3) := dk_180 0 19 (dk_at dksX3_start_2_1 2 rfl rfl)
theorem dX3_start_2_29 : decode cX3_start_2 29 = .ok (.iconst 1, 1) := dk_4 (dk_at dksX3_start_2_1 5 rfl rfl)
theorem dX3_start_2_30 : decode cX3_start_2 30 = .ok (.putfield 140, 3) := dk_181 0 140 (dk_at dksX3_start_2_1 6 rfl rfl)
theorem dX3_start_2_33 : decode cX3_start_2 33 = .ok (.aload_n 0, 1) := dk_42 (dk_at dksX3_start_2_1 9 rfl rfl)
theorem dX3_start_2_34 : decode cX3_start_2 34 = .ok (.getfield 19, 3) := dk_180 0 19 (dk_at dksX3_start_2_1 10 rfl rfl)
theorem dX3_start_2_37 : decode cX3_start_2 37 = .ok (.iconst 2, 1) := dk_5 (dk_at dksX3_start_2_1 13 rfl rfl)
theorem dX3_start_2_38 : decode cX3_start_2 38 = .ok (.putfield 143, 3) := dk_181 0 143 (dk_at dksX3_start_2_1 14 rfl rfl)
theorem dX3_start_2_41 : decode cX3_start_2 41 = .ok (.aload_n 0, 1) := dk_42 (dk_at dksX3_start_2_1 17 rfl rfl)
theorem dX3_start_2_42 : decode cX3_start_2 42 = .ok (.getfield 19, 3) := dk_180 0 19 (dk_at dksX3_start_2_1 18 rfl rfl)
theorem dX3_start_2_45 : decode cX3_start_2 45 = .ok (.iconst 0, 1) := dk_3 (dk_at dksX3_start_2_1 21 rfl rfl)
theorem dX3_start_2_46 : decode cX3_start_2 46 = .ok (.putfield 146, 3) := dk_181 0 146 (dk_at dksX3_start_2_2 0 rfl rfl)
theorem dX3_start_2_49 : decode cX3_start_2 49 = .ok (.aload_n 0, 1) := dk_42 (dk_at dksX3_start_2_2 3 rfl rfl)
theorem dX3_start_2_50 : decode cX3_start_2 50 = .ok (.getfield 19, 3) := dk_180 0 19 (dk_at dksX3_start_2_2 4 rfl rfl)
theorem dX3_start_2_53 : decode cX3_start_2 53 = .ok (.bipush 10, 2) := dk_16 10 (dk_at dksX3_start_2_2 7 rfl rfl)
theorem dX3_start_2_55 : decode cX3_start_2 55 = .ok (.invokevirtual 149, 3) := dk_182 0 149 (dk_at dksX3_start_2_2 9 rfl rfl)
theorem dX3_start_2_58 : decode cX3_start_2 58 = .ok (.ireturn, 1) := dk_172 (dk_at dksX3_start_2_2 12 rfl rfl)
abbrev cX3_boil : ByteArray := prog_7_method_21_code
def yX3_boil : MethodName := ⟨RX3, "boil", "(I)I"⟩
def dkwX3_boil_6 : List UInt8 := [6, 92, 46, 16, 70, 29, 104, 96, 79, 42, 180, 0, 19, 7, 29, 104, 182, 0, 149, 172]
abbrev dktX3_boil_6 : List UInt8 := dkwX3_boil_6 ++ []
def dkwX3_boil_5 : List UInt8 := [44, 5, 92, 46, 16, 55, 29, 104, 96, 79, 167, 0, 23, 44, 3, 92, 46, 16, 30, 29, 104, 96, 79, 44]
abbrev dktX3_boil_5 : List UInt8 := dkwX3_boil_5 ++ dktX3_boil_6
def dkwX3_boil_4 : List UInt8 := [16, 40, 29, 104, 96, 79, 167, 0, 51, 27, 4, 160, 0, 26, 44, 7, 92, 46, 16, 45, 29, 104, 96, 79]
abbrev dktX3_boil_4 : List UInt8 := dkwX3_boil_4 ++ dktX3_boil_5
def dkwX3_boil_3 : List UInt8 := [16, 100, 29, 104, 100, 79, 27, 154, 0, 26, 44, 7, 92, 46, 16, 60, 29, 104, 96, 79, 44, 4, 92, 46]
abbrev dktX3_boil_3 : List UInt8 := dkwX3_boil_3 ++ dktX3_boil_4
def dkwX3_boil_2 : List UInt8 := [153, 0, 5, 3, 172, 42, 180, 0, 19, 180, 0, 153, 77, 44, 27, 46, 16, 100, 108, 62, 44, 27, 92, 46]
abbrev dktX3_boil_2 : List UInt8 := dkwX3_boil_2 ++ dktX3_boil_3
def dkwX3_boil_1 : List UInt8 := [180, 0, 19, 180, 0, 153, 27, 46, 16, 100, 162, 0, 7, 4, 167, 0, 4, 3, 5, 182, 0, 33]
abbrev dktX3_boil_1 : List UInt8 := dkwX3_boil_1 ++ dktX3_boil_2
def dkwX3_boil_0 : List UInt8 := [42, 27, 3, 5, 184, 0, 37, 154, 0, 7, 4, 167, 0, 4, 3, 4, 182, 0, 61, 154, 0, 30, 42, 42]
abbrev dktX3_boil_0 : List UInt8 := dkwX3_boil_0 ++ dktX3_boil_1
theorem dksX3_boil_0 : cX3_boil.data.toList.drop 0 = dktX3_boil_0 := by decide +kernel
theorem dksX3_boil_1 : cX3_boil.data.toList.drop 24 = dktX3_boil_1 := dk_seg dksX3_boil_0 24 rfl rfl
theorem dksX3_boil_2 : cX3_boil.data.toList.drop 46 = dktX3_boil_2 := dk_seg dksX3_boil_1 22 rfl rfl
theorem dksX3_boil_3 : cX3_boil.data.toList.drop 70 = dktX3_boil_3 := dk_seg dksX3_boil_2 24 rfl rfl
theorem dksX3_boil_4 : cX3_boil.data.toList.drop 94 = dktX3_boil_4 := dk_seg dksX3_boil_3 24 rfl rfl
theorem dksX3_boil_5 : cX3_boil.data.toList.drop 118 = dktX3_boil_5 := dk_seg dksX3_boil_4 24 rfl rfl
theorem dksX3_boil_6 : cX3_boil.data.toList.drop 142 = dktX3_boil_6 := dk_seg dksX3_boil_5 24 rfl rfl
theorem dX3_boil_0 : decode cX3_boil 0 = .ok (.aload_n 0, 1) := dk_42 (dk_at dksX3_boil_0 0 rfl rfl)
theorem dX3_boil_1 : decode cX3_boil 1 = .ok (.iload_n 1, 1) := dk_27 (dk_at dksX3_boil_0 1 rfl rfl)
theorem dX3_boil_2 : decode cX3_boil 2 = .ok (.iconst 0, 1) := dk_3 (dk_at dksX3_boil_0 2 rfl rfl)
theorem dX3_boil_3 : decode cX3_boil 3 = .ok (.iconst 2, 1) := dk_5 (dk_at dksX3_boil_0 3 rfl rfl)
theorem dX3_boil_4 : decode cX3_boil 4 = .ok (.invokestatic 37, 3) := dk_184 0 37 (dk_at dksX3_boil_0 4 rfl rfl)
theorem dX3_boil_7 : decode cX3_boil 7 = .ok (.ifCond .ne 7, 3) := dk_154 0 7 (dk_at dksX3_boil_0 7 rfl rfl)
theorem dX3_boil_10 : decode cX3_boil 10 = .ok (.iconst 1, 1) := dk_4 (dk_at dksX3_boil_0 10 rfl rfl)
theorem dX3_boil_11 : decode cX3_boil 11 = .ok (.goto 4, 3) := dk_167 0 4 (dk_at dksX3_boil_0 11 rfl rfl)
theorem dX3_boil_14 : decode cX3_boil 14 = .ok (.iconst 0, 1) := dk_3 (dk_at dksX3_boil_0 14 rfl rfl)
theorem dX3_boil_15 : decode cX3_boil 15 = .ok (.iconst 1, 1) := dk_4 (dk_at dksX3_boil_0 15 rfl rfl)
theorem dX3_boil_16 : decode cX3_boil 16 = .ok (.invokevirtual 61, 3) := dk_182 0 61 (dk_at dksX3_boil_0 16 rfl rfl)
theorem dX3_boil_19 : decode cX3_boil 19 = .ok (.ifCond .ne 30, 3) := dk_154 0 30 (dk_at dksX3_boil_0 19 rfl rfl)
theorem dX3_boil_22 : decode cX3_boil 22 = .ok (.aload_n 0, 1) := dk_42 (dk_at dksX3_boil_0 22 rfl rfl)
theorem dX3_boil_23 : decode cX3_boil 23 = .ok (.aload_n 0, 1) := dk_42 (dk_at dksX3_boil_0 23 rfl rfl)
theorem dX3_boil_24 : decode cX3_boil 24 = .ok (.getfield 19, 3) := dk_180 0 19 (dk_at dksX3_boil_1 0 rfl rfl)
theorem dX3_boil_27 : decode cX3_boil 27 = .ok (.getfield 153, 3) := dk_180 0 153 (dk_at dksX3_boil_1 3 rfl rfl)
theorem dX3_boil_30 : decode cX3_boil 30 = .ok (.iload_n 1, 1) := dk_27 (dk_at dksX3_boil_1 6 rfl rfl)
theorem dX3_boil_31 : decode cX3_boil 31 = .ok (.iaload, 1) := dk_46 (dk_at dksX3_boil_1 7 rfl rfl)
theorem dX3_boil_32 : decode cX3_boil 32 = .ok (.bipush 100, 2) := dk_16 100 (dk_at dksX3_boil_1 8 rfl rfl)
theorem dX3_boil_34 : decode cX3_boil 34 = .ok (.if_icmp .ge 7, 3) := dk_162 0 7 (dk_at dksX3_boil_1 10 rfl rfl)
theorem dX3_boil_37 : decode cX3_boil 37 = .ok (.iconst 1, 1) := dk_4 (dk_at dksX3_boil_1 13 rfl rfl)
theorem dX3_boil_38 : decode cX3_boil 38 = .ok (.goto 4, 3) := dk_167 0 4 (dk_at dksX3_boil_1 14 rfl rfl)
theorem dX3_boil_41 : decode cX3_boil 41 = .ok (.iconst 0, 1) := dk_3 (dk_at dksX3_boil_1 17 rfl rfl)
theorem dX3_boil_42 : decode cX3_boil 42 = .ok (.iconst 2, 1) := dk_5 (dk_at dksX3_boil_1 18 rfl rfl)
theorem dX3_boil_43 : decode cX3_boil 43 = .ok (.invokevirtual 33, 3) := dk_182 0 33 (dk_at dksX3_boil_1 19 rfl rfl)
theorem dX3_boil_46 : decode cX3_boil 46 = .ok (.ifCond .eq 5, 3) := dk_153 0 5 (dk_at dksX3_boil_2 0 rfl rfl)
theorem dX3_boil_49 : decode cX3_boil 49 = .ok (.iconst 0, 1) := dk_3 (dk_at dksX3_boil_2 3 rfl rfl)
theorem dX3_boil_50 : decode cX3_boil 50 = .ok (.ireturn, 1) := dk_172 (dk_at dksX3_boil_2 4 rfl rfl)
theorem dX3_boil_51 : decode cX3_boil 51 = .ok (.aload_n 0, 1) := dk_42 (dk_at dksX3_boil_2 5 rfl rfl)
theorem dX3_boil_52 : decode cX3_boil 52 = .ok (.getfield 19, 3) := dk_180 0 19 (dk_at dksX3_boil_2 6 rfl rfl)
theorem dX3_boil_55 : decode cX3_boil 55 = .ok (.getfield 153, 3) := dk_180 0 153 (dk_at dksX3_boil_2 9 rfl rfl)
theorem dX3_boil_58 : decode cX3_boil 58 = .ok (.astore_n 2, 1) := dk_77 (dk_at dksX3_boil_2 12 rfl rfl)
theorem dX3_boil_59 : decode cX3_boil 59 = .ok (.aload_n 2, 1) := dk_44 (dk_at dksX3_boil_2 13 rfl rfl)
theorem dX3_boil_60 : decode cX3_boil 60 = .ok (.iload_n 1, 1) := dk_27 (dk_at dksX3_boil_2 14 rfl rfl)
theorem dX3_boil_61 : decode cX3_boil 61 = .ok (.iaload, 1) := dk_46 (dk_at dksX3_boil_2 15 rfl rfl)
theorem dX3_boil_62 : decode cX3_boil 62 = .ok (.bipush 100, 2) := dk_16 100 (dk_at dksX3_boil_2 16 rfl rfl)
theorem dX3_boil_64 : decode cX3_boil 64 = .ok (.idiv, 1) := dk_108 (dk_at dksX3_boil_2 18 rfl rfl)
theorem dX3_boil_65 : decode cX3_boil 65 = .ok (.istore_n 3, 1) := dk_62 (dk_at dksX3_boil_2 19 rfl rfl)
theorem dX3_boil_66 : decode cX3_boil 66 = .ok (.aload_n 2, 1) := dk_44 (dk_at dksX3_boil_2 20 rfl rfl)
theorem dX3_boil_67 : decode cX3_boil 67 = .ok (.iload_n 1, 1) := dk_27 (dk_at dksX3_boil_2 21 rfl rfl)
theorem dX3_boil_68 : decode cX3_boil 68 = .ok (.dup2, 1) := dk_92 (dk_at dksX3_boil_2 22 rfl rfl)
theorem dX3_boil_69 : decode cX3_boil 69 = .ok (.iaload, 1) := dk_46 (dk_at dksX3_boil_2 23 rfl rfl)
theorem dX3_boil_70 : decode cX3_boil 70 = .ok (.bipush 100, 2) := dk_16 100 (dk_at dksX3_boil_3 0 rfl rfl)
theorem dX3_boil_72 : decode cX3_boil 72 = .ok (.iload_n 3, 1) := dk_29 (dk_at dksX3_boil_3 2 rfl rfl)
theorem dX3_boil_73 : decode cX3_boil 73 = .ok (.imul, 1) := dk_104 (dk_at dksX3_boil_3 3 rfl rfl)
theorem dX3_boil_74 : decode cX3_boil 74 = .ok (.isub, 1) := dk_100 (dk_at dksX3_boil_3 4 rfl rfl)
theorem dX3_boil_75 : decode cX3_boil 75 = .ok (.iastore, 1) := dk_79 (dk_at dksX3_boil_3 5 rfl rfl)
theorem dX3_boil_76 : decode cX3_boil 76 = .ok (.iload_n 1, 1) := dk_27 (dk_at dksX3_boil_3 6 rfl rfl)
theorem dX3_boil_77 : decode cX3_boil 77 = .ok (.ifCond .ne 26, 3) := dk_154 0 26 (dk_at dksX3_boil_3 7 rfl rfl)
theorem dX3_boil_80 : decode cX3_boil 80 = .ok (.aload_n 2, 1) := dk_44 (dk_at dksX3_boil_3 10 rfl rfl)
theorem dX3_boil_81 : decode cX3_boil 81 = .ok (.iconst 4, 1) := dk_7 (dk_at dksX3_boil_3 11 rfl rfl)
theorem dX3_boil_82 : decode cX3_boil 82 = .ok (.dup2, 1) := dk_92 (dk_at dksX3_boil_3 12 rfl rfl)
theorem dX3_boil_83 : decode cX3_boil 83 = .ok (.iaload, 1) := dk_46 (dk_at dksX3_boil_3 13 rfl rfl)
theorem dX3_boil_84 : decode cX3_boil 84 = .ok (.bipush 60, 2) := dk_16 60 (dk_at dksX3_boil_3 14 rfl rfl)
theorem dX3_boil_86 : decode cX3_boil 86 = .ok (.iload_n 3, 1) := dk_29 (dk_at dksX3_boil_3 16 rfl rfl)
theorem dX3_boil_87 : decode cX3_boil 87 = .ok (.imul, 1) := dk_104 (dk_at dksX3_boil_3 17 rfl rfl)
theorem dX3_boil_88 : decode cX3_boil 88 = .ok (.iadd, 1) := dk_96 (dk_at dksX3_boil_3 18 rfl rfl)
theorem dX3_boil_89 : decode cX3_boil 89 = .ok (.iastore, 1) := dk_79 (dk_at dksX3_boil_3 19 rfl rfl)
theorem dX3_boil_90 : decode cX3_boil 90 = .ok (.aload_n 2, 1) := dk_44 (dk_at dksX3_boil_3 20 rfl rfl)
theorem dX3_boil_91 : decode cX3_boil 91 = .ok (.iconst 1, 1) := dk_4 (dk_at dksX3_boil_3 21 rfl rfl)
theorem dX3_boil_92 : decode cX3_boil 92 = .ok (.dup2, 1) := dk_92 (dk_at dksX3_boil_3 22 rfl rfl)
theorem dX3_boil_93 : decode cX3_boil 93 = .ok (.iaload, 1) := dk_46 (dk_at dksX3_boil_3 23 rfl rfl)
theorem dX3_boil_94 : decode cX3_boil 94 = .ok (.bipush 40, 2) := dk_16 40 (dk_at dksX3_boil_4 0 rfl rfl)
theorem dX3_boil_96 : decode cX3_boil 96 = .ok (.iload_n 3, 1) := dk_29 (dk_at dksX3_boil_4 2 rfl rfl)
theorem dX3_boil_97 : decode cX3_boil 97 = .ok (.imul, 1) := dk_104 (dk_at dksX3_boil_4 3 rfl rfl)
theorem dX3_boil_98 : decode cX3_boil 98 = .ok (.iadd, 1) := dk_96 (dk_at dksX3_boil_4 4 rfl rfl)
theorem dX3_boil_99 : decode cX3_boil 99 = .ok (.iastore, 1) := dk_79 (dk_at dksX3_boil_4 5 rfl rfl)
theorem dX3_boil_100 : decode cX3_boil 100 = .ok (.goto 51, 3) := dk_167 0 51 (dk_at dksX3_boil_4 6 rfl rfl)
theorem dX3_boil_103 : decode cX3_boil 103 = .ok (.iload_n 1, 1) := dk_27 (dk_at dksX3_boil_4 9 rfl rfl)
theorem dX3_boil_104 : decode cX3_boil 104 = .ok (.iconst 1, 1) := dk_4 (dk_at dksX3_boil_4 10 rfl rfl)
theorem dX3_boil_105 : decode cX3_boil 105 = .ok (.if_icmp .ne 26, 3) := dk_160 0 26 (dk_at dksX3_boil_4 11 rfl rfl)
theorem dX3_boil_108 : decode cX3_boil 108 = .ok (.aload_n 2, 1) := dk_44 (dk_at dksX3_boil_4 14 rfl rfl)
theorem dX3_boil_109 : decode cX3_boil 109 = .ok (.iconst 4, 1) := dk_7 (dk_at dksX3_boil_4 15 rfl rfl)
theorem dX3_boil_110 : decode cX3_boil 110 = .ok (.dup2, 1) := dk_92 (dk_at dksX3_boil_4 16 rfl rfl)
theorem dX3_boil_111 : decode cX3_boil 111 = .ok (.iaload, 1) := dk_46 (dk_at dksX3_boil_4 17 rfl rfl)
theorem dX3_boil_112 : decode cX3_boil 112 = .ok (.bipush 45, 2) := dk_16 45 (dk_at dksX3_boil_4 18 rfl rfl)
theorem dX3_boil_114 : decode cX3_boil 114 = .ok (.iload_n 3, 1) := dk_29 (dk_at dksX3_boil_4 20 rfl rfl)
theorem dX3_boil_115 : decode cX3_boil 115 = .ok (.imul, 1) := dk_104 (dk_at dksX3_boil_4 21 rfl rfl)
theorem dX3_boil_116 : decode cX3_boil 116 = .ok (.iadd, 1) := dk_96 (dk_at dksX3_boil_4 22 rfl rfl)
theorem dX3_boil_117 : decode cX3_boil 117 = .ok (.iastore, 1) := dk_79 (dk_at dksX3_boil_4 23 rfl rfl)
theorem dX3_boil_118 : decode cX3_boil 118 = .ok (.aload_n 2, 1) := dk_44 (dk_at dksX3_boil_5 0 rfl rfl)
theorem dX3_boil_119 : decode cX3_boil 119 = .ok (.iconst 2, 1) := dk_5 (dk_at dksX3_boil_5 1 rfl rfl)
theorem dX3_boil_120 : decode cX3_boil 120 = .ok (.dup2, 1) := dk_92 (dk_at dksX3_boil_5 2 rfl rfl)
theorem dX3_boil_121 : decode cX3_boil 121 = .ok (.iaload, 1) := dk_46 (dk_at dksX3_boil_5 3 rfl rfl)
theorem dX3_boil_122 : decode cX3_boil 122 = .ok (.bipush 55, 2) := dk_16 55 (dk_at dksX3_boil_5 4 rfl rfl)
theorem dX3_boil_124 : decode cX3_boil 124 = .ok (.iload_n 3, 1) := dk_29 (dk_at dksX3_boil_5 6 rfl rfl)
theorem dX3_boil_125 : decode cX3_boil 125 = .ok (.imul, 1) := dk_104 (dk_at dksX3_boil_5 7 rfl rfl)
theorem dX3_boil_126 : decode cX3_boil 126 = .ok (.iadd, 1) := dk_96 (dk_at dksX3_boil_5 8 rfl rfl)
theorem dX3_boil_127 : decode cX3_boil 127 = .ok (.iastore, 1) := dk_79 (dk_at dksX3_boil_5 9 rfl rfl)
theorem dX3_boil_128 : decode cX3_boil 128 = .ok (.goto 23, 3) := dk_167 0 23 (dk_at dksX3_boil_5 10 rfl rfl)
theorem dX3_boil_131 : decode cX3_boil 131 = .ok (.aload_n 2, 1) := dk_44 (dk_at dksX3_boil_5 13 rfl rfl)
theorem dX3_boil_132 : decode cX3_boil 132 = .ok (.iconst 0, 1) := dk_3 (dk_at dksX3_boil_5 14 rfl rfl)
theorem dX3_boil_133 : decode cX3_boil 133 = .ok (.dup2, 1) := dk_92 (dk_at dksX3_boil_5 15 rfl rfl)
theorem dX3_boil_134 : decode cX3_boil 134 = .ok (.iaload, 1) := dk_46 (dk_at dksX3_boil_5 16 rfl rfl)
theorem dX3_boil_135 : decode cX3_boil 135 = .ok (.bipush 30, 2) := dk_16 30 (dk_at dksX3_boil_5 17 rfl rfl)
theorem dX3_boil_137 : decode cX3_boil 137 = .ok (.iload_n 3, 1) := dk_29 (dk_at dksX3_boil_5 19 rfl rfl)
theorem dX3_boil_138 : decode cX3_boil 138 = .ok (.imul, 1) := dk_104 (dk_at dksX3_boil_5 20 rfl rfl)
theorem dX3_boil_139 : decode cX3_boil 139 = .ok (.iadd, 1) := dk_96 (dk_at dksX3_boil_5 21 rfl rfl)
theorem dX3_boil_140 : decode cX3_boil 140 = .ok (.iastore, 1) := dk_79 (dk_at dksX3_boil_5 22 rfl rfl)
theorem dX3_boil_141 : decode cX3_boil 141 = .ok (.aload_n 2, 1) := dk_44 (dk_at dksX3_boil_5 23 rfl rfl)
theorem dX3_boil_142 : decode cX3_boil 142 = .ok (.iconst 3, 1) := dk_6 (dk_at dksX3_boil_6 0 rfl rfl)
theorem dX3_boil_143 : decode cX3_boil 143 = .ok (.dup2, 1) := dk_92 (dk_at dksX3_boil_6 1 rfl rfl)
theorem dX3_boil_144 : decode cX3_boil 144 = .ok (.iaload, 1) := dk_46 (dk_at dksX3_boil_6 2 rfl rfl)
theorem dX3_boil_145 : decode cX3_boil 145 = .ok (.bipush 70, 2) := dk_16 70 (dk_at dksX3_boil_6 3 rfl rfl)
theorem dX3_boil_147 : decode cX3_boil 147 = .ok (.iload_n 3, 1) := dk_29 (dk_at dksX3_boil_6 5 rfl rfl)
theorem dX3_boil_148 : decode cX3_boil 148 = .ok (.imul, 1) := dk_104 (dk_at dksX3_boil_6 6 rfl rfl)
theorem dX3_boil_149 : decode cX3_boil 149 = .ok (.iadd, 1) := dk_96 (dk_at dksX3_boil_6 7 rfl rfl)
theorem dX3_boil_150 : decode cX3_boil 150 = .ok (.iastore, 1) := dk_79 (dk_at dksX3_boil_6 8 rfl rfl)
theorem dX3_boil_151 : decode cX3_boil 151 = .ok (.aload_n 0, 1) := dk_42 (dk_at dksX3_boil_6 9 rfl rfl)
theorem dX3_boil_152 : decode cX3_boil 152 = .ok (.getfield 19, 3) := dk_180 0 19 (dk_at dksX3_boil_6 10 rfl rfl)
theorem dX3_boil_155 : decode cX3_boil 155 = .ok (.iconst 4, 1) := dk_7 (dk_at dksX3_boil_6 13 rfl rfl)
theorem dX3_boil_156 : decode cX3_boil 156 = .ok (.iload_n 3, 1) := dk_29 (dk_at dksX3_boil_6 14 rfl rfl)
theorem dX3_boil_157 : decode cX3_boil 157 = .ok (.imul, 1) := dk_104 (dk_at dksX3_boil_6 15 rfl rfl)
theorem dX3_boil_158 : decode cX3_boil 158 = .ok (.invokevirtual 149, 3) := dk_182 0 149 (dk_at dksX3_boil_6 16 rfl rfl)
theorem dX3_boil_161 : decode cX3_boil 161 = .ok (.ireturn, 1) := dk_172 (dk_at dksX3_boil_6 19 rfl rfl)
abbrev cX3_distil : ByteArray := prog_7_method_22_code
def yX3_distil : MethodName := ⟨RX3, "distil", "()I"⟩
def dkwX3_distil_4 : List UInt8 := [180, 0, 19, 180, 0, 153, 8, 46, 172]
abbrev dktX3_distil_4 : List UInt8 := dkwX3_distil_4 ++ []
def dkwX3_distil_3 : List UInt8 := [27, 104, 96, 79, 42, 180, 0, 19, 180, 0, 153, 16, 6, 92, 46, 16, 38, 27, 104, 96, 79, 42]
abbrev dktX3_distil_3 : List UInt8 := dkwX3_distil_3 ++ dktX3_distil_4
def dkwX3_distil_2 : List UInt8 := [180, 0, 153, 6, 92, 46, 16, 50, 27, 104, 100, 79, 42, 180, 0, 19, 180, 0, 153, 8, 92, 46, 16, 12]
abbrev dktX3_distil_2 : List UInt8 := dkwX3_distil_2 ++ dktX3_distil_3
def dkwX3_distil_1 : List UInt8 := [153, 0, 5, 3, 172, 42, 180, 0, 19, 180, 0, 153, 6, 46, 16, 50, 108, 60, 42, 180, 0, 19]
abbrev dktX3_distil_1 : List UInt8 := dkwX3_distil_1 ++ dktX3_distil_2
def dkwX3_distil_0 : List UInt8 := [42, 42, 180, 0, 19, 180, 0, 153, 6, 46, 16, 50, 162, 0, 7, 4, 167, 0, 4, 3, 4, 182, 0, 61]
abbrev dktX3_distil_0 : List UInt8 := dkwX3_distil_0 ++ dktX3_distil_1
theorem dksX3_distil_0 : cX3_distil.data.toList.drop 0 = dktX3_distil_0 := by decide +kernel
theorem dksX3_distil_1 : cX3_distil.data.toList.drop 24 = dktX3_distil_1 := dk_seg dksX3_distil_0 24 rfl rfl
theorem dksX3_distil_2 : cX3_distil.data.toList.drop 46 = dktX3_distil_2 := dk_seg dksX3_distil_1 22 rfl rfl
theorem dksX3_distil_3 : cX3_distil.data.toList.drop 70 = dktX3_distil_3 := dk_seg dksX3_distil_2 24 rfl rfl
theorem dksX3_distil_4 : cX3_distil.data.toList.drop 92 = dktX3_distil_4 := dk_seg dksX3_distil_3 22 rfl rfl
theorem dX3_distil_0 : decode cX3_distil 0 = .ok (.aload_n 0, 1) := dk_42 (dk_at dksX3_distil_0 0 rfl rfl)
theorem dX3_distil_1 : decode cX3_distil 1 = .ok (.aload_n 0, 1) := dk_42 (dk_at dksX3_distil_0 1 rfl rfl)
theorem dX3_distil_2 : decode cX3_distil 2 = .ok (.getfield 19, 3) := dk_180 0 19 (dk_at dksX3_distil_0 2 rfl rfl)
theorem dX3_distil_5 : decode cX3_distil 5 = .ok (.getfield 153, 3) := dk_180 0 153 (dk_at dksX3_distil_0 5 rfl rfl)
theorem dX3_distil_8 : decode cX3_distil 8 = .ok (.iconst 3, 1) := dk_6 (dk_at dksX3_distil_0 8 rfl rfl)
theorem dX3_distil_9 : decode cX3_distil 9 = .ok (.iaload, 1) := dk_46 (dk_at dksX3_distil_0 9 rfl rfl)
theorem dX3_distil_10 : decode cX3_distil 10 = .ok (.bipush 50, 2) := dk_16 50 (dk_at dksX3_distil_0 10 rfl rfl)
theorem dX3_distil_12 : decode cX3_distil 12 = .ok (.if_icmp .ge 7, 3) := dk_162 0 7 (dk_at dksX3_distil_0 12 rfl rfl)
theorem dX3_distil_15 : decode cX3_distil 15 = .ok (.iconst 1, 1) := dk_4 (dk_at dksX3_distil_0 15 rfl rfl)
theorem dX3_distil_16 : decode cX3_distil 16 = .ok (.goto 4, 3) := dk_167 0 4 (dk_at dksX3_distil_0 16 rfl rfl)
theorem dX3_distil_19 : decode cX3_distil 19 = .ok (.iconst 0, 1) := dk_3 (dk_at dksX3_distil_0 19 rfl rfl)
theorem dX3_distil_20 : decode cX3_distil 20 = .ok (.iconst 1, 1) := dk_4 (dk_at dksX3_distil_0 20 rfl rfl)
theorem dX3_distil_21 : decode cX3_distil 21 = .ok (.invokevirtual 61, 3) := dk_182 0 61 (dk_at dksX3_distil_0 21 rfl rfl)
theorem dX3_distil_24 : decode cX3_distil 24 = .ok (.ifCond .eq 5, 3) := dk_153 0 5 (dk_at dksX3_distil_1 0 rfl rfl)
theorem dX3_distil_27 : decode cX3_distil 27 = .ok (.iconst 0, 1) := dk_3 (dk_at dksX3_distil_1 3 rfl rfl)
theorem dX3_distil_28 : decode cX3_distil 28 = .ok (.ireturn, 1) := dk_172 (dk_at dksX3_distil_1 4 rfl rfl)
theorem dX3_distil_29 : decode cX3_distil 29 = .ok (.aload_n 0, 1) := dk_42 (dk_at dksX3_distil_1 5 rfl rfl)
theorem dX3_distil_30 : decode cX3_distil 30 = .ok (.getfield 19, 3) := dk_180 0 19 (dk_at dksX3_distil_1 6 rfl rfl)
theorem dX3_distil_33 : decode cX3_distil 33 = .ok (.getfield 153, 3) := dk_180 0 153 (dk_at dksX3_distil_1 9 rfl rfl)
theorem dX3_distil_36 : decode cX3_distil 36 = .ok (.iconst 3, 1) := dk_6 (dk_at dksX3_distil_1 12 rfl rfl)
theorem dX3_distil_37 : decode cX3_distil 37 = .ok (.iaload, 1) := dk_46 (dk_at dksX3_distil_1 13 rfl rfl)
theorem dX3_distil_38 : decode cX3_distil 38 = .ok (.bipush 50, 2) := dk_16 50 (dk_at dksX3_distil_1 14 rfl rfl)
theorem dX3_distil_40 : decode cX3_distil 40 = .ok (.idiv, 1) := dk_108 (dk_at dksX3_distil_1 16 rfl rfl)
theorem dX3_distil_41 : decode cX3_distil 41 = .ok (.istore_n 1, 1) := dk_60 (dk_at dksX3_distil_1 17 rfl rfl)
theorem dX3_distil_42 : decode cX3_distil 42 = .ok (.aload_n 0, 1) := dk_42 (dk_at dksX3_distil_1 18 rfl rfl)
theorem dX3_distil_43 : decode cX3_distil 43 = .ok (.getfield 19, 3) := dk_180 0 19 (dk_at dksX3_distil_1 19 rfl rfl)
theorem dX3_distil_46 : decode cX3_distil 46 = .ok (.getfield 153, 3) := dk_180 0 153 (dk_at dksX3_distil_2 0 rfl rfl)
theorem dX3_distil_49 : decode cX3_distil 49 = .ok (.iconst 3, 1) := dk_6 (dk_at dksX3_distil_2 3 rfl rfl)
theorem dX3_distil_50 : decode cX3_distil 50 = .ok (.dup2, 1) := dk_92 (dk_at dksX3_distil_2 4 rfl rfl)
theorem dX3_distil_51 : decode cX3_distil 51 = .ok (.iaload, 1) := dk_46 (dk_at dksX3_distil_2 5 rfl rfl)
theorem dX3_distil_52 : decode cX3_distil 52 = .ok (.bipush 50, 2) := dk_16 50 (dk_at dksX3_distil_2 6 rfl rfl)
theorem dX3_distil_54 : decode cX3_distil 54 = .ok (.iload_n 1, 1) := dk_27 (dk_at dksX3_distil_2 8 rfl rfl)
theorem dX3_distil_55 : decode cX3_distil 55 = .ok (.imul, 1) := dk_104 (dk_at dksX3_distil_2 9 rfl rfl)
theorem dX3_distil_56 : decode cX3_distil 56 = .ok (.isub, 1) := dk_100 (dk_at dksX3_distil_2 10 rfl rfl)
theorem dX3_distil_57 : decode cX3_distil 57 = .ok (.iastore, 1) := dk_79 (dk_at dksX3_distil_2 11 rfl rfl)
theorem dX3_distil_58 : decode cX3_distil 58 = .ok (.aload_n 0, 1) := dk_42 (dk_at dksX3_distil_2 12 rfl rfl)
theorem dX3_distil_59 : decode cX3_distil 59 = .ok (.getfield 19, 3) := dk_180 0 19 (dk_at dksX3_distil_2 13 rfl rfl)
theorem dX3_distil_62 : decode cX3_distil 62 = .ok (.getfield 153, 3) := dk_180 0 153 (dk_at dksX3_distil_2 16 rfl rfl)
theorem dX3_distil_65 : decode cX3_distil 65 = .ok (.iconst 5, 1) := dk_8 (dk_at dksX3_distil_2 19 rfl rfl)
theorem dX3_distil_66 : decode cX3_distil 66 = .ok (.dup2, 1) := dk_92 (dk_at dksX3_distil_2 20 rfl rfl)
theorem dX3_distil_67 : decode cX3_distil 67 = .ok (.iaload, 1) := dk_46 (dk_at dksX3_distil_2 21 rfl rfl)
theorem dX3_distil_68 : decode cX3_distil 68 = .ok (.bipush 12, 2) := dk_16 12 (dk_at dksX3_distil_2 22 rfl rfl)
theorem dX3_distil_70 : decode cX3_distil 70 = .ok (.iload_n 1, 1) := dk_27 (dk_at dksX3_distil_3 0 rfl rfl)
theorem dX3_distil_71 : decode cX3_distil 71 = .ok (.imul, 1) := dk_104 (dk_at dksX3_distil_3 1 rfl rfl)
theorem dX3_distil_72 : decode cX3_distil 72 = .ok (.iadd, 1) := dk_96 (dk_at dksX3_distil_3 2 rfl rfl)
theorem dX3_distil_73 : decode cX3_distil 73 = .ok (.iastore, 1) := dk_79 (dk_at dksX3_distil_3 3 rfl rfl)
theorem dX3_distil_74 : decode cX3_distil 74 = .ok (.aload_n 0, 1) := dk_42 (dk_at dksX3_distil_3 4 rfl rfl)
theorem dX3_distil_75 : decode cX3_distil 75 = .ok (.getfield 19, 3) := dk_180 0 19 (dk_at dksX3_distil_3 5 rfl rfl)
theorem dX3_distil_78 : decode cX3_distil 78 = .ok (.getfield 153, 3) := dk_180 0 153 (dk_at dksX3_distil_3 8 rfl rfl)
theorem dX3_distil_81 : decode cX3_distil 81 = .ok (.bipush 6, 2) := dk_16 6 (dk_at dksX3_distil_3 11 rfl rfl)
theorem dX3_distil_83 : decode cX3_distil 83 = .ok (.dup2, 1) := dk_92 (dk_at dksX3_distil_3 13 rfl rfl)
theorem dX3_distil_84 : decode cX3_distil 84 = .ok (.iaload, 1) := dk_46 (dk_at dksX3_distil_3 14 rfl rfl)
theorem dX3_distil_85 : decode cX3_distil 85 = .ok (.bipush 38, 2) := dk_16 38 (dk_at dksX3_distil_3 15 rfl rfl)
theorem dX3_distil_87 : decode cX3_distil 87 = .ok (.iload_n 1, 1) := dk_27 (dk_at dksX3_distil_3 17 rfl rfl)
theorem dX3_distil_88 : decode cX3_distil 88 = .ok (.imul, 1) := dk_104 (dk_at dksX3_distil_3 18 rfl rfl)
theorem dX3_distil_89 : decode cX3_distil 89 = .ok (.iadd, 1) := dk_96 (dk_at dksX3_distil_3 19 rfl rfl)
theorem dX3_distil_90 : decode cX3_distil 90 = .ok (.iastore, 1) := dk_79 (dk_at dksX3_distil_3 20 rfl rfl)
theorem dX3_distil_91 : decode cX3_distil 91 = .ok (.aload_n 0, 1) := dk_42 (dk_at dksX3_distil_3 21 rfl rfl)
theorem dX3_distil_92 : decode cX3_distil 92 = .ok (.getfield 19, 3) := dk_180 0 19 (dk_at dksX3_distil_4 0 rfl rfl)
theorem dX3_distil_95 : decode cX3_distil 95 = .ok (.getfield 153, 3) := dk_180 0 153 (dk_at dksX3_distil_4 3 rfl rfl)
theorem dX3_distil_98 : decode cX3_distil 98 = .ok (.iconst 5, 1) := dk_8 (dk_at dksX3_distil_4 6 rfl rfl)
theorem dX3_distil_99 : decode cX3_distil 99 = .ok (.iaload, 1) := dk_46 (dk_at dksX3_distil_4 7 rfl rfl)
theorem dX3_distil_100 : decode cX3_distil 100 = .ok (.ireturn, 1) := dk_172 (dk_at dksX3_distil_4 8 rfl rfl)
abbrev cX3_sell : ByteArray := prog_7_method_23_code
def yX3_sell : MethodName := ⟨RX3, "sell", "(II)I"⟩
def dkwX3_sell_6 : List UInt8 := [180, 0, 156, 172]
abbrev dktX3_sell_6 : List UInt8 := dkwX3_sell_6 ++ []
def dkwX3_sell_5 : List UInt8 := [167, 0, 13, 27, 4, 160, 0, 7, 8, 167, 0, 4, 4, 104, 96, 181, 0, 156, 42, 180, 0, 19]
abbrev dktX3_sell_5 : List UInt8 := dkwX3_sell_5 ++ dktX3_sell_6
def dkwX3_sell_4 : List UInt8 := [180, 0, 153, 29, 92, 46, 28, 100, 79, 42, 180, 0, 19, 89, 180, 0, 156, 28, 27, 154, 0, 7, 6]
abbrev dktX3_sell_4 : List UInt8 := dkwX3_sell_4 ++ dktX3_sell_5
def dkwX3_sell_3 : List UInt8 := [46, 28, 162, 0, 7, 4, 167, 0, 4, 3, 6, 182, 0, 33, 153, 0, 5, 3, 172, 42, 180, 0, 19]
abbrev dktX3_sell_3 : List UInt8 := dkwX3_sell_3 ++ dktX3_sell_4
def dkwX3_sell_2 : List UInt8 := [167, 0, 14, 27, 4, 160, 0, 7, 8, 167, 0, 5, 16, 7, 62, 42, 42, 180, 0, 19, 180, 0, 153, 29]
abbrev dktX3_sell_2 : List UInt8 := dkwX3_sell_2 ++ dktX3_sell_3
def dkwX3_sell_1 : List UInt8 := [4, 162, 0, 7, 4, 167, 0, 4, 3, 5, 182, 0, 33, 153, 0, 5, 3, 172, 27, 154, 0, 7, 7]
abbrev dktX3_sell_1 : List UInt8 := dkwX3_sell_1 ++ dktX3_sell_2
def dkwX3_sell_0 : List UInt8 := [42, 27, 3, 5, 184, 0, 37, 154, 0, 7, 4, 167, 0, 4, 3, 4, 182, 0, 61, 154, 0, 21, 42, 28]
abbrev dktX3_sell_0 : List UInt8 := dkwX3_sell_0 ++ dktX3_sell_1
theorem dksX3_sell_0 : cX3_sell.data.toList.drop 0 = dktX3_sell_0 := by decide +kernel
theorem dksX3_sell_1 : cX3_sell.data.toList.drop 24 = dktX3_sell_1 := dk_seg dksX3_sell_0 24 rfl rfl
theorem dksX3_sell_2 : cX3_sell.data.toList.drop 47 = dktX3_sell_2 := dk_seg dksX3_sell_1 23 rfl rfl
theorem dksX3_sell_3 : cX3_sell.data.toList.drop 71 = dktX3_sell_3 := dk_seg dksX3_sell_2 24 rfl rfl
theorem dksX3_sell_4 : cX3_sell.data.toList.drop 94 = dktX3_sell_4 := dk_seg dksX3_sell_3 23 rfl rfl
theorem dksX3_sell_5 : cX3_sell.data.toList.drop 117 = dktX3_sell_5 := dk_seg dksX3_sell_4 23 rfl rfl
theorem dksX3_sell_6 : cX3_sell.data.toList.drop 139 = dktX3_sell_6 := dk_seg dksX3_sell_5 22 rfl rfl
theorem dX3_sell_0 : decode cX3_sell 0 = .ok (.aload_n 0, 1) := dk_42 (dk_at dksX3_sell_0 0 rfl rfl)
theorem dX3_sell_1 : decode cX3_sell 1 = .ok (.iload_n 1, 1) := dk_27 (dk_at dksX3_sell_0 1 rfl rfl)
theorem dX3_sell_2 : decode cX3_sell 2 = .ok (.iconst 0, 1) := dk_3 (dk_at dksX3_sell_0 2 rfl rfl)
theorem dX3_sell_3 : decode cX3_sell 3 = .ok (.iconst 2, 1) := dk_5 (dk_at dksX3_sell_0 3 rfl rfl)
theorem dX3_sell_4 : decode cX3_sell 4 = .ok (.invokestatic 37, 3) := dk_184 0 37 (dk_at dksX3_sell_0 4 rfl rfl)
theorem dX3_sell_7 : decode cX3_sell 7 = .ok (.ifCond .ne 7, 3) := dk_154 0 7 (dk_at dksX3_sell_0 7 rfl rfl)
theorem dX3_sell_10 : decode cX3_sell 10 = .ok (.iconst 1, 1) := dk_4 (dk_at dksX3_sell_0 10 rfl rfl)
theorem dX3_sell_11 : decode cX3_sell 11 = .ok (.goto 4, 3) := dk_167 0 4 (dk_at dksX3_sell_0 11 rfl rfl)
theorem dX3_sell_14 : decode cX3_sell 14 = .ok (.iconst 0, 1) := dk_3 (dk_at dksX3_sell_0 14 rfl rfl)
theorem dX3_sell_15 : decode cX3_sell 15 = .ok (.iconst 1, 1) := dk_4 (dk_at dksX3_sell_0 15 rfl rfl)
theorem dX3_sell_16 : decode cX3_sell 16 = .ok (.invokevirtual 61, 3) := dk_182 0 61 (dk_at dksX3_sell_0 16 rfl rfl)
theorem dX3_sell_19 : decode cX3_sell 19 = .ok (.ifCond .ne 21, 3) := dk_154 0 21 (dk_at dksX3_sell_0 19 rfl rfl)
theorem dX3_sell_22 : decode cX3_sell 22 = .ok (.aload_n 0, 1) := dk_42 (dk_at dksX3_sell_0 22 rfl rfl)
theorem dX3_sell_23 : decode cX3_sell 23 = .ok (.iload_n 2, 1) := dk_28 (dk_at dksX3_sell_0 23 rfl rfl)
theorem dX3_sell_24 : decode cX3_sell 24 = .ok (.iconst 1, 1) := dk_4 (dk_at dksX3_sell_1 0 rfl rfl)
theorem dX3_sell_25 : decode cX3_sell 25 = .ok (.if_icmp .ge 7, 3) := dk_162 0 7 (dk_at dksX3_sell_1 1 rfl rfl)
theorem dX3_sell_28 : decode cX3_sell 28 = .ok (.iconst 1, 1) := dk_4 (dk_at dksX3_sell_1 4 rfl rfl)
theorem dX3_sell_29 : decode cX3_sell 29 = .ok (.goto 4, 3) := dk_167 0 4 (dk_at dksX3_sell_1 5 rfl rfl)
theorem dX3_sell_32 : decode cX3_sell 32 = .ok (.iconst 0, 1) := dk_3 (dk_at dksX3_sell_1 8 rfl rfl)
theorem dX3_sell_33 : decode cX3_sell 33 = .ok (.iconst 2, 1) := dk_5 (dk_at dksX3_sell_1 9 rfl rfl)
theorem dX3_sell_34 : decode cX3_sell 34 = .ok (.invokevirtual 33, 3) := dk_182 0 33 (dk_at dksX3_sell_1 10 rfl rfl)
theorem dX3_sell_37 : decode cX3_sell 37 = .ok (.ifCond .eq 5, 3) := dk_153 0 5 (dk_at dksX3_sell_1 13 rfl rfl)
theorem dX3_sell_40 : decode cX3_sell 40 = .ok (.iconst 0, 1) := dk_3 (dk_at dksX3_sell_1 16 rfl rfl)
theorem dX3_sell_41 : decode cX3_sell 41 = .ok (.ireturn, 1) := dk_172 (dk_at dksX3_sell_1 17 rfl rfl)
theorem dX3_sell_42 : decode cX3_sell 42 = .ok (.iload_n 1, 1) := dk_27 (dk_at dksX3_sell_1 18 rfl rfl)
theorem dX3_sell_43 : decode cX3_sell 43 = .ok (.ifCond .ne 7, 3) := dk_154 0 7 (dk_at dksX3_sell_1 19 rfl rfl)
theorem dX3_sell_46 : decode cX3_sell 46 = .ok (.iconst 4, 1) := dk_7 (dk_at dksX3_sell_1 22 rfl rfl)
theorem dX3_sell_47 : decode cX3_sell 47 = .ok (.goto 14, 3) := dk_167 0 14 (dk_at dksX3_sell_2 0 rfl rfl)
theorem dX3_sell_50 : decode cX3_sell 50 = .ok (.iload_n 1, 1) := dk_27 (dk_at dksX3_sell_2 3 rfl rfl)
theorem dX3_sell_51 : decode cX3_sell 51 = .ok (.iconst 1, 1) := dk_4 (dk_at dksX3_sell_2 4 rfl rfl)
theorem dX3_sell_52 : decode cX3_sell 52 = .ok (.if_icmp .ne 7, 3) := dk_160 0 7 (dk_at dksX3_sell_2 5 rfl rfl)
theorem dX3_sell_55 : decode cX3_sell 55 = .ok (.iconst 5, 1) := dk_8 (dk_at dksX3_sell_2 8 rfl rfl)
theorem dX3_sell_56 : decode cX3_sell 56 = .ok (.goto 5, 3) := dk_167 0 5 (dk_at dksX3_sell_2 9 rfl rfl)
theorem dX3_sell_59 : decode cX3_sell 59 = .ok (.bipush 7, 2) := dk_16 7 (dk_at dksX3_sell_2 12 rfl rfl)
theorem dX3_sell_61 : decode cX3_sell 61 = .ok (.istore_n 3, 1) := dk_62 (dk_at dksX3_sell_2 14 rfl rfl)
theorem dX3_sell_62 : decode cX3_sell 62 = .ok (.aload_n 0, 1) := dk_42 (dk_at dksX3_sell_2 15 rfl rfl)
theorem dX3_sell_63 : decode cX3_sell 63 = .ok (.aload_n 0, 1) := dk_42 (dk_at dksX3_sell_2 16 rfl rfl)
theorem dX3_sell_64 : decode cX3_sell 64 = .ok (.getfield 19, 3) := dk_180 0 19 (dk_at dksX3_sell_2 17 rfl rfl)
theorem dX3_sell_67 : decode cX3_sell 67 = .ok (.getfield 153, 3) := dk_180 0 153 (dk_at dksX3_sell_2 20 rfl rfl)
theorem dX3_sell_70 : decode cX3_sell 70 = .ok (.iload_n 3, 1) := dk_29 (dk_at dksX3_sell_2 23 rfl rfl)
theorem dX3_sell_71 : decode cX3_sell 71 = .ok (.iaload, 1) := dk_46 (dk_at dksX3_sell_3 0 rfl rfl)
theorem dX3_sell_72 : decode cX3_sell 72 = .ok (.iload_n 2, 1) := dk_28 (dk_at dksX3_sell_3 1 rfl rfl)
theorem dX3_sell_73 : decode cX3_sell 73 = .ok (.if_icmp .ge 7, 3) := dk_162 0 7 (dk_at dksX3_sell_3 2 rfl rfl)
theorem dX3_sell_76 : decode cX3_sell 76 = .ok (.iconst 1, 1) := dk_4 (dk_at dksX3_sell_3 5 rfl rfl)
theorem dX3_sell_77 : decode cX3_sell 77 = .ok (.goto 4, 3) := dk_167 0 4 (dk_at dksX3_sell_3 6 rfl rfl)
theorem dX3_sell_80 : decode cX3_sell 80 = .ok (.iconst 0, 1) := dk_3 (dk_at dksX3_sell_3 9 rfl rfl)
theorem dX3_sell_81 : decode cX3_sell 81 = .ok (.iconst 3, 1) := dk_6 (dk_at dksX3_sell_3 10 rfl rfl)
theorem dX3_sell_82 : decode cX3_sell 82 = .ok (.invokevirtual 33, 3) := dk_182 0 33 (dk_at dksX3_sell_3 11 rfl rfl)
theorem dX3_sell_85 : decode cX3_sell 85 = .ok (.ifCond .eq 5, 3) := dk_153 0 5 (dk_at dksX3_sell_3 14 rfl rfl)
theorem dX3_sell_88 : decode cX3_sell 88 = .ok (.iconst 0, 1) := dk_3 (dk_at dksX3_sell_3 17 rfl rfl)
theorem dX3_sell_89 : decode cX3_sell 89 = .ok (.ireturn, 1) := dk_172 (dk_at dksX3_sell_3 18 rfl rfl)
theorem dX3_sell_90 : decode cX3_sell 90 = .ok (.aload_n 0, 1) := dk_42 (dk_at dksX3_sell_3 19 rfl rfl)
theorem dX3_sell_91 : decode cX3_sell 91 = .ok (.getfield 19, 3) := dk_180 0 19 (dk_at dksX3_sell_3 20 rfl rfl)
theorem dX3_sell_94 : decode cX3_sell 94 = .ok (.getfield 153, 3) := dk_180 0 153 (dk_at dksX3_sell_4 0 rfl rfl)
theorem dX3_sell_97 : decode cX3_sell 97 = .ok (.iload_n 3, 1) := dk_29 (dk_at dksX3_sell_4 3 rfl rfl)
theorem dX3_sell_98 : decode cX3_sell 98 = .ok (.dup2, 1) := dk_92 (dk_at dksX3_sell_4 4 rfl rfl)
theorem dX3_sell_99 : decode cX3_sell 99 = .ok (.iaload, 1) := dk_46 (dk_at dksX3_sell_4 5 rfl rfl)
theorem dX3_sell_100 : decode cX3_sell 100 = .ok (.iload_n 2, 1) := dk_28 (dk_at dksX3_sell_4 6 rfl rfl)
theorem dX3_sell_101 : decode cX3_sell 101 = .ok (.isub, 1) := dk_100 (dk_at dksX3_sell_4 7 rfl rfl)
theorem dX3_sell_102 : decode cX3_sell 102 = .ok (.iastore, 1) := dk_79 (dk_at dksX3_sell_4 8 rfl rfl)
theorem dX3_sell_103 : decode cX3_sell 103 = .ok (.aload_n 0, 1) := dk_42 (dk_at dksX3_sell_4 9 rfl rfl)
theorem dX3_sell_104 : decode cX3_sell 104 = .ok (.getfield 19, 3) := dk_180 0 19 (dk_at dksX3_sell_4 10 rfl rfl)
theorem dX3_sell_107 : decode cX3_sell 107 = .ok (.dup, 1) := dk_89 (dk_at dksX3_sell_4 13 rfl rfl)
theorem dX3_sell_108 : decode cX3_sell 108 = .ok (.getfield 156, 3) := dk_180 0 156 (dk_at dksX3_sell_4 14 rfl rfl)
theorem dX3_sell_111 : decode cX3_sell 111 = .ok (.iload_n 2, 1) := dk_28 (dk_at dksX3_sell_4 17 rfl rfl)
theorem dX3_sell_112 : decode cX3_sell 112 = .ok (.iload_n 1, 1) := dk_27 (dk_at dksX3_sell_4 18 rfl rfl)
theorem dX3_sell_113 : decode cX3_sell 113 = .ok (.ifCond .ne 7, 3) := dk_154 0 7 (dk_at dksX3_sell_4 19 rfl rfl)
theorem dX3_sell_116 : decode cX3_sell 116 = .ok (.iconst 3, 1) := dk_6 (dk_at dksX3_sell_4 22 rfl rfl)
theorem dX3_sell_117 : decode cX3_sell 117 = .ok (.goto 13, 3) := dk_167 0 13 (dk_at dksX3_sell_5 0 rfl rfl)
theorem dX3_sell_120 : decode cX3_sell 120 = .ok (.iload_n 1, 1) := dk_27 (dk_at dksX3_sell_5 3 rfl rfl)
theorem dX3_sell_121 : decode cX3_sell 121 = .ok (.iconst 1, 1) := dk_4 (dk_at dksX3_sell_5 4 rfl rfl)
theorem dX3_sell_122 : decode cX3_sell 122 = .ok (.if_icmp .ne 7, 3) := dk_160 0 7 (dk_at dksX3_sell_5 5 rfl rfl)
theorem dX3_sell_125 : decode cX3_sell 125 = .ok (.iconst 5, 1) := dk_8 (dk_at dksX3_sell_5 8 rfl rfl)
theorem dX3_sell_126 : decode cX3_sell 126 = .ok (.goto 4, 3) := dk_167 0 4 (dk_at dksX3_sell_5 9 rfl rfl)
theorem dX3_sell_129 : decode cX3_sell 129 = .ok (.iconst 1, 1) := dk_4 (dk_at dksX3_sell_5 12 rfl rfl)
theorem dX3_sell_130 : decode cX3_sell 130 = .ok (.imul, 1) := dk_104 (dk_at dksX3_sell_5 13 rfl rfl)
theorem dX3_sell_131 : decode cX3_sell 131 = .ok (.iadd, 1) := dk_96 (dk_at dksX3_sell_5 14 rfl rfl)
theorem dX3_sell_132 : decode cX3_sell 132 = .ok (.putfield 156, 3) := dk_181 0 156 (dk_at dksX3_sell_5 15 rfl rfl)
theorem dX3_sell_135 : decode cX3_sell 135 = .ok (.aload_n 0, 1) := dk_42 (dk_at dksX3_sell_5 18 rfl rfl)
theorem dX3_sell_136 : decode cX3_sell 136 = .ok (.getfield 19, 3) := dk_180 0 19 (dk_at dksX3_sell_5 19 rfl rfl)
theorem dX3_sell_139 : decode cX3_sell 139 = .ok (.getfield 156, 3) := dk_180 0 156 (dk_at dksX3_sell_6 0 rfl rfl)
theorem dX3_sell_142 : decode cX3_sell 142 = .ok (.ireturn, 1) := dk_172 (dk_at dksX3_sell_6 3 rfl rfl)
abbrev cX3_pay : ByteArray := prog_7_method_24_code
def yX3_pay : MethodName := ⟨RX3, "pay", "(I)I"⟩
def dkwX3_pay_8 : List UInt8 := [172]
abbrev dktX3_pay_8 : List UInt8 := dkwX3_pay_8 ++ []
def dkwX3_pay_7 : List UInt8 := [132, 5, 1, 167, 255, 198, 42, 180, 0, 19, 89, 180, 0, 156, 27, 21, 4, 100, 100, 181, 0, 156, 21, 4]
abbrev dktX3_pay_7 : List UInt8 := dkwX3_pay_7 ++ dktX3_pay_8
def dkwX3_pay_6 : List UInt8 := [21, 6, 96, 79, 21, 4, 21, 6, 100, 54, 4, 42, 180, 0, 19, 180, 0, 159, 21, 5, 3, 79]
abbrev dktX3_pay_6 : List UInt8 := dkwX3_pay_6 ++ dktX3_pay_7
def dkwX3_pay_5 : List UInt8 := [180, 0, 19, 180, 0, 159, 21, 5, 46, 133, 105, 32, 109, 136, 54, 6, 42, 180, 0, 25, 21, 5, 92, 46]
abbrev dktX3_pay_5 : List UInt8 := dkwX3_pay_5 ++ dktX3_pay_6
def dkwX3_pay_4 : List UInt8 := [182, 0, 33, 153, 0, 5, 3, 172, 27, 54, 4, 3, 54, 5, 21, 5, 7, 162, 0, 58, 27, 133, 42]
abbrev dktX3_pay_4 : List UInt8 := dkwX3_pay_4 ++ dktX3_pay_5
def dkwX3_pay_3 : List UInt8 := [180, 0, 19, 180, 0, 156, 27, 161, 0, 9, 32, 9, 148, 154, 0, 7, 4, 167, 0, 4, 3, 5]
abbrev dktX3_pay_3 : List UInt8 := dkwX3_pay_3 ++ dktX3_pay_4
def dkwX3_pay_2 : List UInt8 := [4, 17, 39, 15, 184, 0, 37, 154, 0, 7, 4, 167, 0, 4, 3, 4, 182, 0, 61, 154, 0, 33, 42, 42]
abbrev dktX3_pay_2 : List UInt8 := dkwX3_pay_2 ++ dktX3_pay_3
def dkwX3_pay_1 : List UInt8 := [162, 0, 22, 25, 4, 21, 6, 46, 54, 7, 32, 21, 7, 133, 97, 65, 132, 6, 1, 167, 255, 233, 42, 27]
abbrev dktX3_pay_1 : List UInt8 := dkwX3_pay_1 ++ dktX3_pay_2
def dkwX3_pay_0 : List UInt8 := [9, 65, 42, 180, 0, 19, 180, 0, 159, 58, 4, 25, 4, 190, 54, 5, 3, 54, 6, 21, 6, 21, 5]
abbrev dktX3_pay_0 : List UInt8 := dkwX3_pay_0 ++ dktX3_pay_1
theorem dksX3_pay_0 : cX3_pay.data.toList.drop 0 = dktX3_pay_0 := by decide +kernel
theorem dksX3_pay_1 : cX3_pay.data.toList.drop 23 = dktX3_pay_1 := dk_seg dksX3_pay_0 23 rfl rfl
theorem dksX3_pay_2 : cX3_pay.data.toList.drop 47 = dktX3_pay_2 := dk_seg dksX3_pay_1 24 rfl rfl
theorem dksX3_pay_3 : cX3_pay.data.toList.drop 71 = dktX3_pay_3 := dk_seg dksX3_pay_2 24 rfl rfl
theorem dksX3_pay_4 : cX3_pay.data.toList.drop 93 = dktX3_pay_4 := dk_seg dksX3_pay_3 22 rfl rfl
theorem dksX3_pay_5 : cX3_pay.data.toList.drop 116 = dktX3_pay_5 := dk_seg dksX3_pay_4 23 rfl rfl
theorem dksX3_pay_6 : cX3_pay.data.toList.drop 140 = dktX3_pay_6 := dk_seg dksX3_pay_5 24 rfl rfl
theorem dksX3_pay_7 : cX3_pay.data.toList.drop 162 = dktX3_pay_7 := dk_seg dksX3_pay_6 22 rfl rfl
theorem dksX3_pay_8 : cX3_pay.data.toList.drop 186 = dktX3_pay_8 := dk_seg dksX3_pay_7 24 rfl rfl
theorem dX3_pay_0 : decode cX3_pay 0 = .ok (.lconst 0, 1) := dk_9 (dk_at dksX3_pay_0 0 rfl rfl)
theorem dX3_pay_1 : decode cX3_pay 1 = .ok (.lstore_n 2, 1) := dk_65 (dk_at dksX3_pay_0 1 rfl rfl)
theorem dX3_pay_2 : decode cX3_pay 2 = .ok (.aload_n 0, 1) := dk_42 (dk_at dksX3_pay_0 2 rfl rfl)
theorem dX3_pay_3 : decode cX3_pay 3 = .ok (.getfield 19, 3) := dk_180 0 19 (dk_at dksX3_pay_0 3 rfl rfl)
theorem dX3_pay_6 : decode cX3_pay 6 = .ok (.getfield 159, 3) := dk_180 0 159 (dk_at dksX3_pay_0 6 rfl rfl)
theorem dX3_pay_9 : decode cX3_pay 9 = .ok (.astore 4, 2) := dk_58 4 (dk_at dksX3_pay_0 9 rfl rfl)
theorem dX3_pay_11 : decode cX3_pay 11 = .ok (.aload 4, 2) := dk_25 4 (dk_at dksX3_pay_0 11 rfl rfl)
theorem dX3_pay_13 : decode cX3_pay 13 = .ok (.arraylength, 1) := dk_190 (dk_at dksX3_pay_0 13 rfl rfl)
theorem dX3_pay_14 : decode cX3_pay 14 = .ok (.istore 5, 2) := dk_54 5 (dk_at dksX3_pay_0 14 rfl rfl)
theorem dX3_pay_16 : decode cX3_pay 16 = .ok (.iconst 0, 1) := dk_3 (dk_at dksX3_pay_0 16 rfl rfl)
theorem dX3_pay_17 : decode cX3_pay 17 = .ok (.istore 6, 2) := dk_54 6 (dk_at dksX3_pay_0 17 rfl rfl)
theorem dX3_pay_19 : decode cX3_pay 19 = .ok (.iload 6, 2) := dk_21 6 (dk_at dksX3_pay_0 19 rfl rfl)
theorem dX3_pay_21 : decode cX3_pay 21 = .ok (.iload 5, 2) := dk_21 5 (dk_at dksX3_pay_0 21 rfl rfl)
theorem dX3_pay_23 : decode cX3_pay 23 = .ok (.if_icmp .ge 22, 3) := dk_162 0 22 (dk_at dksX3_pay_1 0 rfl rfl)
theorem dX3_pay_26 : decode cX3_pay 26 = .ok (.aload 4, 2) := dk_25 4 (dk_at dksX3_pay_1 3 rfl rfl)
theorem dX3_pay_28 : decode cX3_pay 28 = .ok (.iload 6, 2) := dk_21 6 (dk_at dksX3_pay_1 5 rfl rfl)
theorem dX3_pay_30 : decode cX3_pay 30 = .ok (.iaload, 1) := dk_46 (dk_at dksX3_pay_1 7 rfl rfl)
theorem dX3_pay_31 : decode cX3_pay 31 = .ok (.istore 7, 2) := dk_54 7 (dk_at dksX3_pay_1 8 rfl rfl)
theorem dX3_pay_33 : decode cX3_pay 33 = .ok (.lload_n 2, 1) := dk_32 (dk_at dksX3_pay_1 10 rfl rfl)
theorem dX3_pay_34 : decode cX3_pay 34 = .ok (.iload 7, 2) := dk_21 7 (dk_at dksX3_pay_1 11 rfl rfl)
theorem dX3_pay_36 : decode cX3_pay 36 = .ok (.i2l, 1) := dk_133 (dk_at dksX3_pay_1 13 rfl rfl)
theorem dX3_pay_37 : decode cX3_pay 37 = .ok (.ladd, 1) := dk_97 (dk_at dksX3_pay_1 14 rfl rfl)
theorem dX3_pay_38 : decode cX3_pay 38 = .ok (.lstore_n 2, 1) := dk_65 (dk_at dksX3_pay_1 15 rfl rfl)
theorem dX3_pay_39 : decode cX3_pay 39 = .ok (.iinc 6 1, 3) := dk_132 6 1 (dk_at dksX3_pay_1 16 rfl rfl)
theorem dX3_pay_42 : decode cX3_pay 42 = .ok (.goto (-23), 3) := dk_167 255 233 (dk_at dksX3_pay_1 19 rfl rfl)
theorem dX3_pay_45 : decode cX3_pay 45 = .ok (.aload_n 0, 1) := dk_42 (dk_at dksX3_pay_1 22 rfl rfl)
theorem dX3_pay_46 : decode cX3_pay 46 = .ok (.iload_n 1, 1) := dk_27 (dk_at dksX3_pay_1 23 rfl rfl)
theorem dX3_pay_47 : decode cX3_pay 47 = .ok (.iconst 1, 1) := dk_4 (dk_at dksX3_pay_2 0 rfl rfl)
theorem dX3_pay_48 : decode cX3_pay 48 = .ok (.sipush 9999, 3) := dk_17 39 15 (dk_at dksX3_pay_2 1 rfl rfl)
theorem dX3_pay_51 : decode cX3_pay 51 = .ok (.invokestatic 37, 3) := dk_184 0 37 (dk_at dksX3_pay_2 4 rfl rfl)
theorem dX3_pay_54 : decode cX3_pay 54 = .ok (.ifCond .ne 7, 3) := dk_154 0 7 (dk_at dksX3_pay_2 7 rfl rfl)
theorem dX3_pay_57 : decode cX3_pay 57 = .ok (.iconst 1, 1) := dk_4 (dk_at dksX3_pay_2 10 rfl rfl)
theorem dX3_pay_58 : decode cX3_pay 58 = .ok (.goto 4, 3) := dk_167 0 4 (dk_at dksX3_pay_2 11 rfl rfl)
theorem dX3_pay_61 : decode cX3_pay 61 = .ok (.iconst 0, 1) := dk_3 (dk_at dksX3_pay_2 14 rfl rfl)
theorem dX3_pay_62 : decode cX3_pay 62 = .ok (.iconst 1, 1) := dk_4 (dk_at dksX3_pay_2 15 rfl rfl)
theorem dX3_pay_63 : decode cX3_pay 63 = .ok (.invokevirtual 61, 3) := dk_182 0 61 (dk_at dksX3_pay_2 16 rfl rfl)
theorem dX3_pay_66 : decode cX3_pay 66 = .ok (.ifCond .ne 33, 3) := dk_154 0 33 (dk_at dksX3_pay_2 19 rfl rfl)
theorem dX3_pay_69 : decode cX3_pay 69 = .ok (.aload_n 0, 1) := dk_42 (dk_at dksX3_pay_2 22 rfl rfl)
theorem dX3_pay_70 : decode cX3_pay 70 = .ok (.aload_n 0, 1) := dk_42 (dk_at dksX3_pay_2 23 rfl rfl)
theorem dX3_pay_71 : decode cX3_pay 71 = .ok (.getfield 19, 3) := dk_180 0 19 (dk_at dksX3_pay_3 0 rfl rfl)
theorem dX3_pay_74 : decode cX3_pay 74 = .ok (.getfield 156, 3) := dk_180 0 156 (dk_at dksX3_pay_3 3 rfl rfl)
theorem dX3_pay_77 : decode cX3_pay 77 = .ok (.iload_n 1, 1) := dk_27 (dk_at dksX3_pay_3 6 rfl rfl)
theorem dX3_pay_78 : decode cX3_pay 78 = .ok (.if_icmp .lt 9, 3) := dk_161 0 9 (dk_at dksX3_pay_3 7 rfl rfl)
theorem dX3_pay_81 : decode cX3_pay 81 = .ok (.lload_n 2, 1) := dk_32 (dk_at dksX3_pay_3 10 rfl rfl)
theorem dX3_pay_82 : decode cX3_pay 82 = .ok (.lconst 0, 1) := dk_9 (dk_at dksX3_pay_3 11 rfl rfl)
theorem dX3_pay_83 : decode cX3_pay 83 = .ok (.lcmp, 1) := dk_148 (dk_at dksX3_pay_3 12 rfl rfl)
theorem dX3_pay_84 : decode cX3_pay 84 = .ok (.ifCond .ne 7, 3) := dk_154 0 7 (dk_at dksX3_pay_3 13 rfl rfl)
theorem dX3_pay_87 : decode cX3_pay 87 = .ok (.iconst 1, 1) := dk_4 (dk_at dksX3_pay_3 16 rfl rfl)
theorem dX3_pay_88 : decode cX3_pay 88 = .ok (.goto 4, 3) := dk_167 0 4 (dk_at dksX3_pay_3 17 rfl rfl)
theorem dX3_pay_91 : decode cX3_pay 91 = .ok (.iconst 0, 1) := dk_3 (dk_at dksX3_pay_3 20 rfl rfl)
theorem dX3_pay_92 : decode cX3_pay 92 = .ok (.iconst 2, 1) := dk_5 (dk_at dksX3_pay_3 21 rfl rfl)
theorem dX3_pay_93 : decode cX3_pay 93 = .ok (.invokevirtual 33, 3) := dk_182 0 33 (dk_at dksX3_pay_4 0 rfl rfl)
theorem dX3_pay_96 : decode cX3_pay 96 = .ok (.ifCond .eq 5, 3) := dk_153 0 5 (dk_at dksX3_pay_4 3 rfl rfl)
theorem dX3_pay_99 : decode cX3_pay 99 = .ok (.iconst 0, 1) := dk_3 (dk_at dksX3_pay_4 6 rfl rfl)
theorem dX3_pay_100 : decode cX3_pay 100 = .ok (.ireturn, 1) := dk_172 (dk_at dksX3_pay_4 7 rfl rfl)
theorem dX3_pay_101 : decode cX3_pay 101 = .ok (.iload_n 1, 1) := dk_27 (dk_at dksX3_pay_4 8 rfl rfl)
theorem dX3_pay_102 : decode cX3_pay 102 = .ok (.istore 4, 2) := dk_54 4 (dk_at dksX3_pay_4 9 rfl rfl)
theorem dX3_pay_104 : decode cX3_pay 104 = .ok (.iconst 0, 1) := dk_3 (dk_at dksX3_pay_4 11 rfl rfl)
theorem dX3_pay_105 : decode cX3_pay 105 = .ok (.istore 5, 2) := dk_54 5 (dk_at dksX3_pay_4 12 rfl rfl)
theorem dX3_pay_107 : decode cX3_pay 107 = .ok (.iload 5, 2) := dk_21 5 (dk_at dksX3_pay_4 14 rfl rfl)
theorem dX3_pay_109 : decode cX3_pay 109 = .ok (.iconst 4, 1) := dk_7 (dk_at dksX3_pay_4 16 rfl rfl)
theorem dX3_pay_110 : decode cX3_pay 110 = .ok (.if_icmp .ge 58, 3) := dk_162 0 58 (dk_at dksX3_pay_4 17 rfl rfl)
theorem dX3_pay_113 : decode cX3_pay 113 = .ok (.iload_n 1, 1) := dk_27 (dk_at dksX3_pay_4 20 rfl rfl)
theorem dX3_pay_114 : decode cX3_pay 114 = .ok (.i2l, 1) := dk_133 (dk_at dksX3_pay_4 21 rfl rfl)
theorem dX3_pay_115 : decode cX3_pay 115 = .ok (.aload_n 0, 1) := dk_42 (dk_at dksX3_pay_4 22 rfl rfl)
theorem dX3_pay_116 : decode cX3_pay 116 = .ok (.getfield 19, 3) := dk_180 0 19 (dk_at dksX3_pay_5 0 rfl rfl)
theorem dX3_pay_119 : decode cX3_pay 119 = .ok (.getfield 159, 3) := dk_180 0 159 (dk_at dksX3_pay_5 3 rfl rfl)
theorem dX3_pay_122 : decode cX3_pay 122 = .ok (.iload 5, 2) := dk_21 5 (dk_at dksX3_pay_5 6 rfl rfl)
theorem dX3_pay_124 : decode cX3_pay 124 = .ok (.iaload, 1) := dk_46 (dk_at dksX3_pay_5 8 rfl rfl)
theorem dX3_pay_125 : decode cX3_pay 125 = .ok (.i2l, 1) := dk_133 (dk_at dksX3_pay_5 9 rfl rfl)
theorem dX3_pay_126 : decode cX3_pay 126 = .ok (.lmul, 1) := dk_105 (dk_at dksX3_pay_5 10 rfl rfl)
theorem dX3_pay_127 : decode cX3_pay 127 = .ok (.lload_n 2, 1) := dk_32 (dk_at dksX3_pay_5 11 rfl rfl)
theorem dX3_pay_128 : decode cX3_pay 128 = .ok (.ldiv, 1) := dk_109 (dk_at dksX3_pay_5 12 rfl rfl)
theorem dX3_pay_129 : decode cX3_pay 129 = .ok (.l2i, 1) := dk_136 (dk_at dksX3_pay_5 13 rfl rfl)
theorem dX3_pay_130 : decode cX3_pay 130 = .ok (.istore 6, 2) := dk_54 6 (dk_at dksX3_pay_5 14 rfl rfl)
theorem dX3_pay_132 : decode cX3_pay 132 = .ok (.aload_n 0, 1) := dk_42 (dk_at dksX3_pay_5 16 rfl rfl)
theorem dX3_pay_133 : decode cX3_pay 133 = .ok (.getfield 25, 3) := dk_180 0 25 (dk_at dksX3_pay_5 17 rfl rfl)
theorem dX3_pay_136 : decode cX3_pay 136 = .ok (.iload 5, 2) := dk_21 5 (dk_at dksX3_pay_5 20 rfl rfl)
theorem dX3_pay_138 : decode cX3_pay 138 = .ok (.dup2, 1) := dk_92 (dk_at dksX3_pay_5 22 rfl rfl)
theorem dX3_pay_139 : decode cX3_pay 139 = .ok (.iaload, 1) := dk_46 (dk_at dksX3_pay_5 23 rfl rfl)
theorem dX3_pay_140 : decode cX3_pay 140 = .ok (.iload 6, 2) := dk_21 6 (dk_at dksX3_pay_6 0 rfl rfl)
theorem dX3_pay_142 : decode cX3_pay 142 = .ok (.iadd, 1) := dk_96 (dk_at dksX3_pay_6 2 rfl rfl)
theorem dX3_pay_143 : decode cX3_pay 143 = .ok (.iastore, 1) := dk_79 (dk_at dksX3_pay_6 3 rfl rfl)
theorem dX3_pay_144 : decode cX3_pay 144 = .ok (.iload 4, 2) := dk_21 4 (dk_at dksX3_pay_6 4 rfl rfl)
theorem dX3_pay_146 : decode cX3_pay 146 = .ok (.iload 6, 2) := dk_21 6 (dk_at dksX3_pay_6 6 rfl rfl)
theorem dX3_pay_148 : decode cX3_pay 148 = .ok (.isub, 1) := dk_100 (dk_at dksX3_pay_6 8 rfl rfl)
theorem dX3_pay_149 : decode cX3_pay 149 = .ok (.istore 4, 2) := dk_54 4 (dk_at dksX3_pay_6 9 rfl rfl)
theorem dX3_pay_151 : decode cX3_pay 151 = .ok (.aload_n 0, 1) := dk_42 (dk_at dksX3_pay_6 11 rfl rfl)
theorem dX3_pay_152 : decode cX3_pay 152 = .ok (.getfield 19, 3) := dk_180 0 19 (dk_at dksX3_pay_6 12 rfl rfl)
theorem dX3_pay_155 : decode cX3_pay 155 = .ok (.getfield 159, 3) := dk_180 0 159 (dk_at dksX3_pay_6 15 rfl rfl)
theorem dX3_pay_158 : decode cX3_pay 158 = .ok (.iload 5, 2) := dk_21 5 (dk_at dksX3_pay_6 18 rfl rfl)
theorem dX3_pay_160 : decode cX3_pay 160 = .ok (.iconst 0, 1) := dk_3 (dk_at dksX3_pay_6 20 rfl rfl)
theorem dX3_pay_161 : decode cX3_pay 161 = .ok (.iastore, 1) := dk_79 (dk_at dksX3_pay_6 21 rfl rfl)
theorem dX3_pay_162 : decode cX3_pay 162 = .ok (.iinc 5 1, 3) := dk_132 5 1 (dk_at dksX3_pay_7 0 rfl rfl)
theorem dX3_pay_165 : decode cX3_pay 165 = .ok (.goto (-58), 3) := dk_167 255 198 (dk_at dksX3_pay_7 3 rfl rfl)
theorem dX3_pay_168 : decode cX3_pay 168 = .ok (.aload_n 0, 1) := dk_42 (dk_at dksX3_pay_7 6 rfl rfl)
theorem dX3_pay_169 : decode cX3_pay 169 = .ok (.getfield 19, 3) := dk_180 0 19 (dk_at dksX3_pay_7 7 rfl rfl)
theorem dX3_pay_172 : decode cX3_pay 172 = .ok (.dup, 1) := dk_89 (dk_at dksX3_pay_7 10 rfl rfl)
theorem dX3_pay_173 : decode cX3_pay 173 = .ok (.getfield 156, 3) := dk_180 0 156 (dk_at dksX3_pay_7 11 rfl rfl)
theorem dX3_pay_176 : decode cX3_pay 176 = .ok (.iload_n 1, 1) := dk_27 (dk_at dksX3_pay_7 14 rfl rfl)
theorem dX3_pay_177 : decode cX3_pay 177 = .ok (.iload 4, 2) := dk_21 4 (dk_at dksX3_pay_7 15 rfl rfl)
theorem dX3_pay_179 : decode cX3_pay 179 = .ok (.isub, 1) := dk_100 (dk_at dksX3_pay_7 17 rfl rfl)
theorem dX3_pay_180 : decode cX3_pay 180 = .ok (.isub, 1) := dk_100 (dk_at dksX3_pay_7 18 rfl rfl)
theorem dX3_pay_181 : decode cX3_pay 181 = .ok (.putfield 156, 3) := dk_181 0 156 (dk_at dksX3_pay_7 19 rfl rfl)
theorem dX3_pay_184 : decode cX3_pay 184 = .ok (.iload 4, 2) := dk_21 4 (dk_at dksX3_pay_7 22 rfl rfl)
theorem dX3_pay_186 : decode cX3_pay 186 = .ok (.ireturn, 1) := dk_172 (dk_at dksX3_pay_8 0 rfl rfl)
abbrev cX3_pass : ByteArray := prog_7_method_25_code
def yX3_pass : MethodName := ⟨RX3, "pass", "(III)I"⟩
def dkwX3_pass_2 : List UInt8 := [180, 0, 19, 28, 29, 182, 0, 166, 96, 54, 4, 132, 5, 1, 167, 255, 233, 21, 4, 172]
abbrev dktX3_pass_2 : List UInt8 := dkwX3_pass_2 ++ []
def dkwX3_pass_1 : List UInt8 := [4, 182, 0, 61, 153, 0, 5, 3, 172, 3, 54, 4, 3, 54, 5, 21, 5, 27, 162, 0, 23, 21, 4, 42]
abbrev dktX3_pass_1 : List UInt8 := dkwX3_pass_1 ++ dktX3_pass_2
def dkwX3_pass_0 : List UInt8 := [42, 27, 4, 16, 72, 184, 0, 37, 153, 0, 11, 28, 29, 184, 0, 162, 153, 0, 7, 4, 167, 0, 4, 3]
abbrev dktX3_pass_0 : List UInt8 := dkwX3_pass_0 ++ dktX3_pass_1
theorem dksX3_pass_0 : cX3_pass.data.toList.drop 0 = dktX3_pass_0 := by decide +kernel
theorem dksX3_pass_1 : cX3_pass.data.toList.drop 24 = dktX3_pass_1 := dk_seg dksX3_pass_0 24 rfl rfl
theorem dksX3_pass_2 : cX3_pass.data.toList.drop 48 = dktX3_pass_2 := dk_seg dksX3_pass_1 24 rfl rfl
theorem dX3_pass_0 : decode cX3_pass 0 = .ok (.aload_n 0, 1) := dk_42 (dk_at dksX3_pass_0 0 rfl rfl)
theorem dX3_pass_1 : decode cX3_pass 1 = .ok (.iload_n 1, 1) := dk_27 (dk_at dksX3_pass_0 1 rfl rfl)
theorem dX3_pass_2 : decode cX3_pass 2 = .ok (.iconst 1, 1) := dk_4 (dk_at dksX3_pass_0 2 rfl rfl)
theorem dX3_pass_3 : decode cX3_pass 3 = .ok (.bipush 72, 2) := dk_16 72 (dk_at dksX3_pass_0 3 rfl rfl)
theorem dX3_pass_5 : decode cX3_pass 5 = .ok (.invokestatic 37, 3) := dk_184 0 37 (dk_at dksX3_pass_0 5 rfl rfl)
theorem dX3_pass_8 : decode cX3_pass 8 = .ok (.ifCond .eq 11, 3) := dk_153 0 11 (dk_at dksX3_pass_0 8 rfl rfl)
theorem dX3_pass_11 : decode cX3_pass 11 = .ok (.iload_n 2, 1) := dk_28 (dk_at dksX3_pass_0 11 rfl rfl)
theorem dX3_pass_12 : decode cX3_pass 12 = .ok (.iload_n 3, 1) := dk_29 (dk_at dksX3_pass_0 12 rfl rfl)
theorem dX3_pass_13 : decode cX3_pass 13 = .ok (.invokestatic 162, 3) := dk_184 0 162 (dk_at dksX3_pass_0 13 rfl rfl)
theorem dX3_pass_16 : decode cX3_pass 16 = .ok (.ifCond .eq 7, 3) := dk_153 0 7 (dk_at dksX3_pass_0 16 rfl rfl)
theorem dX3_pass_19 : decode cX3_pass 19 = .ok (.iconst 1, 1) := dk_4 (dk_at dksX3_pass_0 19 rfl rfl)
theorem dX3_pass_20 : decode cX3_pass 20 = .ok (.goto 4, 3) := dk_167 0 4 (dk_at dksX3_pass_0 20 rfl rfl)
theorem dX3_pass_23 : decode cX3_pass 23 = .ok (.iconst 0, 1) := dk_3 (dk_at dksX3_pass_0 23 rfl rfl)
theorem dX3_pass_24 : decode cX3_pass 24 = .ok (.iconst 1, 1) := dk_4 (dk_at dksX3_pass_1 0 rfl rfl)
theorem dX3_pass_25 : decode cX3_pass 25 = .ok (.invokevirtual 61, 3) := dk_182 0 61 (dk_at dksX3_pass_1 1 rfl rfl)
theorem dX3_pass_28 : decode cX3_pass 28 = .ok (.ifCond .eq 5, 3) := dk_153 0 5 (dk_at dksX3_pass_1 4 rfl rfl)
theorem dX3_pass_31 : decode cX3_pass 31 = .ok (.iconst 0, 1) := dk_3 (dk_at dksX3_pass_1 7 rfl rfl)
theorem dX3_pass_32 : decode cX3_pass 32 = .ok (.ireturn, 1) := dk_172 (dk_at dksX3_pass_1 8 rfl rfl)
theorem dX3_pass_33 : decode cX3_pass 33 = .ok (.iconst 0, 1) := dk_3 (dk_at dksX3_pass_1 9 rfl rfl)
theorem dX3_pass_34 : decode cX3_pass 34 = .ok (.istore 4, 2) := dk_54 4 (dk_at dksX3_pass_1 10 rfl rfl)
theorem dX3_pass_36 : decode cX3_pass 36 = .ok (.iconst 0, 1) := dk_3 (dk_at dksX3_pass_1 12 rfl rfl)
theorem dX3_pass_37 : decode cX3_pass 37 = .ok (.istore 5, 2) := dk_54 5 (dk_at dksX3_pass_1 13 rfl rfl)
theorem dX3_pass_39 : decode cX3_pass 39 = .ok (.iload 5, 2) := dk_21 5 (dk_at dksX3_pass_1 15 rfl rfl)
theorem dX3_pass_41 : decode cX3_pass 41 = .ok (.iload_n 1, 1) := dk_27 (dk_at dksX3_pass_1 17 rfl rfl)
theorem dX3_pass_42 : decode cX3_pass 42 = .ok (.if_icmp .ge 23, 3) := dk_162 0 23 (dk_at dksX3_pass_1 18 rfl rfl)
theorem dX3_pass_45 : decode cX3_pass 45 = .ok (.iload 4, 2) := dk_21 4 (dk_at dksX3_pass_1 21 rfl rfl)
theorem dX3_pass_47 : decode cX3_pass 47 = .ok (.aload_n 0, 1) := dk_42 (dk_at dksX3_pass_1 23 rfl rfl)
theorem dX3_pass_48 : decode cX3_pass 48 = .ok (.getfield 19, 3) := dk_180 0 19 (dk_at dksX3_pass_2 0 rfl rfl)
theorem dX3_pass_51 : decode cX3_pass 51 = .ok (.iload_n 2, 1) := dk_28 (dk_at dksX3_pass_2 3 rfl rfl)
theorem dX3_pass_52 : decode cX3_pass 52 = .ok (.iload_n 3, 1) := dk_29 (dk_at dksX3_pass_2 4 rfl rfl)
theorem dX3_pass_53 : decode cX3_pass 53 = .ok (.invokevirtual 166, 3) := dk_182 0 166 (dk_at dksX3_pass_2 5 rfl rfl)
theorem dX3_pass_56 : decode cX3_pass 56 = .ok (.iadd, 1) := dk_96 (dk_at dksX3_pass_2 8 rfl rfl)
theorem dX3_pass_57 : decode cX3_pass 57 = .ok (.istore 4, 2) := dk_54 4 (dk_at dksX3_pass_2 9 rfl rfl)
theorem dX3_pass_59 : decode cX3_pass 59 = .ok (.iinc 5 1, 3) := dk_132 5 1 (dk_at dksX3_pass_2 11 rfl rfl)
theorem dX3_pass_62 : decode cX3_pass 62 = .ok (.goto (-23), 3) := dk_167 255 233 (dk_at dksX3_pass_2 14 rfl rfl)
theorem dX3_pass_65 : decode cX3_pass 65 = .ok (.iload 4, 2) := dk_21 4 (dk_at dksX3_pass_2 17 rfl rfl)
theorem dX3_pass_67 : decode cX3_pass 67 = .ok (.ireturn, 1) := dk_172 (dk_at dksX3_pass_2 19 rfl rfl)
abbrev cX3_isNoWeather : ByteArray := prog_7_method_11_code
def yX3_isNoWeather : MethodName := ⟨RX3, "isNoWeather", "(II)Z"⟩
def dkwX3_isNoWeather_1 : List UInt8 := [167, 0, 4, 3, 172]
abbrev dktX3_isNoWeather_1 : List UInt8 := dkwX3_isNoWeather_1 ++ []
def dkwX3_isNoWeather_0 : List UInt8 := [26, 16, 251, 16, 45, 184, 0, 37, 153, 0, 13, 27, 3, 16, 9, 184, 0, 37, 154, 0, 7, 4]
abbrev dktX3_isNoWeather_0 : List UInt8 := dkwX3_isNoWeather_0 ++ dktX3_isNoWeather_1
theorem dksX3_isNoWeather_0 : cX3_isNoWeather.data.toList.drop 0 = dktX3_isNoWeather_0 := by decide +kernel
theorem dksX3_isNoWeather_1 : cX3_isNoWeather.data.toList.drop 22 = dktX3_isNoWeather_1 := dk_seg dksX3_isNoWeather_0 22 rfl rfl
theorem dX3_isNoWeather_0 : decode cX3_isNoWeather 0 = .ok (.iload_n 0, 1) := dk_26 (dk_at dksX3_isNoWeather_0 0 rfl rfl)
theorem dX3_isNoWeather_1 : decode cX3_isNoWeather 1 = .ok (.bipush (-5), 2) := dk_16 251 (dk_at dksX3_isNoWeather_0 1 rfl rfl)
theorem dX3_isNoWeather_3 : decode cX3_isNoWeather 3 = .ok (.bipush 45, 2) := dk_16 45 (dk_at dksX3_isNoWeather_0 3 rfl rfl)
theorem dX3_isNoWeather_5 : decode cX3_isNoWeather 5 = .ok (.invokestatic 37, 3) := dk_184 0 37 (dk_at dksX3_isNoWeather_0 5 rfl rfl)
theorem dX3_isNoWeather_8 : decode cX3_isNoWeather 8 = .ok (.ifCond .eq 13, 3) := dk_153 0 13 (dk_at dksX3_isNoWeather_0 8 rfl rfl)
theorem dX3_isNoWeather_11 : decode cX3_isNoWeather 11 = .ok (.iload_n 1, 1) := dk_27 (dk_at dksX3_isNoWeather_0 11 rfl rfl)
theorem dX3_isNoWeather_12 : decode cX3_isNoWeather 12 = .ok (.iconst 0, 1) := dk_3 (dk_at dksX3_isNoWeather_0 12 rfl rfl)
theorem dX3_isNoWeather_13 : decode cX3_isNoWeather 13 = .ok (.bipush 9, 2) := dk_16 9 (dk_at dksX3_isNoWeather_0 13 rfl rfl)
theorem dX3_isNoWeather_15 : decode cX3_isNoWeather 15 = .ok (.invokestatic 37, 3) := dk_184 0 37 (dk_at dksX3_isNoWeather_0 15 rfl rfl)
theorem dX3_isNoWeather_18 : decode cX3_isNoWeather 18 = .ok (.ifCond .ne 7, 3) := dk_154 0 7 (dk_at dksX3_isNoWeather_0 18 rfl rfl)
theorem dX3_isNoWeather_21 : decode cX3_isNoWeather 21 = .ok (.iconst 1, 1) := dk_4 (dk_at dksX3_isNoWeather_0 21 rfl rfl)
theorem dX3_isNoWeather_22 : decode cX3_isNoWeather 22 = .ok (.goto 4, 3) := dk_167 0 4 (dk_at dksX3_isNoWeather_1 0 rfl rfl)
theorem dX3_isNoWeather_25 : decode cX3_isNoWeather 25 = .ok (.iconst 0, 1) := dk_3 (dk_at dksX3_isNoWeather_1 3 rfl rfl)
theorem dX3_isNoWeather_26 : decode cX3_isNoWeather 26 = .ok (.ireturn, 1) := dk_172 (dk_at dksX3_isNoWeather_1 4 rfl rfl)
abbrev cX3_held : ByteArray := prog_7_method_2_code
def yX3_held : MethodName := ⟨RX3, "held", "(II)I"⟩
def dkwX3_held_0 : List UInt8 := [3, 27, 26, 184, 0, 1, 184, 0, 7, 172]
abbrev dktX3_held_0 : List UInt8 := dkwX3_held_0 ++ []
theorem dksX3_held_0 : cX3_held.data.toList.drop 0 = dktX3_held_0 := by decide +kernel
theorem dX3_held_0 : decode cX3_held 0 = .ok (.iconst 0, 1) := dk_3 (dk_at dksX3_held_0 0 rfl rfl)
theorem dX3_held_1 : decode cX3_held 1 = .ok (.iload_n 1, 1) := dk_27 (dk_at dksX3_held_0 1 rfl rfl)
theorem dX3_held_2 : decode cX3_held 2 = .ok (.iload_n 0, 1) := dk_26 (dk_at dksX3_held_0 2 rfl rfl)
theorem dX3_held_3 : decode cX3_held 3 = .ok (.invokestatic 1, 3) := dk_184 0 1 (dk_at dksX3_held_0 3 rfl rfl)
theorem dX3_held_6 : decode cX3_held 6 = .ok (.invokestatic 7, 3) := dk_184 0 7 (dk_at dksX3_held_0 6 rfl rfl)
theorem dX3_held_9 : decode cX3_held 9 = .ok (.ireturn, 1) := dk_172 (dk_at dksX3_held_0 9 rfl rfl)
abbrev cX3_ofField : ByteArray := prog_7_method_28_code
def yX3_ofField : MethodName := ⟨RX3, "ofField", "(II)I"⟩
def dkwX3_ofField_1 : List UInt8 := [4, 167, 0, 4, 3, 5, 182, 0, 33, 153, 0, 7, 3, 167, 0, 9, 42, 27, 28, 182, 0, 186, 172]
abbrev dktX3_ofField_1 : List UInt8 := dkwX3_ofField_1 ++ []
def dkwX3_ofField_0 : List UInt8 := [42, 42, 27, 182, 0, 76, 4, 182, 0, 61, 154, 0, 26, 42, 28, 3, 16, 11, 184, 0, 37, 154, 0, 7]
abbrev dktX3_ofField_0 : List UInt8 := dkwX3_ofField_0 ++ dktX3_ofField_1
theorem dksX3_ofField_0 : cX3_ofField.data.toList.drop 0 = dktX3_ofField_0 := by decide +kernel
theorem dksX3_ofField_1 : cX3_ofField.data.toList.drop 24 = dktX3_ofField_1 := dk_seg dksX3_ofField_0 24 rfl rfl
theorem dX3_ofField_0 : decode cX3_ofField 0 = .ok (.aload_n 0, 1) := dk_42 (dk_at dksX3_ofField_0 0 rfl rfl)
theorem dX3_ofField_1 : decode cX3_ofField 1 = .ok (.aload_n 0, 1) := dk_42 (dk_at dksX3_ofField_0 1 rfl rfl)
theorem dX3_ofField_2 : decode cX3_ofField 2 = .ok (.iload_n 1, 1) := dk_27 (dk_at dksX3_ofField_0 2 rfl rfl)
theorem dX3_ofField_3 : decode cX3_ofField 3 = .ok (.invokevirtual 76, 3) := dk_182 0 76 (dk_at dksX3_ofField_0 3 rfl rfl)
theorem dX3_ofField_6 : decode cX3_ofField 6 = .ok (.iconst 1, 1) := dk_4 (dk_at dksX3_ofField_0 6 rfl rfl)
theorem dX3_ofField_7 : decode cX3_ofField 7 = .ok (.invokevirtual 61, 3) := dk_182 0 61 (dk_at dksX3_ofField_0 7 rfl rfl)
theorem dX3_ofField_10 : decode cX3_ofField 10 = .ok (.ifCond .ne 26, 3) := dk_154 0 26 (dk_at dksX3_ofField_0 10 rfl rfl)
theorem dX3_ofField_13 : decode cX3_ofField 13 = .ok (.aload_n 0, 1) := dk_42 (dk_at dksX3_ofField_0 13 rfl rfl)
theorem dX3_ofField_14 : decode cX3_ofField 14 = .ok (.iload_n 2, 1) := dk_28 (dk_at dksX3_ofField_0 14 rfl rfl)
theorem dX3_ofField_15 : decode cX3_ofField 15 = .ok (.iconst 0, 1) := dk_3 (dk_at dksX3_ofField_0 15 rfl rfl)
theorem dX3_ofField_16 : decode cX3_ofField 16 = .ok (.bipush 11, 2) := dk_16 11 (dk_at dksX3_ofField_0 16 rfl rfl)
theorem dX3_ofField_18 : decode cX3_ofField 18 = .ok (.invokestatic 37, 3) := dk_184 0 37 (dk_at dksX3_ofField_0 18 rfl rfl)
theorem dX3_ofField_21 : decode cX3_ofField 21 = .ok (.ifCond .ne 7, 3) := dk_154 0 7 (dk_at dksX3_ofField_0 21 rfl rfl)
theorem dX3_ofField_24 : decode cX3_ofField 24 = .ok (.iconst 1, 1) := dk_4 (dk_at dksX3_ofField_1 0 rfl rfl)
theorem dX3_ofField_25 : decode cX3_ofField 25 = .ok (.goto 4, 3) := dk_167 0 4 (dk_at dksX3_ofField_1 1 rfl rfl)
theorem dX3_ofField_28 : decode cX3_ofField 28 = .ok (.iconst 0, 1) := dk_3 (dk_at dksX3_ofField_1 4 rfl rfl)
theorem dX3_ofField_29 : decode cX3_ofField 29 = .ok (.iconst 2, 1) := dk_5 (dk_at dksX3_ofField_1 5 rfl rfl)
theorem dX3_ofField_30 : decode cX3_ofField 30 = .ok (.invokevirtual 33, 3) := dk_182 0 33 (dk_at dksX3_ofField_1 6 rfl rfl)
theorem dX3_ofField_33 : decode cX3_ofField 33 = .ok (.ifCond .eq 7, 3) := dk_153 0 7 (dk_at dksX3_ofField_1 9 rfl rfl)
theorem dX3_ofField_36 : decode cX3_ofField 36 = .ok (.iconst 0, 1) := dk_3 (dk_at dksX3_ofField_1 12 rfl rfl)
theorem dX3_ofField_37 : decode cX3_ofField 37 = .ok (.goto 9, 3) := dk_167 0 9 (dk_at dksX3_ofField_1 13 rfl rfl)
theorem dX3_ofField_40 : decode cX3_ofField 40 = .ok (.aload_n 0, 1) := dk_42 (dk_at dksX3_ofField_1 16 rfl rfl)
theorem dX3_ofField_41 : decode cX3_ofField 41 = .ok (.iload_n 1, 1) := dk_27 (dk_at dksX3_ofField_1 17 rfl rfl)
theorem dX3_ofField_42 : decode cX3_ofField 42 = .ok (.iload_n 2, 1) := dk_28 (dk_at dksX3_ofField_1 18 rfl rfl)
theorem dX3_ofField_43 : decode cX3_ofField 43 = .ok (.invokevirtual 186, 3) := dk_182 0 186 (dk_at dksX3_ofField_1 19 rfl rfl)
theorem dX3_ofField_46 : decode cX3_ofField 46 = .ok (.ireturn, 1) := dk_172 (dk_at dksX3_ofField_1 22 rfl rfl)
abbrev cX3_ofFieldNow : ByteArray := prog_7_method_27_code
def yX3_ofFieldNow : MethodName := ⟨RX3, "ofFieldNow", "(II)I"⟩
def dkwX3_ofFieldNow_6 : List UInt8 := [167, 0, 7, 25, 4, 28, 46, 172]
abbrev dktX3_ofFieldNow_6 : List UInt8 := dkwX3_ofFieldNow_6 ++ []
def dkwX3_ofFieldNow_5 : List UInt8 := [153, 0, 7, 4, 167, 0, 4, 3, 79, 58, 4, 28, 16, 11, 160, 0, 11, 42, 27, 182, 0, 183]
abbrev dktX3_ofFieldNow_5 : List UInt8 := dkwX3_ofFieldNow_5 ++ dktX3_ofFieldNow_6
def dkwX3_ofFieldNow_4 : List UInt8 := [16, 9, 45, 180, 0, 180, 153, 0, 7, 4, 167, 0, 4, 3, 79, 89, 16, 10, 45, 180, 0, 98]
abbrev dktX3_ofFieldNow_4 : List UInt8 := dkwX3_ofFieldNow_4 ++ dktX3_ofFieldNow_5
def dkwX3_ofFieldNow_3 : List UInt8 := [16, 7, 45, 180, 0, 83, 79, 89, 16, 8, 45, 180, 0, 102, 153, 0, 7, 4, 167, 0, 4, 3, 79, 89]
abbrev dktX3_ofFieldNow_3 : List UInt8 := dkwX3_ofFieldNow_3 ++ dktX3_ofFieldNow_4
def dkwX3_ofFieldNow_2 : List UInt8 := [79, 89, 7, 45, 180, 0, 113, 79, 89, 8, 45, 180, 0, 174, 79, 89, 16, 6, 45, 180, 0, 177, 79, 89]
abbrev dktX3_ofFieldNow_2 : List UInt8 := dkwX3_ofFieldNow_2 ++ dktX3_ofFieldNow_3
def dkwX3_ofFieldNow_1 : List UInt8 := [180, 0, 110, 79, 89, 4, 45, 180, 0, 171, 79, 89, 5, 45, 180, 0, 134, 79, 89, 6, 45, 180, 0, 95]
abbrev dktX3_ofFieldNow_1 : List UInt8 := dkwX3_ofFieldNow_1 ++ dktX3_ofFieldNow_2
def dkwX3_ofFieldNow_0 : List UInt8 := [42, 180, 0, 19, 180, 0, 41, 27, 182, 0, 79, 192, 0, 64, 78, 16, 11, 188, 10, 89, 3, 45]
abbrev dktX3_ofFieldNow_0 : List UInt8 := dkwX3_ofFieldNow_0 ++ dktX3_ofFieldNow_1
theorem dksX3_ofFieldNow_0 : cX3_ofFieldNow.data.toList.drop 0 = dktX3_ofFieldNow_0 := by decide +kernel
theorem dksX3_ofFieldNow_1 : cX3_ofFieldNow.data.toList.drop 22 = dktX3_ofFieldNow_1 := dk_seg dksX3_ofFieldNow_0 22 rfl rfl
theorem dksX3_ofFieldNow_2 : cX3_ofFieldNow.data.toList.drop 46 = dktX3_ofFieldNow_2 := dk_seg dksX3_ofFieldNow_1 24 rfl rfl
theorem dksX3_ofFieldNow_3 : cX3_ofFieldNow.data.toList.drop 70 = dktX3_ofFieldNow_3 := dk_seg dksX3_ofFieldNow_2 24 rfl rfl
theorem dksX3_ofFieldNow_4 : cX3_ofFieldNow.data.toList.drop 94 = dktX3_ofFieldNow_4 := dk_seg dksX3_ofFieldNow_3 24 rfl rfl
theorem dksX3_ofFieldNow_5 : cX3_ofFieldNow.data.toList.drop 116 = dktX3_ofFieldNow_5 := dk_seg dksX3_ofFieldNow_4 22 rfl rfl
theorem dksX3_ofFieldNow_6 : cX3_ofFieldNow.data.toList.drop 138 = dktX3_ofFieldNow_6 := dk_seg dksX3_ofFieldNow_5 22 rfl rfl
theorem dX3_ofFieldNow_0 : decode cX3_ofFieldNow 0 = .ok (.aload_n 0, 1) := dk_42 (dk_at dksX3_ofFieldNow_0 0 rfl rfl)
theorem dX3_ofFieldNow_1 : decode cX3_ofFieldNow 1 = .ok (.getfield 19, 3) := dk_180 0 19 (dk_at dksX3_ofFieldNow_0 1 rfl rfl)
theorem dX3_ofFieldNow_4 : decode cX3_ofFieldNow 4 = .ok (.getfield 41, 3) := dk_180 0 41 (dk_at dksX3_ofFieldNow_0 4 rfl rfl)
theorem dX3_ofFieldNow_7 : decode cX3_ofFieldNow 7 = .ok (.iload_n 1, 1) := dk_27 (dk_at dksX3_ofFieldNow_0 7 rfl rfl)
theorem dX3_ofFieldNow_8 : decode cX3_ofFieldNow 8 = .ok (.invokevirtual 79, 3) := dk_182 0 79 (dk_at dksX3_ofFieldNow_0 8 rfl rfl)
theorem dX3_ofFieldNow_11 : decode cX3_ofFieldNow 11 = .ok (.checkcast 64, 3) := dk_192 0 64 (dk_at dksX3_ofFieldNow_0 11 rfl rfl)
theorem dX3_ofFieldNow_14 : decode cX3_ofFieldNow 14 = .ok (.astore_n 3, 1) := dk_78 (dk_at dksX3_ofFieldNow_0 14 rfl rfl)
theorem dX3_ofFieldNow_15 : decode cX3_ofFieldNow 15 = .ok (.bipush 11, 2) := dk_16 11 (dk_at dksX3_ofFieldNow_0 15 rfl rfl)
theorem dX3_ofFieldNow_17 : decode cX3_ofFieldNow 17 = .ok (.newarray .int, 2) := dk_188_10 (dk_at dksX3_ofFieldNow_0 17 rfl rfl)
theorem dX3_ofFieldNow_19 : decode cX3_ofFieldNow 19 = .ok (.dup, 1) := dk_89 (dk_at dksX3_ofFieldNow_0 19 rfl rfl)
theorem dX3_ofFieldNow_20 : decode cX3_ofFieldNow 20 = .ok (.iconst 0, 1) := dk_3 (dk_at dksX3_ofFieldNow_0 20 rfl rfl)
theorem dX3_ofFieldNow_21 : decode cX3_ofFieldNow 21 = .ok (.aload_n 3, 1) := dk_45 (dk_at dksX3_ofFieldNow_0 21 rfl rfl)
theorem dX3_ofFieldNow_22 : decode cX3_ofFieldNow 22 = .ok (.getfield 110, 3) := dk_180 0 110 (dk_at dksX3_ofFieldNow_1 0 rfl rfl)
theorem dX3_ofFieldNow_25 : decode cX3_ofFieldNow 25 = .ok (.iastore, 1) := dk_79 (dk_at dksX3_ofFieldNow_1 3 rfl rfl)
theorem dX3_ofFieldNow_26 : decode cX3_ofFieldNow 26 = .ok (.dup, 1) := dk_89 (dk_at dksX3_ofFieldNow_1 4 rfl rfl)
theorem dX3_ofFieldNow_27 : decode cX3_ofFieldNow 27 = .ok (.iconst 1, 1) := dk_4 (dk_at dksX3_ofFieldNow_1 5 rfl rfl)
theorem dX3_ofFieldNow_28 : decode cX3_ofFieldNow 28 = .ok (.aload_n 3, 1) := dk_45 (dk_at dksX3_ofFieldNow_1 6 rfl rfl)
theorem dX3_ofFieldNow_29 : decode cX3_ofFieldNow 29 = .ok (.getfield 171, 3) := dk_180 0 171 (dk_at dksX3_ofFieldNow_1 7 rfl rfl)
theorem dX3_ofFieldNow_32 : decode cX3_ofFieldNow 32 = .ok (.iastore, 1) := dk_79 (dk_at dksX3_ofFieldNow_1 10 rfl rfl)
theorem dX3_ofFieldNow_33 : decode cX3_ofFieldNow 33 = .ok (.dup, 1) := dk_89 (dk_at dksX3_ofFieldNow_1 11 rfl rfl)
theorem dX3_ofFieldNow_34 : decode cX3_ofFieldNow 34 = .ok (.iconst 2, 1) := dk_5 (dk_at dksX3_ofFieldNow_1 12 rfl rfl)
theorem dX3_ofFieldNow_35 : decode cX3_ofFieldNow 35 = .ok (.aload_n 3, 1) := dk_45 (dk_at dksX3_ofFieldNow_1 13 rfl rfl)
theorem dX3_ofFieldNow_36 : decode cX3_ofFieldNow 36 = .ok (.getfield 134, 3) := dk_180 0 134 (dk_at dksX3_ofFieldNow_1 14 rfl rfl)
theorem dX3_ofFieldNow_39 : decode cX3_ofFieldNow 39 = .ok (.iastore, 1) := dk_79 (dk_at dksX3_ofFieldNow_1 17 rfl rfl)
theorem dX3_ofFieldNow_40 : decode cX3_ofFieldNow 40 = .ok (.dup, 1) := dk_89 (dk_at dksX3_ofFieldNow_1 18 rfl rfl)
theorem dX3_ofFieldNow_41 : decode cX3_ofFieldNow 41 = .ok (.iconst 3, 1) := dk_6 (dk_at dksX3_ofFieldNow_1 19 rfl rfl)
theorem dX3_ofFieldNow_42 : decode cX3_ofFieldNow 42 = .ok (.aload_n 3, 1) := dk_45 (dk_at dksX3_ofFieldNow_1 20 rfl rfl)
theorem dX3_ofFieldNow_43 : decode cX3_ofFieldNow 43 = .ok (.getfield 95, 3) := dk_180 0 95 (dk_at dksX3_ofFieldNow_1 21 rfl rfl)
theorem dX3_ofFieldNow_46 : decode cX3_ofFieldNow 46 = .ok (.iastore, 1) := dk_79 (dk_at dksX3_ofFieldNow_2 0 rfl rfl)
theorem dX3_ofFieldNow_47 : decode cX3_ofFieldNow 47 = .ok (.dup, 1) := dk_89 (dk_at dksX3_ofFieldNow_2 1 rfl rfl)
theorem dX3_ofFieldNow_48 : decode cX3_ofFieldNow 48 = .ok (.iconst 4, 1) := dk_7 (dk_at dksX3_ofFieldNow_2 2 rfl rfl)
theorem dX3_ofFieldNow_49 : decode cX3_ofFieldNow 49 = .ok (.aload_n 3, 1) := dk_45 (dk_at dksX3_ofFieldNow_2 3 rfl rfl)
theorem dX3_ofFieldNow_50 : decode cX3_ofFieldNow 50 = .ok (.getfield 113, 3) := dk_180 0 113 (dk_at dksX3_ofFieldNow_2 4 rfl rfl)
theorem dX3_ofFieldNow_53 : decode cX3_ofFieldNow 53 = .ok (.iastore, 1) := dk_79 (dk_at dksX3_ofFieldNow_2 7 rfl rfl)
theorem dX3_ofFieldNow_54 : decode cX3_ofFieldNow 54 = .ok (.dup, 1) := dk_89 (dk_at dksX3_ofFieldNow_2 8 rfl rfl)
theorem dX3_ofFieldNow_55 : decode cX3_ofFieldNow 55 = .ok (.iconst 5, 1) := dk_8 (dk_at dksX3_ofFieldNow_2 9 rfl rfl)
theorem dX3_ofFieldNow_56 : decode cX3_ofFieldNow 56 = .ok (.aload_n 3, 1) := dk_45 (dk_at dksX3_ofFieldNow_2 10 rfl rfl)
theorem dX3_ofFieldNow_57 : decode cX3_ofFieldNow 57 = .ok (.getfield 174, 3) := dk_180 0 174 (dk_at dksX3_ofFieldNow_2 11 rfl rfl)
theorem dX3_ofFieldNow_60 : decode cX3_ofFieldNow 60 = .ok (.iastore, 1) := dk_79 (dk_at dksX3_ofFieldNow_2 14 rfl rfl)
theorem dX3_ofFieldNow_61 : decode cX3_ofFieldNow 61 = .ok (.dup, 1) := dk_89 (dk_at dksX3_ofFieldNow_2 15 rfl rfl)
theorem dX3_ofFieldNow_62 : decode cX3_ofFieldNow 62 = .ok (.bipush 6, 2) := dk_16 6 (dk_at dksX3_ofFieldNow_2 16 rfl rfl)
theorem dX3_ofFieldNow_64 : decode cX3_ofFieldNow 64 = .ok (.aload_n 3, 1) := dk_45 (dk_at dksX3_ofFieldNow_2 18 rfl rfl)
theorem dX3_ofFieldNow_65 : decode cX3_ofFieldNow 65 = .ok (.getfield 177, 3) := dk_180 0 177 (dk_at dksX3_ofFieldNow_2 19 rfl rfl)
theorem dX3_ofFieldNow_68 : decode cX3_ofFieldNow 68 = .ok (.iastore, 1) := dk_79 (dk_at dksX3_ofFieldNow_2 22 rfl rfl)
theorem dX3_ofFieldNow_69 : decode cX3_ofFieldNow 69 = .ok (.dup, 1) := dk_89 (dk_at dksX3_ofFieldNow_2 23 rfl rfl)
theorem dX3_ofFieldNow_70 : decode cX3_ofFieldNow 70 = .ok (.bipush 7, 2) := dk_16 7 (dk_at dksX3_ofFieldNow_3 0 rfl rfl)
theorem dX3_ofFieldNow_72 : decode cX3_ofFieldNow 72 = .ok (.aload_n 3, 1) := dk_45 (dk_at dksX3_ofFieldNow_3 2 rfl rfl)
theorem dX3_ofFieldNow_73 : decode cX3_ofFieldNow 73 = .ok (.getfield 83, 3) := dk_180 0 83 (dk_at dksX3_ofFieldNow_3 3 rfl rfl)
theorem dX3_ofFieldNow_76 : decode cX3_ofFieldNow 76 = .ok (.iastore, 1) := dk_79 (dk_at dksX3_ofFieldNow_3 6 rfl rfl)
theorem dX3_ofFieldNow_77 : decode cX3_ofFieldNow 77 = .ok (.dup, 1) := dk_89 (dk_at dksX3_ofFieldNow_3 7 rfl rfl)
theorem dX3_ofFieldNow_78 : decode cX3_ofFieldNow 78 = .ok (.bipush 8, 2) := dk_16 8 (dk_at dksX3_ofFieldNow_3 8 rfl rfl)
theorem dX3_ofFieldNow_80 : decode cX3_ofFieldNow 80 = .ok (.aload_n 3, 1) := dk_45 (dk_at dksX3_ofFieldNow_3 10 rfl rfl)
theorem dX3_ofFieldNow_81 : decode cX3_ofFieldNow 81 = .ok (.getfield 102, 3) := dk_180 0 102 (dk_at dksX3_ofFieldNow_3 11 rfl rfl)
theorem dX3_ofFieldNow_84 : decode cX3_ofFieldNow 84 = .ok (.ifCond .eq 7, 3) := dk_153 0 7 (dk_at dksX3_ofFieldNow_3 14 rfl rfl)
theorem dX3_ofFieldNow_87 : decode cX3_ofFieldNow 87 = .ok (.iconst 1, 1) := dk_4 (dk_at dksX3_ofFieldNow_3 17 rfl rfl)
theorem dX3_ofFieldNow_88 : decode cX3_ofFieldNow 88 = .ok (.goto 4, 3) := dk_167 0 4 (dk_at dksX3_ofFieldNow_3 18 rfl rfl)
theorem dX3_ofFieldNow_91 : decode cX3_ofFieldNow 91 = .ok (.iconst 0, 1) := dk_3 (dk_at dksX3_ofFieldNow_3 21 rfl rfl)
theorem dX3_ofFieldNow_92 : decode cX3_ofFieldNow 92 = .ok (.iastore, 1) := dk_79 (dk_at dksX3_ofFieldNow_3 22 rfl rfl)
theorem dX3_ofFieldNow_93 : decode cX3_ofFieldNow 93 = .ok (.dup, 1) := dk_89 (dk_at dksX3_ofFieldNow_3 23 rfl rfl)
theorem dX3_ofFieldNow_94 : decode cX3_ofFieldNow 94 = .ok (.bipush 9, 2) := dk_16 9 (dk_at dksX3_ofFieldNow_4 0 rfl rfl)
theorem dX3_ofFieldNow_96 : decode cX3_ofFieldNow 96 = .ok (.aload_n 3, 1) := dk_45 (dk_at dksX3_ofFieldNow_4 2 rfl rfl)
theorem dX3_ofFieldNow_97 : decode cX3_ofFieldNow 97 = .ok (.getfield 180, 3) := dk_180 0 180 (dk_at dksX3_ofFieldNow_4 3 rfl rfl)
theorem dX3_ofFieldNow_100 : decode cX3_ofFieldNow 100 = .ok (.ifCond .eq 7, 3) := dk_153 0 7 (dk_at dksX3_ofFieldNow_4 6 rfl rfl)
theorem dX3_ofFieldNow_103 : decode cX3_ofFieldNow 103 = .ok (.iconst 1, 1) := dk_4 (dk_at dksX3_ofFieldNow_4 9 rfl rfl)
theorem dX3_ofFieldNow_104 : decode cX3_ofFieldNow 104 = .ok (.goto 4, 3) := dk_167 0 4 (dk_at dksX3_ofFieldNow_4 10 rfl rfl)
theorem dX3_ofFieldNow_107 : decode cX3_ofFieldNow 107 = .ok (.iconst 0, 1) := dk_3 (dk_at dksX3_ofFieldNow_4 13 rfl rfl)
theorem dX3_ofFieldNow_108 : decode cX3_ofFieldNow 108 = .ok (.iastore, 1) := dk_79 (dk_at dksX3_ofFieldNow_4 14 rfl rfl)
theorem dX3_ofFieldNow_109 : decode cX3_ofFieldNow 109 = .ok (.dup, 1) := dk_89 (dk_at dksX3_ofFieldNow_4 15 rfl rfl)
theorem dX3_ofFieldNow_110 : decode cX3_ofFieldNow 110 = .ok (.bipush 10, 2) := dk_16 10 (dk_at dksX3_ofFieldNow_4 16 rfl rfl)
theorem dX3_ofFieldNow_112 : decode cX3_ofFieldNow 112 = .ok (.aload_n 3, 1) := dk_45 (dk_at dksX3_ofFieldNow_4 18 rfl rfl)
theorem dX3_ofFieldNow_113 : decode cX3_ofFieldNow 113 = .ok (.getfield 98, 3) := dk_180 0 98 (dk_at dksX3_ofFieldNow_4 19 rfl rfl)
theorem dX3_ofFieldNow_116 : decode cX3_ofFieldNow 116 = .ok (.ifCond .eq 7, 3) := dk_153 0 7 (dk_at dksX3_ofFieldNow_5 0 rfl rfl)
theorem dX3_ofFieldNow_119 : decode cX3_ofFieldNow 119 = .ok (.iconst 1, 1) := dk_4 (dk_at dksX3_ofFieldNow_5 3 rfl rfl)
theorem dX3_ofFieldNow_120 : decode cX3_ofFieldNow 120 = .ok (.goto 4, 3) := dk_167 0 4 (dk_at dksX3_ofFieldNow_5 4 rfl rfl)
theorem dX3_ofFieldNow_123 : decode cX3_ofFieldNow 123 = .ok (.iconst 0, 1) := dk_3 (dk_at dksX3_ofFieldNow_5 7 rfl rfl)
theorem dX3_ofFieldNow_124 : decode cX3_ofFieldNow 124 = .ok (.iastore, 1) := dk_79 (dk_at dksX3_ofFieldNow_5 8 rfl rfl)
theorem dX3_ofFieldNow_125 : decode cX3_ofFieldNow 125 = .ok (.astore 4, 2) := dk_58 4 (dk_at dksX3_ofFieldNow_5 9 rfl rfl)
theorem dX3_ofFieldNow_127 : decode cX3_ofFieldNow 127 = .ok (.iload_n 2, 1) := dk_28 (dk_at dksX3_ofFieldNow_5 11 rfl rfl)
theorem dX3_ofFieldNow_128 : decode cX3_ofFieldNow 128 = .ok (.bipush 11, 2) := dk_16 11 (dk_at dksX3_ofFieldNow_5 12 rfl rfl)
theorem dX3_ofFieldNow_130 : decode cX3_ofFieldNow 130 = .ok (.if_icmp .ne 11, 3) := dk_160 0 11 (dk_at dksX3_ofFieldNow_5 14 rfl rfl)
theorem dX3_ofFieldNow_133 : decode cX3_ofFieldNow 133 = .ok (.aload_n 0, 1) := dk_42 (dk_at dksX3_ofFieldNow_5 17 rfl rfl)
theorem dX3_ofFieldNow_134 : decode cX3_ofFieldNow 134 = .ok (.iload_n 1, 1) := dk_27 (dk_at dksX3_ofFieldNow_5 18 rfl rfl)
theorem dX3_ofFieldNow_135 : decode cX3_ofFieldNow 135 = .ok (.invokevirtual 183, 3) := dk_182 0 183 (dk_at dksX3_ofFieldNow_5 19 rfl rfl)
theorem dX3_ofFieldNow_138 : decode cX3_ofFieldNow 138 = .ok (.goto 7, 3) := dk_167 0 7 (dk_at dksX3_ofFieldNow_6 0 rfl rfl)
theorem dX3_ofFieldNow_141 : decode cX3_ofFieldNow 141 = .ok (.aload 4, 2) := dk_25 4 (dk_at dksX3_ofFieldNow_6 3 rfl rfl)
theorem dX3_ofFieldNow_143 : decode cX3_ofFieldNow 143 = .ok (.iload_n 2, 1) := dk_28 (dk_at dksX3_ofFieldNow_6 5 rfl rfl)
theorem dX3_ofFieldNow_144 : decode cX3_ofFieldNow 144 = .ok (.iaload, 1) := dk_46 (dk_at dksX3_ofFieldNow_6 6 rfl rfl)
theorem dX3_ofFieldNow_145 : decode cX3_ofFieldNow 145 = .ok (.ireturn, 1) := dk_172 (dk_at dksX3_ofFieldNow_6 7 rfl rfl)
abbrev cX3_lying : ByteArray := prog_7_method_26_code
def yX3_lying : MethodName := ⟨RX3, "lying", "(I)I"⟩
def dkwX3_lying_3 : List UInt8 := [167, 255, 190, 28, 172]
abbrev dktX3_lying_3 : List UInt8 := dkwX3_lying_3 ++ []
def dkwX3_lying_2 : List UInt8 := [29, 182, 0, 79, 192, 0, 108, 180, 0, 170, 154, 0, 7, 4, 167, 0, 4, 3, 96, 61, 132, 3, 1]
abbrev dktX3_lying_2 : List UInt8 := dkwX3_lying_2 ++ dktX3_lying_3
def dkwX3_lying_1 : List UInt8 := [180, 0, 54, 29, 182, 0, 79, 192, 0, 108, 180, 0, 169, 27, 160, 0, 27, 42, 180, 0, 19, 180, 0, 54]
abbrev dktX3_lying_1 : List UInt8 := dkwX3_lying_1 ++ dktX3_lying_2
def dkwX3_lying_0 : List UInt8 := [3, 61, 3, 62, 29, 42, 180, 0, 19, 180, 0, 54, 182, 0, 45, 162, 0, 58, 28, 42, 180, 0, 19]
abbrev dktX3_lying_0 : List UInt8 := dkwX3_lying_0 ++ dktX3_lying_1
theorem dksX3_lying_0 : cX3_lying.data.toList.drop 0 = dktX3_lying_0 := by decide +kernel
theorem dksX3_lying_1 : cX3_lying.data.toList.drop 23 = dktX3_lying_1 := dk_seg dksX3_lying_0 23 rfl rfl
theorem dksX3_lying_2 : cX3_lying.data.toList.drop 47 = dktX3_lying_2 := dk_seg dksX3_lying_1 24 rfl rfl
theorem dksX3_lying_3 : cX3_lying.data.toList.drop 70 = dktX3_lying_3 := dk_seg dksX3_lying_2 23 rfl rfl
theorem dX3_lying_0 : decode cX3_lying 0 = .ok (.iconst 0, 1) := dk_3 (dk_at dksX3_lying_0 0 rfl rfl)
theorem dX3_lying_1 : decode cX3_lying 1 = .ok (.istore_n 2, 1) := dk_61 (dk_at dksX3_lying_0 1 rfl rfl)
theorem dX3_lying_2 : decode cX3_lying 2 = .ok (.iconst 0, 1) := dk_3 (dk_at dksX3_lying_0 2 rfl rfl)
theorem dX3_lying_3 : decode cX3_lying 3 = .ok (.istore_n 3, 1) := dk_62 (dk_at dksX3_lying_0 3 rfl rfl)
theorem dX3_lying_4 : decode cX3_lying 4 = .ok (.iload_n 3, 1) := dk_29 (dk_at dksX3_lying_0 4 rfl rfl)
theorem dX3_lying_5 : decode cX3_lying 5 = .ok (.aload_n 0, 1) := dk_42 (dk_at dksX3_lying_0 5 rfl rfl)
theorem dX3_lying_6 : decode cX3_lying 6 = .ok (.getfield 19, 3) := dk_180 0 19 (dk_at dksX3_lying_0 6 rfl rfl)
theorem dX3_lying_9 : decode cX3_lying 9 = .ok (.getfield 54, 3) := dk_180 0 54 (dk_at dksX3_lying_0 9 rfl rfl)
theorem dX3_lying_12 : decode cX3_lying 12 = .ok (.invokevirtual 45, 3) := dk_182 0 45 (dk_at dksX3_lying_0 12 rfl rfl)
theorem dX3_lying_15 : decode cX3_lying 15 = .ok (.if_icmp .ge 58, 3) := dk_162 0 58 (dk_at dksX3_lying_0 15 rfl rfl)
theorem dX3_lying_18 : decode cX3_lying 18 = .ok (.iload_n 2, 1) := dk_28 (dk_at dksX3_lying_0 18 rfl rfl)
theorem dX3_lying_19 : decode cX3_lying 19 = .ok (.aload_n 0, 1) := dk_42 (dk_at dksX3_lying_0 19 rfl rfl)
theorem dX3_lying_20 : decode cX3_lying 20 = .ok (.getfield 19, 3) := dk_180 0 19 (dk_at dksX3_lying_0 20 rfl rfl)
theorem dX3_lying_23 : decode cX3_lying 23 = .ok (.getfield 54, 3) := dk_180 0 54 (dk_at dksX3_lying_1 0 rfl rfl)
theorem dX3_lying_26 : decode cX3_lying 26 = .ok (.iload_n 3, 1) := dk_29 (dk_at dksX3_lying_1 3 rfl rfl)
theorem dX3_lying_27 : decode cX3_lying 27 = .ok (.invokevirtual 79, 3) := dk_182 0 79 (dk_at dksX3_lying_1 4 rfl rfl)
theorem dX3_lying_30 : decode cX3_lying 30 = .ok (.checkcast 108, 3) := dk_192 0 108 (dk_at dksX3_lying_1 7 rfl rfl)
theorem dX3_lying_33 : decode cX3_lying 33 = .ok (.getfield 169, 3) := dk_180 0 169 (dk_at dksX3_lying_1 10 rfl rfl)
theorem dX3_lying_36 : decode cX3_lying 36 = .ok (.iload_n 1, 1) := dk_27 (dk_at dksX3_lying_1 13 rfl rfl)
theorem dX3_lying_37 : decode cX3_lying 37 = .ok (.if_icmp .ne 27, 3) := dk_160 0 27 (dk_at dksX3_lying_1 14 rfl rfl)
theorem dX3_lying_40 : decode cX3_lying 40 = .ok (.aload_n 0, 1) := dk_42 (dk_at dksX3_lying_1 17 rfl rfl)
theorem dX3_lying_41 : decode cX3_lying 41 = .ok (.getfield 19, 3) := dk_180 0 19 (dk_at dksX3_lying_1 18 rfl rfl)
theorem dX3_lying_44 : decode cX3_lying 44 = .ok (.getfield 54, 3) := dk_180 0 54 (dk_at dksX3_lying_1 21 rfl rfl)
theorem dX3_lying_47 : decode cX3_lying 47 = .ok (.iload_n 3, 1) := dk_29 (dk_at dksX3_lying_2 0 rfl rfl)
theorem dX3_lying_48 : decode cX3_lying 48 = .ok (.invokevirtual 79, 3) := dk_182 0 79 (dk_at dksX3_lying_2 1 rfl rfl)
theorem dX3_lying_51 : decode cX3_lying 51 = .ok (.checkcast 108, 3) := dk_192 0 108 (dk_at dksX3_lying_2 4 rfl rfl)
theorem dX3_lying_54 : decode cX3_lying 54 = .ok (.getfield 170, 3) := dk_180 0 170 (dk_at dksX3_lying_2 7 rfl rfl)
theorem dX3_lying_57 : decode cX3_lying 57 = .ok (.ifCond .ne 7, 3) := dk_154 0 7 (dk_at dksX3_lying_2 10 rfl rfl)
theorem dX3_lying_60 : decode cX3_lying 60 = .ok (.iconst 1, 1) := dk_4 (dk_at dksX3_lying_2 13 rfl rfl)
theorem dX3_lying_61 : decode cX3_lying 61 = .ok (.goto 4, 3) := dk_167 0 4 (dk_at dksX3_lying_2 14 rfl rfl)
theorem dX3_lying_64 : decode cX3_lying 64 = .ok (.iconst 0, 1) := dk_3 (dk_at dksX3_lying_2 17 rfl rfl)
theorem dX3_lying_65 : decode cX3_lying 65 = .ok (.iadd, 1) := dk_96 (dk_at dksX3_lying_2 18 rfl rfl)
theorem dX3_lying_66 : decode cX3_lying 66 = .ok (.istore_n 2, 1) := dk_61 (dk_at dksX3_lying_2 19 rfl rfl)
theorem dX3_lying_67 : decode cX3_lying 67 = .ok (.iinc 3 1, 3) := dk_132 3 1 (dk_at dksX3_lying_2 20 rfl rfl)
theorem dX3_lying_70 : decode cX3_lying 70 = .ok (.goto (-66), 3) := dk_167 255 190 (dk_at dksX3_lying_3 0 rfl rfl)
theorem dX3_lying_73 : decode cX3_lying 73 = .ok (.iload_n 2, 1) := dk_28 (dk_at dksX3_lying_3 3 rfl rfl)
theorem dX3_lying_74 : decode cX3_lying 74 = .ok (.ireturn, 1) := dk_172 (dk_at dksX3_lying_3 4 rfl rfl)
abbrev cX3_ofLoad : ByteArray := prog_7_method_30_code
def yX3_ofLoad : MethodName := ⟨RX3, "ofLoad", "(II)I"⟩
def dkwX3_ofLoad_1 : List UInt8 := [4, 167, 0, 4, 3, 5, 182, 0, 33, 153, 0, 7, 3, 167, 0, 9, 42, 27, 28, 182, 0, 205, 172]
abbrev dktX3_ofLoad_1 : List UInt8 := dkwX3_ofLoad_1 ++ []
def dkwX3_ofLoad_0 : List UInt8 := [42, 42, 27, 182, 0, 202, 4, 182, 0, 61, 154, 0, 26, 42, 28, 3, 16, 6, 184, 0, 37, 154, 0, 7]
abbrev dktX3_ofLoad_0 : List UInt8 := dkwX3_ofLoad_0 ++ dktX3_ofLoad_1
theorem dksX3_ofLoad_0 : cX3_ofLoad.data.toList.drop 0 = dktX3_ofLoad_0 := by decide +kernel
theorem dksX3_ofLoad_1 : cX3_ofLoad.data.toList.drop 24 = dktX3_ofLoad_1 := dk_seg dksX3_ofLoad_0 24 rfl rfl
theorem dX3_ofLoad_0 : decode cX3_ofLoad 0 = .ok (.aload_n 0, 1) := dk_42 (dk_at dksX3_ofLoad_0 0 rfl rfl)
theorem dX3_ofLoad_1 : decode cX3_ofLoad 1 = .ok (.aload_n 0, 1) := dk_42 (dk_at dksX3_ofLoad_0 1 rfl rfl)
theorem dX3_ofLoad_2 : decode cX3_ofLoad 2 = .ok (.iload_n 1, 1) := dk_27 (dk_at dksX3_ofLoad_0 2 rfl rfl)
theorem dX3_ofLoad_3 : decode cX3_ofLoad 3 = .ok (.invokevirtual 202, 3) := dk_182 0 202 (dk_at dksX3_ofLoad_0 3 rfl rfl)
theorem dX3_ofLoad_6 : decode cX3_ofLoad 6 = .ok (.iconst 1, 1) := dk_4 (dk_at dksX3_ofLoad_0 6 rfl rfl)
theorem dX3_ofLoad_7 : decode cX3_ofLoad 7 = .ok (.invokevirtual 61, 3) := dk_182 0 61 (dk_at dksX3_ofLoad_0 7 rfl rfl)
theorem dX3_ofLoad_10 : decode cX3_ofLoad 10 = .ok (.ifCond .ne 26, 3) := dk_154 0 26 (dk_at dksX3_ofLoad_0 10 rfl rfl)
theorem dX3_ofLoad_13 : decode cX3_ofLoad 13 = .ok (.aload_n 0, 1) := dk_42 (dk_at dksX3_ofLoad_0 13 rfl rfl)
theorem dX3_ofLoad_14 : decode cX3_ofLoad 14 = .ok (.iload_n 2, 1) := dk_28 (dk_at dksX3_ofLoad_0 14 rfl rfl)
theorem dX3_ofLoad_15 : decode cX3_ofLoad 15 = .ok (.iconst 0, 1) := dk_3 (dk_at dksX3_ofLoad_0 15 rfl rfl)
theorem dX3_ofLoad_16 : decode cX3_ofLoad 16 = .ok (.bipush 6, 2) := dk_16 6 (dk_at dksX3_ofLoad_0 16 rfl rfl)
theorem dX3_ofLoad_18 : decode cX3_ofLoad 18 = .ok (.invokestatic 37, 3) := dk_184 0 37 (dk_at dksX3_ofLoad_0 18 rfl rfl)
theorem dX3_ofLoad_21 : decode cX3_ofLoad 21 = .ok (.ifCond .ne 7, 3) := dk_154 0 7 (dk_at dksX3_ofLoad_0 21 rfl rfl)
theorem dX3_ofLoad_24 : decode cX3_ofLoad 24 = .ok (.iconst 1, 1) := dk_4 (dk_at dksX3_ofLoad_1 0 rfl rfl)
theorem dX3_ofLoad_25 : decode cX3_ofLoad 25 = .ok (.goto 4, 3) := dk_167 0 4 (dk_at dksX3_ofLoad_1 1 rfl rfl)
theorem dX3_ofLoad_28 : decode cX3_ofLoad 28 = .ok (.iconst 0, 1) := dk_3 (dk_at dksX3_ofLoad_1 4 rfl rfl)
theorem dX3_ofLoad_29 : decode cX3_ofLoad 29 = .ok (.iconst 2, 1) := dk_5 (dk_at dksX3_ofLoad_1 5 rfl rfl)
theorem dX3_ofLoad_30 : decode cX3_ofLoad 30 = .ok (.invokevirtual 33, 3) := dk_182 0 33 (dk_at dksX3_ofLoad_1 6 rfl rfl)
theorem dX3_ofLoad_33 : decode cX3_ofLoad 33 = .ok (.ifCond .eq 7, 3) := dk_153 0 7 (dk_at dksX3_ofLoad_1 9 rfl rfl)
theorem dX3_ofLoad_36 : decode cX3_ofLoad 36 = .ok (.iconst 0, 1) := dk_3 (dk_at dksX3_ofLoad_1 12 rfl rfl)
theorem dX3_ofLoad_37 : decode cX3_ofLoad 37 = .ok (.goto 9, 3) := dk_167 0 9 (dk_at dksX3_ofLoad_1 13 rfl rfl)
theorem dX3_ofLoad_40 : decode cX3_ofLoad 40 = .ok (.aload_n 0, 1) := dk_42 (dk_at dksX3_ofLoad_1 16 rfl rfl)
theorem dX3_ofLoad_41 : decode cX3_ofLoad 41 = .ok (.iload_n 1, 1) := dk_27 (dk_at dksX3_ofLoad_1 17 rfl rfl)
theorem dX3_ofLoad_42 : decode cX3_ofLoad 42 = .ok (.iload_n 2, 1) := dk_28 (dk_at dksX3_ofLoad_1 18 rfl rfl)
theorem dX3_ofLoad_43 : decode cX3_ofLoad 43 = .ok (.invokevirtual 205, 3) := dk_182 0 205 (dk_at dksX3_ofLoad_1 19 rfl rfl)
theorem dX3_ofLoad_46 : decode cX3_ofLoad 46 = .ok (.ireturn, 1) := dk_172 (dk_at dksX3_ofLoad_1 22 rfl rfl)
abbrev cX3_isNoLoad : ByteArray := prog_7_method_10_code
def yX3_isNoLoad : MethodName := ⟨RX3, "isNoLoad", "(I)Z"⟩
def dkwX3_isNoLoad_1 : List UInt8 := [3, 172]
abbrev dktX3_isNoLoad_1 : List UInt8 := dkwX3_isNoLoad_1 ++ []
def dkwX3_isNoLoad_0 : List UInt8 := [27, 3, 42, 180, 0, 19, 180, 0, 54, 182, 0, 45, 4, 100, 184, 0, 37, 154, 0, 7, 4, 167, 0, 4]
abbrev dktX3_isNoLoad_0 : List UInt8 := dkwX3_isNoLoad_0 ++ dktX3_isNoLoad_1
theorem dksX3_isNoLoad_0 : cX3_isNoLoad.data.toList.drop 0 = dktX3_isNoLoad_0 := by decide +kernel
theorem dksX3_isNoLoad_1 : cX3_isNoLoad.data.toList.drop 24 = dktX3_isNoLoad_1 := dk_seg dksX3_isNoLoad_0 24 rfl rfl
theorem dX3_isNoLoad_0 : decode cX3_isNoLoad 0 = .ok (.iload_n 1, 1) := dk_27 (dk_at dksX3_isNoLoad_0 0 rfl rfl)
theorem dX3_isNoLoad_1 : decode cX3_isNoLoad 1 = .ok (.iconst 0, 1) := dk_3 (dk_at dksX3_isNoLoad_0 1 rfl rfl)
theorem dX3_isNoLoad_2 : decode cX3_isNoLoad 2 = .ok (.aload_n 0, 1) := dk_42 (dk_at dksX3_isNoLoad_0 2 rfl rfl)
theorem dX3_isNoLoad_3 : decode cX3_isNoLoad 3 = .ok (.getfield 19, 3) := dk_180 0 19 (dk_at dksX3_isNoLoad_0 3 rfl rfl)
theorem dX3_isNoLoad_6 : decode cX3_isNoLoad 6 = .ok (.getfield 54, 3) := dk_180 0 54 (dk_at dksX3_isNoLoad_0 6 rfl rfl)
theorem dX3_isNoLoad_9 : decode cX3_isNoLoad 9 = .ok (.invokevirtual 45, 3) := dk_182 0 45 (dk_at dksX3_isNoLoad_0 9 rfl rfl)
theorem dX3_isNoLoad_12 : decode cX3_isNoLoad 12 = .ok (.iconst 1, 1) := dk_4 (dk_at dksX3_isNoLoad_0 12 rfl rfl)
theorem dX3_isNoLoad_13 : decode cX3_isNoLoad 13 = .ok (.isub, 1) := dk_100 (dk_at dksX3_isNoLoad_0 13 rfl rfl)
theorem dX3_isNoLoad_14 : decode cX3_isNoLoad 14 = .ok (.invokestatic 37, 3) := dk_184 0 37 (dk_at dksX3_isNoLoad_0 14 rfl rfl)
theorem dX3_isNoLoad_17 : decode cX3_isNoLoad 17 = .ok (.ifCond .ne 7, 3) := dk_154 0 7 (dk_at dksX3_isNoLoad_0 17 rfl rfl)
theorem dX3_isNoLoad_20 : decode cX3_isNoLoad 20 = .ok (.iconst 1, 1) := dk_4 (dk_at dksX3_isNoLoad_0 20 rfl rfl)
theorem dX3_isNoLoad_21 : decode cX3_isNoLoad 21 = .ok (.goto 4, 3) := dk_167 0 4 (dk_at dksX3_isNoLoad_0 21 rfl rfl)
theorem dX3_isNoLoad_24 : decode cX3_isNoLoad 24 = .ok (.iconst 0, 1) := dk_3 (dk_at dksX3_isNoLoad_1 0 rfl rfl)
theorem dX3_isNoLoad_25 : decode cX3_isNoLoad 25 = .ok (.ireturn, 1) := dk_172 (dk_at dksX3_isNoLoad_1 1 rfl rfl)
abbrev cX3_ofLoadNow : ByteArray := prog_7_method_29_code
def yX3_ofLoadNow : MethodName := ⟨RX3, "ofLoadNow", "(II)I"⟩
def dkwX3_ofLoadNow_3 : List UInt8 := [58, 4, 25, 4, 28, 46, 172]
abbrev dktX3_ofLoadNow_3 : List UInt8 := dkwX3_ofLoadNow_3 ++ []
def dkwX3_ofLoadNow_2 : List UInt8 := [79, 89, 7, 45, 180, 0, 170, 79, 89, 8, 45, 180, 0, 196, 79, 89, 16, 6, 45, 180, 0, 199, 79]
abbrev dktX3_ofLoadNow_2 : List UInt8 := dkwX3_ofLoadNow_2 ++ dktX3_ofLoadNow_3
def dkwX3_ofLoadNow_1 : List UInt8 := [180, 0, 169, 79, 89, 4, 45, 180, 0, 189, 79, 89, 5, 45, 180, 0, 192, 79, 89, 6, 45, 182, 0, 193]
abbrev dktX3_ofLoadNow_1 : List UInt8 := dkwX3_ofLoadNow_1 ++ dktX3_ofLoadNow_2
def dkwX3_ofLoadNow_0 : List UInt8 := [42, 180, 0, 19, 180, 0, 54, 27, 182, 0, 79, 192, 0, 108, 78, 16, 7, 188, 10, 89, 3, 45]
abbrev dktX3_ofLoadNow_0 : List UInt8 := dkwX3_ofLoadNow_0 ++ dktX3_ofLoadNow_1
theorem dksX3_ofLoadNow_0 : cX3_ofLoadNow.data.toList.drop 0 = dktX3_ofLoadNow_0 := by decide +kernel
theorem dksX3_ofLoadNow_1 : cX3_ofLoadNow.data.toList.drop 22 = dktX3_ofLoadNow_1 := dk_seg dksX3_ofLoadNow_0 22 rfl rfl
theorem dksX3_ofLoadNow_2 : cX3_ofLoadNow.data.toList.drop 46 = dktX3_ofLoadNow_2 := dk_seg dksX3_ofLoadNow_1 24 rfl rfl
theorem dksX3_ofLoadNow_3 : cX3_ofLoadNow.data.toList.drop 69 = dktX3_ofLoadNow_3 := dk_seg dksX3_ofLoadNow_2 23 rfl rfl
theorem dX3_ofLoadNow_0 : decode cX3_ofLoadNow 0 = .ok (.aload_n 0, 1) := dk_42 (dk_at dksX3_ofLoadNow_0 0 rfl rfl)
theorem dX3_ofLoadNow_1 : decode cX3_ofLoadNow 1 = .ok (.getfield 19, 3) := dk_180 0 19 (dk_at dksX3_ofLoadNow_0 1 rfl rfl)
theorem dX3_ofLoadNow_4 : decode cX3_ofLoadNow 4 = .ok (.getfield 54, 3) := dk_180 0 54 (dk_at dksX3_ofLoadNow_0 4 rfl rfl)
theorem dX3_ofLoadNow_7 : decode cX3_ofLoadNow 7 = .ok (.iload_n 1, 1) := dk_27 (dk_at dksX3_ofLoadNow_0 7 rfl rfl)
theorem dX3_ofLoadNow_8 : decode cX3_ofLoadNow 8 = .ok (.invokevirtual 79, 3) := dk_182 0 79 (dk_at dksX3_ofLoadNow_0 8 rfl rfl)
theorem dX3_ofLoadNow_11 : decode cX3_ofLoadNow 11 = .ok (.checkcast 108, 3) := dk_192 0 108 (dk_at dksX3_ofLoadNow_0 11 rfl rfl)
theorem dX3_ofLoadNow_14 : decode cX3_ofLoadNow 14 = .ok (.astore_n 3, 1) := dk_78 (dk_at dksX3_ofLoadNow_0 14 rfl rfl)
theorem dX3_ofLoadNow_15 : decode cX3_ofLoadNow 15 = .ok (.bipush 7, 2) := dk_16 7 (dk_at dksX3_ofLoadNow_0 15 rfl rfl)
theorem dX3_ofLoadNow_17 : decode cX3_ofLoadNow 17 = .ok (.newarray .int, 2) := dk_188_10 (dk_at dksX3_ofLoadNow_0 17 rfl rfl)
theorem dX3_ofLoadNow_19 : decode cX3_ofLoadNow 19 = .ok (.dup, 1) := dk_89 (dk_at dksX3_ofLoadNow_0 19 rfl rfl)
theorem dX3_ofLoadNow_20 : decode cX3_ofLoadNow 20 = .ok (.iconst 0, 1) := dk_3 (dk_at dksX3_ofLoadNow_0 20 rfl rfl)
theorem dX3_ofLoadNow_21 : decode cX3_ofLoadNow 21 = .ok (.aload_n 3, 1) := dk_45 (dk_at dksX3_ofLoadNow_0 21 rfl rfl)
theorem dX3_ofLoadNow_22 : decode cX3_ofLoadNow 22 = .ok (.getfield 169, 3) := dk_180 0 169 (dk_at dksX3_ofLoadNow_1 0 rfl rfl)
theorem dX3_ofLoadNow_25 : decode cX3_ofLoadNow 25 = .ok (.iastore, 1) := dk_79 (dk_at dksX3_ofLoadNow_1 3 rfl rfl)
theorem dX3_ofLoadNow_26 : decode cX3_ofLoadNow 26 = .ok (.dup, 1) := dk_89 (dk_at dksX3_ofLoadNow_1 4 rfl rfl)
theorem dX3_ofLoadNow_27 : decode cX3_ofLoadNow 27 = .ok (.iconst 1, 1) := dk_4 (dk_at dksX3_ofLoadNow_1 5 rfl rfl)
theorem dX3_ofLoadNow_28 : decode cX3_ofLoadNow 28 = .ok (.aload_n 3, 1) := dk_45 (dk_at dksX3_ofLoadNow_1 6 rfl rfl)
theorem dX3_ofLoadNow_29 : decode cX3_ofLoadNow 29 = .ok (.getfield 189, 3) := dk_180 0 189 (dk_at dksX3_ofLoadNow_1 7 rfl rfl)
theorem dX3_ofLoadNow_32 : decode cX3_ofLoadNow 32 = .ok (.iastore, 1) := dk_79 (dk_at dksX3_ofLoadNow_1 10 rfl rfl)
theorem dX3_ofLoadNow_33 : decode cX3_ofLoadNow 33 = .ok (.dup, 1) := dk_89 (dk_at dksX3_ofLoadNow_1 11 rfl rfl)
theorem dX3_ofLoadNow_34 : decode cX3_ofLoadNow 34 = .ok (.iconst 2, 1) := dk_5 (dk_at dksX3_ofLoadNow_1 12 rfl rfl)
theorem dX3_ofLoadNow_35 : decode cX3_ofLoadNow 35 = .ok (.aload_n 3, 1) := dk_45 (dk_at dksX3_ofLoadNow_1 13 rfl rfl)
theorem dX3_ofLoadNow_36 : decode cX3_ofLoadNow 36 = .ok (.getfield 192, 3) := dk_180 0 192 (dk_at dksX3_ofLoadNow_1 14 rfl rfl)
theorem dX3_ofLoadNow_39 : decode cX3_ofLoadNow 39 = .ok (.iastore, 1) := dk_79 (dk_at dksX3_ofLoadNow_1 17 rfl rfl)
theorem dX3_ofLoadNow_40 : decode cX3_ofLoadNow 40 = .ok (.dup, 1) := dk_89 (dk_at dksX3_ofLoadNow_1 18 rfl rfl)
theorem dX3_ofLoadNow_41 : decode cX3_ofLoadNow 41 = .ok (.iconst 3, 1) := dk_6 (dk_at dksX3_ofLoadNow_1 19 rfl rfl)
theorem dX3_ofLoadNow_42 : decode cX3_ofLoadNow 42 = .ok (.aload_n 3, 1) := dk_45 (dk_at dksX3_ofLoadNow_1 20 rfl rfl)
theorem dX3_ofLoadNow_43 : decode cX3_ofLoadNow 43 = .ok (.invokevirtual 193, 3) := dk_182 0 193 (dk_at dksX3_ofLoadNow_1 21 rfl rfl)
theorem dX3_ofLoadNow_46 : decode cX3_ofLoadNow 46 = .ok (.iastore, 1) := dk_79 (dk_at dksX3_ofLoadNow_2 0 rfl rfl)
theorem dX3_ofLoadNow_47 : decode cX3_ofLoadNow 47 = .ok (.dup, 1) := dk_89 (dk_at dksX3_ofLoadNow_2 1 rfl rfl)
theorem dX3_ofLoadNow_48 : decode cX3_ofLoadNow 48 = .ok (.iconst 4, 1) := dk_7 (dk_at dksX3_ofLoadNow_2 2 rfl rfl)
theorem dX3_ofLoadNow_49 : decode cX3_ofLoadNow 49 = .ok (.aload_n 3, 1) := dk_45 (dk_at dksX3_ofLoadNow_2 3 rfl rfl)
theorem dX3_ofLoadNow_50 : decode cX3_ofLoadNow 50 = .ok (.getfield 170, 3) := dk_180 0 170 (dk_at dksX3_ofLoadNow_2 4 rfl rfl)
theorem dX3_ofLoadNow_53 : decode cX3_ofLoadNow 53 = .ok (.iastore, 1) := dk_79 (dk_at dksX3_ofLoadNow_2 7 rfl rfl)
theorem dX3_ofLoadNow_54 : decode cX3_ofLoadNow 54 = .ok (.dup, 1) := dk_89 (dk_at dksX3_ofLoadNow_2 8 rfl rfl)
theorem dX3_ofLoadNow_55 : decode cX3_ofLoadNow 55 = .ok (.iconst 5, 1) := dk_8 (dk_at dksX3_ofLoadNow_2 9 rfl rfl)
theorem dX3_ofLoadNow_56 : decode cX3_ofLoadNow 56 = .ok (.aload_n 3, 1) := dk_45 (dk_at dksX3_ofLoadNow_2 10 rfl rfl)
theorem dX3_ofLoadNow_57 : decode cX3_ofLoadNow 57 = .ok (.getfield 196, 3) := dk_180 0 196 (dk_at dksX3_ofLoadNow_2 11 rfl rfl)
theorem dX3_ofLoadNow_60 : decode cX3_ofLoadNow 60 = .ok (.iastore, 1) := dk_79 (dk_at dksX3_ofLoadNow_2 14 rfl rfl)
theorem dX3_ofLoadNow_61 : decode cX3_ofLoadNow 61 = .ok (.dup, 1) := dk_89 (dk_at dksX3_ofLoadNow_2 15 rfl rfl)
theorem dX3_ofLoadNow_62 : decode cX3_ofLoadNow 62 = .ok (.bipush 6, 2) := dk_16 6 (dk_at dksX3_ofLoadNow_2 16 rfl rfl)
theorem dX3_ofLoadNow_64 : decode cX3_ofLoadNow 64 = .ok (.aload_n 3, 1) := dk_45 (dk_at dksX3_ofLoadNow_2 18 rfl rfl)
theorem dX3_ofLoadNow_65 : decode cX3_ofLoadNow 65 = .ok (.getfield 199, 3) := dk_180 0 199 (dk_at dksX3_ofLoadNow_2 19 rfl rfl)
theorem dX3_ofLoadNow_68 : decode cX3_ofLoadNow 68 = .ok (.iastore, 1) := dk_79 (dk_at dksX3_ofLoadNow_2 22 rfl rfl)
theorem dX3_ofLoadNow_69 : decode cX3_ofLoadNow 69 = .ok (.astore 4, 2) := dk_58 4 (dk_at dksX3_ofLoadNow_3 0 rfl rfl)
theorem dX3_ofLoadNow_71 : decode cX3_ofLoadNow 71 = .ok (.aload 4, 2) := dk_25 4 (dk_at dksX3_ofLoadNow_3 2 rfl rfl)
theorem dX3_ofLoadNow_73 : decode cX3_ofLoadNow 73 = .ok (.iload_n 2, 1) := dk_28 (dk_at dksX3_ofLoadNow_3 4 rfl rfl)
theorem dX3_ofLoadNow_74 : decode cX3_ofLoadNow 74 = .ok (.iaload, 1) := dk_46 (dk_at dksX3_ofLoadNow_3 5 rfl rfl)
theorem dX3_ofLoadNow_75 : decode cX3_ofLoadNow 75 = .ok (.ireturn, 1) := dk_172 (dk_at dksX3_ofLoadNow_3 6 rfl rfl)
abbrev cX3_ofTruck : ByteArray := prog_7_method_32_code
def yX3_ofTruck : MethodName := ⟨RX3, "ofTruck", "(II)I"⟩
def dkwX3_ofTruck_1 : List UInt8 := [167, 0, 4, 3, 5, 182, 0, 33, 153, 0, 7, 3, 167, 0, 9, 42, 27, 28, 182, 0, 211, 172]
abbrev dktX3_ofTruck_1 : List UInt8 := dkwX3_ofTruck_1 ++ []
def dkwX3_ofTruck_0 : List UInt8 := [42, 42, 27, 182, 0, 125, 4, 182, 0, 61, 154, 0, 25, 42, 28, 3, 6, 184, 0, 37, 154, 0, 7, 4]
abbrev dktX3_ofTruck_0 : List UInt8 := dkwX3_ofTruck_0 ++ dktX3_ofTruck_1
theorem dksX3_ofTruck_0 : cX3_ofTruck.data.toList.drop 0 = dktX3_ofTruck_0 := by decide +kernel
theorem dksX3_ofTruck_1 : cX3_ofTruck.data.toList.drop 24 = dktX3_ofTruck_1 := dk_seg dksX3_ofTruck_0 24 rfl rfl
theorem dX3_ofTruck_0 : decode cX3_ofTruck 0 = .ok (.aload_n 0, 1) := dk_42 (dk_at dksX3_ofTruck_0 0 rfl rfl)
theorem dX3_ofTruck_1 : decode cX3_ofTruck 1 = .ok (.aload_n 0, 1) := dk_42 (dk_at dksX3_ofTruck_0 1 rfl rfl)
theorem dX3_ofTruck_2 : decode cX3_ofTruck 2 = .ok (.iload_n 1, 1) := dk_27 (dk_at dksX3_ofTruck_0 2 rfl rfl)
theorem dX3_ofTruck_3 : decode cX3_ofTruck 3 = .ok (.invokevirtual 125, 3) := dk_182 0 125 (dk_at dksX3_ofTruck_0 3 rfl rfl)
theorem dX3_ofTruck_6 : decode cX3_ofTruck 6 = .ok (.iconst 1, 1) := dk_4 (dk_at dksX3_ofTruck_0 6 rfl rfl)
theorem dX3_ofTruck_7 : decode cX3_ofTruck 7 = .ok (.invokevirtual 61, 3) := dk_182 0 61 (dk_at dksX3_ofTruck_0 7 rfl rfl)
theorem dX3_ofTruck_10 : decode cX3_ofTruck 10 = .ok (.ifCond .ne 25, 3) := dk_154 0 25 (dk_at dksX3_ofTruck_0 10 rfl rfl)
theorem dX3_ofTruck_13 : decode cX3_ofTruck 13 = .ok (.aload_n 0, 1) := dk_42 (dk_at dksX3_ofTruck_0 13 rfl rfl)
theorem dX3_ofTruck_14 : decode cX3_ofTruck 14 = .ok (.iload_n 2, 1) := dk_28 (dk_at dksX3_ofTruck_0 14 rfl rfl)
theorem dX3_ofTruck_15 : decode cX3_ofTruck 15 = .ok (.iconst 0, 1) := dk_3 (dk_at dksX3_ofTruck_0 15 rfl rfl)
theorem dX3_ofTruck_16 : decode cX3_ofTruck 16 = .ok (.iconst 3, 1) := dk_6 (dk_at dksX3_ofTruck_0 16 rfl rfl)
theorem dX3_ofTruck_17 : decode cX3_ofTruck 17 = .ok (.invokestatic 37, 3) := dk_184 0 37 (dk_at dksX3_ofTruck_0 17 rfl rfl)
theorem dX3_ofTruck_20 : decode cX3_ofTruck 20 = .ok (.ifCond .ne 7, 3) := dk_154 0 7 (dk_at dksX3_ofTruck_0 20 rfl rfl)
theorem dX3_ofTruck_23 : decode cX3_ofTruck 23 = .ok (.iconst 1, 1) := dk_4 (dk_at dksX3_ofTruck_0 23 rfl rfl)
theorem dX3_ofTruck_24 : decode cX3_ofTruck 24 = .ok (.goto 4, 3) := dk_167 0 4 (dk_at dksX3_ofTruck_1 0 rfl rfl)
theorem dX3_ofTruck_27 : decode cX3_ofTruck 27 = .ok (.iconst 0, 1) := dk_3 (dk_at dksX3_ofTruck_1 3 rfl rfl)
theorem dX3_ofTruck_28 : decode cX3_ofTruck 28 = .ok (.iconst 2, 1) := dk_5 (dk_at dksX3_ofTruck_1 4 rfl rfl)
theorem dX3_ofTruck_29 : decode cX3_ofTruck 29 = .ok (.invokevirtual 33, 3) := dk_182 0 33 (dk_at dksX3_ofTruck_1 5 rfl rfl)
theorem dX3_ofTruck_32 : decode cX3_ofTruck 32 = .ok (.ifCond .eq 7, 3) := dk_153 0 7 (dk_at dksX3_ofTruck_1 8 rfl rfl)
theorem dX3_ofTruck_35 : decode cX3_ofTruck 35 = .ok (.iconst 0, 1) := dk_3 (dk_at dksX3_ofTruck_1 11 rfl rfl)
theorem dX3_ofTruck_36 : decode cX3_ofTruck 36 = .ok (.goto 9, 3) := dk_167 0 9 (dk_at dksX3_ofTruck_1 12 rfl rfl)
theorem dX3_ofTruck_39 : decode cX3_ofTruck 39 = .ok (.aload_n 0, 1) := dk_42 (dk_at dksX3_ofTruck_1 15 rfl rfl)
theorem dX3_ofTruck_40 : decode cX3_ofTruck 40 = .ok (.iload_n 1, 1) := dk_27 (dk_at dksX3_ofTruck_1 16 rfl rfl)
theorem dX3_ofTruck_41 : decode cX3_ofTruck 41 = .ok (.iload_n 2, 1) := dk_28 (dk_at dksX3_ofTruck_1 17 rfl rfl)
theorem dX3_ofTruck_42 : decode cX3_ofTruck 42 = .ok (.invokevirtual 211, 3) := dk_182 0 211 (dk_at dksX3_ofTruck_1 18 rfl rfl)
theorem dX3_ofTruck_45 : decode cX3_ofTruck 45 = .ok (.ireturn, 1) := dk_172 (dk_at dksX3_ofTruck_1 21 rfl rfl)
abbrev cX3_ofTruckNow : ByteArray := prog_7_method_31_code
def yX3_ofTruckNow : MethodName := ⟨RX3, "ofTruckNow", "(II)I"⟩
def dkwX3_ofTruckNow_2 : List UInt8 := [167, 0, 7, 45, 180, 0, 137, 172]
abbrev dktX3_ofTruckNow_2 : List UInt8 := dkwX3_ofTruckNow_2 ++ []
def dkwX3_ofTruckNow_1 : List UInt8 := [167, 0, 31, 28, 4, 160, 0, 10, 45, 180, 0, 131, 167, 0, 19, 28, 5, 160, 0, 10, 45, 180, 0, 208]
abbrev dktX3_ofTruckNow_1 : List UInt8 := dkwX3_ofTruckNow_1 ++ dktX3_ofTruckNow_2
def dkwX3_ofTruckNow_0 : List UInt8 := [42, 180, 0, 19, 180, 0, 51, 27, 182, 0, 79, 192, 0, 73, 78, 28, 154, 0, 10, 45, 180, 0, 128]
abbrev dktX3_ofTruckNow_0 : List UInt8 := dkwX3_ofTruckNow_0 ++ dktX3_ofTruckNow_1
theorem dksX3_ofTruckNow_0 : cX3_ofTruckNow.data.toList.drop 0 = dktX3_ofTruckNow_0 := by decide +kernel
theorem dksX3_ofTruckNow_1 : cX3_ofTruckNow.data.toList.drop 23 = dktX3_ofTruckNow_1 := dk_seg dksX3_ofTruckNow_0 23 rfl rfl
theorem dksX3_ofTruckNow_2 : cX3_ofTruckNow.data.toList.drop 47 = dktX3_ofTruckNow_2 := dk_seg dksX3_ofTruckNow_1 24 rfl rfl
theorem dX3_ofTruckNow_0 : decode cX3_ofTruckNow 0 = .ok (.aload_n 0, 1) := dk_42 (dk_at dksX3_ofTruckNow_0 0 rfl rfl)
theorem dX3_ofTruckNow_1 : decode cX3_ofTruckNow 1 = .ok (.getfield 19, 3) := dk_180 0 19 (dk_at dksX3_ofTruckNow_0 1 rfl rfl)
theorem dX3_ofTruckNow_4 : decode cX3_ofTruckNow 4 = .ok (.getfield 51, 3) := dk_180 0 51 (dk_at dksX3_ofTruckNow_0 4 rfl rfl)
theorem dX3_ofTruckNow_7 : decode cX3_ofTruckNow 7 = .ok (.iload_n 1, 1) := dk_27 (dk_at dksX3_ofTruckNow_0 7 rfl rfl)
theorem dX3_ofTruckNow_8 : decode cX3_ofTruckNow 8 = .ok (.invokevirtual 79, 3) := dk_182 0 79 (dk_at dksX3_ofTruckNow_0 8 rfl rfl)
theorem dX3_ofTruckNow_11 : decode cX3_ofTruckNow 11 = .ok (.checkcast 73, 3) := dk_192 0 73 (dk_at dksX3_ofTruckNow_0 11 rfl rfl)
theorem dX3_ofTruckNow_14 : decode cX3_ofTruckNow 14 = .ok (.astore_n 3, 1) := dk_78 (dk_at dksX3_ofTruckNow_0 14 rfl rfl)
theorem dX3_ofTruckNow_15 : decode cX3_ofTruckNow 15 = .ok (.iload_n 2, 1) := dk_28 (dk_at dksX3_ofTruckNow_0 15 rfl rfl)
theorem dX3_ofTruckNow_16 : decode cX3_ofTruckNow 16 = .ok (.ifCond .ne 10, 3) := dk_154 0 10 (dk_at dksX3_ofTruckNow_0 16 rfl rfl)
theorem dX3_ofTruckNow_19 : decode cX3_ofTruckNow 19 = .ok (.aload_n 3, 1) := dk_45 (dk_at dksX3_ofTruckNow_0 19 rfl rfl)
theorem dX3_ofTruckNow_20 : decode cX3_ofTruckNow 20 = .ok (.getfield 128, 3) := dk_180 0 128 (dk_at dksX3_ofTruckNow_0 20 rfl rfl)
theorem dX3_ofTruckNow_23 : decode cX3_ofTruckNow 23 = .ok (.goto 31, 3) := dk_167 0 31 (dk_at dksX3_ofTruckNow_1 0 rfl rfl)
theorem dX3_ofTruckNow_26 : decode cX3_ofTruckNow 26 = .ok (.iload_n 2, 1) := dk_28 (dk_at dksX3_ofTruckNow_1 3 rfl rfl)
theorem dX3_ofTruckNow_27 : decode cX3_ofTruckNow 27 = .ok (.iconst 1, 1) := dk_4 (dk_at dksX3_ofTruckNow_1 4 rfl rfl)
theorem dX3_ofTruckNow_28 : decode cX3_ofTruckNow 28 = .ok (.if_icmp .ne 10, 3) := dk_160 0 10 (dk_at dksX3_ofTruckNow_1 5 rfl rfl)
theorem dX3_ofTruckNow_31 : decode cX3_ofTruckNow 31 = .ok (.aload_n 3, 1) := dk_45 (dk_at dksX3_ofTruckNow_1 8 rfl rfl)
theorem dX3_ofTruckNow_32 : decode cX3_ofTruckNow 32 = .ok (.getfield 131, 3) := dk_180 0 131 (dk_at dksX3_ofTruckNow_1 9 rfl rfl)
theorem dX3_ofTruckNow_35 : decode cX3_ofTruckNow 35 = .ok (.goto 19, 3) := dk_167 0 19 (dk_at dksX3_ofTruckNow_1 12 rfl rfl)
theorem dX3_ofTruckNow_38 : decode cX3_ofTruckNow 38 = .ok (.iload_n 2, 1) := dk_28 (dk_at dksX3_ofTruckNow_1 15 rfl rfl)
theorem dX3_ofTruckNow_39 : decode cX3_ofTruckNow 39 = .ok (.iconst 2, 1) := dk_5 (dk_at dksX3_ofTruckNow_1 16 rfl rfl)
theorem dX3_ofTruckNow_40 : decode cX3_ofTruckNow 40 = .ok (.if_icmp .ne 10, 3) := dk_160 0 10 (dk_at dksX3_ofTruckNow_1 17 rfl rfl)
theorem dX3_ofTruckNow_43 : decode cX3_ofTruckNow 43 = .ok (.aload_n 3, 1) := dk_45 (dk_at dksX3_ofTruckNow_1 20 rfl rfl)
theorem dX3_ofTruckNow_44 : decode cX3_ofTruckNow 44 = .ok (.getfield 208, 3) := dk_180 0 208 (dk_at dksX3_ofTruckNow_1 21 rfl rfl)
theorem dX3_ofTruckNow_47 : decode cX3_ofTruckNow 47 = .ok (.goto 7, 3) := dk_167 0 7 (dk_at dksX3_ofTruckNow_2 0 rfl rfl)
theorem dX3_ofTruckNow_50 : decode cX3_ofTruckNow 50 = .ok (.aload_n 3, 1) := dk_45 (dk_at dksX3_ofTruckNow_2 3 rfl rfl)
theorem dX3_ofTruckNow_51 : decode cX3_ofTruckNow 51 = .ok (.getfield 137, 3) := dk_180 0 137 (dk_at dksX3_ofTruckNow_2 4 rfl rfl)
theorem dX3_ofTruckNow_54 : decode cX3_ofTruckNow 54 = .ok (.ireturn, 1) := dk_172 (dk_at dksX3_ofTruckNow_2 7 rfl rfl)
abbrev cX3_ofGrower : ByteArray := prog_7_method_34_code
def yX3_ofGrower : MethodName := ⟨RX3, "ofGrower", "(II)I"⟩
def dkwX3_ofGrower_1 : List UInt8 := [167, 0, 4, 3, 5, 182, 0, 33, 153, 0, 7, 3, 167, 0, 9, 42, 27, 28, 182, 0, 220, 172]
abbrev dktX3_ofGrower_1 : List UInt8 := dkwX3_ofGrower_1 ++ []
def dkwX3_ofGrower_0 : List UInt8 := [42, 27, 184, 0, 57, 4, 182, 0, 61, 154, 0, 25, 42, 28, 3, 6, 184, 0, 37, 154, 0, 7, 4]
abbrev dktX3_ofGrower_0 : List UInt8 := dkwX3_ofGrower_0 ++ dktX3_ofGrower_1
theorem dksX3_ofGrower_0 : cX3_ofGrower.data.toList.drop 0 = dktX3_ofGrower_0 := by decide +kernel
theorem dksX3_ofGrower_1 : cX3_ofGrower.data.toList.drop 23 = dktX3_ofGrower_1 := dk_seg dksX3_ofGrower_0 23 rfl rfl
theorem dX3_ofGrower_0 : decode cX3_ofGrower 0 = .ok (.aload_n 0, 1) := dk_42 (dk_at dksX3_ofGrower_0 0 rfl rfl)
theorem dX3_ofGrower_1 : decode cX3_ofGrower 1 = .ok (.iload_n 1, 1) := dk_27 (dk_at dksX3_ofGrower_0 1 rfl rfl)
theorem dX3_ofGrower_2 : decode cX3_ofGrower 2 = .ok (.invokestatic 57, 3) := dk_184 0 57 (dk_at dksX3_ofGrower_0 2 rfl rfl)
theorem dX3_ofGrower_5 : decode cX3_ofGrower 5 = .ok (.iconst 1, 1) := dk_4 (dk_at dksX3_ofGrower_0 5 rfl rfl)
theorem dX3_ofGrower_6 : decode cX3_ofGrower 6 = .ok (.invokevirtual 61, 3) := dk_182 0 61 (dk_at dksX3_ofGrower_0 6 rfl rfl)
theorem dX3_ofGrower_9 : decode cX3_ofGrower 9 = .ok (.ifCond .ne 25, 3) := dk_154 0 25 (dk_at dksX3_ofGrower_0 9 rfl rfl)
theorem dX3_ofGrower_12 : decode cX3_ofGrower 12 = .ok (.aload_n 0, 1) := dk_42 (dk_at dksX3_ofGrower_0 12 rfl rfl)
theorem dX3_ofGrower_13 : decode cX3_ofGrower 13 = .ok (.iload_n 2, 1) := dk_28 (dk_at dksX3_ofGrower_0 13 rfl rfl)
theorem dX3_ofGrower_14 : decode cX3_ofGrower 14 = .ok (.iconst 0, 1) := dk_3 (dk_at dksX3_ofGrower_0 14 rfl rfl)
theorem dX3_ofGrower_15 : decode cX3_ofGrower 15 = .ok (.iconst 3, 1) := dk_6 (dk_at dksX3_ofGrower_0 15 rfl rfl)
theorem dX3_ofGrower_16 : decode cX3_ofGrower 16 = .ok (.invokestatic 37, 3) := dk_184 0 37 (dk_at dksX3_ofGrower_0 16 rfl rfl)
theorem dX3_ofGrower_19 : decode cX3_ofGrower 19 = .ok (.ifCond .ne 7, 3) := dk_154 0 7 (dk_at dksX3_ofGrower_0 19 rfl rfl)
theorem dX3_ofGrower_22 : decode cX3_ofGrower 22 = .ok (.iconst 1, 1) := dk_4 (dk_at dksX3_ofGrower_0 22 rfl rfl)
theorem dX3_ofGrower_23 : decode cX3_ofGrower 23 = .ok (.goto 4, 3) := dk_167 0 4 (dk_at dksX3_ofGrower_1 0 rfl rfl)
theorem dX3_ofGrower_26 : decode cX3_ofGrower 26 = .ok (.iconst 0, 1) := dk_3 (dk_at dksX3_ofGrower_1 3 rfl rfl)
theorem dX3_ofGrower_27 : decode cX3_ofGrower 27 = .ok (.iconst 2, 1) := dk_5 (dk_at dksX3_ofGrower_1 4 rfl rfl)
theorem dX3_ofGrower_28 : decode cX3_ofGrower 28 = .ok (.invokevirtual 33, 3) := dk_182 0 33 (dk_at dksX3_ofGrower_1 5 rfl rfl)
theorem dX3_ofGrower_31 : decode cX3_ofGrower 31 = .ok (.ifCond .eq 7, 3) := dk_153 0 7 (dk_at dksX3_ofGrower_1 8 rfl rfl)
theorem dX3_ofGrower_34 : decode cX3_ofGrower 34 = .ok (.iconst 0, 1) := dk_3 (dk_at dksX3_ofGrower_1 11 rfl rfl)
theorem dX3_ofGrower_35 : decode cX3_ofGrower 35 = .ok (.goto 9, 3) := dk_167 0 9 (dk_at dksX3_ofGrower_1 12 rfl rfl)
theorem dX3_ofGrower_38 : decode cX3_ofGrower 38 = .ok (.aload_n 0, 1) := dk_42 (dk_at dksX3_ofGrower_1 15 rfl rfl)
theorem dX3_ofGrower_39 : decode cX3_ofGrower 39 = .ok (.iload_n 1, 1) := dk_27 (dk_at dksX3_ofGrower_1 16 rfl rfl)
theorem dX3_ofGrower_40 : decode cX3_ofGrower 40 = .ok (.iload_n 2, 1) := dk_28 (dk_at dksX3_ofGrower_1 17 rfl rfl)
theorem dX3_ofGrower_41 : decode cX3_ofGrower 41 = .ok (.invokevirtual 220, 3) := dk_182 0 220 (dk_at dksX3_ofGrower_1 18 rfl rfl)
theorem dX3_ofGrower_44 : decode cX3_ofGrower 44 = .ok (.ireturn, 1) := dk_172 (dk_at dksX3_ofGrower_1 21 rfl rfl)
abbrev cX3_ofGrowerNow : ByteArray := prog_7_method_33_code
def yX3_ofGrowerNow : MethodName := ⟨RX3, "ofGrowerNow", "(II)I"⟩
def dkwX3_ofGrowerNow_2 : List UInt8 := [46, 167, 0, 9, 42, 180, 0, 25, 27, 46, 172]
abbrev dktX3_ofGrowerNow_2 : List UInt8 := dkwX3_ofGrowerNow_2 ++ []
def dkwX3_ofGrowerNow_1 : List UInt8 := [180, 0, 19, 180, 0, 217, 27, 46, 167, 0, 26, 28, 5, 160, 0, 15, 42, 180, 0, 19, 180, 0, 159, 27]
abbrev dktX3_ofGrowerNow_1 : List UInt8 := dkwX3_ofGrowerNow_1 ++ dktX3_ofGrowerNow_2
def dkwX3_ofGrowerNow_0 : List UInt8 := [28, 154, 0, 15, 42, 180, 0, 19, 180, 0, 214, 27, 46, 167, 0, 43, 28, 4, 160, 0, 15, 42]
abbrev dktX3_ofGrowerNow_0 : List UInt8 := dkwX3_ofGrowerNow_0 ++ dktX3_ofGrowerNow_1
theorem dksX3_ofGrowerNow_0 : cX3_ofGrowerNow.data.toList.drop 0 = dktX3_ofGrowerNow_0 := by decide +kernel
theorem dksX3_ofGrowerNow_1 : cX3_ofGrowerNow.data.toList.drop 22 = dktX3_ofGrowerNow_1 := dk_seg dksX3_ofGrowerNow_0 22 rfl rfl
theorem dksX3_ofGrowerNow_2 : cX3_ofGrowerNow.data.toList.drop 46 = dktX3_ofGrowerNow_2 := dk_seg dksX3_ofGrowerNow_1 24 rfl rfl
theorem dX3_ofGrowerNow_0 : decode cX3_ofGrowerNow 0 = .ok (.iload_n 2, 1) := dk_28 (dk_at dksX3_ofGrowerNow_0 0 rfl rfl)
theorem dX3_ofGrowerNow_1 : decode cX3_ofGrowerNow 1 = .ok (.ifCond .ne 15, 3) := dk_154 0 15 (dk_at dksX3_ofGrowerNow_0 1 rfl rfl)
theorem dX3_ofGrowerNow_4 : decode cX3_ofGrowerNow 4 = .ok (.aload_n 0, 1) := dk_42 (dk_at dksX3_ofGrowerNow_0 4 rfl rfl)
theorem dX3_ofGrowerNow_5 : decode cX3_ofGrowerNow 5 = .ok (.getfield 19, 3) := dk_180 0 19 (dk_at dksX3_ofGrowerNow_0 5 rfl rfl)
theorem dX3_ofGrowerNow_8 : decode cX3_ofGrowerNow 8 = .ok (.getfield 214, 3) := dk_180 0 214 (dk_at dksX3_ofGrowerNow_0 8 rfl rfl)
theorem dX3_ofGrowerNow_11 : decode cX3_ofGrowerNow 11 = .ok (.iload_n 1, 1) := dk_27 (dk_at dksX3_ofGrowerNow_0 11 rfl rfl)
theorem dX3_ofGrowerNow_12 : decode cX3_ofGrowerNow 12 = .ok (.iaload, 1) := dk_46 (dk_at dksX3_ofGrowerNow_0 12 rfl rfl)
theorem dX3_ofGrowerNow_13 : decode cX3_ofGrowerNow 13 = .ok (.goto 43, 3) := dk_167 0 43 (dk_at dksX3_ofGrowerNow_0 13 rfl rfl)
theorem dX3_ofGrowerNow_16 : decode cX3_ofGrowerNow 16 = .ok (.iload_n 2, 1) := dk_28 (dk_at dksX3_ofGrowerNow_0 16 rfl rfl)
theorem dX3_ofGrowerNow_17 : decode cX3_ofGrowerNow 17 = .ok (.iconst 1, 1) := dk_4 (dk_at dksX3_ofGrowerNow_0 17 rfl rfl)
theorem dX3_ofGrowerNow_18 : decode cX3_ofGrowerNow 18 = .ok (.if_icmp .ne 15, 3) := dk_160 0 15 (dk_at dksX3_ofGrowerNow_0 18 rfl rfl)
theorem dX3_ofGrowerNow_21 : decode cX3_ofGrowerNow 21 = .ok (.aload_n 0, 1) := dk_42 (dk_at dksX3_ofGrowerNow_0 21 rfl rfl)
theorem dX3_ofGrowerNow_22 : decode cX3_ofGrowerNow 22 = .ok (.getfield 19, 3) := dk_180 0 19 (dk_at dksX3_ofGrowerNow_1 0 rfl rfl)
theorem dX3_ofGrowerNow_25 : decode cX3_ofGrowerNow 25 = .ok (.getfield 217, 3) := dk_180 0 217 (dk_at dksX3_ofGrowerNow_1 3 rfl rfl)
theorem dX3_ofGrowerNow_28 : decode cX3_ofGrowerNow 28 = .ok (.iload_n 1, 1) := dk_27 (dk_at dksX3_ofGrowerNow_1 6 rfl rfl)
theorem dX3_ofGrowerNow_29 : decode cX3_ofGrowerNow 29 = .ok (.iaload, 1) := dk_46 (dk_at dksX3_ofGrowerNow_1 7 rfl rfl)
theorem dX3_ofGrowerNow_30 : decode cX3_ofGrowerNow 30 = .ok (.goto 26, 3) := dk_167 0 26 (dk_at dksX3_ofGrowerNow_1 8 rfl rfl)
theorem dX3_ofGrowerNow_33 : decode cX3_ofGrowerNow 33 = .ok (.iload_n 2, 1) := dk_28 (dk_at dksX3_ofGrowerNow_1 11 rfl rfl)
theorem dX3_ofGrowerNow_34 : decode cX3_ofGrowerNow 34 = .ok (.iconst 2, 1) := dk_5 (dk_at dksX3_ofGrowerNow_1 12 rfl rfl)
theorem dX3_ofGrowerNow_35 : decode cX3_ofGrowerNow 35 = .ok (.if_icmp .ne 15, 3) := dk_160 0 15 (dk_at dksX3_ofGrowerNow_1 13 rfl rfl)
theorem dX3_ofGrowerNow_38 : decode cX3_ofGrowerNow 38 = .ok (.aload_n 0, 1) := dk_42 (dk_at dksX3_ofGrowerNow_1 16 rfl rfl)
theorem dX3_ofGrowerNow_39 : decode cX3_ofGrowerNow 39 = .ok (.getfield 19, 3) := dk_180 0 19 (dk_at dksX3_ofGrowerNow_1 17 rfl rfl)
theorem dX3_ofGrowerNow_42 : decode cX3_ofGrowerNow 42 = .ok (.getfield 159, 3) := dk_180 0 159 (dk_at dksX3_ofGrowerNow_1 20 rfl rfl)
theorem dX3_ofGrowerNow_45 : decode cX3_ofGrowerNow 45 = .ok (.iload_n 1, 1) := dk_27 (dk_at dksX3_ofGrowerNow_1 23 rfl rfl)
theorem dX3_ofGrowerNow_46 : decode cX3_ofGrowerNow 46 = .ok (.iaload, 1) := dk_46 (dk_at dksX3_ofGrowerNow_2 0 rfl rfl)
theorem dX3_ofGrowerNow_47 : decode cX3_ofGrowerNow 47 = .ok (.goto 9, 3) := dk_167 0 9 (dk_at dksX3_ofGrowerNow_2 1 rfl rfl)
theorem dX3_ofGrowerNow_50 : decode cX3_ofGrowerNow 50 = .ok (.aload_n 0, 1) := dk_42 (dk_at dksX3_ofGrowerNow_2 4 rfl rfl)
theorem dX3_ofGrowerNow_51 : decode cX3_ofGrowerNow 51 = .ok (.getfield 25, 3) := dk_180 0 25 (dk_at dksX3_ofGrowerNow_2 5 rfl rfl)
theorem dX3_ofGrowerNow_54 : decode cX3_ofGrowerNow 54 = .ok (.iload_n 1, 1) := dk_27 (dk_at dksX3_ofGrowerNow_2 8 rfl rfl)
theorem dX3_ofGrowerNow_55 : decode cX3_ofGrowerNow 55 = .ok (.iaload, 1) := dk_46 (dk_at dksX3_ofGrowerNow_2 9 rfl rfl)
theorem dX3_ofGrowerNow_56 : decode cX3_ofGrowerNow 56 = .ok (.ireturn, 1) := dk_172 (dk_at dksX3_ofGrowerNow_2 10 rfl rfl)
abbrev cX3_many : ByteArray := prog_7_method_36_code
def yX3_many : MethodName := ⟨RX3, "many", "(I)I"⟩
def dkwX3_many_1 : List UInt8 := [167, 0, 8, 42, 27, 182, 0, 238, 172]
abbrev dktX3_many_1 : List UInt8 := dkwX3_many_1 ++ []
def dkwX3_many_0 : List UInt8 := [42, 27, 3, 16, 19, 184, 0, 37, 154, 0, 7, 4, 167, 0, 4, 3, 4, 182, 0, 61, 153, 0, 7, 3]
abbrev dktX3_many_0 : List UInt8 := dkwX3_many_0 ++ dktX3_many_1
theorem dksX3_many_0 : cX3_many.data.toList.drop 0 = dktX3_many_0 := by decide +kernel
theorem dksX3_many_1 : cX3_many.data.toList.drop 24 = dktX3_many_1 := dk_seg dksX3_many_0 24 rfl rfl
theorem dX3_many_0 : decode cX3_many 0 = .ok (.aload_n 0, 1) := dk_42 (dk_at dksX3_many_0 0 rfl rfl)
theorem dX3_many_1 : decode cX3_many 1 = .ok (.iload_n 1, 1) := dk_27 (dk_at dksX3_many_0 1 rfl rfl)
theorem dX3_many_2 : decode cX3_many 2 = .ok (.iconst 0, 1) := dk_3 (dk_at dksX3_many_0 2 rfl rfl)
theorem dX3_many_3 : decode cX3_many 3 = .ok (.bipush 19, 2) := dk_16 19 (dk_at dksX3_many_0 3 rfl rfl)
theorem dX3_many_5 : decode cX3_many 5 = .ok (.invokestatic 37, 3) := dk_184 0 37 (dk_at dksX3_many_0 5 rfl rfl)
theorem dX3_many_8 : decode cX3_many 8 = .ok (.ifCond .ne 7, 3) := dk_154 0 7 (dk_at dksX3_many_0 8 rfl rfl)
theorem dX3_many_11 : decode cX3_many 11 = .ok (.iconst 1, 1) := dk_4 (dk_at dksX3_many_0 11 rfl rfl)
theorem dX3_many_12 : decode cX3_many 12 = .ok (.goto 4, 3) := dk_167 0 4 (dk_at dksX3_many_0 12 rfl rfl)
theorem dX3_many_15 : decode cX3_many 15 = .ok (.iconst 0, 1) := dk_3 (dk_at dksX3_many_0 15 rfl rfl)
theorem dX3_many_16 : decode cX3_many 16 = .ok (.iconst 1, 1) := dk_4 (dk_at dksX3_many_0 16 rfl rfl)
theorem dX3_many_17 : decode cX3_many 17 = .ok (.invokevirtual 61, 3) := dk_182 0 61 (dk_at dksX3_many_0 17 rfl rfl)
theorem dX3_many_20 : decode cX3_many 20 = .ok (.ifCond .eq 7, 3) := dk_153 0 7 (dk_at dksX3_many_0 20 rfl rfl)
theorem dX3_many_23 : decode cX3_many 23 = .ok (.iconst 0, 1) := dk_3 (dk_at dksX3_many_0 23 rfl rfl)
theorem dX3_many_24 : decode cX3_many 24 = .ok (.goto 8, 3) := dk_167 0 8 (dk_at dksX3_many_1 0 rfl rfl)
theorem dX3_many_27 : decode cX3_many 27 = .ok (.aload_n 0, 1) := dk_42 (dk_at dksX3_many_1 3 rfl rfl)
theorem dX3_many_28 : decode cX3_many 28 = .ok (.iload_n 1, 1) := dk_27 (dk_at dksX3_many_1 4 rfl rfl)
theorem dX3_many_29 : decode cX3_many 29 = .ok (.invokevirtual 238, 3) := dk_182 0 238 (dk_at dksX3_many_1 5 rfl rfl)
theorem dX3_many_32 : decode cX3_many 32 = .ok (.ireturn, 1) := dk_172 (dk_at dksX3_many_1 8 rfl rfl)
abbrev cX3_manyNow : ByteArray := prog_7_method_35_code
def yX3_manyNow : MethodName := ⟨RX3, "manyNow", "(I)I"⟩
def dkwX3_manyNow_8 : List UInt8 := [42, 180, 0, 19, 180, 0, 235, 79, 89, 16, 19, 42, 180, 0, 105, 79, 78, 45, 27, 46, 172]
abbrev dktX3_manyNow_8 : List UInt8 := dkwX3_manyNow_8 ++ []
def dkwX3_manyNow_7 : List UInt8 := [16, 16, 42, 180, 0, 19, 180, 0, 232, 79, 89, 16, 17, 42, 180, 0, 19, 180, 0, 156, 79, 89, 16, 18]
abbrev dktX3_manyNow_7 : List UInt8 := dkwX3_manyNow_7 ++ dktX3_manyNow_8
def dkwX3_manyNow_6 : List UInt8 := [16, 13, 44, 8, 46, 79, 89, 16, 14, 44, 16, 6, 46, 79, 89, 16, 15, 44, 16, 7, 46, 79, 89]
abbrev dktX3_manyNow_6 : List UInt8 := dkwX3_manyNow_6 ++ dktX3_manyNow_7
def dkwX3_manyNow_5 : List UInt8 := [46, 79, 89, 16, 10, 44, 5, 46, 79, 89, 16, 11, 44, 6, 46, 79, 89, 16, 12, 44, 7, 46, 79, 89]
abbrev dktX3_manyNow_5 : List UInt8 := dkwX3_manyNow_5 ++ dktX3_manyNow_6
def dkwX3_manyNow_4 : List UInt8 := [79, 89, 16, 7, 42, 180, 0, 19, 180, 0, 229, 79, 89, 16, 8, 44, 3, 46, 79, 89, 16, 9, 44, 4]
abbrev dktX3_manyNow_4 : List UInt8 := dkwX3_manyNow_4 ++ dktX3_manyNow_5
def dkwX3_manyNow_3 : List UInt8 := [182, 0, 45, 79, 89, 8, 42, 180, 0, 19, 180, 0, 140, 79, 89, 16, 6, 42, 180, 0, 19, 180, 0, 226]
abbrev dktX3_manyNow_3 : List UInt8 := dkwX3_manyNow_3 ++ dktX3_manyNow_4
def dkwX3_manyNow_2 : List UInt8 := [89, 6, 42, 180, 0, 19, 180, 0, 54, 182, 0, 45, 79, 89, 7, 42, 180, 0, 19, 180, 0, 223]
abbrev dktX3_manyNow_2 : List UInt8 := dkwX3_manyNow_2 ++ dktX3_manyNow_3
def dkwX3_manyNow_1 : List UInt8 := [42, 180, 0, 19, 180, 0, 41, 182, 0, 45, 79, 89, 5, 42, 180, 0, 19, 180, 0, 51, 182, 0, 45, 79]
abbrev dktX3_manyNow_1 : List UInt8 := dkwX3_manyNow_1 ++ dktX3_manyNow_2
def dkwX3_manyNow_0 : List UInt8 := [42, 180, 0, 19, 180, 0, 153, 77, 16, 20, 188, 10, 89, 3, 42, 180, 0, 19, 180, 0, 116, 79, 89, 4]
abbrev dktX3_manyNow_0 : List UInt8 := dkwX3_manyNow_0 ++ dktX3_manyNow_1
theorem dksX3_manyNow_0 : cX3_manyNow.data.toList.drop 0 = dktX3_manyNow_0 := by decide +kernel
theorem dksX3_manyNow_1 : cX3_manyNow.data.toList.drop 24 = dktX3_manyNow_1 := dk_seg dksX3_manyNow_0 24 rfl rfl
theorem dksX3_manyNow_2 : cX3_manyNow.data.toList.drop 48 = dktX3_manyNow_2 := dk_seg dksX3_manyNow_1 24 rfl rfl
theorem dksX3_manyNow_3 : cX3_manyNow.data.toList.drop 70 = dktX3_manyNow_3 := dk_seg dksX3_manyNow_2 22 rfl rfl
theorem dksX3_manyNow_4 : cX3_manyNow.data.toList.drop 94 = dktX3_manyNow_4 := dk_seg dksX3_manyNow_3 24 rfl rfl
theorem dksX3_manyNow_5 : cX3_manyNow.data.toList.drop 118 = dktX3_manyNow_5 := dk_seg dksX3_manyNow_4 24 rfl rfl
theorem dksX3_manyNow_6 : cX3_manyNow.data.toList.drop 142 = dktX3_manyNow_6 := dk_seg dksX3_manyNow_5 24 rfl rfl
theorem dksX3_manyNow_7 : cX3_manyNow.data.toList.drop 165 = dktX3_manyNow_7 := dk_seg dksX3_manyNow_6 23 rfl rfl
theorem dksX3_manyNow_8 : cX3_manyNow.data.toList.drop 189 = dktX3_manyNow_8 := dk_seg dksX3_manyNow_7 24 rfl rfl
theorem dX3_manyNow_0 : decode cX3_manyNow 0 = .ok (.aload_n 0, 1) := dk_42 (dk_at dksX3_manyNow_0 0 rfl rfl)
theorem dX3_manyNow_1 : decode cX3_manyNow 1 = .ok (.getfield 19, 3) := dk_180 0 19 (dk_at dksX3_manyNow_0 1 rfl rfl)
theorem dX3_manyNow_4 : decode cX3_manyNow 4 = .ok (.getfield 153, 3) := dk_180 0 153 (dk_at dksX3_manyNow_0 4 rfl rfl)
theorem dX3_manyNow_7 : decode cX3_manyNow 7 = .ok (.astore_n 2, 1) := dk_77 (dk_at dksX3_manyNow_0 7 rfl rfl)
theorem dX3_manyNow_8 : decode cX3_manyNow 8 = .ok (.bipush 20, 2) := dk_16 20 (dk_at dksX3_manyNow_0 8 rfl rfl)
theorem dX3_manyNow_10 : decode cX3_manyNow 10 = .ok (.newarray .int, 2) := dk_188_10 (dk_at dksX3_manyNow_0 10 rfl rfl)
theorem dX3_manyNow_12 : decode cX3_manyNow 12 = .ok (.dup, 1) := dk_89 (dk_at dksX3_manyNow_0 12 rfl rfl)
theorem dX3_manyNow_13 : decode cX3_manyNow 13 = .ok (.iconst 0, 1) := dk_3 (dk_at dksX3_manyNow_0 13 rfl rfl)
theorem dX3_manyNow_14 : decode cX3_manyNow 14 = .ok (.aload_n 0, 1) := dk_42 (dk_at dksX3_manyNow_0 14 rfl rfl)
theorem dX3_manyNow_15 : decode cX3_manyNow 15 = .ok (.getfield 19, 3) := dk_180 0 19 (dk_at dksX3_manyNow_0 15 rfl rfl)
theorem dX3_manyNow_18 : decode cX3_manyNow 18 = .ok (.getfield 116, 3) := dk_180 0 116 (dk_at dksX3_manyNow_0 18 rfl rfl)
theorem dX3_manyNow_21 : decode cX3_manyNow 21 = .ok (.iastore, 1) := dk_79 (dk_at dksX3_manyNow_0 21 rfl rfl)
theorem dX3_manyNow_22 : decode cX3_manyNow 22 = .ok (.dup, 1) := dk_89 (dk_at dksX3_manyNow_0 22 rfl rfl)
theorem dX3_manyNow_23 : decode cX3_manyNow 23 = .ok (.iconst 1, 1) := dk_4 (dk_at dksX3_manyNow_0 23 rfl rfl)
theorem dX3_manyNow_24 : decode cX3_manyNow 24 = .ok (.aload_n 0, 1) := dk_42 (dk_at dksX3_manyNow_1 0 rfl rfl)
theorem dX3_manyNow_25 : decode cX3_manyNow 25 = .ok (.getfield 19, 3) := dk_180 0 19 (dk_at dksX3_manyNow_1 1 rfl rfl)
theorem dX3_manyNow_28 : decode cX3_manyNow 28 = .ok (.getfield 41, 3) := dk_180 0 41 (dk_at dksX3_manyNow_1 4 rfl rfl)
theorem dX3_manyNow_31 : decode cX3_manyNow 31 = .ok (.invokevirtual 45, 3) := dk_182 0 45 (dk_at dksX3_manyNow_1 7 rfl rfl)
theorem dX3_manyNow_34 : decode cX3_manyNow 34 = .ok (.iastore, 1) := dk_79 (dk_at dksX3_manyNow_1 10 rfl rfl)
theorem dX3_manyNow_35 : decode cX3_manyNow 35 = .ok (.dup, 1) := dk_89 (dk_at dksX3_manyNow_1 11 rfl rfl)
theorem dX3_manyNow_36 : decode cX3_manyNow 36 = .ok (.iconst 2, 1) := dk_5 (dk_at dksX3_manyNow_1 12 rfl rfl)
theorem dX3_manyNow_37 : decode cX3_manyNow 37 = .ok (.aload_n 0, 1) := dk_42 (dk_at dksX3_manyNow_1 13 rfl rfl)
theorem dX3_manyNow_38 : decode cX3_manyNow 38 = .ok (.getfield 19, 3) := dk_180 0 19 (dk_at dksX3_manyNow_1 14 rfl rfl)
theorem dX3_manyNow_41 : decode cX3_manyNow 41 = .ok (.getfield 51, 3) := dk_180 0 51 (dk_at dksX3_manyNow_1 17 rfl rfl)
theorem dX3_manyNow_44 : decode cX3_manyNow 44 = .ok (.invokevirtual 45, 3) := dk_182 0 45 (dk_at dksX3_manyNow_1 20 rfl rfl)
theorem dX3_manyNow_47 : decode cX3_manyNow 47 = .ok (.iastore, 1) := dk_79 (dk_at dksX3_manyNow_1 23 rfl rfl)
theorem dX3_manyNow_48 : decode cX3_manyNow 48 = .ok (.dup, 1) := dk_89 (dk_at dksX3_manyNow_2 0 rfl rfl)
theorem dX3_manyNow_49 : decode cX3_manyNow 49 = .ok (.iconst 3, 1) := dk_6 (dk_at dksX3_manyNow_2 1 rfl rfl)
theorem dX3_manyNow_50 : decode cX3_manyNow 50 = .ok (.aload_n 0, 1) := dk_42 (dk_at dksX3_manyNow_2 2 rfl rfl)
theorem dX3_manyNow_51 : decode cX3_manyNow 51 = .ok (.getfield 19, 3) := dk_180 0 19 (dk_at dksX3_manyNow_2 3 rfl rfl)
theorem dX3_manyNow_54 : decode cX3_manyNow 54 = .ok (.getfield 54, 3) := dk_180 0 54 (dk_at dksX3_manyNow_2 6 rfl rfl)
theorem dX3_manyNow_57 : decode cX3_manyNow 57 = .ok (.invokevirtual 45, 3) := dk_182 0 45 (dk_at dksX3_manyNow_2 9 rfl rfl)
theorem dX3_manyNow_60 : decode cX3_manyNow 60 = .ok (.iastore, 1) := dk_79 (dk_at dksX3_manyNow_2 12 rfl rfl)
theorem dX3_manyNow_61 : decode cX3_manyNow 61 = .ok (.dup, 1) := dk_89 (dk_at dksX3_manyNow_2 13 rfl rfl)
theorem dX3_manyNow_62 : decode cX3_manyNow 62 = .ok (.iconst 4, 1) := dk_7 (dk_at dksX3_manyNow_2 14 rfl rfl)
theorem dX3_manyNow_63 : decode cX3_manyNow 63 = .ok (.aload_n 0, 1) := dk_42 (dk_at dksX3_manyNow_2 15 rfl rfl)
theorem dX3_manyNow_64 : decode cX3_manyNow 64 = .ok (.getfield 19, 3) := dk_180 0 19 (dk_at dksX3_manyNow_2 16 rfl rfl)
theorem dX3_manyNow_67 : decode cX3_manyNow 67 = .ok (.getfield 223, 3) := dk_180 0 223 (dk_at dksX3_manyNow_2 19 rfl rfl)
theorem dX3_manyNow_70 : decode cX3_manyNow 70 = .ok (.invokevirtual 45, 3) := dk_182 0 45 (dk_at dksX3_manyNow_3 0 rfl rfl)
theorem dX3_manyNow_73 : decode cX3_manyNow 73 = .ok (.iastore, 1) := dk_79 (dk_at dksX3_manyNow_3 3 rfl rfl)
theorem dX3_manyNow_74 : decode cX3_manyNow 74 = .ok (.dup, 1) := dk_89 (dk_at dksX3_manyNow_3 4 rfl rfl)
theorem dX3_manyNow_75 : decode cX3_manyNow 75 = .ok (.iconst 5, 1) := dk_8 (dk_at dksX3_manyNow_3 5 rfl rfl)
theorem dX3_manyNow_76 : decode cX3_manyNow 76 = .ok (.aload_n 0, 1) := dk_42 (dk_at dksX3_manyNow_3 6 rfl rfl)
theorem dX3_manyNow_77 : decode cX3_manyNow 77 = .ok (.getfield 19, 3) := dk_180 0 19 (dk_at dksX3_manyNow_3 7 rfl rfl)
theorem dX3_manyNow_80 : decode cX3_manyNow 80 = .ok (.getfield 140, 3) := dk_180 0 140 (dk_at dksX3_manyNow_3 10 rfl rfl)
theorem dX3_manyNow_83 : decode cX3_manyNow 83 = .ok (.iastore, 1) := dk_79 (dk_at dksX3_manyNow_3 13 rfl rfl)
theorem dX3_manyNow_84 : decode cX3_manyNow 84 = .ok (.dup, 1) := dk_89 (dk_at dksX3_manyNow_3 14 rfl rfl)
theorem dX3_manyNow_85 : decode cX3_manyNow 85 = .ok (.bipush 6, 2) := dk_16 6 (dk_at dksX3_manyNow_3 15 rfl rfl)
theorem dX3_manyNow_87 : decode cX3_manyNow 87 = .ok (.aload_n 0, 1) := dk_42 (dk_at dksX3_manyNow_3 17 rfl rfl)
theorem dX3_manyNow_88 : decode cX3_manyNow 88 = .ok (.getfield 19, 3) := dk_180 0 19 (dk_at dksX3_manyNow_3 18 rfl rfl)
theorem dX3_manyNow_91 : decode cX3_manyNow 91 = .ok (.getfield 226, 3) := dk_180 0 226 (dk_at dksX3_manyNow_3 21 rfl rfl)
theorem dX3_manyNow_94 : decode cX3_manyNow 94 = .ok (.iastore, 1) := dk_79 (dk_at dksX3_manyNow_4 0 rfl rfl)
theorem dX3_manyNow_95 : decode cX3_manyNow 95 = .ok (.dup, 1) := dk_89 (dk_at dksX3_manyNow_4 1 rfl rfl)
theorem dX3_manyNow_96 : decode cX3_manyNow 96 = .ok (.bipush 7, 2) := dk_16 7 (dk_at dksX3_manyNow_4 2 rfl rfl)
theorem dX3_manyNow_98 : decode cX3_manyNow 98 = .ok (.aload_n 0, 1) := dk_42 (dk_at dksX3_manyNow_4 4 rfl rfl)
theorem dX3_manyNow_99 : decode cX3_manyNow 99 = .ok (.getfield 19, 3) := dk_180 0 19 (dk_at dksX3_manyNow_4 5 rfl rfl)
theorem dX3_manyNow_102 : decode cX3_manyNow 102 = .ok (.getfield 229, 3) := dk_180 0 229 (dk_at dksX3_manyNow_4 8 rfl rfl)
theorem dX3_manyNow_105 : decode cX3_manyNow 105 = .ok (.iastore, 1) := dk_79 (dk_at dksX3_manyNow_4 11 rfl rfl)
theorem dX3_manyNow_106 : decode cX3_manyNow 106 = .ok (.dup, 1) := dk_89 (dk_at dksX3_manyNow_4 12 rfl rfl)
theorem dX3_manyNow_107 : decode cX3_manyNow 107 = .ok (.bipush 8, 2) := dk_16 8 (dk_at dksX3_manyNow_4 13 rfl rfl)
theorem dX3_manyNow_109 : decode cX3_manyNow 109 = .ok (.aload_n 2, 1) := dk_44 (dk_at dksX3_manyNow_4 15 rfl rfl)
theorem dX3_manyNow_110 : decode cX3_manyNow 110 = .ok (.iconst 0, 1) := dk_3 (dk_at dksX3_manyNow_4 16 rfl rfl)
theorem dX3_manyNow_111 : decode cX3_manyNow 111 = .ok (.iaload, 1) := dk_46 (dk_at dksX3_manyNow_4 17 rfl rfl)
theorem dX3_manyNow_112 : decode cX3_manyNow 112 = .ok (.iastore, 1) := dk_79 (dk_at dksX3_manyNow_4 18 rfl rfl)
theorem dX3_manyNow_113 : decode cX3_manyNow 113 = .ok (.dup, 1) := dk_89 (dk_at dksX3_manyNow_4 19 rfl rfl)
theorem dX3_manyNow_114 : decode cX3_manyNow 114 = .ok (.bipush 9, 2) := dk_16 9 (dk_at dksX3_manyNow_4 20 rfl rfl)
theorem dX3_manyNow_116 : decode cX3_manyNow 116 = .ok (.aload_n 2, 1) := dk_44 (dk_at dksX3_manyNow_4 22 rfl rfl)
theorem dX3_manyNow_117 : decode cX3_manyNow 117 = .ok (.iconst 1, 1) := dk_4 (dk_at dksX3_manyNow_4 23 rfl rfl)
theorem dX3_manyNow_118 : decode cX3_manyNow 118 = .ok (.iaload, 1) := dk_46 (dk_at dksX3_manyNow_5 0 rfl rfl)
theorem dX3_manyNow_119 : decode cX3_manyNow 119 = .ok (.iastore, 1) := dk_79 (dk_at dksX3_manyNow_5 1 rfl rfl)
theorem dX3_manyNow_120 : decode cX3_manyNow 120 = .ok (.dup, 1) := dk_89 (dk_at dksX3_manyNow_5 2 rfl rfl)
theorem dX3_manyNow_121 : decode cX3_manyNow 121 = .ok (.bipush 10, 2) := dk_16 10 (dk_at dksX3_manyNow_5 3 rfl rfl)
theorem dX3_manyNow_123 : decode cX3_manyNow 123 = .ok (.aload_n 2, 1) := dk_44 (dk_at dksX3_manyNow_5 5 rfl rfl)
theorem dX3_manyNow_124 : decode cX3_manyNow 124 = .ok (.iconst 2, 1) := dk_5 (dk_at dksX3_manyNow_5 6 rfl rfl)
theorem dX3_manyNow_125 : decode cX3_manyNow 125 = .ok (.iaload, 1) := dk_46 (dk_at dksX3_manyNow_5 7 rfl rfl)
theorem dX3_manyNow_126 : decode cX3_manyNow 126 = .ok (.iastore, 1) := dk_79 (dk_at dksX3_manyNow_5 8 rfl rfl)
theorem dX3_manyNow_127 : decode cX3_manyNow 127 = .ok (.dup, 1) := dk_89 (dk_at dksX3_manyNow_5 9 rfl rfl)
theorem dX3_manyNow_128 : decode cX3_manyNow 128 = .ok (.bipush 11, 2) := dk_16 11 (dk_at dksX3_manyNow_5 10 rfl rfl)
theorem dX3_manyNow_130 : decode cX3_manyNow 130 = .ok (.aload_n 2, 1) := dk_44 (dk_at dksX3_manyNow_5 12 rfl rfl)
theorem dX3_manyNow_131 : decode cX3_manyNow 131 = .ok (.iconst 3, 1) := dk_6 (dk_at dksX3_manyNow_5 13 rfl rfl)
theorem dX3_manyNow_132 : decode cX3_manyNow 132 = .ok (.iaload, 1) := dk_46 (dk_at dksX3_manyNow_5 14 rfl rfl)
theorem dX3_manyNow_133 : decode cX3_manyNow 133 = .ok (.iastore, 1) := dk_79 (dk_at dksX3_manyNow_5 15 rfl rfl)
theorem dX3_manyNow_134 : decode cX3_manyNow 134 = .ok (.dup, 1) := dk_89 (dk_at dksX3_manyNow_5 16 rfl rfl)
theorem dX3_manyNow_135 : decode cX3_manyNow 135 = .ok (.bipush 12, 2) := dk_16 12 (dk_at dksX3_manyNow_5 17 rfl rfl)
theorem dX3_manyNow_137 : decode cX3_manyNow 137 = .ok (.aload_n 2, 1) := dk_44 (dk_at dksX3_manyNow_5 19 rfl rfl)
theorem dX3_manyNow_138 : decode cX3_manyNow 138 = .ok (.iconst 4, 1) := dk_7 (dk_at dksX3_manyNow_5 20 rfl rfl)
theorem dX3_manyNow_139 : decode cX3_manyNow 139 = .ok (.iaload, 1) := dk_46 (dk_at dksX3_manyNow_5 21 rfl rfl)
theorem dX3_manyNow_140 : decode cX3_manyNow 140 = .ok (.iastore, 1) := dk_79 (dk_at dksX3_manyNow_5 22 rfl rfl)
theorem dX3_manyNow_141 : decode cX3_manyNow 141 = .ok (.dup, 1) := dk_89 (dk_at dksX3_manyNow_5 23 rfl rfl)
theorem dX3_manyNow_142 : decode cX3_manyNow 142 = .ok (.bipush 13, 2) := dk_16 13 (dk_at dksX3_manyNow_6 0 rfl rfl)
theorem dX3_manyNow_144 : decode cX3_manyNow 144 = .ok (.aload_n 2, 1) := dk_44 (dk_at dksX3_manyNow_6 2 rfl rfl)
theorem dX3_manyNow_145 : decode cX3_manyNow 145 = .ok (.iconst 5, 1) := dk_8 (dk_at dksX3_manyNow_6 3 rfl rfl)
theorem dX3_manyNow_146 : decode cX3_manyNow 146 = .ok (.iaload, 1) := dk_46 (dk_at dksX3_manyNow_6 4 rfl rfl)
theorem dX3_manyNow_147 : decode cX3_manyNow 147 = .ok (.iastore, 1) := dk_79 (dk_at dksX3_manyNow_6 5 rfl rfl)
theorem dX3_manyNow_148 : decode cX3_manyNow 148 = .ok (.dup, 1) := dk_89 (dk_at dksX3_manyNow_6 6 rfl rfl)
theorem dX3_manyNow_149 : decode cX3_manyNow 149 = .ok (.bipush 14, 2) := dk_16 14 (dk_at dksX3_manyNow_6 7 rfl rfl)
theorem dX3_manyNow_151 : decode cX3_manyNow 151 = .ok (.aload_n 2, 1) := dk_44 (dk_at dksX3_manyNow_6 9 rfl rfl)
theorem dX3_manyNow_152 : decode cX3_manyNow 152 = .ok (.bipush 6, 2) := dk_16 6 (dk_at dksX3_manyNow_6 10 rfl rfl)
theorem dX3_manyNow_154 : decode cX3_manyNow 154 = .ok (.iaload, 1) := dk_46 (dk_at dksX3_manyNow_6 12 rfl rfl)
theorem dX3_manyNow_155 : decode cX3_manyNow 155 = .ok (.iastore, 1) := dk_79 (dk_at dksX3_manyNow_6 13 rfl rfl)
theorem dX3_manyNow_156 : decode cX3_manyNow 156 = .ok (.dup, 1) := dk_89 (dk_at dksX3_manyNow_6 14 rfl rfl)
theorem dX3_manyNow_157 : decode cX3_manyNow 157 = .ok (.bipush 15, 2) := dk_16 15 (dk_at dksX3_manyNow_6 15 rfl rfl)
theorem dX3_manyNow_159 : decode cX3_manyNow 159 = .ok (.aload_n 2, 1) := dk_44 (dk_at dksX3_manyNow_6 17 rfl rfl)
theorem dX3_manyNow_160 : decode cX3_manyNow 160 = .ok (.bipush 7, 2) := dk_16 7 (dk_at dksX3_manyNow_6 18 rfl rfl)
theorem dX3_manyNow_162 : decode cX3_manyNow 162 = .ok (.iaload, 1) := dk_46 (dk_at dksX3_manyNow_6 20 rfl rfl)
theorem dX3_manyNow_163 : decode cX3_manyNow 163 = .ok (.iastore, 1) := dk_79 (dk_at dksX3_manyNow_6 21 rfl rfl)
theorem dX3_manyNow_164 : decode cX3_manyNow 164 = .ok (.dup, 1) := dk_89 (dk_at dksX3_manyNow_6 22 rfl rfl)
theorem dX3_manyNow_165 : decode cX3_manyNow 165 = .ok (.bipush 16, 2) := dk_16 16 (dk_at dksX3_manyNow_7 0 rfl rfl)
theorem dX3_manyNow_167 : decode cX3_manyNow 167 = .ok (.aload_n 0, 1) := dk_42 (dk_at dksX3_manyNow_7 2 rfl rfl)
theorem dX3_manyNow_168 : decode cX3_manyNow 168 = .ok (.getfield 19, 3) := dk_180 0 19 (dk_at dksX3_manyNow_7 3 rfl rfl)
theorem dX3_manyNow_171 : decode cX3_manyNow 171 = .ok (.getfield 232, 3) := dk_180 0 232 (dk_at dksX3_manyNow_7 6 rfl rfl)
theorem dX3_manyNow_174 : decode cX3_manyNow 174 = .ok (.iastore, 1) := dk_79 (dk_at dksX3_manyNow_7 9 rfl rfl)
theorem dX3_manyNow_175 : decode cX3_manyNow 175 = .ok (.dup, 1) := dk_89 (dk_at dksX3_manyNow_7 10 rfl rfl)
theorem dX3_manyNow_176 : decode cX3_manyNow 176 = .ok (.bipush 17, 2) := dk_16 17 (dk_at dksX3_manyNow_7 11 rfl rfl)
theorem dX3_manyNow_178 : decode cX3_manyNow 178 = .ok (.aload_n 0, 1) := dk_42 (dk_at dksX3_manyNow_7 13 rfl rfl)
theorem dX3_manyNow_179 : decode cX3_manyNow 179 = .ok (.getfield 19, 3) := dk_180 0 19 (dk_at dksX3_manyNow_7 14 rfl rfl)
theorem dX3_manyNow_182 : decode cX3_manyNow 182 = .ok (.getfield 156, 3) := dk_180 0 156 (dk_at dksX3_manyNow_7 17 rfl rfl)
theorem dX3_manyNow_185 : decode cX3_manyNow 185 = .ok (.iastore, 1) := dk_79 (dk_at dksX3_manyNow_7 20 rfl rfl)
theorem dX3_manyNow_186 : decode cX3_manyNow 186 = .ok (.dup, 1) := dk_89 (dk_at dksX3_manyNow_7 21 rfl rfl)
theorem dX3_manyNow_187 : decode cX3_manyNow 187 = .ok (.bipush 18, 2) := dk_16 18 (dk_at dksX3_manyNow_7 22 rfl rfl)
theorem dX3_manyNow_189 : decode cX3_manyNow 189 = .ok (.aload_n 0, 1) := dk_42 (dk_at dksX3_manyNow_8 0 rfl rfl)
theorem dX3_manyNow_190 : decode cX3_manyNow 190 = .ok (.getfield 19, 3) := dk_180 0 19 (dk_at dksX3_manyNow_8 1 rfl rfl)
theorem dX3_manyNow_193 : decode cX3_manyNow 193 = .ok (.getfield 235, 3) := dk_180 0 235 (dk_at dksX3_manyNow_8 4 rfl rfl)
theorem dX3_manyNow_196 : decode cX3_manyNow 196 = .ok (.iastore, 1) := dk_79 (dk_at dksX3_manyNow_8 7 rfl rfl)
theorem dX3_manyNow_197 : decode cX3_manyNow 197 = .ok (.dup, 1) := dk_89 (dk_at dksX3_manyNow_8 8 rfl rfl)
theorem dX3_manyNow_198 : decode cX3_manyNow 198 = .ok (.bipush 19, 2) := dk_16 19 (dk_at dksX3_manyNow_8 9 rfl rfl)
theorem dX3_manyNow_200 : decode cX3_manyNow 200 = .ok (.aload_n 0, 1) := dk_42 (dk_at dksX3_manyNow_8 11 rfl rfl)
theorem dX3_manyNow_201 : decode cX3_manyNow 201 = .ok (.getfield 105, 3) := dk_180 0 105 (dk_at dksX3_manyNow_8 12 rfl rfl)
theorem dX3_manyNow_204 : decode cX3_manyNow 204 = .ok (.iastore, 1) := dk_79 (dk_at dksX3_manyNow_8 15 rfl rfl)
theorem dX3_manyNow_205 : decode cX3_manyNow 205 = .ok (.astore_n 3, 1) := dk_78 (dk_at dksX3_manyNow_8 16 rfl rfl)
theorem dX3_manyNow_206 : decode cX3_manyNow 206 = .ok (.aload_n 3, 1) := dk_45 (dk_at dksX3_manyNow_8 17 rfl rfl)
theorem dX3_manyNow_207 : decode cX3_manyNow 207 = .ok (.iload_n 1, 1) := dk_27 (dk_at dksX3_manyNow_8 18 rfl rfl)
theorem dX3_manyNow_208 : decode cX3_manyNow 208 = .ok (.iaload, 1) := dk_46 (dk_at dksX3_manyNow_8 19 rfl rfl)
theorem dX3_manyNow_209 : decode cX3_manyNow 209 = .ok (.ireturn, 1) := dk_172 (dk_at dksX3_manyNow_8 20 rfl rfl)
abbrev cX3_meanSweet : ByteArray := prog_7_method_37_code
def yX3_meanSweet : MethodName := ⟨RX3, "meanSweet", "()D"⟩
def dkwX3_meanSweet_2 : List UInt8 := [14, 167, 0, 14, 42, 180, 0, 19, 180, 0, 241, 138, 27, 135, 111, 175]
abbrev dktX3_meanSweet_2 : List UInt8 := dkwX3_meanSweet_2 ++ []
def dkwX3_meanSweet_1 : List UInt8 := [162, 0, 20, 44, 21, 4, 46, 54, 5, 27, 21, 5, 96, 60, 132, 4, 1, 167, 255, 236, 27, 154, 0, 7]
abbrev dktX3_meanSweet_1 : List UInt8 := dkwX3_meanSweet_1 ++ dktX3_meanSweet_2
def dkwX3_meanSweet_0 : List UInt8 := [42, 3, 181, 0, 29, 3, 60, 42, 180, 0, 19, 180, 0, 217, 77, 44, 190, 62, 3, 54, 4, 21, 4, 29]
abbrev dktX3_meanSweet_0 : List UInt8 := dkwX3_meanSweet_0 ++ dktX3_meanSweet_1
theorem dksX3_meanSweet_0 : cX3_meanSweet.data.toList.drop 0 = dktX3_meanSweet_0 := by decide +kernel
theorem dksX3_meanSweet_1 : cX3_meanSweet.data.toList.drop 24 = dktX3_meanSweet_1 := dk_seg dksX3_meanSweet_0 24 rfl rfl
theorem dksX3_meanSweet_2 : cX3_meanSweet.data.toList.drop 48 = dktX3_meanSweet_2 := dk_seg dksX3_meanSweet_1 24 rfl rfl
theorem dX3_meanSweet_0 : decode cX3_meanSweet 0 = .ok (.aload_n 0, 1) := dk_42 (dk_at dksX3_meanSweet_0 0 rfl rfl)
theorem dX3_meanSweet_1 : decode cX3_meanSweet 1 = .ok (.iconst 0, 1) := dk_3 (dk_at dksX3_meanSweet_0 1 rfl rfl)
theorem dX3_meanSweet_2 : decode cX3_meanSweet 2 = .ok (.putfield 29, 3) := dk_181 0 29 (dk_at dksX3_meanSweet_0 2 rfl rfl)
theorem dX3_meanSweet_5 : decode cX3_meanSweet 5 = .ok (.iconst 0, 1) := dk_3 (dk_at dksX3_meanSweet_0 5 rfl rfl)
theorem dX3_meanSweet_6 : decode cX3_meanSweet 6 = .ok (.istore_n 1, 1) := dk_60 (dk_at dksX3_meanSweet_0 6 rfl rfl)
theorem dX3_meanSweet_7 : decode cX3_meanSweet 7 = .ok (.aload_n 0, 1) := dk_42 (dk_at dksX3_meanSweet_0 7 rfl rfl)
theorem dX3_meanSweet_8 : decode cX3_meanSweet 8 = .ok (.getfield 19, 3) := dk_180 0 19 (dk_at dksX3_meanSweet_0 8 rfl rfl)
theorem dX3_meanSweet_11 : decode cX3_meanSweet 11 = .ok (.getfield 217, 3) := dk_180 0 217 (dk_at dksX3_meanSweet_0 11 rfl rfl)
theorem dX3_meanSweet_14 : decode cX3_meanSweet 14 = .ok (.astore_n 2, 1) := dk_77 (dk_at dksX3_meanSweet_0 14 rfl rfl)
theorem dX3_meanSweet_15 : decode cX3_meanSweet 15 = .ok (.aload_n 2, 1) := dk_44 (dk_at dksX3_meanSweet_0 15 rfl rfl)
theorem dX3_meanSweet_16 : decode cX3_meanSweet 16 = .ok (.arraylength, 1) := dk_190 (dk_at dksX3_meanSweet_0 16 rfl rfl)
theorem dX3_meanSweet_17 : decode cX3_meanSweet 17 = .ok (.istore_n 3, 1) := dk_62 (dk_at dksX3_meanSweet_0 17 rfl rfl)
theorem dX3_meanSweet_18 : decode cX3_meanSweet 18 = .ok (.iconst 0, 1) := dk_3 (dk_at dksX3_meanSweet_0 18 rfl rfl)
theorem dX3_meanSweet_19 : decode cX3_meanSweet 19 = .ok (.istore 4, 2) := dk_54 4 (dk_at dksX3_meanSweet_0 19 rfl rfl)
theorem dX3_meanSweet_21 : decode cX3_meanSweet 21 = .ok (.iload 4, 2) := dk_21 4 (dk_at dksX3_meanSweet_0 21 rfl rfl)
theorem dX3_meanSweet_23 : decode cX3_meanSweet 23 = .ok (.iload_n 3, 1) := dk_29 (dk_at dksX3_meanSweet_0 23 rfl rfl)
theorem dX3_meanSweet_24 : decode cX3_meanSweet 24 = .ok (.if_icmp .ge 20, 3) := dk_162 0 20 (dk_at dksX3_meanSweet_1 0 rfl rfl)
theorem dX3_meanSweet_27 : decode cX3_meanSweet 27 = .ok (.aload_n 2, 1) := dk_44 (dk_at dksX3_meanSweet_1 3 rfl rfl)
theorem dX3_meanSweet_28 : decode cX3_meanSweet 28 = .ok (.iload 4, 2) := dk_21 4 (dk_at dksX3_meanSweet_1 4 rfl rfl)
theorem dX3_meanSweet_30 : decode cX3_meanSweet 30 = .ok (.iaload, 1) := dk_46 (dk_at dksX3_meanSweet_1 6 rfl rfl)
theorem dX3_meanSweet_31 : decode cX3_meanSweet 31 = .ok (.istore 5, 2) := dk_54 5 (dk_at dksX3_meanSweet_1 7 rfl rfl)
theorem dX3_meanSweet_33 : decode cX3_meanSweet 33 = .ok (.iload_n 1, 1) := dk_27 (dk_at dksX3_meanSweet_1 9 rfl rfl)
theorem dX3_meanSweet_34 : decode cX3_meanSweet 34 = .ok (.iload 5, 2) := dk_21 5 (dk_at dksX3_meanSweet_1 10 rfl rfl)
theorem dX3_meanSweet_36 : decode cX3_meanSweet 36 = .ok (.iadd, 1) := dk_96 (dk_at dksX3_meanSweet_1 12 rfl rfl)
theorem dX3_meanSweet_37 : decode cX3_meanSweet 37 = .ok (.istore_n 1, 1) := dk_60 (dk_at dksX3_meanSweet_1 13 rfl rfl)
theorem dX3_meanSweet_38 : decode cX3_meanSweet 38 = .ok (.iinc 4 1, 3) := dk_132 4 1 (dk_at dksX3_meanSweet_1 14 rfl rfl)
theorem dX3_meanSweet_41 : decode cX3_meanSweet 41 = .ok (.goto (-20), 3) := dk_167 255 236 (dk_at dksX3_meanSweet_1 17 rfl rfl)
theorem dX3_meanSweet_44 : decode cX3_meanSweet 44 = .ok (.iload_n 1, 1) := dk_27 (dk_at dksX3_meanSweet_1 20 rfl rfl)
theorem dX3_meanSweet_45 : decode cX3_meanSweet 45 = .ok (.ifCond .ne 7, 3) := dk_154 0 7 (dk_at dksX3_meanSweet_1 21 rfl rfl)
theorem dX3_meanSweet_48 : decode cX3_meanSweet 48 = .ok (.dconst 0, 1) := dk_14 (dk_at dksX3_meanSweet_2 0 rfl rfl)
theorem dX3_meanSweet_49 : decode cX3_meanSweet 49 = .ok (.goto 14, 3) := dk_167 0 14 (dk_at dksX3_meanSweet_2 1 rfl rfl)
theorem dX3_meanSweet_52 : decode cX3_meanSweet 52 = .ok (.aload_n 0, 1) := dk_42 (dk_at dksX3_meanSweet_2 4 rfl rfl)
theorem dX3_meanSweet_53 : decode cX3_meanSweet 53 = .ok (.getfield 19, 3) := dk_180 0 19 (dk_at dksX3_meanSweet_2 5 rfl rfl)
theorem dX3_meanSweet_56 : decode cX3_meanSweet 56 = .ok (.getfield 241, 3) := dk_180 0 241 (dk_at dksX3_meanSweet_2 8 rfl rfl)
theorem dX3_meanSweet_59 : decode cX3_meanSweet 59 = .ok (.l2d, 1) := dk_138 (dk_at dksX3_meanSweet_2 11 rfl rfl)
theorem dX3_meanSweet_60 : decode cX3_meanSweet 60 = .ok (.iload_n 1, 1) := dk_27 (dk_at dksX3_meanSweet_2 12 rfl rfl)
theorem dX3_meanSweet_61 : decode cX3_meanSweet 61 = .ok (.i2d, 1) := dk_135 (dk_at dksX3_meanSweet_2 13 rfl rfl)
theorem dX3_meanSweet_62 : decode cX3_meanSweet 62 = .ok (.ddiv, 1) := dk_111 (dk_at dksX3_meanSweet_2 14 rfl rfl)
theorem dX3_meanSweet_63 : decode cX3_meanSweet 63 = .ok (.dreturn, 1) := dk_175 (dk_at dksX3_meanSweet_2 15 rfl rfl)
abbrev cX3_crushedIn : ByteArray := prog_7_method_39_code
def yX3_crushedIn : MethodName := ⟨RX3, "crushedIn", "(II)I"⟩
def dkwX3_crushedIn_1 : List UInt8 := [4, 167, 0, 4, 3, 5, 182, 0, 33, 153, 0, 7, 3, 167, 0, 9, 42, 27, 28, 182, 0, 249, 172]
abbrev dktX3_crushedIn_1 : List UInt8 := dkwX3_crushedIn_1 ++ []
def dkwX3_crushedIn_0 : List UInt8 := [42, 42, 27, 182, 0, 202, 4, 182, 0, 61, 154, 0, 26, 42, 28, 4, 16, 120, 184, 0, 37, 154, 0, 7]
abbrev dktX3_crushedIn_0 : List UInt8 := dkwX3_crushedIn_0 ++ dktX3_crushedIn_1
theorem dksX3_crushedIn_0 : cX3_crushedIn.data.toList.drop 0 = dktX3_crushedIn_0 := by decide +kernel
theorem dksX3_crushedIn_1 : cX3_crushedIn.data.toList.drop 24 = dktX3_crushedIn_1 := dk_seg dksX3_crushedIn_0 24 rfl rfl
theorem dX3_crushedIn_0 : decode cX3_crushedIn 0 = .ok (.aload_n 0, 1) := dk_42 (dk_at dksX3_crushedIn_0 0 rfl rfl)
theorem dX3_crushedIn_1 : decode cX3_crushedIn 1 = .ok (.aload_n 0, 1) := dk_42 (dk_at dksX3_crushedIn_0 1 rfl rfl)
theorem dX3_crushedIn_2 : decode cX3_crushedIn 2 = .ok (.iload_n 1, 1) := dk_27 (dk_at dksX3_crushedIn_0 2 rfl rfl)
theorem dX3_crushedIn_3 : decode cX3_crushedIn 3 = .ok (.invokevirtual 202, 3) := dk_182 0 202 (dk_at dksX3_crushedIn_0 3 rfl rfl)
theorem dX3_crushedIn_6 : decode cX3_crushedIn 6 = .ok (.iconst 1, 1) := dk_4 (dk_at dksX3_crushedIn_0 6 rfl rfl)
theorem dX3_crushedIn_7 : decode cX3_crushedIn 7 = .ok (.invokevirtual 61, 3) := dk_182 0 61 (dk_at dksX3_crushedIn_0 7 rfl rfl)
theorem dX3_crushedIn_10 : decode cX3_crushedIn 10 = .ok (.ifCond .ne 26, 3) := dk_154 0 26 (dk_at dksX3_crushedIn_0 10 rfl rfl)
theorem dX3_crushedIn_13 : decode cX3_crushedIn 13 = .ok (.aload_n 0, 1) := dk_42 (dk_at dksX3_crushedIn_0 13 rfl rfl)
theorem dX3_crushedIn_14 : decode cX3_crushedIn 14 = .ok (.iload_n 2, 1) := dk_28 (dk_at dksX3_crushedIn_0 14 rfl rfl)
theorem dX3_crushedIn_15 : decode cX3_crushedIn 15 = .ok (.iconst 1, 1) := dk_4 (dk_at dksX3_crushedIn_0 15 rfl rfl)
theorem dX3_crushedIn_16 : decode cX3_crushedIn 16 = .ok (.bipush 120, 2) := dk_16 120 (dk_at dksX3_crushedIn_0 16 rfl rfl)
theorem dX3_crushedIn_18 : decode cX3_crushedIn 18 = .ok (.invokestatic 37, 3) := dk_184 0 37 (dk_at dksX3_crushedIn_0 18 rfl rfl)
theorem dX3_crushedIn_21 : decode cX3_crushedIn 21 = .ok (.ifCond .ne 7, 3) := dk_154 0 7 (dk_at dksX3_crushedIn_0 21 rfl rfl)
theorem dX3_crushedIn_24 : decode cX3_crushedIn 24 = .ok (.iconst 1, 1) := dk_4 (dk_at dksX3_crushedIn_1 0 rfl rfl)
theorem dX3_crushedIn_25 : decode cX3_crushedIn 25 = .ok (.goto 4, 3) := dk_167 0 4 (dk_at dksX3_crushedIn_1 1 rfl rfl)
theorem dX3_crushedIn_28 : decode cX3_crushedIn 28 = .ok (.iconst 0, 1) := dk_3 (dk_at dksX3_crushedIn_1 4 rfl rfl)
theorem dX3_crushedIn_29 : decode cX3_crushedIn 29 = .ok (.iconst 2, 1) := dk_5 (dk_at dksX3_crushedIn_1 5 rfl rfl)
theorem dX3_crushedIn_30 : decode cX3_crushedIn 30 = .ok (.invokevirtual 33, 3) := dk_182 0 33 (dk_at dksX3_crushedIn_1 6 rfl rfl)
theorem dX3_crushedIn_33 : decode cX3_crushedIn 33 = .ok (.ifCond .eq 7, 3) := dk_153 0 7 (dk_at dksX3_crushedIn_1 9 rfl rfl)
theorem dX3_crushedIn_36 : decode cX3_crushedIn 36 = .ok (.iconst 0, 1) := dk_3 (dk_at dksX3_crushedIn_1 12 rfl rfl)
theorem dX3_crushedIn_37 : decode cX3_crushedIn 37 = .ok (.goto 9, 3) := dk_167 0 9 (dk_at dksX3_crushedIn_1 13 rfl rfl)
theorem dX3_crushedIn_40 : decode cX3_crushedIn 40 = .ok (.aload_n 0, 1) := dk_42 (dk_at dksX3_crushedIn_1 16 rfl rfl)
theorem dX3_crushedIn_41 : decode cX3_crushedIn 41 = .ok (.iload_n 1, 1) := dk_27 (dk_at dksX3_crushedIn_1 17 rfl rfl)
theorem dX3_crushedIn_42 : decode cX3_crushedIn 42 = .ok (.iload_n 2, 1) := dk_28 (dk_at dksX3_crushedIn_1 18 rfl rfl)
theorem dX3_crushedIn_43 : decode cX3_crushedIn 43 = .ok (.invokevirtual 249, 3) := dk_182 0 249 (dk_at dksX3_crushedIn_1 19 rfl rfl)
theorem dX3_crushedIn_46 : decode cX3_crushedIn 46 = .ok (.ireturn, 1) := dk_172 (dk_at dksX3_crushedIn_1 22 rfl rfl)
abbrev cX3_crushedInNow : ByteArray := prog_7_method_38_code
def yX3_crushedInNow : MethodName := ⟨RX3, "crushedInNow", "(II)I"⟩
def dkwX3_crushedInNow_3 : List UInt8 := [167, 255, 218, 2, 172]
abbrev dktX3_crushedInNow_3 : List UInt8 := dkwX3_crushedInNow_3 ++ []
def dkwX3_crushedInNow_2 : List UInt8 := [45, 180, 0, 54, 27, 182, 0, 79, 192, 0, 108, 180, 0, 170, 6, 160, 0, 6, 21, 4, 172, 132, 4, 1]
abbrev dktX3_crushedInNow_2 : List UInt8 := dkwX3_crushedInNow_2 ++ dktX3_crushedInNow_3
def dkwX3_crushedInNow_1 : List UInt8 := [180, 0, 19, 182, 0, 245, 78, 4, 54, 4, 21, 4, 28, 163, 0, 38, 45, 16, 25, 3, 182, 0, 166, 87]
abbrev dktX3_crushedInNow_1 : List UInt8 := dkwX3_crushedInNow_1 ++ dktX3_crushedInNow_2
def dkwX3_crushedInNow_0 : List UInt8 := [42, 180, 0, 19, 180, 0, 54, 27, 182, 0, 79, 192, 0, 108, 180, 0, 170, 6, 160, 0, 5, 3, 172, 42]
abbrev dktX3_crushedInNow_0 : List UInt8 := dkwX3_crushedInNow_0 ++ dktX3_crushedInNow_1
theorem dksX3_crushedInNow_0 : cX3_crushedInNow.data.toList.drop 0 = dktX3_crushedInNow_0 := by decide +kernel
theorem dksX3_crushedInNow_1 : cX3_crushedInNow.data.toList.drop 24 = dktX3_crushedInNow_1 := dk_seg dksX3_crushedInNow_0 24 rfl rfl
theorem dksX3_crushedInNow_2 : cX3_crushedInNow.data.toList.drop 48 = dktX3_crushedInNow_2 := dk_seg dksX3_crushedInNow_1 24 rfl rfl
theorem dksX3_crushedInNow_3 : cX3_crushedInNow.data.toList.drop 72 = dktX3_crushedInNow_3 := dk_seg dksX3_crushedInNow_2 24 rfl rfl
theorem dX3_crushedInNow_0 : decode cX3_crushedInNow 0 = .ok (.aload_n 0, 1) := dk_42 (dk_at dksX3_crushedInNow_0 0 rfl rfl)
theorem dX3_crushedInNow_1 : decode cX3_crushedInNow 1 = .ok (.getfield 19, 3) := dk_180 0 19 (dk_at dksX3_crushedInNow_0 1 rfl rfl)
theorem dX3_crushedInNow_4 : decode cX3_crushedInNow 4 = .ok (.getfield 54, 3) := dk_180 0 54 (dk_at dksX3_crushedInNow_0 4 rfl rfl)
theorem dX3_crushedInNow_7 : decode cX3_crushedInNow 7 = .ok (.iload_n 1, 1) := dk_27 (dk_at dksX3_crushedInNow_0 7 rfl rfl)
theorem dX3_crushedInNow_8 : decode cX3_crushedInNow 8 = .ok (.invokevirtual 79, 3) := dk_182 0 79 (dk_at dksX3_crushedInNow_0 8 rfl rfl)
theorem dX3_crushedInNow_11 : decode cX3_crushedInNow 11 = .ok (.checkcast 108, 3) := dk_192 0 108 (dk_at dksX3_crushedInNow_0 11 rfl rfl)
theorem dX3_crushedInNow_14 : decode cX3_crushedInNow 14 = .ok (.getfield 170, 3) := dk_180 0 170 (dk_at dksX3_crushedInNow_0 14 rfl rfl)
theorem dX3_crushedInNow_17 : decode cX3_crushedInNow 17 = .ok (.iconst 3, 1) := dk_6 (dk_at dksX3_crushedInNow_0 17 rfl rfl)
theorem dX3_crushedInNow_18 : decode cX3_crushedInNow 18 = .ok (.if_icmp .ne 5, 3) := dk_160 0 5 (dk_at dksX3_crushedInNow_0 18 rfl rfl)
theorem dX3_crushedInNow_21 : decode cX3_crushedInNow 21 = .ok (.iconst 0, 1) := dk_3 (dk_at dksX3_crushedInNow_0 21 rfl rfl)
theorem dX3_crushedInNow_22 : decode cX3_crushedInNow 22 = .ok (.ireturn, 1) := dk_172 (dk_at dksX3_crushedInNow_0 22 rfl rfl)
theorem dX3_crushedInNow_23 : decode cX3_crushedInNow 23 = .ok (.aload_n 0, 1) := dk_42 (dk_at dksX3_crushedInNow_0 23 rfl rfl)
theorem dX3_crushedInNow_24 : decode cX3_crushedInNow 24 = .ok (.getfield 19, 3) := dk_180 0 19 (dk_at dksX3_crushedInNow_1 0 rfl rfl)
theorem dX3_crushedInNow_27 : decode cX3_crushedInNow 27 = .ok (.invokevirtual 245, 3) := dk_182 0 245 (dk_at dksX3_crushedInNow_1 3 rfl rfl)
theorem dX3_crushedInNow_30 : decode cX3_crushedInNow 30 = .ok (.astore_n 3, 1) := dk_78 (dk_at dksX3_crushedInNow_1 6 rfl rfl)
theorem dX3_crushedInNow_31 : decode cX3_crushedInNow 31 = .ok (.iconst 1, 1) := dk_4 (dk_at dksX3_crushedInNow_1 7 rfl rfl)
theorem dX3_crushedInNow_32 : decode cX3_crushedInNow 32 = .ok (.istore 4, 2) := dk_54 4 (dk_at dksX3_crushedInNow_1 8 rfl rfl)
theorem dX3_crushedInNow_34 : decode cX3_crushedInNow 34 = .ok (.iload 4, 2) := dk_21 4 (dk_at dksX3_crushedInNow_1 10 rfl rfl)
theorem dX3_crushedInNow_36 : decode cX3_crushedInNow 36 = .ok (.iload_n 2, 1) := dk_28 (dk_at dksX3_crushedInNow_1 12 rfl rfl)
theorem dX3_crushedInNow_37 : decode cX3_crushedInNow 37 = .ok (.if_icmp .gt 38, 3) := dk_163 0 38 (dk_at dksX3_crushedInNow_1 13 rfl rfl)
theorem dX3_crushedInNow_40 : decode cX3_crushedInNow 40 = .ok (.aload_n 3, 1) := dk_45 (dk_at dksX3_crushedInNow_1 16 rfl rfl)
theorem dX3_crushedInNow_41 : decode cX3_crushedInNow 41 = .ok (.bipush 25, 2) := dk_16 25 (dk_at dksX3_crushedInNow_1 17 rfl rfl)
theorem dX3_crushedInNow_43 : decode cX3_crushedInNow 43 = .ok (.iconst 0, 1) := dk_3 (dk_at dksX3_crushedInNow_1 19 rfl rfl)
theorem dX3_crushedInNow_44 : decode cX3_crushedInNow 44 = .ok (.invokevirtual 166, 3) := dk_182 0 166 (dk_at dksX3_crushedInNow_1 20 rfl rfl)
theorem dX3_crushedInNow_47 : decode cX3_crushedInNow 47 = .ok (.pop, 1) := dk_87 (dk_at dksX3_crushedInNow_1 23 rfl rfl)
theorem dX3_crushedInNow_48 : decode cX3_crushedInNow 48 = .ok (.aload_n 3, 1) := dk_45 (dk_at dksX3_crushedInNow_2 0 rfl rfl)
theorem dX3_crushedInNow_49 : decode cX3_crushedInNow 49 = .ok (.getfield 54, 3) := dk_180 0 54 (dk_at dksX3_crushedInNow_2 1 rfl rfl)
theorem dX3_crushedInNow_52 : decode cX3_crushedInNow 52 = .ok (.iload_n 1, 1) := dk_27 (dk_at dksX3_crushedInNow_2 4 rfl rfl)
theorem dX3_crushedInNow_53 : decode cX3_crushedInNow 53 = .ok (.invokevirtual 79, 3) := dk_182 0 79 (dk_at dksX3_crushedInNow_2 5 rfl rfl)
theorem dX3_crushedInNow_56 : decode cX3_crushedInNow 56 = .ok (.checkcast 108, 3) := dk_192 0 108 (dk_at dksX3_crushedInNow_2 8 rfl rfl)
theorem dX3_crushedInNow_59 : decode cX3_crushedInNow 59 = .ok (.getfield 170, 3) := dk_180 0 170 (dk_at dksX3_crushedInNow_2 11 rfl rfl)
theorem dX3_crushedInNow_62 : decode cX3_crushedInNow 62 = .ok (.iconst 3, 1) := dk_6 (dk_at dksX3_crushedInNow_2 14 rfl rfl)
theorem dX3_crushedInNow_63 : decode cX3_crushedInNow 63 = .ok (.if_icmp .ne 6, 3) := dk_160 0 6 (dk_at dksX3_crushedInNow_2 15 rfl rfl)
theorem dX3_crushedInNow_66 : decode cX3_crushedInNow 66 = .ok (.iload 4, 2) := dk_21 4 (dk_at dksX3_crushedInNow_2 18 rfl rfl)
theorem dX3_crushedInNow_68 : decode cX3_crushedInNow 68 = .ok (.ireturn, 1) := dk_172 (dk_at dksX3_crushedInNow_2 20 rfl rfl)
theorem dX3_crushedInNow_69 : decode cX3_crushedInNow 69 = .ok (.iinc 4 1, 3) := dk_132 4 1 (dk_at dksX3_crushedInNow_2 21 rfl rfl)
theorem dX3_crushedInNow_72 : decode cX3_crushedInNow 72 = .ok (.goto (-38), 3) := dk_167 255 218 (dk_at dksX3_crushedInNow_3 0 rfl rfl)
theorem dX3_crushedInNow_75 : decode cX3_crushedInNow 75 = .ok (.iconst (-1), 1) := dk_2 (dk_at dksX3_crushedInNow_3 3 rfl rfl)
theorem dX3_crushedInNow_76 : decode cX3_crushedInNow 76 = .ok (.ireturn, 1) := dk_172 (dk_at dksX3_crushedInNow_3 4 rfl rfl)
abbrev cX3_stopsIn : ByteArray := prog_7_method_41_code
def yX3_stopsIn : MethodName := ⟨RX3, "stopsIn", "(I)I"⟩
def dkwX3_stopsIn_1 : List UInt8 := [167, 0, 8, 42, 27, 182, 0, 252, 172]
abbrev dktX3_stopsIn_1 : List UInt8 := dkwX3_stopsIn_1 ++ []
def dkwX3_stopsIn_0 : List UInt8 := [42, 27, 4, 16, 120, 184, 0, 37, 154, 0, 7, 4, 167, 0, 4, 3, 4, 182, 0, 61, 153, 0, 7, 3]
abbrev dktX3_stopsIn_0 : List UInt8 := dkwX3_stopsIn_0 ++ dktX3_stopsIn_1
theorem dksX3_stopsIn_0 : cX3_stopsIn.data.toList.drop 0 = dktX3_stopsIn_0 := by decide +kernel
theorem dksX3_stopsIn_1 : cX3_stopsIn.data.toList.drop 24 = dktX3_stopsIn_1 := dk_seg dksX3_stopsIn_0 24 rfl rfl
theorem dX3_stopsIn_0 : decode cX3_stopsIn 0 = .ok (.aload_n 0, 1) := dk_42 (dk_at dksX3_stopsIn_0 0 rfl rfl)
theorem dX3_stopsIn_1 : decode cX3_stopsIn 1 = .ok (.iload_n 1, 1) := dk_27 (dk_at dksX3_stopsIn_0 1 rfl rfl)
theorem dX3_stopsIn_2 : decode cX3_stopsIn 2 = .ok (.iconst 1, 1) := dk_4 (dk_at dksX3_stopsIn_0 2 rfl rfl)
theorem dX3_stopsIn_3 : decode cX3_stopsIn 3 = .ok (.bipush 120, 2) := dk_16 120 (dk_at dksX3_stopsIn_0 3 rfl rfl)
theorem dX3_stopsIn_5 : decode cX3_stopsIn 5 = .ok (.invokestatic 37, 3) := dk_184 0 37 (dk_at dksX3_stopsIn_0 5 rfl rfl)
theorem dX3_stopsIn_8 : decode cX3_stopsIn 8 = .ok (.ifCond .ne 7, 3) := dk_154 0 7 (dk_at dksX3_stopsIn_0 8 rfl rfl)
theorem dX3_stopsIn_11 : decode cX3_stopsIn 11 = .ok (.iconst 1, 1) := dk_4 (dk_at dksX3_stopsIn_0 11 rfl rfl)
theorem dX3_stopsIn_12 : decode cX3_stopsIn 12 = .ok (.goto 4, 3) := dk_167 0 4 (dk_at dksX3_stopsIn_0 12 rfl rfl)
theorem dX3_stopsIn_15 : decode cX3_stopsIn 15 = .ok (.iconst 0, 1) := dk_3 (dk_at dksX3_stopsIn_0 15 rfl rfl)
theorem dX3_stopsIn_16 : decode cX3_stopsIn 16 = .ok (.iconst 1, 1) := dk_4 (dk_at dksX3_stopsIn_0 16 rfl rfl)
theorem dX3_stopsIn_17 : decode cX3_stopsIn 17 = .ok (.invokevirtual 61, 3) := dk_182 0 61 (dk_at dksX3_stopsIn_0 17 rfl rfl)
theorem dX3_stopsIn_20 : decode cX3_stopsIn 20 = .ok (.ifCond .eq 7, 3) := dk_153 0 7 (dk_at dksX3_stopsIn_0 20 rfl rfl)
theorem dX3_stopsIn_23 : decode cX3_stopsIn 23 = .ok (.iconst 0, 1) := dk_3 (dk_at dksX3_stopsIn_0 23 rfl rfl)
theorem dX3_stopsIn_24 : decode cX3_stopsIn 24 = .ok (.goto 8, 3) := dk_167 0 8 (dk_at dksX3_stopsIn_1 0 rfl rfl)
theorem dX3_stopsIn_27 : decode cX3_stopsIn 27 = .ok (.aload_n 0, 1) := dk_42 (dk_at dksX3_stopsIn_1 3 rfl rfl)
theorem dX3_stopsIn_28 : decode cX3_stopsIn 28 = .ok (.iload_n 1, 1) := dk_27 (dk_at dksX3_stopsIn_1 4 rfl rfl)
theorem dX3_stopsIn_29 : decode cX3_stopsIn 29 = .ok (.invokevirtual 252, 3) := dk_182 0 252 (dk_at dksX3_stopsIn_1 5 rfl rfl)
theorem dX3_stopsIn_32 : decode cX3_stopsIn 32 = .ok (.ireturn, 1) := dk_172 (dk_at dksX3_stopsIn_1 8 rfl rfl)
abbrev cX3_stopsInNow : ByteArray := prog_7_method_40_code
def yX3_stopsInNow : MethodName := ⟨RX3, "stopsInNow", "(I)I"⟩
def dkwX3_stopsInNow_1 : List UInt8 := [29, 27, 162, 0, 11, 44, 16, 25, 3, 182, 0, 166, 87, 132, 3, 1, 167, 255, 226, 2, 172]
abbrev dktX3_stopsInNow_1 : List UInt8 := dkwX3_stopsInNow_1 ++ []
def dkwX3_stopsInNow_0 : List UInt8 := [42, 180, 0, 19, 182, 0, 245, 77, 3, 62, 29, 27, 163, 0, 31, 44, 180, 0, 140, 154, 0, 5, 29, 172]
abbrev dktX3_stopsInNow_0 : List UInt8 := dkwX3_stopsInNow_0 ++ dktX3_stopsInNow_1
theorem dksX3_stopsInNow_0 : cX3_stopsInNow.data.toList.drop 0 = dktX3_stopsInNow_0 := by decide +kernel
theorem dksX3_stopsInNow_1 : cX3_stopsInNow.data.toList.drop 24 = dktX3_stopsInNow_1 := dk_seg dksX3_stopsInNow_0 24 rfl rfl
theorem dX3_stopsInNow_0 : decode cX3_stopsInNow 0 = .ok (.aload_n 0, 1) := dk_42 (dk_at dksX3_stopsInNow_0 0 rfl rfl)
theorem dX3_stopsInNow_1 : decode cX3_stopsInNow 1 = .ok (.getfield 19, 3) := dk_180 0 19 (dk_at dksX3_stopsInNow_0 1 rfl rfl)
theorem dX3_stopsInNow_4 : decode cX3_stopsInNow 4 = .ok (.invokevirtual 245, 3) := dk_182 0 245 (dk_at dksX3_stopsInNow_0 4 rfl rfl)
theorem dX3_stopsInNow_7 : decode cX3_stopsInNow 7 = .ok (.astore_n 2, 1) := dk_77 (dk_at dksX3_stopsInNow_0 7 rfl rfl)
theorem dX3_stopsInNow_8 : decode cX3_stopsInNow 8 = .ok (.iconst 0, 1) := dk_3 (dk_at dksX3_stopsInNow_0 8 rfl rfl)
theorem dX3_stopsInNow_9 : decode cX3_stopsInNow 9 = .ok (.istore_n 3, 1) := dk_62 (dk_at dksX3_stopsInNow_0 9 rfl rfl)
theorem dX3_stopsInNow_10 : decode cX3_stopsInNow 10 = .ok (.iload_n 3, 1) := dk_29 (dk_at dksX3_stopsInNow_0 10 rfl rfl)
theorem dX3_stopsInNow_11 : decode cX3_stopsInNow 11 = .ok (.iload_n 1, 1) := dk_27 (dk_at dksX3_stopsInNow_0 11 rfl rfl)
theorem dX3_stopsInNow_12 : decode cX3_stopsInNow 12 = .ok (.if_icmp .gt 31, 3) := dk_163 0 31 (dk_at dksX3_stopsInNow_0 12 rfl rfl)
theorem dX3_stopsInNow_15 : decode cX3_stopsInNow 15 = .ok (.aload_n 2, 1) := dk_44 (dk_at dksX3_stopsInNow_0 15 rfl rfl)
theorem dX3_stopsInNow_16 : decode cX3_stopsInNow 16 = .ok (.getfield 140, 3) := dk_180 0 140 (dk_at dksX3_stopsInNow_0 16 rfl rfl)
theorem dX3_stopsInNow_19 : decode cX3_stopsInNow 19 = .ok (.ifCond .ne 5, 3) := dk_154 0 5 (dk_at dksX3_stopsInNow_0 19 rfl rfl)
theorem dX3_stopsInNow_22 : decode cX3_stopsInNow 22 = .ok (.iload_n 3, 1) := dk_29 (dk_at dksX3_stopsInNow_0 22 rfl rfl)
theorem dX3_stopsInNow_23 : decode cX3_stopsInNow 23 = .ok (.ireturn, 1) := dk_172 (dk_at dksX3_stopsInNow_0 23 rfl rfl)
theorem dX3_stopsInNow_24 : decode cX3_stopsInNow 24 = .ok (.iload_n 3, 1) := dk_29 (dk_at dksX3_stopsInNow_1 0 rfl rfl)
theorem dX3_stopsInNow_25 : decode cX3_stopsInNow 25 = .ok (.iload_n 1, 1) := dk_27 (dk_at dksX3_stopsInNow_1 1 rfl rfl)
theorem dX3_stopsInNow_26 : decode cX3_stopsInNow 26 = .ok (.if_icmp .ge 11, 3) := dk_162 0 11 (dk_at dksX3_stopsInNow_1 2 rfl rfl)
theorem dX3_stopsInNow_29 : decode cX3_stopsInNow 29 = .ok (.aload_n 2, 1) := dk_44 (dk_at dksX3_stopsInNow_1 5 rfl rfl)
theorem dX3_stopsInNow_30 : decode cX3_stopsInNow 30 = .ok (.bipush 25, 2) := dk_16 25 (dk_at dksX3_stopsInNow_1 6 rfl rfl)
theorem dX3_stopsInNow_32 : decode cX3_stopsInNow 32 = .ok (.iconst 0, 1) := dk_3 (dk_at dksX3_stopsInNow_1 8 rfl rfl)
theorem dX3_stopsInNow_33 : decode cX3_stopsInNow 33 = .ok (.invokevirtual 166, 3) := dk_182 0 166 (dk_at dksX3_stopsInNow_1 9 rfl rfl)
theorem dX3_stopsInNow_36 : decode cX3_stopsInNow 36 = .ok (.pop, 1) := dk_87 (dk_at dksX3_stopsInNow_1 12 rfl rfl)
theorem dX3_stopsInNow_37 : decode cX3_stopsInNow 37 = .ok (.iinc 3 1, 3) := dk_132 3 1 (dk_at dksX3_stopsInNow_1 13 rfl rfl)
theorem dX3_stopsInNow_40 : decode cX3_stopsInNow 40 = .ok (.goto (-30), 3) := dk_167 255 226 (dk_at dksX3_stopsInNow_1 16 rfl rfl)
theorem dX3_stopsInNow_43 : decode cX3_stopsInNow 43 = .ok (.iconst (-1), 1) := dk_2 (dk_at dksX3_stopsInNow_1 19 rfl rfl)
theorem dX3_stopsInNow_44 : decode cX3_stopsInNow 44 = .ok (.ireturn, 1) := dk_172 (dk_at dksX3_stopsInNow_1 20 rfl rfl)
abbrev cX3_bestOrder : ByteArray := prog_7_method_43_code
def yX3_bestOrder : MethodName := ⟨RX3, "bestOrder", "(I)I"⟩
def dkwX3_bestOrder_1 : List UInt8 := [167, 0, 8, 42, 27, 182, 0, 255, 172]
abbrev dktX3_bestOrder_1 : List UInt8 := dkwX3_bestOrder_1 ++ []
def dkwX3_bestOrder_0 : List UInt8 := [42, 27, 4, 16, 120, 184, 0, 37, 154, 0, 7, 4, 167, 0, 4, 3, 4, 182, 0, 61, 153, 0, 7, 3]
abbrev dktX3_bestOrder_0 : List UInt8 := dkwX3_bestOrder_0 ++ dktX3_bestOrder_1
theorem dksX3_bestOrder_0 : cX3_bestOrder.data.toList.drop 0 = dktX3_bestOrder_0 := by decide +kernel
theorem dksX3_bestOrder_1 : cX3_bestOrder.data.toList.drop 24 = dktX3_bestOrder_1 := dk_seg dksX3_bestOrder_0 24 rfl rfl
theorem dX3_bestOrder_0 : decode cX3_bestOrder 0 = .ok (.aload_n 0, 1) := dk_42 (dk_at dksX3_bestOrder_0 0 rfl rfl)
theorem dX3_bestOrder_1 : decode cX3_bestOrder 1 = .ok (.iload_n 1, 1) := dk_27 (dk_at dksX3_bestOrder_0 1 rfl rfl)
theorem dX3_bestOrder_2 : decode cX3_bestOrder 2 = .ok (.iconst 1, 1) := dk_4 (dk_at dksX3_bestOrder_0 2 rfl rfl)
theorem dX3_bestOrder_3 : decode cX3_bestOrder 3 = .ok (.bipush 120, 2) := dk_16 120 (dk_at dksX3_bestOrder_0 3 rfl rfl)
theorem dX3_bestOrder_5 : decode cX3_bestOrder 5 = .ok (.invokestatic 37, 3) := dk_184 0 37 (dk_at dksX3_bestOrder_0 5 rfl rfl)
theorem dX3_bestOrder_8 : decode cX3_bestOrder 8 = .ok (.ifCond .ne 7, 3) := dk_154 0 7 (dk_at dksX3_bestOrder_0 8 rfl rfl)
theorem dX3_bestOrder_11 : decode cX3_bestOrder 11 = .ok (.iconst 1, 1) := dk_4 (dk_at dksX3_bestOrder_0 11 rfl rfl)
theorem dX3_bestOrder_12 : decode cX3_bestOrder 12 = .ok (.goto 4, 3) := dk_167 0 4 (dk_at dksX3_bestOrder_0 12 rfl rfl)
theorem dX3_bestOrder_15 : decode cX3_bestOrder 15 = .ok (.iconst 0, 1) := dk_3 (dk_at dksX3_bestOrder_0 15 rfl rfl)
theorem dX3_bestOrder_16 : decode cX3_bestOrder 16 = .ok (.iconst 1, 1) := dk_4 (dk_at dksX3_bestOrder_0 16 rfl rfl)
theorem dX3_bestOrder_17 : decode cX3_bestOrder 17 = .ok (.invokevirtual 61, 3) := dk_182 0 61 (dk_at dksX3_bestOrder_0 17 rfl rfl)
theorem dX3_bestOrder_20 : decode cX3_bestOrder 20 = .ok (.ifCond .eq 7, 3) := dk_153 0 7 (dk_at dksX3_bestOrder_0 20 rfl rfl)
theorem dX3_bestOrder_23 : decode cX3_bestOrder 23 = .ok (.iconst 0, 1) := dk_3 (dk_at dksX3_bestOrder_0 23 rfl rfl)
theorem dX3_bestOrder_24 : decode cX3_bestOrder 24 = .ok (.goto 8, 3) := dk_167 0 8 (dk_at dksX3_bestOrder_1 0 rfl rfl)
theorem dX3_bestOrder_27 : decode cX3_bestOrder 27 = .ok (.aload_n 0, 1) := dk_42 (dk_at dksX3_bestOrder_1 3 rfl rfl)
theorem dX3_bestOrder_28 : decode cX3_bestOrder 28 = .ok (.iload_n 1, 1) := dk_27 (dk_at dksX3_bestOrder_1 4 rfl rfl)
theorem dX3_bestOrder_29 : decode cX3_bestOrder 29 = .ok (.invokevirtual 255, 3) := dk_182 0 255 (dk_at dksX3_bestOrder_1 5 rfl rfl)
theorem dX3_bestOrder_32 : decode cX3_bestOrder 32 = .ok (.ireturn, 1) := dk_172 (dk_at dksX3_bestOrder_1 8 rfl rfl)
abbrev cX3_bestOrderNow : ByteArray := prog_7_method_42_code
def yX3_bestOrderNow : MethodName := ⟨RX3, "bestOrderNow", "(I)I"⟩
def dkwX3_bestOrderNow_3 : List UInt8 := [25, 5, 180, 0, 153, 3, 46, 62, 132, 4, 1, 167, 255, 182, 28, 172]
abbrev dktX3_bestOrderNow_3 : List UInt8 := dkwX3_bestOrderNow_3 ++ []
def dkwX3_bestOrderNow_2 : List UInt8 := [132, 6, 1, 167, 255, 238, 25, 5, 180, 0, 153, 3, 46, 29, 163, 0, 6, 167, 0, 14, 21, 4, 61]
abbrev dktX3_bestOrderNow_2 : List UInt8 := dkwX3_bestOrderNow_2 ++ dktX3_bestOrderNow_3
def dkwX3_bestOrderNow_1 : List UInt8 := [21, 4, 181, 0, 86, 3, 54, 6, 21, 6, 27, 162, 0, 18, 25, 5, 16, 25, 3, 182, 0, 166, 87]
abbrev dktX3_bestOrderNow_1 : List UInt8 := dkwX3_bestOrderNow_1 ++ dktX3_bestOrderNow_2
def dkwX3_bestOrderNow_0 : List UInt8 := [3, 61, 2, 62, 3, 54, 4, 21, 4, 6, 162, 0, 74, 42, 180, 0, 19, 182, 0, 245, 58, 5, 25, 5]
abbrev dktX3_bestOrderNow_0 : List UInt8 := dkwX3_bestOrderNow_0 ++ dktX3_bestOrderNow_1
theorem dksX3_bestOrderNow_0 : cX3_bestOrderNow.data.toList.drop 0 = dktX3_bestOrderNow_0 := by decide +kernel
theorem dksX3_bestOrderNow_1 : cX3_bestOrderNow.data.toList.drop 24 = dktX3_bestOrderNow_1 := dk_seg dksX3_bestOrderNow_0 24 rfl rfl
theorem dksX3_bestOrderNow_2 : cX3_bestOrderNow.data.toList.drop 47 = dktX3_bestOrderNow_2 := dk_seg dksX3_bestOrderNow_1 23 rfl rfl
theorem dksX3_bestOrderNow_3 : cX3_bestOrderNow.data.toList.drop 70 = dktX3_bestOrderNow_3 := dk_seg dksX3_bestOrderNow_2 23 rfl rfl
theorem dX3_bestOrderNow_0 : decode cX3_bestOrderNow 0 = .ok (.iconst 0, 1) := dk_3 (dk_at dksX3_bestOrderNow_0 0 rfl rfl)
theorem dX3_bestOrderNow_1 : decode cX3_bestOrderNow 1 = .ok (.istore_n 2, 1) := dk_61 (dk_at dksX3_bestOrderNow_0 1 rfl rfl)
theorem dX3_bestOrderNow_2 : decode cX3_bestOrderNow 2 = .ok (.iconst (-1), 1) := dk_2 (dk_at dksX3_bestOrderNow_0 2 rfl rfl)
theorem dX3_bestOrderNow_3 : decode cX3_bestOrderNow 3 = .ok (.istore_n 3, 1) := dk_62 (dk_at dksX3_bestOrderNow_0 3 rfl rfl)
theorem dX3_bestOrderNow_4 : decode cX3_bestOrderNow 4 = .ok (.iconst 0, 1) := dk_3 (dk_at dksX3_bestOrderNow_0 4 rfl rfl)
theorem dX3_bestOrderNow_5 : decode cX3_bestOrderNow 5 = .ok (.istore 4, 2) := dk_54 4 (dk_at dksX3_bestOrderNow_0 5 rfl rfl)
theorem dX3_bestOrderNow_7 : decode cX3_bestOrderNow 7 = .ok (.iload 4, 2) := dk_21 4 (dk_at dksX3_bestOrderNow_0 7 rfl rfl)
theorem dX3_bestOrderNow_9 : decode cX3_bestOrderNow 9 = .ok (.iconst 3, 1) := dk_6 (dk_at dksX3_bestOrderNow_0 9 rfl rfl)
theorem dX3_bestOrderNow_10 : decode cX3_bestOrderNow 10 = .ok (.if_icmp .ge 74, 3) := dk_162 0 74 (dk_at dksX3_bestOrderNow_0 10 rfl rfl)
theorem dX3_bestOrderNow_13 : decode cX3_bestOrderNow 13 = .ok (.aload_n 0, 1) := dk_42 (dk_at dksX3_bestOrderNow_0 13 rfl rfl)
theorem dX3_bestOrderNow_14 : decode cX3_bestOrderNow 14 = .ok (.getfield 19, 3) := dk_180 0 19 (dk_at dksX3_bestOrderNow_0 14 rfl rfl)
theorem dX3_bestOrderNow_17 : decode cX3_bestOrderNow 17 = .ok (.invokevirtual 245, 3) := dk_182 0 245 (dk_at dksX3_bestOrderNow_0 17 rfl rfl)
theorem dX3_bestOrderNow_20 : decode cX3_bestOrderNow 20 = .ok (.astore 5, 2) := dk_58 5 (dk_at dksX3_bestOrderNow_0 20 rfl rfl)
theorem dX3_bestOrderNow_22 : decode cX3_bestOrderNow 22 = .ok (.aload 5, 2) := dk_25 5 (dk_at dksX3_bestOrderNow_0 22 rfl rfl)
theorem dX3_bestOrderNow_24 : decode cX3_bestOrderNow 24 = .ok (.iload 4, 2) := dk_21 4 (dk_at dksX3_bestOrderNow_1 0 rfl rfl)
theorem dX3_bestOrderNow_26 : decode cX3_bestOrderNow 26 = .ok (.putfield 86, 3) := dk_181 0 86 (dk_at dksX3_bestOrderNow_1 2 rfl rfl)
theorem dX3_bestOrderNow_29 : decode cX3_bestOrderNow 29 = .ok (.iconst 0, 1) := dk_3 (dk_at dksX3_bestOrderNow_1 5 rfl rfl)
theorem dX3_bestOrderNow_30 : decode cX3_bestOrderNow 30 = .ok (.istore 6, 2) := dk_54 6 (dk_at dksX3_bestOrderNow_1 6 rfl rfl)
theorem dX3_bestOrderNow_32 : decode cX3_bestOrderNow 32 = .ok (.iload 6, 2) := dk_21 6 (dk_at dksX3_bestOrderNow_1 8 rfl rfl)
theorem dX3_bestOrderNow_34 : decode cX3_bestOrderNow 34 = .ok (.iload_n 1, 1) := dk_27 (dk_at dksX3_bestOrderNow_1 10 rfl rfl)
theorem dX3_bestOrderNow_35 : decode cX3_bestOrderNow 35 = .ok (.if_icmp .ge 18, 3) := dk_162 0 18 (dk_at dksX3_bestOrderNow_1 11 rfl rfl)
theorem dX3_bestOrderNow_38 : decode cX3_bestOrderNow 38 = .ok (.aload 5, 2) := dk_25 5 (dk_at dksX3_bestOrderNow_1 14 rfl rfl)
theorem dX3_bestOrderNow_40 : decode cX3_bestOrderNow 40 = .ok (.bipush 25, 2) := dk_16 25 (dk_at dksX3_bestOrderNow_1 16 rfl rfl)
theorem dX3_bestOrderNow_42 : decode cX3_bestOrderNow 42 = .ok (.iconst 0, 1) := dk_3 (dk_at dksX3_bestOrderNow_1 18 rfl rfl)
theorem dX3_bestOrderNow_43 : decode cX3_bestOrderNow 43 = .ok (.invokevirtual 166, 3) := dk_182 0 166 (dk_at dksX3_bestOrderNow_1 19 rfl rfl)
theorem dX3_bestOrderNow_46 : decode cX3_bestOrderNow 46 = .ok (.pop, 1) := dk_87 (dk_at dksX3_bestOrderNow_1 22 rfl rfl)
theorem dX3_bestOrderNow_47 : decode cX3_bestOrderNow 47 = .ok (.iinc 6 1, 3) := dk_132 6 1 (dk_at dksX3_bestOrderNow_2 0 rfl rfl)
theorem dX3_bestOrderNow_50 : decode cX3_bestOrderNow 50 = .ok (.goto (-18), 3) := dk_167 255 238 (dk_at dksX3_bestOrderNow_2 3 rfl rfl)
theorem dX3_bestOrderNow_53 : decode cX3_bestOrderNow 53 = .ok (.aload 5, 2) := dk_25 5 (dk_at dksX3_bestOrderNow_2 6 rfl rfl)
theorem dX3_bestOrderNow_55 : decode cX3_bestOrderNow 55 = .ok (.getfield 153, 3) := dk_180 0 153 (dk_at dksX3_bestOrderNow_2 8 rfl rfl)
theorem dX3_bestOrderNow_58 : decode cX3_bestOrderNow 58 = .ok (.iconst 0, 1) := dk_3 (dk_at dksX3_bestOrderNow_2 11 rfl rfl)
theorem dX3_bestOrderNow_59 : decode cX3_bestOrderNow 59 = .ok (.iaload, 1) := dk_46 (dk_at dksX3_bestOrderNow_2 12 rfl rfl)
theorem dX3_bestOrderNow_60 : decode cX3_bestOrderNow 60 = .ok (.iload_n 3, 1) := dk_29 (dk_at dksX3_bestOrderNow_2 13 rfl rfl)
theorem dX3_bestOrderNow_61 : decode cX3_bestOrderNow 61 = .ok (.if_icmp .gt 6, 3) := dk_163 0 6 (dk_at dksX3_bestOrderNow_2 14 rfl rfl)
theorem dX3_bestOrderNow_64 : decode cX3_bestOrderNow 64 = .ok (.goto 14, 3) := dk_167 0 14 (dk_at dksX3_bestOrderNow_2 17 rfl rfl)
theorem dX3_bestOrderNow_67 : decode cX3_bestOrderNow 67 = .ok (.iload 4, 2) := dk_21 4 (dk_at dksX3_bestOrderNow_2 20 rfl rfl)
theorem dX3_bestOrderNow_69 : decode cX3_bestOrderNow 69 = .ok (.istore_n 2, 1) := dk_61 (dk_at dksX3_bestOrderNow_2 22 rfl rfl)
theorem dX3_bestOrderNow_70 : decode cX3_bestOrderNow 70 = .ok (.aload 5, 2) := dk_25 5 (dk_at dksX3_bestOrderNow_3 0 rfl rfl)
theorem dX3_bestOrderNow_72 : decode cX3_bestOrderNow 72 = .ok (.getfield 153, 3) := dk_180 0 153 (dk_at dksX3_bestOrderNow_3 2 rfl rfl)
theorem dX3_bestOrderNow_75 : decode cX3_bestOrderNow 75 = .ok (.iconst 0, 1) := dk_3 (dk_at dksX3_bestOrderNow_3 5 rfl rfl)
theorem dX3_bestOrderNow_76 : decode cX3_bestOrderNow 76 = .ok (.iaload, 1) := dk_46 (dk_at dksX3_bestOrderNow_3 6 rfl rfl)
theorem dX3_bestOrderNow_77 : decode cX3_bestOrderNow 77 = .ok (.istore_n 3, 1) := dk_62 (dk_at dksX3_bestOrderNow_3 7 rfl rfl)
theorem dX3_bestOrderNow_78 : decode cX3_bestOrderNow 78 = .ok (.iinc 4 1, 3) := dk_132 4 1 (dk_at dksX3_bestOrderNow_3 8 rfl rfl)
theorem dX3_bestOrderNow_81 : decode cX3_bestOrderNow 81 = .ok (.goto (-74), 3) := dk_167 255 182 (dk_at dksX3_bestOrderNow_3 11 rfl rfl)
theorem dX3_bestOrderNow_84 : decode cX3_bestOrderNow 84 = .ok (.iload_n 2, 1) := dk_28 (dk_at dksX3_bestOrderNow_3 14 rfl rfl)
theorem dX3_bestOrderNow_85 : decode cX3_bestOrderNow 85 = .ok (.ireturn, 1) := dk_172 (dk_at dksX3_bestOrderNow_3 15 rfl rfl)
abbrev cX3_bestDay : ByteArray := prog_7_method_45_code
def yX3_bestDay : MethodName := ⟨RX3, "bestDay", "(IIII)I"⟩
def dkwX3_bestDay_2 : List UInt8 := [167, 0, 12, 42, 27, 28, 29, 21, 4, 182, 1, 9, 172]
abbrev dktX3_bestDay_2 : List UInt8 := dkwX3_bestDay_2 ++ []
def dkwX3_bestDay_1 : List UInt8 := [29, 21, 4, 184, 0, 162, 153, 0, 7, 4, 167, 0, 4, 3, 5, 182, 0, 33, 153, 0, 7, 3]
abbrev dktX3_bestDay_1 : List UInt8 := dkwX3_bestDay_1 ++ dktX3_bestDay_2
def dkwX3_bestDay_0 : List UInt8 := [42, 42, 27, 182, 0, 76, 4, 182, 0, 61, 154, 0, 35, 42, 28, 4, 16, 60, 184, 0, 37, 153, 0, 12]
abbrev dktX3_bestDay_0 : List UInt8 := dkwX3_bestDay_0 ++ dktX3_bestDay_1
theorem dksX3_bestDay_0 : cX3_bestDay.data.toList.drop 0 = dktX3_bestDay_0 := by decide +kernel
theorem dksX3_bestDay_1 : cX3_bestDay.data.toList.drop 24 = dktX3_bestDay_1 := dk_seg dksX3_bestDay_0 24 rfl rfl
theorem dksX3_bestDay_2 : cX3_bestDay.data.toList.drop 46 = dktX3_bestDay_2 := dk_seg dksX3_bestDay_1 22 rfl rfl
theorem dX3_bestDay_0 : decode cX3_bestDay 0 = .ok (.aload_n 0, 1) := dk_42 (dk_at dksX3_bestDay_0 0 rfl rfl)
theorem dX3_bestDay_1 : decode cX3_bestDay 1 = .ok (.aload_n 0, 1) := dk_42 (dk_at dksX3_bestDay_0 1 rfl rfl)
theorem dX3_bestDay_2 : decode cX3_bestDay 2 = .ok (.iload_n 1, 1) := dk_27 (dk_at dksX3_bestDay_0 2 rfl rfl)
theorem dX3_bestDay_3 : decode cX3_bestDay 3 = .ok (.invokevirtual 76, 3) := dk_182 0 76 (dk_at dksX3_bestDay_0 3 rfl rfl)
theorem dX3_bestDay_6 : decode cX3_bestDay 6 = .ok (.iconst 1, 1) := dk_4 (dk_at dksX3_bestDay_0 6 rfl rfl)
theorem dX3_bestDay_7 : decode cX3_bestDay 7 = .ok (.invokevirtual 61, 3) := dk_182 0 61 (dk_at dksX3_bestDay_0 7 rfl rfl)
theorem dX3_bestDay_10 : decode cX3_bestDay 10 = .ok (.ifCond .ne 35, 3) := dk_154 0 35 (dk_at dksX3_bestDay_0 10 rfl rfl)
theorem dX3_bestDay_13 : decode cX3_bestDay 13 = .ok (.aload_n 0, 1) := dk_42 (dk_at dksX3_bestDay_0 13 rfl rfl)
theorem dX3_bestDay_14 : decode cX3_bestDay 14 = .ok (.iload_n 2, 1) := dk_28 (dk_at dksX3_bestDay_0 14 rfl rfl)
theorem dX3_bestDay_15 : decode cX3_bestDay 15 = .ok (.iconst 1, 1) := dk_4 (dk_at dksX3_bestDay_0 15 rfl rfl)
theorem dX3_bestDay_16 : decode cX3_bestDay 16 = .ok (.bipush 60, 2) := dk_16 60 (dk_at dksX3_bestDay_0 16 rfl rfl)
theorem dX3_bestDay_18 : decode cX3_bestDay 18 = .ok (.invokestatic 37, 3) := dk_184 0 37 (dk_at dksX3_bestDay_0 18 rfl rfl)
theorem dX3_bestDay_21 : decode cX3_bestDay 21 = .ok (.ifCond .eq 12, 3) := dk_153 0 12 (dk_at dksX3_bestDay_0 21 rfl rfl)
theorem dX3_bestDay_24 : decode cX3_bestDay 24 = .ok (.iload_n 3, 1) := dk_29 (dk_at dksX3_bestDay_1 0 rfl rfl)
theorem dX3_bestDay_25 : decode cX3_bestDay 25 = .ok (.iload 4, 2) := dk_21 4 (dk_at dksX3_bestDay_1 1 rfl rfl)
theorem dX3_bestDay_27 : decode cX3_bestDay 27 = .ok (.invokestatic 162, 3) := dk_184 0 162 (dk_at dksX3_bestDay_1 3 rfl rfl)
theorem dX3_bestDay_30 : decode cX3_bestDay 30 = .ok (.ifCond .eq 7, 3) := dk_153 0 7 (dk_at dksX3_bestDay_1 6 rfl rfl)
theorem dX3_bestDay_33 : decode cX3_bestDay 33 = .ok (.iconst 1, 1) := dk_4 (dk_at dksX3_bestDay_1 9 rfl rfl)
theorem dX3_bestDay_34 : decode cX3_bestDay 34 = .ok (.goto 4, 3) := dk_167 0 4 (dk_at dksX3_bestDay_1 10 rfl rfl)
theorem dX3_bestDay_37 : decode cX3_bestDay 37 = .ok (.iconst 0, 1) := dk_3 (dk_at dksX3_bestDay_1 13 rfl rfl)
theorem dX3_bestDay_38 : decode cX3_bestDay 38 = .ok (.iconst 2, 1) := dk_5 (dk_at dksX3_bestDay_1 14 rfl rfl)
theorem dX3_bestDay_39 : decode cX3_bestDay 39 = .ok (.invokevirtual 33, 3) := dk_182 0 33 (dk_at dksX3_bestDay_1 15 rfl rfl)
theorem dX3_bestDay_42 : decode cX3_bestDay 42 = .ok (.ifCond .eq 7, 3) := dk_153 0 7 (dk_at dksX3_bestDay_1 18 rfl rfl)
theorem dX3_bestDay_45 : decode cX3_bestDay 45 = .ok (.iconst 0, 1) := dk_3 (dk_at dksX3_bestDay_1 21 rfl rfl)
theorem dX3_bestDay_46 : decode cX3_bestDay 46 = .ok (.goto 12, 3) := dk_167 0 12 (dk_at dksX3_bestDay_2 0 rfl rfl)
theorem dX3_bestDay_49 : decode cX3_bestDay 49 = .ok (.aload_n 0, 1) := dk_42 (dk_at dksX3_bestDay_2 3 rfl rfl)
theorem dX3_bestDay_50 : decode cX3_bestDay 50 = .ok (.iload_n 1, 1) := dk_27 (dk_at dksX3_bestDay_2 4 rfl rfl)
theorem dX3_bestDay_51 : decode cX3_bestDay 51 = .ok (.iload_n 2, 1) := dk_28 (dk_at dksX3_bestDay_2 5 rfl rfl)
theorem dX3_bestDay_52 : decode cX3_bestDay 52 = .ok (.iload_n 3, 1) := dk_29 (dk_at dksX3_bestDay_2 6 rfl rfl)
theorem dX3_bestDay_53 : decode cX3_bestDay 53 = .ok (.iload 4, 2) := dk_21 4 (dk_at dksX3_bestDay_2 7 rfl rfl)
theorem dX3_bestDay_55 : decode cX3_bestDay 55 = .ok (.invokevirtual 265, 3) := dk_182 1 9 (dk_at dksX3_bestDay_2 9 rfl rfl)
theorem dX3_bestDay_58 : decode cX3_bestDay 58 = .ok (.ireturn, 1) := dk_172 (dk_at dksX3_bestDay_2 12 rfl rfl)
abbrev cX3_bestDayNow : ByteArray := prog_7_method_44_code
def yX3_bestDayNow : MethodName := ⟨RX3, "bestDayNow", "(IIII)I"⟩
def dkwX3_bestDayNow_6 : List UInt8 := [54, 8, 132, 9, 1, 167, 255, 203, 21, 7, 172]
abbrev dktX3_bestDayNow_6 : List UInt8 := dkwX3_bestDayNow_6 ++ []
def dkwX3_bestDayNow_5 : List UInt8 := [104, 21, 8, 163, 0, 6, 167, 0, 20, 21, 9, 54, 7, 25, 6, 180, 0, 95, 25, 6, 180, 0, 113, 104]
abbrev dktX3_bestDayNow_5 : List UInt8 := dkwX3_bestDayNow_5 ++ dktX3_bestDayNow_6
def dkwX3_bestDayNow_4 : List UInt8 := [21, 9, 28, 163, 0, 53, 25, 5, 29, 21, 4, 182, 1, 5, 25, 6, 180, 0, 95, 25, 6, 180, 0, 113]
abbrev dktX3_bestDayNow_4 : List UInt8 := dkwX3_bestDayNow_4 ++ dktX3_bestDayNow_5
def dkwX3_bestDayNow_3 : List UInt8 := [192, 0, 64, 58, 6, 3, 54, 7, 25, 6, 180, 0, 95, 25, 6, 180, 0, 113, 104, 54, 8, 4, 54, 9]
abbrev dktX3_bestDayNow_3 : List UInt8 := dkwX3_bestDayNow_3 ++ dktX3_bestDayNow_4
def dkwX3_bestDayNow_2 : List UInt8 := [182, 1, 2, 182, 0, 69, 87, 132, 6, 1, 167, 255, 211, 25, 5, 180, 0, 41, 27, 182, 0, 79]
abbrev dktX3_bestDayNow_2 : List UInt8 := dkwX3_bestDayNow_2 ++ dktX3_bestDayNow_3
def dkwX3_bestDayNow_1 : List UInt8 := [162, 0, 36, 25, 5, 180, 0, 41, 42, 180, 0, 19, 180, 0, 41, 21, 6, 182, 0, 79, 192, 0, 64]
abbrev dktX3_bestDayNow_1 : List UInt8 := dkwX3_bestDayNow_1 ++ dktX3_bestDayNow_2
def dkwX3_bestDayNow_0 : List UInt8 := [187, 0, 16, 89, 183, 0, 18, 58, 5, 3, 54, 6, 21, 6, 42, 180, 0, 19, 180, 0, 41, 182, 0, 45]
abbrev dktX3_bestDayNow_0 : List UInt8 := dkwX3_bestDayNow_0 ++ dktX3_bestDayNow_1
theorem dksX3_bestDayNow_0 : cX3_bestDayNow.data.toList.drop 0 = dktX3_bestDayNow_0 := by decide +kernel
theorem dksX3_bestDayNow_1 : cX3_bestDayNow.data.toList.drop 24 = dktX3_bestDayNow_1 := dk_seg dksX3_bestDayNow_0 24 rfl rfl
theorem dksX3_bestDayNow_2 : cX3_bestDayNow.data.toList.drop 47 = dktX3_bestDayNow_2 := dk_seg dksX3_bestDayNow_1 23 rfl rfl
theorem dksX3_bestDayNow_3 : cX3_bestDayNow.data.toList.drop 69 = dktX3_bestDayNow_3 := dk_seg dksX3_bestDayNow_2 22 rfl rfl
theorem dksX3_bestDayNow_4 : cX3_bestDayNow.data.toList.drop 93 = dktX3_bestDayNow_4 := dk_seg dksX3_bestDayNow_3 24 rfl rfl
theorem dksX3_bestDayNow_5 : cX3_bestDayNow.data.toList.drop 117 = dktX3_bestDayNow_5 := dk_seg dksX3_bestDayNow_4 24 rfl rfl
theorem dksX3_bestDayNow_6 : cX3_bestDayNow.data.toList.drop 141 = dktX3_bestDayNow_6 := dk_seg dksX3_bestDayNow_5 24 rfl rfl
theorem dX3_bestDayNow_0 : decode cX3_bestDayNow 0 = .ok (.new 16, 3) := dk_187 0 16 (dk_at dksX3_bestDayNow_0 0 rfl rfl)
theorem dX3_bestDayNow_3 : decode cX3_bestDayNow 3 = .ok (.dup, 1) := dk_89 (dk_at dksX3_bestDayNow_0 3 rfl rfl)
theorem dX3_bestDayNow_4 : decode cX3_bestDayNow 4 = .ok (.invokespecial 18, 3) := dk_183 0 18 (dk_at dksX3_bestDayNow_0 4 rfl rfl)
theorem dX3_bestDayNow_7 : decode cX3_bestDayNow 7 = .ok (.astore 5, 2) := dk_58 5 (dk_at dksX3_bestDayNow_0 7 rfl rfl)
theorem dX3_bestDayNow_9 : decode cX3_bestDayNow 9 = .ok (.iconst 0, 1) := dk_3 (dk_at dksX3_bestDayNow_0 9 rfl rfl)
theorem dX3_bestDayNow_10 : decode cX3_bestDayNow 10 = .ok (.istore 6, 2) := dk_54 6 (dk_at dksX3_bestDayNow_0 10 rfl rfl)
theorem dX3_bestDayNow_12 : decode cX3_bestDayNow 12 = .ok (.iload 6, 2) := dk_21 6 (dk_at dksX3_bestDayNow_0 12 rfl rfl)
theorem dX3_bestDayNow_14 : decode cX3_bestDayNow 14 = .ok (.aload_n 0, 1) := dk_42 (dk_at dksX3_bestDayNow_0 14 rfl rfl)
theorem dX3_bestDayNow_15 : decode cX3_bestDayNow 15 = .ok (.getfield 19, 3) := dk_180 0 19 (dk_at dksX3_bestDayNow_0 15 rfl rfl)
theorem dX3_bestDayNow_18 : decode cX3_bestDayNow 18 = .ok (.getfield 41, 3) := dk_180 0 41 (dk_at dksX3_bestDayNow_0 18 rfl rfl)
theorem dX3_bestDayNow_21 : decode cX3_bestDayNow 21 = .ok (.invokevirtual 45, 3) := dk_182 0 45 (dk_at dksX3_bestDayNow_0 21 rfl rfl)
theorem dX3_bestDayNow_24 : decode cX3_bestDayNow 24 = .ok (.if_icmp .ge 36, 3) := dk_162 0 36 (dk_at dksX3_bestDayNow_1 0 rfl rfl)
theorem dX3_bestDayNow_27 : decode cX3_bestDayNow 27 = .ok (.aload 5, 2) := dk_25 5 (dk_at dksX3_bestDayNow_1 3 rfl rfl)
theorem dX3_bestDayNow_29 : decode cX3_bestDayNow 29 = .ok (.getfield 41, 3) := dk_180 0 41 (dk_at dksX3_bestDayNow_1 5 rfl rfl)
theorem dX3_bestDayNow_32 : decode cX3_bestDayNow 32 = .ok (.aload_n 0, 1) := dk_42 (dk_at dksX3_bestDayNow_1 8 rfl rfl)
theorem dX3_bestDayNow_33 : decode cX3_bestDayNow 33 = .ok (.getfield 19, 3) := dk_180 0 19 (dk_at dksX3_bestDayNow_1 9 rfl rfl)
theorem dX3_bestDayNow_36 : decode cX3_bestDayNow 36 = .ok (.getfield 41, 3) := dk_180 0 41 (dk_at dksX3_bestDayNow_1 12 rfl rfl)
theorem dX3_bestDayNow_39 : decode cX3_bestDayNow 39 = .ok (.iload 6, 2) := dk_21 6 (dk_at dksX3_bestDayNow_1 15 rfl rfl)
theorem dX3_bestDayNow_41 : decode cX3_bestDayNow 41 = .ok (.invokevirtual 79, 3) := dk_182 0 79 (dk_at dksX3_bestDayNow_1 17 rfl rfl)
theorem dX3_bestDayNow_44 : decode cX3_bestDayNow 44 = .ok (.checkcast 64, 3) := dk_192 0 64 (dk_at dksX3_bestDayNow_1 20 rfl rfl)
theorem dX3_bestDayNow_47 : decode cX3_bestDayNow 47 = .ok (.invokevirtual 258, 3) := dk_182 1 2 (dk_at dksX3_bestDayNow_2 0 rfl rfl)
theorem dX3_bestDayNow_50 : decode cX3_bestDayNow 50 = .ok (.invokevirtual 69, 3) := dk_182 0 69 (dk_at dksX3_bestDayNow_2 3 rfl rfl)
theorem dX3_bestDayNow_53 : decode cX3_bestDayNow 53 = .ok (.pop, 1) := dk_87 (dk_at dksX3_bestDayNow_2 6 rfl rfl)
theorem dX3_bestDayNow_54 : decode cX3_bestDayNow 54 = .ok (.iinc 6 1, 3) := dk_132 6 1 (dk_at dksX3_bestDayNow_2 7 rfl rfl)
theorem dX3_bestDayNow_57 : decode cX3_bestDayNow 57 = .ok (.goto (-45), 3) := dk_167 255 211 (dk_at dksX3_bestDayNow_2 10 rfl rfl)
theorem dX3_bestDayNow_60 : decode cX3_bestDayNow 60 = .ok (.aload 5, 2) := dk_25 5 (dk_at dksX3_bestDayNow_2 13 rfl rfl)
theorem dX3_bestDayNow_62 : decode cX3_bestDayNow 62 = .ok (.getfield 41, 3) := dk_180 0 41 (dk_at dksX3_bestDayNow_2 15 rfl rfl)
theorem dX3_bestDayNow_65 : decode cX3_bestDayNow 65 = .ok (.iload_n 1, 1) := dk_27 (dk_at dksX3_bestDayNow_2 18 rfl rfl)
theorem dX3_bestDayNow_66 : decode cX3_bestDayNow 66 = .ok (.invokevirtual 79, 3) := dk_182 0 79 (dk_at dksX3_bestDayNow_2 19 rfl rfl)
theorem dX3_bestDayNow_69 : decode cX3_bestDayNow 69 = .ok (.checkcast 64, 3) := dk_192 0 64 (dk_at dksX3_bestDayNow_3 0 rfl rfl)
theorem dX3_bestDayNow_72 : decode cX3_bestDayNow 72 = .ok (.astore 6, 2) := dk_58 6 (dk_at dksX3_bestDayNow_3 3 rfl rfl)
theorem dX3_bestDayNow_74 : decode cX3_bestDayNow 74 = .ok (.iconst 0, 1) := dk_3 (dk_at dksX3_bestDayNow_3 5 rfl rfl)
theorem dX3_bestDayNow_75 : decode cX3_bestDayNow 75 = .ok (.istore 7, 2) := dk_54 7 (dk_at dksX3_bestDayNow_3 6 rfl rfl)
theorem dX3_bestDayNow_77 : decode cX3_bestDayNow 77 = .ok (.aload 6, 2) := dk_25 6 (dk_at dksX3_bestDayNow_3 8 rfl rfl)
theorem dX3_bestDayNow_79 : decode cX3_bestDayNow 79 = .ok (.getfield 95, 3) := dk_180 0 95 (dk_at dksX3_bestDayNow_3 10 rfl rfl)
theorem dX3_bestDayNow_82 : decode cX3_bestDayNow 82 = .ok (.aload 6, 2) := dk_25 6 (dk_at dksX3_bestDayNow_3 13 rfl rfl)
theorem dX3_bestDayNow_84 : decode cX3_bestDayNow 84 = .ok (.getfield 113, 3) := dk_180 0 113 (dk_at dksX3_bestDayNow_3 15 rfl rfl)
theorem dX3_bestDayNow_87 : decode cX3_bestDayNow 87 = .ok (.imul, 1) := dk_104 (dk_at dksX3_bestDayNow_3 18 rfl rfl)
theorem dX3_bestDayNow_88 : decode cX3_bestDayNow 88 = .ok (.istore 8, 2) := dk_54 8 (dk_at dksX3_bestDayNow_3 19 rfl rfl)
theorem dX3_bestDayNow_90 : decode cX3_bestDayNow 90 = .ok (.iconst 1, 1) := dk_4 (dk_at dksX3_bestDayNow_3 21 rfl rfl)
theorem dX3_bestDayNow_91 : decode cX3_bestDayNow 91 = .ok (.istore 9, 2) := dk_54 9 (dk_at dksX3_bestDayNow_3 22 rfl rfl)
theorem dX3_bestDayNow_93 : decode cX3_bestDayNow 93 = .ok (.iload 9, 2) := dk_21 9 (dk_at dksX3_bestDayNow_4 0 rfl rfl)
theorem dX3_bestDayNow_95 : decode cX3_bestDayNow 95 = .ok (.iload_n 2, 1) := dk_28 (dk_at dksX3_bestDayNow_4 2 rfl rfl)
theorem dX3_bestDayNow_96 : decode cX3_bestDayNow 96 = .ok (.if_icmp .gt 53, 3) := dk_163 0 53 (dk_at dksX3_bestDayNow_4 3 rfl rfl)
theorem dX3_bestDayNow_99 : decode cX3_bestDayNow 99 = .ok (.aload 5, 2) := dk_25 5 (dk_at dksX3_bestDayNow_4 6 rfl rfl)
theorem dX3_bestDayNow_101 : decode cX3_bestDayNow 101 = .ok (.iload_n 3, 1) := dk_29 (dk_at dksX3_bestDayNow_4 8 rfl rfl)
theorem dX3_bestDayNow_102 : decode cX3_bestDayNow 102 = .ok (.iload 4, 2) := dk_21 4 (dk_at dksX3_bestDayNow_4 9 rfl rfl)
theorem dX3_bestDayNow_104 : decode cX3_bestDayNow 104 = .ok (.invokevirtual 261, 3) := dk_182 1 5 (dk_at dksX3_bestDayNow_4 11 rfl rfl)
theorem dX3_bestDayNow_107 : decode cX3_bestDayNow 107 = .ok (.aload 6, 2) := dk_25 6 (dk_at dksX3_bestDayNow_4 14 rfl rfl)
theorem dX3_bestDayNow_109 : decode cX3_bestDayNow 109 = .ok (.getfield 95, 3) := dk_180 0 95 (dk_at dksX3_bestDayNow_4 16 rfl rfl)
theorem dX3_bestDayNow_112 : decode cX3_bestDayNow 112 = .ok (.aload 6, 2) := dk_25 6 (dk_at dksX3_bestDayNow_4 19 rfl rfl)
theorem dX3_bestDayNow_114 : decode cX3_bestDayNow 114 = .ok (.getfield 113, 3) := dk_180 0 113 (dk_at dksX3_bestDayNow_4 21 rfl rfl)
theorem dX3_bestDayNow_117 : decode cX3_bestDayNow 117 = .ok (.imul, 1) := dk_104 (dk_at dksX3_bestDayNow_5 0 rfl rfl)
theorem dX3_bestDayNow_118 : decode cX3_bestDayNow 118 = .ok (.iload 8, 2) := dk_21 8 (dk_at dksX3_bestDayNow_5 1 rfl rfl)
theorem dX3_bestDayNow_120 : decode cX3_bestDayNow 120 = .ok (.if_icmp .gt 6, 3) := dk_163 0 6 (dk_at dksX3_bestDayNow_5 3 rfl rfl)
theorem dX3_bestDayNow_123 : decode cX3_bestDayNow 123 = .ok (.goto 20, 3) := dk_167 0 20 (dk_at dksX3_bestDayNow_5 6 rfl rfl)
theorem dX3_bestDayNow_126 : decode cX3_bestDayNow 126 = .ok (.iload 9, 2) := dk_21 9 (dk_at dksX3_bestDayNow_5 9 rfl rfl)
theorem dX3_bestDayNow_128 : decode cX3_bestDayNow 128 = .ok (.istore 7, 2) := dk_54 7 (dk_at dksX3_bestDayNow_5 11 rfl rfl)
theorem dX3_bestDayNow_130 : decode cX3_bestDayNow 130 = .ok (.aload 6, 2) := dk_25 6 (dk_at dksX3_bestDayNow_5 13 rfl rfl)
theorem dX3_bestDayNow_132 : decode cX3_bestDayNow 132 = .ok (.getfield 95, 3) := dk_180 0 95 (dk_at dksX3_bestDayNow_5 15 rfl rfl)
theorem dX3_bestDayNow_135 : decode cX3_bestDayNow 135 = .ok (.aload 6, 2) := dk_25 6 (dk_at dksX3_bestDayNow_5 18 rfl rfl)
theorem dX3_bestDayNow_137 : decode cX3_bestDayNow 137 = .ok (.getfield 113, 3) := dk_180 0 113 (dk_at dksX3_bestDayNow_5 20 rfl rfl)
theorem dX3_bestDayNow_140 : decode cX3_bestDayNow 140 = .ok (.imul, 1) := dk_104 (dk_at dksX3_bestDayNow_5 23 rfl rfl)
theorem dX3_bestDayNow_141 : decode cX3_bestDayNow 141 = .ok (.istore 8, 2) := dk_54 8 (dk_at dksX3_bestDayNow_6 0 rfl rfl)
theorem dX3_bestDayNow_143 : decode cX3_bestDayNow 143 = .ok (.iinc 9 1, 3) := dk_132 9 1 (dk_at dksX3_bestDayNow_6 2 rfl rfl)
theorem dX3_bestDayNow_146 : decode cX3_bestDayNow 146 = .ok (.goto (-53), 3) := dk_167 255 203 (dk_at dksX3_bestDayNow_6 5 rfl rfl)
theorem dX3_bestDayNow_149 : decode cX3_bestDayNow 149 = .ok (.iload 7, 2) := dk_21 7 (dk_at dksX3_bestDayNow_6 8 rfl rfl)
theorem dX3_bestDayNow_151 : decode cX3_bestDayNow 151 = .ok (.ireturn, 1) := dk_172 (dk_at dksX3_bestDayNow_6 10 rfl rfl)
abbrev cX3_digest : ByteArray := prog_7_method_47_code
def yX3_digest : MethodName := ⟨RX3, "digest", "()J"⟩
def dkwX3_digest_13 : List UInt8 := [184, 1, 17, 173]
abbrev dktX3_digest_13 : List UInt8 := dkwX3_digest_13 ++ []
def dkwX3_digest_12 : List UInt8 := [184, 1, 17, 64, 31, 42, 16, 40, 182, 0, 252, 133, 184, 1, 17, 42, 16, 20, 182, 0, 255, 133]
abbrev dktX3_digest_12 : List UInt8 := dkwX3_digest_12 ++ dktX3_digest_13
def dkwX3_digest_11 : List UInt8 := [154, 0, 27, 31, 42, 42, 180, 0, 19, 180, 0, 54, 182, 0, 45, 4, 100, 16, 40, 182, 0, 249, 133]
abbrev dktX3_digest_11 : List UInt8 := dkwX3_digest_11 ++ dktX3_digest_12
def dkwX3_digest_10 : List UInt8 := [64, 132, 4, 1, 167, 255, 234, 132, 3, 1, 167, 255, 220, 42, 180, 0, 19, 180, 0, 54, 182, 1, 20]
abbrev dktX3_digest_10 : List UInt8 := dkwX3_digest_10 ++ dktX3_digest_11
def dkwX3_digest_9 : List UInt8 := [162, 0, 37, 3, 54, 4, 21, 4, 7, 162, 0, 22, 31, 42, 29, 21, 4, 182, 0, 220, 133, 184, 1, 17]
abbrev dktX3_digest_9 : List UInt8 := dkwX3_digest_9 ++ dktX3_digest_10
def dkwX3_digest_8 : List UInt8 := [182, 0, 211, 133, 184, 1, 17, 64, 132, 4, 1, 167, 255, 234, 132, 3, 1, 167, 255, 211, 3, 62, 29, 7]
abbrev dktX3_digest_8 : List UInt8 := dkwX3_digest_8 ++ dktX3_digest_9
def dkwX3_digest_7 : List UInt8 := [180, 0, 51, 182, 0, 45, 162, 0, 37, 3, 54, 4, 21, 4, 7, 162, 0, 22, 31, 42, 29, 21, 4]
abbrev dktX3_digest_7 : List UInt8 := dkwX3_digest_7 ++ dktX3_digest_8
def dkwX3_digest_6 : List UInt8 := [184, 1, 17, 64, 132, 4, 1, 167, 255, 233, 132, 3, 1, 167, 255, 210, 3, 62, 29, 42, 180, 0, 19]
abbrev dktX3_digest_6 : List UInt8 := dkwX3_digest_6 ++ dktX3_digest_7
def dkwX3_digest_5 : List UInt8 := [162, 0, 38, 3, 54, 4, 21, 4, 16, 7, 162, 0, 22, 31, 42, 29, 21, 4, 182, 0, 205, 133]
abbrev dktX3_digest_5 : List UInt8 := dkwX3_digest_5 ++ dktX3_digest_6
def dkwX3_digest_4 : List UInt8 := [184, 1, 17, 64, 132, 3, 1, 167, 255, 194, 3, 62, 29, 42, 180, 0, 19, 180, 0, 54, 182, 0, 45]
abbrev dktX3_digest_4 : List UInt8 := dkwX3_digest_4 ++ dktX3_digest_5
def dkwX3_digest_3 : List UInt8 := [184, 1, 17, 64, 132, 4, 1, 167, 255, 233, 31, 42, 29, 16, 20, 16, 25, 5, 182, 1, 9, 133]
abbrev dktX3_digest_3 : List UInt8 := dkwX3_digest_3 ++ dktX3_digest_4
def dkwX3_digest_2 : List UInt8 := [162, 0, 54, 3, 54, 4, 21, 4, 16, 12, 162, 0, 22, 31, 42, 29, 21, 4, 182, 0, 186, 133]
abbrev dktX3_digest_2 : List UInt8 := dkwX3_digest_2 ++ dktX3_digest_3
def dkwX3_digest_1 : List UInt8 := [184, 1, 17, 64, 132, 3, 1, 167, 255, 236, 3, 62, 29, 42, 180, 0, 19, 180, 0, 41, 182, 0, 45]
abbrev dktX3_digest_1 : List UInt8 := dkwX3_digest_1 ++ dktX3_digest_2
def dkwX3_digest_0 : List UInt8 := [42, 3, 181, 0, 29, 20, 1, 15, 64, 3, 62, 29, 16, 20, 162, 0, 20, 31, 42, 29, 182, 0, 238, 133]
abbrev dktX3_digest_0 : List UInt8 := dkwX3_digest_0 ++ dktX3_digest_1
theorem dksX3_digest_0 : cX3_digest.data.toList.drop 0 = dktX3_digest_0 := by decide +kernel
theorem dksX3_digest_1 : cX3_digest.data.toList.drop 24 = dktX3_digest_1 := dk_seg dksX3_digest_0 24 rfl rfl
theorem dksX3_digest_2 : cX3_digest.data.toList.drop 47 = dktX3_digest_2 := dk_seg dksX3_digest_1 23 rfl rfl
theorem dksX3_digest_3 : cX3_digest.data.toList.drop 69 = dktX3_digest_3 := dk_seg dksX3_digest_2 22 rfl rfl
theorem dksX3_digest_4 : cX3_digest.data.toList.drop 91 = dktX3_digest_4 := dk_seg dksX3_digest_3 22 rfl rfl
theorem dksX3_digest_5 : cX3_digest.data.toList.drop 114 = dktX3_digest_5 := dk_seg dksX3_digest_4 23 rfl rfl
theorem dksX3_digest_6 : cX3_digest.data.toList.drop 136 = dktX3_digest_6 := dk_seg dksX3_digest_5 22 rfl rfl
theorem dksX3_digest_7 : cX3_digest.data.toList.drop 159 = dktX3_digest_7 := dk_seg dksX3_digest_6 23 rfl rfl
theorem dksX3_digest_8 : cX3_digest.data.toList.drop 182 = dktX3_digest_8 := dk_seg dksX3_digest_7 23 rfl rfl
theorem dksX3_digest_9 : cX3_digest.data.toList.drop 206 = dktX3_digest_9 := dk_seg dksX3_digest_8 24 rfl rfl
theorem dksX3_digest_10 : cX3_digest.data.toList.drop 230 = dktX3_digest_10 := dk_seg dksX3_digest_9 24 rfl rfl
theorem dksX3_digest_11 : cX3_digest.data.toList.drop 253 = dktX3_digest_11 := dk_seg dksX3_digest_10 23 rfl rfl
theorem dksX3_digest_12 : cX3_digest.data.toList.drop 276 = dktX3_digest_12 := dk_seg dksX3_digest_11 23 rfl rfl
theorem dksX3_digest_13 : cX3_digest.data.toList.drop 298 = dktX3_digest_13 := dk_seg dksX3_digest_12 22 rfl rfl
theorem dX3_digest_0 : decode cX3_digest 0 = .ok (.aload_n 0, 1) := dk_42 (dk_at dksX3_digest_0 0 rfl rfl)
theorem dX3_digest_1 : decode cX3_digest 1 = .ok (.iconst 0, 1) := dk_3 (dk_at dksX3_digest_0 1 rfl rfl)
theorem dX3_digest_2 : decode cX3_digest 2 = .ok (.putfield 29, 3) := dk_181 0 29 (dk_at dksX3_digest_0 2 rfl rfl)
theorem dX3_digest_5 : decode cX3_digest 5 = .ok (.ldc2_w 271, 3) := dk_20 1 15 (dk_at dksX3_digest_0 5 rfl rfl)
theorem dX3_digest_8 : decode cX3_digest 8 = .ok (.lstore_n 1, 1) := dk_64 (dk_at dksX3_digest_0 8 rfl rfl)
theorem dX3_digest_9 : decode cX3_digest 9 = .ok (.iconst 0, 1) := dk_3 (dk_at dksX3_digest_0 9 rfl rfl)
theorem dX3_digest_10 : decode cX3_digest 10 = .ok (.istore_n 3, 1) := dk_62 (dk_at dksX3_digest_0 10 rfl rfl)
theorem dX3_digest_11 : decode cX3_digest 11 = .ok (.iload_n 3, 1) := dk_29 (dk_at dksX3_digest_0 11 rfl rfl)
theorem dX3_digest_12 : decode cX3_digest 12 = .ok (.bipush 20, 2) := dk_16 20 (dk_at dksX3_digest_0 12 rfl rfl)
theorem dX3_digest_14 : decode cX3_digest 14 = .ok (.if_icmp .ge 20, 3) := dk_162 0 20 (dk_at dksX3_digest_0 14 rfl rfl)
theorem dX3_digest_17 : decode cX3_digest 17 = .ok (.lload_n 1, 1) := dk_31 (dk_at dksX3_digest_0 17 rfl rfl)
theorem dX3_digest_18 : decode cX3_digest 18 = .ok (.aload_n 0, 1) := dk_42 (dk_at dksX3_digest_0 18 rfl rfl)
theorem dX3_digest_19 : decode cX3_digest 19 = .ok (.iload_n 3, 1) := dk_29 (dk_at dksX3_digest_0 19 rfl rfl)
theorem dX3_digest_20 : decode cX3_digest 20 = .ok (.invokevirtual 238, 3) := dk_182 0 238 (dk_at dksX3_digest_0 20 rfl rfl)
theorem dX3_digest_23 : decode cX3_digest 23 = .ok (.i2l, 1) := dk_133 (dk_at dksX3_digest_0 23 rfl rfl)
theorem dX3_digest_24 : decode cX3_digest 24 = .ok (.invokestatic 273, 3) := dk_184 1 17 (dk_at dksX3_digest_1 0 rfl rfl)
theorem dX3_digest_27 : decode cX3_digest 27 = .ok (.lstore_n 1, 1) := dk_64 (dk_at dksX3_digest_1 3 rfl rfl)
theorem dX3_digest_28 : decode cX3_digest 28 = .ok (.iinc 3 1, 3) := dk_132 3 1 (dk_at dksX3_digest_1 4 rfl rfl)
theorem dX3_digest_31 : decode cX3_digest 31 = .ok (.goto (-20), 3) := dk_167 255 236 (dk_at dksX3_digest_1 7 rfl rfl)
theorem dX3_digest_34 : decode cX3_digest 34 = .ok (.iconst 0, 1) := dk_3 (dk_at dksX3_digest_1 10 rfl rfl)
theorem dX3_digest_35 : decode cX3_digest 35 = .ok (.istore_n 3, 1) := dk_62 (dk_at dksX3_digest_1 11 rfl rfl)
theorem dX3_digest_36 : decode cX3_digest 36 = .ok (.iload_n 3, 1) := dk_29 (dk_at dksX3_digest_1 12 rfl rfl)
theorem dX3_digest_37 : decode cX3_digest 37 = .ok (.aload_n 0, 1) := dk_42 (dk_at dksX3_digest_1 13 rfl rfl)
theorem dX3_digest_38 : decode cX3_digest 38 = .ok (.getfield 19, 3) := dk_180 0 19 (dk_at dksX3_digest_1 14 rfl rfl)
theorem dX3_digest_41 : decode cX3_digest 41 = .ok (.getfield 41, 3) := dk_180 0 41 (dk_at dksX3_digest_1 17 rfl rfl)
theorem dX3_digest_44 : decode cX3_digest 44 = .ok (.invokevirtual 45, 3) := dk_182 0 45 (dk_at dksX3_digest_1 20 rfl rfl)
theorem dX3_digest_47 : decode cX3_digest 47 = .ok (.if_icmp .ge 54, 3) := dk_162 0 54 (dk_at dksX3_digest_2 0 rfl rfl)
theorem dX3_digest_50 : decode cX3_digest 50 = .ok (.iconst 0, 1) := dk_3 (dk_at dksX3_digest_2 3 rfl rfl)
theorem dX3_digest_51 : decode cX3_digest 51 = .ok (.istore 4, 2) := dk_54 4 (dk_at dksX3_digest_2 4 rfl rfl)
theorem dX3_digest_53 : decode cX3_digest 53 = .ok (.iload 4, 2) := dk_21 4 (dk_at dksX3_digest_2 6 rfl rfl)
theorem dX3_digest_55 : decode cX3_digest 55 = .ok (.bipush 12, 2) := dk_16 12 (dk_at dksX3_digest_2 8 rfl rfl)
theorem dX3_digest_57 : decode cX3_digest 57 = .ok (.if_icmp .ge 22, 3) := dk_162 0 22 (dk_at dksX3_digest_2 10 rfl rfl)
theorem dX3_digest_60 : decode cX3_digest 60 = .ok (.lload_n 1, 1) := dk_31 (dk_at dksX3_digest_2 13 rfl rfl)
theorem dX3_digest_61 : decode cX3_digest 61 = .ok (.aload_n 0, 1) := dk_42 (dk_at dksX3_digest_2 14 rfl rfl)
theorem dX3_digest_62 : decode cX3_digest 62 = .ok (.iload_n 3, 1) := dk_29 (dk_at dksX3_digest_2 15 rfl rfl)
theorem dX3_digest_63 : decode cX3_digest 63 = .ok (.iload 4, 2) := dk_21 4 (dk_at dksX3_digest_2 16 rfl rfl)
theorem dX3_digest_65 : decode cX3_digest 65 = .ok (.invokevirtual 186, 3) := dk_182 0 186 (dk_at dksX3_digest_2 18 rfl rfl)
theorem dX3_digest_68 : decode cX3_digest 68 = .ok (.i2l, 1) := dk_133 (dk_at dksX3_digest_2 21 rfl rfl)
theorem dX3_digest_69 : decode cX3_digest 69 = .ok (.invokestatic 273, 3) := dk_184 1 17 (dk_at dksX3_digest_3 0 rfl rfl)
theorem dX3_digest_72 : decode cX3_digest 72 = .ok (.lstore_n 1, 1) := dk_64 (dk_at dksX3_digest_3 3 rfl rfl)
theorem dX3_digest_73 : decode cX3_digest 73 = .ok (.iinc 4 1, 3) := dk_132 4 1 (dk_at dksX3_digest_3 4 rfl rfl)
theorem dX3_digest_76 : decode cX3_digest 76 = .ok (.goto (-23), 3) := dk_167 255 233 (dk_at dksX3_digest_3 7 rfl rfl)
theorem dX3_digest_79 : decode cX3_digest 79 = .ok (.lload_n 1, 1) := dk_31 (dk_at dksX3_digest_3 10 rfl rfl)
theorem dX3_digest_80 : decode cX3_digest 80 = .ok (.aload_n 0, 1) := dk_42 (dk_at dksX3_digest_3 11 rfl rfl)
theorem dX3_digest_81 : decode cX3_digest 81 = .ok (.iload_n 3, 1) := dk_29 (dk_at dksX3_digest_3 12 rfl rfl)
theorem dX3_digest_82 : decode cX3_digest 82 = .ok (.bipush 20, 2) := dk_16 20 (dk_at dksX3_digest_3 13 rfl rfl)
theorem dX3_digest_84 : decode cX3_digest 84 = .ok (.bipush 25, 2) := dk_16 25 (dk_at dksX3_digest_3 15 rfl rfl)
theorem dX3_digest_86 : decode cX3_digest 86 = .ok (.iconst 2, 1) := dk_5 (dk_at dksX3_digest_3 17 rfl rfl)
theorem dX3_digest_87 : decode cX3_digest 87 = .ok (.invokevirtual 265, 3) := dk_182 1 9 (dk_at dksX3_digest_3 18 rfl rfl)
theorem dX3_digest_90 : decode cX3_digest 90 = .ok (.i2l, 1) := dk_133 (dk_at dksX3_digest_3 21 rfl rfl)
theorem dX3_digest_91 : decode cX3_digest 91 = .ok (.invokestatic 273, 3) := dk_184 1 17 (dk_at dksX3_digest_4 0 rfl rfl)
theorem dX3_digest_94 : decode cX3_digest 94 = .ok (.lstore_n 1, 1) := dk_64 (dk_at dksX3_digest_4 3 rfl rfl)
theorem dX3_digest_95 : decode cX3_digest 95 = .ok (.iinc 3 1, 3) := dk_132 3 1 (dk_at dksX3_digest_4 4 rfl rfl)
theorem dX3_digest_98 : decode cX3_digest 98 = .ok (.goto (-62), 3) := dk_167 255 194 (dk_at dksX3_digest_4 7 rfl rfl)
theorem dX3_digest_101 : decode cX3_digest 101 = .ok (.iconst 0, 1) := dk_3 (dk_at dksX3_digest_4 10 rfl rfl)
theorem dX3_digest_102 : decode cX3_digest 102 = .ok (.istore_n 3, 1) := dk_62 (dk_at dksX3_digest_4 11 rfl rfl)
theorem dX3_digest_103 : decode cX3_digest 103 = .ok (.iload_n 3, 1) := dk_29 (dk_at dksX3_digest_4 12 rfl rfl)
theorem dX3_digest_104 : decode cX3_digest 104 = .ok (.aload_n 0, 1) := dk_42 (dk_at dksX3_digest_4 13 rfl rfl)
theorem dX3_digest_105 : decode cX3_digest 105 = .ok (.getfield 19, 3) := dk_180 0 19 (dk_at dksX3_digest_4 14 rfl rfl)
theorem dX3_digest_108 : decode cX3_digest 108 = .ok (.getfield 54, 3) := dk_180 0 54 (dk_at dksX3_digest_4 17 rfl rfl)
theorem dX3_digest_111 : decode cX3_digest 111 = .ok (.invokevirtual 45, 3) := dk_182 0 45 (dk_at dksX3_digest_4 20 rfl rfl)
theorem dX3_digest_114 : decode cX3_digest 114 = .ok (.if_icmp .ge 38, 3) := dk_162 0 38 (dk_at dksX3_digest_5 0 rfl rfl)
theorem dX3_digest_117 : decode cX3_digest 117 = .ok (.iconst 0, 1) := dk_3 (dk_at dksX3_digest_5 3 rfl rfl)
theorem dX3_digest_118 : decode cX3_digest 118 = .ok (.istore 4, 2) := dk_54 4 (dk_at dksX3_digest_5 4 rfl rfl)
theorem dX3_digest_120 : decode cX3_digest 120 = .ok (.iload 4, 2) := dk_21 4 (dk_at dksX3_digest_5 6 rfl rfl)
theorem dX3_digest_122 : decode cX3_digest 122 = .ok (.bipush 7, 2) := dk_16 7 (dk_at dksX3_digest_5 8 rfl rfl)
theorem dX3_digest_124 : decode cX3_digest 124 = .ok (.if_icmp .ge 22, 3) := dk_162 0 22 (dk_at dksX3_digest_5 10 rfl rfl)
theorem dX3_digest_127 : decode cX3_digest 127 = .ok (.lload_n 1, 1) := dk_31 (dk_at dksX3_digest_5 13 rfl rfl)
theorem dX3_digest_128 : decode cX3_digest 128 = .ok (.aload_n 0, 1) := dk_42 (dk_at dksX3_digest_5 14 rfl rfl)
theorem dX3_digest_129 : decode cX3_digest 129 = .ok (.iload_n 3, 1) := dk_29 (dk_at dksX3_digest_5 15 rfl rfl)
theorem dX3_digest_130 : decode cX3_digest 130 = .ok (.iload 4, 2) := dk_21 4 (dk_at dksX3_digest_5 16 rfl rfl)
theorem dX3_digest_132 : decode cX3_digest 132 = .ok (.invokevirtual 205, 3) := dk_182 0 205 (dk_at dksX3_digest_5 18 rfl rfl)
theorem dX3_digest_135 : decode cX3_digest 135 = .ok (.i2l, 1) := dk_133 (dk_at dksX3_digest_5 21 rfl rfl)
theorem dX3_digest_136 : decode cX3_digest 136 = .ok (.invokestatic 273, 3) := dk_184 1 17 (dk_at dksX3_digest_6 0 rfl rfl)
theorem dX3_digest_139 : decode cX3_digest 139 = .ok (.lstore_n 1, 1) := dk_64 (dk_at dksX3_digest_6 3 rfl rfl)
theorem dX3_digest_140 : decode cX3_digest 140 = .ok (.iinc 4 1, 3) := dk_132 4 1 (dk_at dksX3_digest_6 4 rfl rfl)
theorem dX3_digest_143 : decode cX3_digest 143 = .ok (.goto (-23), 3) := dk_167 255 233 (dk_at dksX3_digest_6 7 rfl rfl)
theorem dX3_digest_146 : decode cX3_digest 146 = .ok (.iinc 3 1, 3) := dk_132 3 1 (dk_at dksX3_digest_6 10 rfl rfl)
theorem dX3_digest_149 : decode cX3_digest 149 = .ok (.goto (-46), 3) := dk_167 255 210 (dk_at dksX3_digest_6 13 rfl rfl)
theorem dX3_digest_152 : decode cX3_digest 152 = .ok (.iconst 0, 1) := dk_3 (dk_at dksX3_digest_6 16 rfl rfl)
theorem dX3_digest_153 : decode cX3_digest 153 = .ok (.istore_n 3, 1) := dk_62 (dk_at dksX3_digest_6 17 rfl rfl)
theorem dX3_digest_154 : decode cX3_digest 154 = .ok (.iload_n 3, 1) := dk_29 (dk_at dksX3_digest_6 18 rfl rfl)
theorem dX3_digest_155 : decode cX3_digest 155 = .ok (.aload_n 0, 1) := dk_42 (dk_at dksX3_digest_6 19 rfl rfl)
theorem dX3_digest_156 : decode cX3_digest 156 = .ok (.getfield 19, 3) := dk_180 0 19 (dk_at dksX3_digest_6 20 rfl rfl)
theorem dX3_digest_159 : decode cX3_digest 159 = .ok (.getfield 51, 3) := dk_180 0 51 (dk_at dksX3_digest_7 0 rfl rfl)
theorem dX3_digest_162 : decode cX3_digest 162 = .ok (.invokevirtual 45, 3) := dk_182 0 45 (dk_at dksX3_digest_7 3 rfl rfl)
theorem dX3_digest_165 : decode cX3_digest 165 = .ok (.if_icmp .ge 37, 3) := dk_162 0 37 (dk_at dksX3_digest_7 6 rfl rfl)
theorem dX3_digest_168 : decode cX3_digest 168 = .ok (.iconst 0, 1) := dk_3 (dk_at dksX3_digest_7 9 rfl rfl)
theorem dX3_digest_169 : decode cX3_digest 169 = .ok (.istore 4, 2) := dk_54 4 (dk_at dksX3_digest_7 10 rfl rfl)
theorem dX3_digest_171 : decode cX3_digest 171 = .ok (.iload 4, 2) := dk_21 4 (dk_at dksX3_digest_7 12 rfl rfl)
theorem dX3_digest_173 : decode cX3_digest 173 = .ok (.iconst 4, 1) := dk_7 (dk_at dksX3_digest_7 14 rfl rfl)
theorem dX3_digest_174 : decode cX3_digest 174 = .ok (.if_icmp .ge 22, 3) := dk_162 0 22 (dk_at dksX3_digest_7 15 rfl rfl)
theorem dX3_digest_177 : decode cX3_digest 177 = .ok (.lload_n 1, 1) := dk_31 (dk_at dksX3_digest_7 18 rfl rfl)
theorem dX3_digest_178 : decode cX3_digest 178 = .ok (.aload_n 0, 1) := dk_42 (dk_at dksX3_digest_7 19 rfl rfl)
theorem dX3_digest_179 : decode cX3_digest 179 = .ok (.iload_n 3, 1) := dk_29 (dk_at dksX3_digest_7 20 rfl rfl)
theorem dX3_digest_180 : decode cX3_digest 180 = .ok (.iload 4, 2) := dk_21 4 (dk_at dksX3_digest_7 21 rfl rfl)
theorem dX3_digest_182 : decode cX3_digest 182 = .ok (.invokevirtual 211, 3) := dk_182 0 211 (dk_at dksX3_digest_8 0 rfl rfl)
theorem dX3_digest_185 : decode cX3_digest 185 = .ok (.i2l, 1) := dk_133 (dk_at dksX3_digest_8 3 rfl rfl)
theorem dX3_digest_186 : decode cX3_digest 186 = .ok (.invokestatic 273, 3) := dk_184 1 17 (dk_at dksX3_digest_8 4 rfl rfl)
theorem dX3_digest_189 : decode cX3_digest 189 = .ok (.lstore_n 1, 1) := dk_64 (dk_at dksX3_digest_8 7 rfl rfl)
theorem dX3_digest_190 : decode cX3_digest 190 = .ok (.iinc 4 1, 3) := dk_132 4 1 (dk_at dksX3_digest_8 8 rfl rfl)
theorem dX3_digest_193 : decode cX3_digest 193 = .ok (.goto (-22), 3) := dk_167 255 234 (dk_at dksX3_digest_8 11 rfl rfl)
theorem dX3_digest_196 : decode cX3_digest 196 = .ok (.iinc 3 1, 3) := dk_132 3 1 (dk_at dksX3_digest_8 14 rfl rfl)
theorem dX3_digest_199 : decode cX3_digest 199 = .ok (.goto (-45), 3) := dk_167 255 211 (dk_at dksX3_digest_8 17 rfl rfl)
theorem dX3_digest_202 : decode cX3_digest 202 = .ok (.iconst 0, 1) := dk_3 (dk_at dksX3_digest_8 20 rfl rfl)
theorem dX3_digest_203 : decode cX3_digest 203 = .ok (.istore_n 3, 1) := dk_62 (dk_at dksX3_digest_8 21 rfl rfl)
theorem dX3_digest_204 : decode cX3_digest 204 = .ok (.iload_n 3, 1) := dk_29 (dk_at dksX3_digest_8 22 rfl rfl)
theorem dX3_digest_205 : decode cX3_digest 205 = .ok (.iconst 4, 1) := dk_7 (dk_at dksX3_digest_8 23 rfl rfl)
theorem dX3_digest_206 : decode cX3_digest 206 = .ok (.if_icmp .ge 37, 3) := dk_162 0 37 (dk_at dksX3_digest_9 0 rfl rfl)
theorem dX3_digest_209 : decode cX3_digest 209 = .ok (.iconst 0, 1) := dk_3 (dk_at dksX3_digest_9 3 rfl rfl)
theorem dX3_digest_210 : decode cX3_digest 210 = .ok (.istore 4, 2) := dk_54 4 (dk_at dksX3_digest_9 4 rfl rfl)
theorem dX3_digest_212 : decode cX3_digest 212 = .ok (.iload 4, 2) := dk_21 4 (dk_at dksX3_digest_9 6 rfl rfl)
theorem dX3_digest_214 : decode cX3_digest 214 = .ok (.iconst 4, 1) := dk_7 (dk_at dksX3_digest_9 8 rfl rfl)
theorem dX3_digest_215 : decode cX3_digest 215 = .ok (.if_icmp .ge 22, 3) := dk_162 0 22 (dk_at dksX3_digest_9 9 rfl rfl)
theorem dX3_digest_218 : decode cX3_digest 218 = .ok (.lload_n 1, 1) := dk_31 (dk_at dksX3_digest_9 12 rfl rfl)
theorem dX3_digest_219 : decode cX3_digest 219 = .ok (.aload_n 0, 1) := dk_42 (dk_at dksX3_digest_9 13 rfl rfl)
theorem dX3_digest_220 : decode cX3_digest 220 = .ok (.iload_n 3, 1) := dk_29 (dk_at dksX3_digest_9 14 rfl rfl)
theorem dX3_digest_221 : decode cX3_digest 221 = .ok (.iload 4, 2) := dk_21 4 (dk_at dksX3_digest_9 15 rfl rfl)
theorem dX3_digest_223 : decode cX3_digest 223 = .ok (.invokevirtual 220, 3) := dk_182 0 220 (dk_at dksX3_digest_9 17 rfl rfl)
theorem dX3_digest_226 : decode cX3_digest 226 = .ok (.i2l, 1) := dk_133 (dk_at dksX3_digest_9 20 rfl rfl)
theorem dX3_digest_227 : decode cX3_digest 227 = .ok (.invokestatic 273, 3) := dk_184 1 17 (dk_at dksX3_digest_9 21 rfl rfl)
theorem dX3_digest_230 : decode cX3_digest 230 = .ok (.lstore_n 1, 1) := dk_64 (dk_at dksX3_digest_10 0 rfl rfl)
theorem dX3_digest_231 : decode cX3_digest 231 = .ok (.iinc 4 1, 3) := dk_132 4 1 (dk_at dksX3_digest_10 1 rfl rfl)
theorem dX3_digest_234 : decode cX3_digest 234 = .ok (.goto (-22), 3) := dk_167 255 234 (dk_at dksX3_digest_10 4 rfl rfl)
theorem dX3_digest_237 : decode cX3_digest 237 = .ok (.iinc 3 1, 3) := dk_132 3 1 (dk_at dksX3_digest_10 7 rfl rfl)
theorem dX3_digest_240 : decode cX3_digest 240 = .ok (.goto (-36), 3) := dk_167 255 220 (dk_at dksX3_digest_10 10 rfl rfl)
theorem dX3_digest_243 : decode cX3_digest 243 = .ok (.aload_n 0, 1) := dk_42 (dk_at dksX3_digest_10 13 rfl rfl)
theorem dX3_digest_244 : decode cX3_digest 244 = .ok (.getfield 19, 3) := dk_180 0 19 (dk_at dksX3_digest_10 14 rfl rfl)
theorem dX3_digest_247 : decode cX3_digest 247 = .ok (.getfield 54, 3) := dk_180 0 54 (dk_at dksX3_digest_10 17 rfl rfl)
theorem dX3_digest_250 : decode cX3_digest 250 = .ok (.invokevirtual 276, 3) := dk_182 1 20 (dk_at dksX3_digest_10 20 rfl rfl)
theorem dX3_digest_253 : decode cX3_digest 253 = .ok (.ifCond .ne 27, 3) := dk_154 0 27 (dk_at dksX3_digest_11 0 rfl rfl)
theorem dX3_digest_256 : decode cX3_digest 256 = .ok (.lload_n 1, 1) := dk_31 (dk_at dksX3_digest_11 3 rfl rfl)
theorem dX3_digest_257 : decode cX3_digest 257 = .ok (.aload_n 0, 1) := dk_42 (dk_at dksX3_digest_11 4 rfl rfl)
theorem dX3_digest_258 : decode cX3_digest 258 = .ok (.aload_n 0, 1) := dk_42 (dk_at dksX3_digest_11 5 rfl rfl)
theorem dX3_digest_259 : decode cX3_digest 259 = .ok (.getfield 19, 3) := dk_180 0 19 (dk_at dksX3_digest_11 6 rfl rfl)
theorem dX3_digest_262 : decode cX3_digest 262 = .ok (.getfield 54, 3) := dk_180 0 54 (dk_at dksX3_digest_11 9 rfl rfl)
theorem dX3_digest_265 : decode cX3_digest 265 = .ok (.invokevirtual 45, 3) := dk_182 0 45 (dk_at dksX3_digest_11 12 rfl rfl)
theorem dX3_digest_268 : decode cX3_digest 268 = .ok (.iconst 1, 1) := dk_4 (dk_at dksX3_digest_11 15 rfl rfl)
theorem dX3_digest_269 : decode cX3_digest 269 = .ok (.isub, 1) := dk_100 (dk_at dksX3_digest_11 16 rfl rfl)
theorem dX3_digest_270 : decode cX3_digest 270 = .ok (.bipush 40, 2) := dk_16 40 (dk_at dksX3_digest_11 17 rfl rfl)
theorem dX3_digest_272 : decode cX3_digest 272 = .ok (.invokevirtual 249, 3) := dk_182 0 249 (dk_at dksX3_digest_11 19 rfl rfl)
theorem dX3_digest_275 : decode cX3_digest 275 = .ok (.i2l, 1) := dk_133 (dk_at dksX3_digest_11 22 rfl rfl)
theorem dX3_digest_276 : decode cX3_digest 276 = .ok (.invokestatic 273, 3) := dk_184 1 17 (dk_at dksX3_digest_12 0 rfl rfl)
theorem dX3_digest_279 : decode cX3_digest 279 = .ok (.lstore_n 1, 1) := dk_64 (dk_at dksX3_digest_12 3 rfl rfl)
theorem dX3_digest_280 : decode cX3_digest 280 = .ok (.lload_n 1, 1) := dk_31 (dk_at dksX3_digest_12 4 rfl rfl)
theorem dX3_digest_281 : decode cX3_digest 281 = .ok (.aload_n 0, 1) := dk_42 (dk_at dksX3_digest_12 5 rfl rfl)
theorem dX3_digest_282 : decode cX3_digest 282 = .ok (.bipush 40, 2) := dk_16 40 (dk_at dksX3_digest_12 6 rfl rfl)
theorem dX3_digest_284 : decode cX3_digest 284 = .ok (.invokevirtual 252, 3) := dk_182 0 252 (dk_at dksX3_digest_12 8 rfl rfl)
theorem dX3_digest_287 : decode cX3_digest 287 = .ok (.i2l, 1) := dk_133 (dk_at dksX3_digest_12 11 rfl rfl)
theorem dX3_digest_288 : decode cX3_digest 288 = .ok (.invokestatic 273, 3) := dk_184 1 17 (dk_at dksX3_digest_12 12 rfl rfl)
theorem dX3_digest_291 : decode cX3_digest 291 = .ok (.aload_n 0, 1) := dk_42 (dk_at dksX3_digest_12 15 rfl rfl)
theorem dX3_digest_292 : decode cX3_digest 292 = .ok (.bipush 20, 2) := dk_16 20 (dk_at dksX3_digest_12 16 rfl rfl)
theorem dX3_digest_294 : decode cX3_digest 294 = .ok (.invokevirtual 255, 3) := dk_182 0 255 (dk_at dksX3_digest_12 18 rfl rfl)
theorem dX3_digest_297 : decode cX3_digest 297 = .ok (.i2l, 1) := dk_133 (dk_at dksX3_digest_12 21 rfl rfl)
theorem dX3_digest_298 : decode cX3_digest 298 = .ok (.invokestatic 273, 3) := dk_184 1 17 (dk_at dksX3_digest_13 0 rfl rfl)
theorem dX3_digest_301 : decode cX3_digest 301 = .ok (.lreturn, 1) := dk_173 (dk_at dksX3_digest_13 3 rfl rfl)
abbrev cX3_add : ByteArray := prog_7_method_46_code
def yX3_add : MethodName := ⟨RX3, "add", "(JJ)J"⟩
def dkwX3_add_0 : List UInt8 := [30, 20, 1, 13, 105, 32, 97, 173]
abbrev dktX3_add_0 : List UInt8 := dkwX3_add_0 ++ []
theorem dksX3_add_0 : cX3_add.data.toList.drop 0 = dktX3_add_0 := by decide +kernel
theorem dX3_add_0 : decode cX3_add 0 = .ok (.lload_n 0, 1) := dk_30 (dk_at dksX3_add_0 0 rfl rfl)
theorem dX3_add_1 : decode cX3_add 1 = .ok (.ldc2_w 269, 3) := dk_20 1 13 (dk_at dksX3_add_0 1 rfl rfl)
theorem dX3_add_4 : decode cX3_add 4 = .ok (.lmul, 1) := dk_105 (dk_at dksX3_add_0 4 rfl rfl)
theorem dX3_add_5 : decode cX3_add 5 = .ok (.lload_n 2, 1) := dk_32 (dk_at dksX3_add_0 5 rfl rfl)
theorem dX3_add_6 : decode cX3_add 6 = .ok (.ladd, 1) := dk_97 (dk_at dksX3_add_0 6 rfl rfl)
theorem dX3_add_7 : decode cX3_add 7 = .ok (.lreturn, 1) := dk_173 (dk_at dksX3_add_0 7 rfl rfl)
theorem q55 : (Jvm.Cond.initialized "CanecrushModel") ∈ lw_all := lw_g (lw_at lw_m1 6 rfl) rfl
theorem q392 : (Jvm.Cond.selects "CanecrushModel" ({ cls := "java/lang/Object", name := "getClass", desc := "()Ljava/lang/Class;" } : Jvm.MethodName) ({ cls := "java/lang/Object", name := "getClass", desc := "()Ljava/lang/Class;" } : Jvm.MethodName)) ∈ lw_all := lw_g (lw_at lw_m2 103 rfl) rfl
theorem q941 : (Jvm.Cond.instantiable "CanecrushModel" (4 : Nat)) ∈ lw_all := lw_g (lw_at lw_m4 172 rfl) rfl
theorem q943 : (Jvm.Cond.instanceMethod ({ cls := "CanecrushModel", name := "<init>", desc := "()V" } : Jvm.MethodName)) ∈ lw_all := lw_g (lw_at lw_m4 174 rfl) rfl
theorem q944 : (Jvm.Cond.code ({ cls := "CanecrushModel", name := "<init>", desc := "()V" } : Jvm.MethodName) prog_7_method_3_code (1 : Nat) (Option.none : Option Jvm.ClassFile.FieldType)) ∈ lw_all := lw_g (lw_at lw_m4 175 rfl) rfl
theorem q945 : (Jvm.Cond.methodLink "CanecrushModel" (10 : Nat) ({ cls := "java/lang/Object", name := "<init>", desc := "()V" } : Jvm.MethodName)) ∈ lw_all := lw_g (lw_at lw_m4 176 rfl) rfl
theorem q946 : (Jvm.Cond.classLink "CanecrushModel" (16 : Nat) "CanecrushModel$Estate") ∈ lw_all := lw_g (lw_at lw_m4 177 rfl) rfl
theorem q948 : (Jvm.Cond.methodLinkNest "CanecrushModel" (18 : Nat) ({ cls := "CanecrushModel$Estate", name := "<init>", desc := "()V" } : Jvm.MethodName) "CanecrushModel") ∈ lw_tbl := lw_at lw_m4 179 rfl
theorem q955 : (Jvm.Cond.fieldLink "CanecrushModel" (116 : Nat) "CanecrushModel$Estate" "hour" "I") ∈ lw_all := lw_g (lw_at lw_m4 186 rfl) rfl
theorem q957 : (Jvm.Cond.fieldLink "CanecrushModel" (41 : Nat) "CanecrushModel$Estate" "fields" "Ljava/util/ArrayList;") ∈ lw_all := lw_g (lw_at lw_m4 188 rfl) rfl
theorem q959 : (Jvm.Cond.fieldLink "CanecrushModel" (54 : Nat) "CanecrushModel$Estate" "loads" "Ljava/util/ArrayList;") ∈ lw_all := lw_g (lw_at lw_m4 190 rfl) rfl
theorem q961 : (Jvm.Cond.fieldLink "CanecrushModel" (51 : Nat) "CanecrushModel$Estate" "trucks" "Ljava/util/ArrayList;") ∈ lw_all := lw_g (lw_at lw_m4 192 rfl) rfl
theorem q963 : (Jvm.Cond.fieldLink "CanecrushModel" (223 : Nat) "CanecrushModel$Estate" "yard" "Ljava/util/ArrayList;") ∈ lw_all := lw_g (lw_at lw_m4 194 rfl) rfl
theorem q966 : (Jvm.Cond.fieldLink "CanecrushModel" (89 : Nat) "CanecrushModel$Estate" "rate" "I") ∈ lw_all := lw_g (lw_at lw_m4 197 rfl) rfl
theorem q968 : (Jvm.Cond.fieldLink "CanecrushModel" (92 : Nat) "CanecrushModel$Estate" "water" "I") ∈ lw_all := lw_g (lw_at lw_m4 199 rfl) rfl
theorem q970 : (Jvm.Cond.fieldLink "CanecrushModel" (86 : Nat) "CanecrushModel$Estate" "order" "I") ∈ lw_all := lw_g (lw_at lw_m4 201 rfl) rfl
theorem q972 : (Jvm.Cond.fieldLink "CanecrushModel" (140 : Nat) "CanecrushModel$Estate" "mill" "I") ∈ lw_all := lw_g (lw_at lw_m4 203 rfl) rfl
theorem q974 : (Jvm.Cond.fieldLink "CanecrushModel" (143 : Nat) "CanecrushModel$Estate" "starts" "I") ∈ lw_all := lw_g (lw_at lw_m4 205 rfl) rfl
theorem q976 : (Jvm.Cond.fieldLink "CanecrushModel" (146 : Nat) "CanecrushModel$Estate" "idles" "I") ∈ lw_all := lw_g (lw_at lw_m4 207 rfl) rfl
theorem q978 : (Jvm.Cond.fieldLink "CanecrushModel" (226 : Nat) "CanecrushModel$Estate" "idledEver" "I") ∈ lw_all := lw_g (lw_at lw_m4 209 rfl) rfl
theorem q980 : (Jvm.Cond.fieldLink "CanecrushModel" (229 : Nat) "CanecrushModel$Estate" "stops" "I") ∈ lw_all := lw_g (lw_at lw_m4 211 rfl) rfl
theorem q982 : (Jvm.Cond.fieldLink "CanecrushModel" (153 : Nat) "CanecrushModel$Estate" "stock" "[I") ∈ lw_all := lw_g (lw_at lw_m4 213 rfl) rfl
theorem q984 : (Jvm.Cond.fieldLink "CanecrushModel" (232 : Nat) "CanecrushModel$Estate" "oil" "I") ∈ lw_all := lw_g (lw_at lw_m4 215 rfl) rfl
theorem q986 : (Jvm.Cond.fieldLink "CanecrushModel" (156 : Nat) "CanecrushModel$Estate" "money" "I") ∈ lw_all := lw_g (lw_at lw_m4 217 rfl) rfl
theorem q988 : (Jvm.Cond.fieldLink "CanecrushModel" (235 : Nat) "CanecrushModel$Estate" "lost" "I") ∈ lw_all := lw_g (lw_at lw_m4 219 rfl) rfl
theorem q990 : (Jvm.Cond.fieldLink "CanecrushModel" (214 : Nat) "CanecrushModel$Estate" "tonsToday" "[I") ∈ lw_all := lw_g (lw_at lw_m4 221 rfl) rfl
theorem q992 : (Jvm.Cond.fieldLink "CanecrushModel" (217 : Nat) "CanecrushModel$Estate" "tonsEver" "[I") ∈ lw_all := lw_g (lw_at lw_m4 223 rfl) rfl
theorem q994 : (Jvm.Cond.fieldLink "CanecrushModel" (159 : Nat) "CanecrushModel$Estate" "points" "[I") ∈ lw_all := lw_g (lw_at lw_m4 225 rfl) rfl
theorem q996 : (Jvm.Cond.fieldLink "CanecrushModel" (241 : Nat) "CanecrushModel$Estate" "sweets" "J") ∈ lw_all := lw_g (lw_at lw_m4 227 rfl) rfl
theorem q1042 : (Jvm.Cond.fieldLink "CanecrushModel" (29 : Nat) "CanecrushModel" "thrown" "I") ∈ lw_all := lw_g (lw_at lw_m5 33 rfl) rfl
theorem q1043 : (Jvm.Cond.fieldLink "CanecrushModel" (19 : Nat) "CanecrushModel" "estate" "LCanecrushModel$Estate;") ∈ lw_all := lw_g (lw_at lw_m5 34 rfl) rfl
theorem q1044 : (Jvm.Cond.fieldLink "CanecrushModel" (25 : Nat) "CanecrushModel" "paid" "[I") ∈ lw_all := lw_g (lw_at lw_m5 35 rfl) rfl
theorem q1045 : (Jvm.Cond.fieldLink "CanecrushModel" (105 : Nat) "CanecrushModel" "behind" "I") ∈ lw_all := lw_g (lw_at lw_m5 36 rfl) rfl
theorem q1046 : (Jvm.Cond.lays "CanecrushModel" "CanecrushModel" "thrown" "I") ∈ lw_all := lw_g (lw_at lw_m5 37 rfl) rfl
theorem q1047 : (Jvm.Cond.soleField "CanecrushModel" "thrown") ∈ lw_all := lw_g (lw_at lw_m5 38 rfl) rfl
theorem q1048 : (Jvm.Cond.laysFinal "CanecrushModel" "CanecrushModel" "estate" "LCanecrushModel$Estate;") ∈ lw_all := lw_g (lw_at lw_m5 39 rfl) rfl
theorem q1049 : (Jvm.Cond.soleField "CanecrushModel" "estate") ∈ lw_all := lw_g (lw_at lw_m5 40 rfl) rfl
theorem q1050 : (Jvm.Cond.laysFinal "CanecrushModel" "CanecrushModel" "paid" "[I") ∈ lw_all := lw_g (lw_at lw_m5 41 rfl) rfl
theorem q1051 : (Jvm.Cond.soleField "CanecrushModel" "paid") ∈ lw_all := lw_g (lw_at lw_m5 42 rfl) rfl
theorem q1052 : (Jvm.Cond.lays "CanecrushModel" "CanecrushModel" "behind" "I") ∈ lw_all := lw_g (lw_at lw_m5 43 rfl) rfl
theorem q1053 : (Jvm.Cond.soleField "CanecrushModel" "behind") ∈ lw_all := lw_g (lw_at lw_m5 44 rfl) rfl
theorem q1054 : (Jvm.Cond.superclass "CanecrushModel" "java/lang/Object") ∈ lw_all := lw_g (lw_at lw_m5 45 rfl) rfl
theorem q1056 : (Jvm.Cond.instanceMethod ({ cls := "CanecrushModel", name := "thrown", desc := "()I" } : Jvm.MethodName)) ∈ lw_all := lw_g (lw_at lw_m5 47 rfl) rfl
theorem q1057 : (Jvm.Cond.selects "CanecrushModel" ({ cls := "CanecrushModel", name := "thrown", desc := "()I" } : Jvm.MethodName) ({ cls := "CanecrushModel", name := "thrown", desc := "()I" } : Jvm.MethodName)) ∈ lw_all := lw_g (lw_at lw_m5 48 rfl) rfl
theorem q1058 : (Jvm.Cond.code ({ cls := "CanecrushModel", name := "thrown", desc := "()I" } : Jvm.MethodName) prog_7_method_4_code (1 : Nat) (Option.some Jvm.ClassFile.FieldType.int)) ∈ lw_all := lw_g (lw_at lw_m5 49 rfl) rfl
theorem q1060 : (Jvm.Cond.instanceMethod ({ cls := "CanecrushModel", name := "field", desc := "(III)I" } : Jvm.MethodName)) ∈ lw_all := lw_g (lw_at lw_m5 51 rfl) rfl
theorem q1061 : (Jvm.Cond.selects "CanecrushModel" ({ cls := "CanecrushModel", name := "field", desc := "(III)I" } : Jvm.MethodName) ({ cls := "CanecrushModel", name := "field", desc := "(III)I" } : Jvm.MethodName)) ∈ lw_all := lw_g (lw_at lw_m5 52 rfl) rfl
theorem q1062 : (Jvm.Cond.code ({ cls := "CanecrushModel", name := "field", desc := "(III)I" } : Jvm.MethodName) prog_7_method_12_code (4 : Nat) (Option.some Jvm.ClassFile.FieldType.int)) ∈ lw_all := lw_g (lw_at lw_m5 53 rfl) rfl
theorem q1063 : (Jvm.Cond.methodLink "CanecrushModel" (57 : Nat) ({ cls := "CanecrushModel", name := "isNoGrower", desc := "(I)Z" } : Jvm.MethodName)) ∈ lw_all := lw_g (lw_at lw_m5 54 rfl) rfl
theorem q1064 : (Jvm.Cond.static ({ cls := "CanecrushModel", name := "isNoGrower", desc := "(I)Z" } : Jvm.MethodName)) ∈ lw_all := lw_g (lw_at lw_m5 55 rfl) rfl
theorem q1065 : (Jvm.Cond.code ({ cls := "CanecrushModel", name := "isNoGrower", desc := "(I)Z" } : Jvm.MethodName) prog_7_method_7_code (1 : Nat) (Option.some Jvm.ClassFile.FieldType.boolean)) ∈ lw_all := lw_g (lw_at lw_m5 56 rfl) rfl
theorem q1066 : (Jvm.Cond.methodLink "CanecrushModel" (37 : Nat) ({ cls := "CanecrushModel", name := "isIn", desc := "(III)Z" } : Jvm.MethodName)) ∈ lw_all := lw_g (lw_at lw_m5 57 rfl) rfl
theorem q1067 : (Jvm.Cond.static ({ cls := "CanecrushModel", name := "isIn", desc := "(III)Z" } : Jvm.MethodName)) ∈ lw_all := lw_g (lw_at lw_m5 58 rfl) rfl
theorem q1068 : (Jvm.Cond.code ({ cls := "CanecrushModel", name := "isIn", desc := "(III)Z" } : Jvm.MethodName) prog_7_method_1_code (3 : Nat) (Option.some Jvm.ClassFile.FieldType.boolean)) ∈ lw_all := lw_g (lw_at lw_m5 59 rfl) rfl
theorem q1069 : (Jvm.Cond.methodLink "CanecrushModel" (61 : Nat) ({ cls := "CanecrushModel", name := "start", desc := "(ZI)Z" } : Jvm.MethodName)) ∈ lw_all := lw_g (lw_at lw_m5 60 rfl) rfl
theorem q1070 : (Jvm.Cond.privateMethod ({ cls := "CanecrushModel", name := "start", desc := "(ZI)Z" } : Jvm.MethodName)) ∈ lw_tbl := lw_at lw_m5 61 rfl
theorem q1071 : (Jvm.Cond.instanceMethod ({ cls := "CanecrushModel", name := "start", desc := "(ZI)Z" } : Jvm.MethodName)) ∈ lw_all := lw_g (lw_at lw_m5 62 rfl) rfl
theorem q1072 : (Jvm.Cond.code ({ cls := "CanecrushModel", name := "start", desc := "(ZI)Z" } : Jvm.MethodName) prog_7_method_6_code (3 : Nat) (Option.some Jvm.ClassFile.FieldType.boolean)) ∈ lw_all := lw_g (lw_at lw_m5 63 rfl) rfl
theorem q1073 : (Jvm.Cond.methodLink "CanecrushModel" (33 : Nat) ({ cls := "CanecrushModel", name := "refuse", desc := "(ZI)Z" } : Jvm.MethodName)) ∈ lw_all := lw_g (lw_at lw_m5 64 rfl) rfl
theorem q1074 : (Jvm.Cond.privateMethod ({ cls := "CanecrushModel", name := "refuse", desc := "(ZI)Z" } : Jvm.MethodName)) ∈ lw_tbl := lw_at lw_m5 65 rfl
theorem q1075 : (Jvm.Cond.instanceMethod ({ cls := "CanecrushModel", name := "refuse", desc := "(ZI)Z" } : Jvm.MethodName)) ∈ lw_all := lw_g (lw_at lw_m5 66 rfl) rfl
theorem q1076 : (Jvm.Cond.code ({ cls := "CanecrushModel", name := "refuse", desc := "(ZI)Z" } : Jvm.MethodName) prog_7_method_5_code (3 : Nat) (Option.some Jvm.ClassFile.FieldType.boolean)) ∈ lw_all := lw_g (lw_at lw_m5 67 rfl) rfl
theorem q1077 : (Jvm.Cond.methodLink "CanecrushModel" (45 : Nat) ({ cls := "java/util/ArrayList", name := "size", desc := "()I" } : Jvm.MethodName)) ∈ lw_all := lw_g (lw_at lw_m5 68 rfl) rfl
theorem q1078 : (Jvm.Cond.classLink "CanecrushModel" (64 : Nat) "CanecrushModel$Field") ∈ lw_all := lw_g (lw_at lw_m5 69 rfl) rfl
theorem q1080 : (Jvm.Cond.methodLink "CanecrushModel" (66 : Nat) ({ cls := "CanecrushModel$Field", name := "<init>", desc := "(III)V" } : Jvm.MethodName)) ∈ lw_all := lw_g (lw_at lw_m5 71 rfl) rfl
theorem q1085 : (Jvm.Cond.fieldLink "CanecrushModel" (110 : Nat) "CanecrushModel$Field" "grower" "I") ∈ lw_all := lw_g (lw_at lw_m5 76 rfl) rfl
theorem q1087 : (Jvm.Cond.fieldLink "CanecrushModel" (171 : Nat) "CanecrushModel$Field" "area" "I") ∈ lw_all := lw_g (lw_at lw_m5 78 rfl) rfl
theorem q1090 : (Jvm.Cond.fieldLink "CanecrushModel" (134 : Nat) "CanecrushModel$Field" "far" "I") ∈ lw_all := lw_g (lw_at lw_m5 81 rfl) rfl
theorem q1092 : (Jvm.Cond.fieldLink "CanecrushModel" (95 : Nat) "CanecrushModel$Field" "cane" "I") ∈ lw_all := lw_g (lw_at lw_m5 83 rfl) rfl
theorem q1094 : (Jvm.Cond.fieldLink "CanecrushModel" (113 : Nat) "CanecrushModel$Field" "sweet" "I") ∈ lw_all := lw_g (lw_at lw_m5 85 rfl) rfl
theorem q1096 : (Jvm.Cond.fieldLink "CanecrushModel" (174 : Nat) "CanecrushModel$Field" "age" "I") ∈ lw_all := lw_g (lw_at lw_m5 87 rfl) rfl
theorem q1098 : (Jvm.Cond.fieldLink "CanecrushModel" (177 : Nat) "CanecrushModel$Field" "ratoons" "I") ∈ lw_all := lw_g (lw_at lw_m5 89 rfl) rfl
theorem q1101 : (Jvm.Cond.fieldLink "CanecrushModel" (83 : Nat) "CanecrushModel$Field" "smut" "I") ∈ lw_all := lw_g (lw_at lw_m5 92 rfl) rfl
theorem q1103 : (Jvm.Cond.fieldLink "CanecrushModel" (102 : Nat) "CanecrushModel$Field" "isLodged" "Z") ∈ lw_all := lw_g (lw_at lw_m5 94 rfl) rfl
theorem q1105 : (Jvm.Cond.fieldLink "CanecrushModel" (180 : Nat) "CanecrushModel$Field" "isFrosted" "Z") ∈ lw_all := lw_g (lw_at lw_m5 96 rfl) rfl
theorem q1107 : (Jvm.Cond.fieldLink "CanecrushModel" (98 : Nat) "CanecrushModel$Field" "isBurnt" "Z") ∈ lw_all := lw_g (lw_at lw_m5 98 rfl) rfl
theorem q1131 : (Jvm.Cond.methodLink "CanecrushModel" (69 : Nat) ({ cls := "java/util/ArrayList", name := "add", desc := "(Ljava/lang/Object;)Z" } : Jvm.MethodName)) ∈ lw_all := lw_g (lw_at lw_m5 122 rfl) rfl
theorem q1133 : (Jvm.Cond.instanceMethod ({ cls := "CanecrushModel", name := "truck", desc := "()I" } : Jvm.MethodName)) ∈ lw_all := lw_g (lw_at lw_m5 124 rfl) rfl
theorem q1134 : (Jvm.Cond.selects "CanecrushModel" ({ cls := "CanecrushModel", name := "truck", desc := "()I" } : Jvm.MethodName) ({ cls := "CanecrushModel", name := "truck", desc := "()I" } : Jvm.MethodName)) ∈ lw_all := lw_g (lw_at lw_m5 125 rfl) rfl
theorem q1135 : (Jvm.Cond.code ({ cls := "CanecrushModel", name := "truck", desc := "()I" } : Jvm.MethodName) prog_7_method_13_code (1 : Nat) (Option.some Jvm.ClassFile.FieldType.int)) ∈ lw_all := lw_g (lw_at lw_m5 126 rfl) rfl
theorem q1136 : (Jvm.Cond.classLink "CanecrushModel" (73 : Nat) "CanecrushModel$Truck") ∈ lw_all := lw_g (lw_at lw_m5 127 rfl) rfl
theorem q1138 : (Jvm.Cond.methodLinkNest "CanecrushModel" (75 : Nat) ({ cls := "CanecrushModel$Truck", name := "<init>", desc := "()V" } : Jvm.MethodName) "CanecrushModel") ∈ lw_tbl := lw_at lw_m5 129 rfl
theorem q1144 : (Jvm.Cond.fieldLink "CanecrushModel" (128 : Nat) "CanecrushModel$Truck" "at" "I") ∈ lw_all := lw_g (lw_at lw_m5 135 rfl) rfl
theorem q1147 : (Jvm.Cond.fieldLink "CanecrushModel" (131 : Nat) "CanecrushModel$Truck" "field" "I") ∈ lw_all := lw_g (lw_at lw_m5 138 rfl) rfl
theorem q1150 : (Jvm.Cond.fieldLink "CanecrushModel" (208 : Nat) "CanecrushModel$Truck" "load" "I") ∈ lw_all := lw_g (lw_at lw_m5 141 rfl) rfl
theorem q1153 : (Jvm.Cond.fieldLink "CanecrushModel" (137 : Nat) "CanecrushModel$Truck" "hours" "I") ∈ lw_all := lw_g (lw_at lw_m5 144 rfl) rfl
theorem q1164 : (Jvm.Cond.instanceMethod ({ cls := "CanecrushModel", name := "smut", desc := "(II)I" } : Jvm.MethodName)) ∈ lw_all := lw_g (lw_at lw_m5 155 rfl) rfl
theorem q1165 : (Jvm.Cond.selects "CanecrushModel" ({ cls := "CanecrushModel", name := "smut", desc := "(II)I" } : Jvm.MethodName) ({ cls := "CanecrushModel", name := "smut", desc := "(II)I" } : Jvm.MethodName)) ∈ lw_all := lw_g (lw_at lw_m5 156 rfl) rfl
theorem q1166 : (Jvm.Cond.code ({ cls := "CanecrushModel", name := "smut", desc := "(II)I" } : Jvm.MethodName) prog_7_method_14_code (4 : Nat) (Option.some Jvm.ClassFile.FieldType.int)) ∈ lw_all := lw_g (lw_at lw_m5 157 rfl) rfl
theorem q1167 : (Jvm.Cond.methodLink "CanecrushModel" (76 : Nat) ({ cls := "CanecrushModel", name := "isNoField", desc := "(I)Z" } : Jvm.MethodName)) ∈ lw_all := lw_g (lw_at lw_m5 158 rfl) rfl
theorem q1168 : (Jvm.Cond.privateMethod ({ cls := "CanecrushModel", name := "isNoField", desc := "(I)Z" } : Jvm.MethodName)) ∈ lw_tbl := lw_at lw_m5 159 rfl
theorem q1169 : (Jvm.Cond.instanceMethod ({ cls := "CanecrushModel", name := "isNoField", desc := "(I)Z" } : Jvm.MethodName)) ∈ lw_all := lw_g (lw_at lw_m5 160 rfl) rfl
theorem q1170 : (Jvm.Cond.code ({ cls := "CanecrushModel", name := "isNoField", desc := "(I)Z" } : Jvm.MethodName) prog_7_method_8_code (2 : Nat) (Option.some Jvm.ClassFile.FieldType.boolean)) ∈ lw_all := lw_g (lw_at lw_m5 161 rfl) rfl
theorem q1171 : (Jvm.Cond.methodLink "CanecrushModel" (79 : Nat) ({ cls := "java/util/ArrayList", name := "get", desc := "(I)Ljava/lang/Object;" } : Jvm.MethodName)) ∈ lw_all := lw_g (lw_at lw_m5 162 rfl) rfl
theorem q1172 : (Jvm.Cond.methodLink "CanecrushModel" (1 : Nat) ({ cls := "java/lang/Math", name := "min", desc := "(II)I" } : Jvm.MethodName)) ∈ lw_all := lw_g (lw_at lw_m5 163 rfl) rfl
theorem q1174 : (Jvm.Cond.instanceMethod ({ cls := "CanecrushModel", name := "set", desc := "(III)I" } : Jvm.MethodName)) ∈ lw_all := lw_g (lw_at lw_m5 165 rfl) rfl
theorem q1175 : (Jvm.Cond.selects "CanecrushModel" ({ cls := "CanecrushModel", name := "set", desc := "(III)I" } : Jvm.MethodName) ({ cls := "CanecrushModel", name := "set", desc := "(III)I" } : Jvm.MethodName)) ∈ lw_all := lw_g (lw_at lw_m5 166 rfl) rfl
theorem q1176 : (Jvm.Cond.code ({ cls := "CanecrushModel", name := "set", desc := "(III)I" } : Jvm.MethodName) prog_7_method_15_code (5 : Nat) (Option.some Jvm.ClassFile.FieldType.int)) ∈ lw_all := lw_g (lw_at lw_m5 167 rfl) rfl
theorem q1178 : (Jvm.Cond.instanceMethod ({ cls := "CanecrushModel", name := "burn", desc := "(I)Z" } : Jvm.MethodName)) ∈ lw_all := lw_g (lw_at lw_m5 169 rfl) rfl
theorem q1179 : (Jvm.Cond.selects "CanecrushModel" ({ cls := "CanecrushModel", name := "burn", desc := "(I)Z" } : Jvm.MethodName) ({ cls := "CanecrushModel", name := "burn", desc := "(I)Z" } : Jvm.MethodName)) ∈ lw_all := lw_g (lw_at lw_m5 170 rfl) rfl
theorem q1180 : (Jvm.Cond.code ({ cls := "CanecrushModel", name := "burn", desc := "(I)Z" } : Jvm.MethodName) prog_7_method_16_code (3 : Nat) (Option.some Jvm.ClassFile.FieldType.boolean)) ∈ lw_all := lw_g (lw_at lw_m5 171 rfl) rfl
theorem q1182 : (Jvm.Cond.instanceMethod ({ cls := "CanecrushModel", name := "cut", desc := "(II)I" } : Jvm.MethodName)) ∈ lw_all := lw_g (lw_at lw_m5 173 rfl) rfl
theorem q1183 : (Jvm.Cond.selects "CanecrushModel" ({ cls := "CanecrushModel", name := "cut", desc := "(II)I" } : Jvm.MethodName) ({ cls := "CanecrushModel", name := "cut", desc := "(II)I" } : Jvm.MethodName)) ∈ lw_all := lw_g (lw_at lw_m5 174 rfl) rfl
theorem q1184 : (Jvm.Cond.code ({ cls := "CanecrushModel", name := "cut", desc := "(II)I" } : Jvm.MethodName) prog_7_method_17_code (8 : Nat) (Option.some Jvm.ClassFile.FieldType.int)) ∈ lw_all := lw_g (lw_at lw_m5 175 rfl) rfl
theorem q1185 : (Jvm.Cond.classLink "CanecrushModel" (108 : Nat) "CanecrushModel$Load") ∈ lw_all := lw_g (lw_at lw_m5 176 rfl) rfl
theorem q1187 : (Jvm.Cond.methodLink "CanecrushModel" (119 : Nat) ({ cls := "CanecrushModel$Load", name := "<init>", desc := "(IIIIZI)V" } : Jvm.MethodName)) ∈ lw_all := lw_g (lw_at lw_m5 178 rfl) rfl
theorem q1193 : (Jvm.Cond.fieldLink "CanecrushModel" (169 : Nat) "CanecrushModel$Load" "field" "I") ∈ lw_all := lw_g (lw_at lw_m5 184 rfl) rfl
theorem q1198 : (Jvm.Cond.fieldLink "CanecrushModel" (189 : Nat) "CanecrushModel$Load" "tons" "I") ∈ lw_all := lw_g (lw_at lw_m5 189 rfl) rfl
theorem q1201 : (Jvm.Cond.fieldLink "CanecrushModel" (192 : Nat) "CanecrushModel$Load" "sweet" "I") ∈ lw_all := lw_g (lw_at lw_m5 192 rfl) rfl
theorem q1205 : (Jvm.Cond.fieldLink "CanecrushModel" (196 : Nat) "CanecrushModel$Load" "cut" "I") ∈ lw_all := lw_g (lw_at lw_m5 196 rfl) rfl
theorem q1208 : (Jvm.Cond.fieldLink "CanecrushModel" (170 : Nat) "CanecrushModel$Load" "at" "I") ∈ lw_all := lw_g (lw_at lw_m5 199 rfl) rfl
theorem q1211 : (Jvm.Cond.fieldLink "CanecrushModel" (199 : Nat) "CanecrushModel$Load" "crushed" "I") ∈ lw_all := lw_g (lw_at lw_m5 202 rfl) rfl
theorem q1229 : (Jvm.Cond.methodLink "CanecrushModel" (122 : Nat) ({ cls := "CanecrushModel$Field", name := "again", desc := "()V" } : Jvm.MethodName)) ∈ lw_all := lw_g (lw_at lw_m5 220 rfl) rfl
theorem q1234 : (Jvm.Cond.instanceMethod ({ cls := "CanecrushModel", name := "send", desc := "(II)I" } : Jvm.MethodName)) ∈ lw_all := lw_g (lw_at lw_m5 225 rfl) rfl
theorem q1235 : (Jvm.Cond.selects "CanecrushModel" ({ cls := "CanecrushModel", name := "send", desc := "(II)I" } : Jvm.MethodName) ({ cls := "CanecrushModel", name := "send", desc := "(II)I" } : Jvm.MethodName)) ∈ lw_all := lw_g (lw_at lw_m5 226 rfl) rfl
theorem q1236 : (Jvm.Cond.code ({ cls := "CanecrushModel", name := "send", desc := "(II)I" } : Jvm.MethodName) prog_7_method_18_code (4 : Nat) (Option.some Jvm.ClassFile.FieldType.int)) ∈ lw_all := lw_g (lw_at lw_m5 227 rfl) rfl
theorem q1237 : (Jvm.Cond.methodLink "CanecrushModel" (125 : Nat) ({ cls := "CanecrushModel", name := "isNoTruck", desc := "(I)Z" } : Jvm.MethodName)) ∈ lw_all := lw_g (lw_at lw_m5 228 rfl) rfl
theorem q1238 : (Jvm.Cond.privateMethod ({ cls := "CanecrushModel", name := "isNoTruck", desc := "(I)Z" } : Jvm.MethodName)) ∈ lw_tbl := lw_at lw_m5 229 rfl
theorem q1239 : (Jvm.Cond.instanceMethod ({ cls := "CanecrushModel", name := "isNoTruck", desc := "(I)Z" } : Jvm.MethodName)) ∈ lw_all := lw_g (lw_at lw_m5 230 rfl) rfl
theorem q1240 : (Jvm.Cond.code ({ cls := "CanecrushModel", name := "isNoTruck", desc := "(I)Z" } : Jvm.MethodName) prog_7_method_9_code (2 : Nat) (Option.some Jvm.ClassFile.FieldType.boolean)) ∈ lw_all := lw_g (lw_at lw_m5 231 rfl) rfl
theorem q1242 : (Jvm.Cond.instanceMethod ({ cls := "CanecrushModel", name := "recall", desc := "(I)I" } : Jvm.MethodName)) ∈ lw_all := lw_g (lw_at lw_m5 233 rfl) rfl
theorem q1243 : (Jvm.Cond.selects "CanecrushModel" ({ cls := "CanecrushModel", name := "recall", desc := "(I)I" } : Jvm.MethodName) ({ cls := "CanecrushModel", name := "recall", desc := "(I)I" } : Jvm.MethodName)) ∈ lw_all := lw_g (lw_at lw_m5 234 rfl) rfl
theorem q1244 : (Jvm.Cond.code ({ cls := "CanecrushModel", name := "recall", desc := "(I)I" } : Jvm.MethodName) prog_7_method_19_code (4 : Nat) (Option.some Jvm.ClassFile.FieldType.int)) ∈ lw_all := lw_g (lw_at lw_m5 235 rfl) rfl
theorem q1246 : (Jvm.Cond.instanceMethod ({ cls := "CanecrushModel", name := "start", desc := "()I" } : Jvm.MethodName)) ∈ lw_all := lw_g (lw_at lw_m5 237 rfl) rfl
theorem q1247 : (Jvm.Cond.selects "CanecrushModel" ({ cls := "CanecrushModel", name := "start", desc := "()I" } : Jvm.MethodName) ({ cls := "CanecrushModel", name := "start", desc := "()I" } : Jvm.MethodName)) ∈ lw_all := lw_g (lw_at lw_m5 238 rfl) rfl
theorem q1248 : (Jvm.Cond.code ({ cls := "CanecrushModel", name := "start", desc := "()I" } : Jvm.MethodName) prog_7_method_20_code (1 : Nat) (Option.some Jvm.ClassFile.FieldType.int)) ∈ lw_all := lw_g (lw_at lw_m5 239 rfl) rfl
theorem q1249 : (Jvm.Cond.methodLink "CanecrushModel" (149 : Nat) ({ cls := "CanecrushModel$Estate", name := "burn", desc := "(I)I" } : Jvm.MethodName)) ∈ lw_all := lw_g (lw_at lw_m6 0 rfl) rfl
theorem q1255 : (Jvm.Cond.instanceMethod ({ cls := "CanecrushModel", name := "boil", desc := "(I)I" } : Jvm.MethodName)) ∈ lw_all := lw_g (lw_at lw_m6 6 rfl) rfl
theorem q1256 : (Jvm.Cond.selects "CanecrushModel" ({ cls := "CanecrushModel", name := "boil", desc := "(I)I" } : Jvm.MethodName) ({ cls := "CanecrushModel", name := "boil", desc := "(I)I" } : Jvm.MethodName)) ∈ lw_all := lw_g (lw_at lw_m6 7 rfl) rfl
theorem q1257 : (Jvm.Cond.code ({ cls := "CanecrushModel", name := "boil", desc := "(I)I" } : Jvm.MethodName) prog_7_method_21_code (4 : Nat) (Option.some Jvm.ClassFile.FieldType.int)) ∈ lw_all := lw_g (lw_at lw_m6 8 rfl) rfl
theorem q1259 : (Jvm.Cond.instanceMethod ({ cls := "CanecrushModel", name := "distil", desc := "()I" } : Jvm.MethodName)) ∈ lw_all := lw_g (lw_at lw_m6 10 rfl) rfl
theorem q1260 : (Jvm.Cond.selects "CanecrushModel" ({ cls := "CanecrushModel", name := "distil", desc := "()I" } : Jvm.MethodName) ({ cls := "CanecrushModel", name := "distil", desc := "()I" } : Jvm.MethodName)) ∈ lw_all := lw_g (lw_at lw_m6 11 rfl) rfl
theorem q1261 : (Jvm.Cond.code ({ cls := "CanecrushModel", name := "distil", desc := "()I" } : Jvm.MethodName) prog_7_method_22_code (2 : Nat) (Option.some Jvm.ClassFile.FieldType.int)) ∈ lw_all := lw_g (lw_at lw_m6 12 rfl) rfl
theorem q1263 : (Jvm.Cond.instanceMethod ({ cls := "CanecrushModel", name := "sell", desc := "(II)I" } : Jvm.MethodName)) ∈ lw_all := lw_g (lw_at lw_m6 14 rfl) rfl
theorem q1264 : (Jvm.Cond.selects "CanecrushModel" ({ cls := "CanecrushModel", name := "sell", desc := "(II)I" } : Jvm.MethodName) ({ cls := "CanecrushModel", name := "sell", desc := "(II)I" } : Jvm.MethodName)) ∈ lw_all := lw_g (lw_at lw_m6 15 rfl) rfl
theorem q1265 : (Jvm.Cond.code ({ cls := "CanecrushModel", name := "sell", desc := "(II)I" } : Jvm.MethodName) prog_7_method_23_code (4 : Nat) (Option.some Jvm.ClassFile.FieldType.int)) ∈ lw_all := lw_g (lw_at lw_m6 16 rfl) rfl
theorem q1267 : (Jvm.Cond.instanceMethod ({ cls := "CanecrushModel", name := "pay", desc := "(I)I" } : Jvm.MethodName)) ∈ lw_all := lw_g (lw_at lw_m6 18 rfl) rfl
theorem q1268 : (Jvm.Cond.selects "CanecrushModel" ({ cls := "CanecrushModel", name := "pay", desc := "(I)I" } : Jvm.MethodName) ({ cls := "CanecrushModel", name := "pay", desc := "(I)I" } : Jvm.MethodName)) ∈ lw_all := lw_g (lw_at lw_m6 19 rfl) rfl
theorem q1269 : (Jvm.Cond.code ({ cls := "CanecrushModel", name := "pay", desc := "(I)I" } : Jvm.MethodName) prog_7_method_24_code (8 : Nat) (Option.some Jvm.ClassFile.FieldType.int)) ∈ lw_all := lw_g (lw_at lw_m6 20 rfl) rfl
theorem q1271 : (Jvm.Cond.instanceMethod ({ cls := "CanecrushModel", name := "pass", desc := "(III)I" } : Jvm.MethodName)) ∈ lw_all := lw_g (lw_at lw_m6 22 rfl) rfl
theorem q1272 : (Jvm.Cond.selects "CanecrushModel" ({ cls := "CanecrushModel", name := "pass", desc := "(III)I" } : Jvm.MethodName) ({ cls := "CanecrushModel", name := "pass", desc := "(III)I" } : Jvm.MethodName)) ∈ lw_all := lw_g (lw_at lw_m6 23 rfl) rfl
theorem q1273 : (Jvm.Cond.code ({ cls := "CanecrushModel", name := "pass", desc := "(III)I" } : Jvm.MethodName) prog_7_method_25_code (6 : Nat) (Option.some Jvm.ClassFile.FieldType.int)) ∈ lw_all := lw_g (lw_at lw_m6 24 rfl) rfl
theorem q1274 : (Jvm.Cond.methodLink "CanecrushModel" (162 : Nat) ({ cls := "CanecrushModel", name := "isNoWeather", desc := "(II)Z" } : Jvm.MethodName)) ∈ lw_all := lw_g (lw_at lw_m6 25 rfl) rfl
theorem q1275 : (Jvm.Cond.static ({ cls := "CanecrushModel", name := "isNoWeather", desc := "(II)Z" } : Jvm.MethodName)) ∈ lw_all := lw_g (lw_at lw_m6 26 rfl) rfl
theorem q1276 : (Jvm.Cond.code ({ cls := "CanecrushModel", name := "isNoWeather", desc := "(II)Z" } : Jvm.MethodName) prog_7_method_11_code (2 : Nat) (Option.some Jvm.ClassFile.FieldType.boolean)) ∈ lw_all := lw_g (lw_at lw_m6 27 rfl) rfl
theorem q1277 : (Jvm.Cond.methodLink "CanecrushModel" (166 : Nat) ({ cls := "CanecrushModel$Estate", name := "goBy", desc := "(II)I" } : Jvm.MethodName)) ∈ lw_all := lw_g (lw_at lw_m6 28 rfl) rfl
theorem q1370 : (Jvm.Cond.static ({ cls := "CanecrushModel", name := "held", desc := "(II)I" } : Jvm.MethodName)) ∈ lw_all := lw_g (lw_at lw_m6 121 rfl) rfl
theorem q1371 : (Jvm.Cond.code ({ cls := "CanecrushModel", name := "held", desc := "(II)I" } : Jvm.MethodName) prog_7_method_2_code (2 : Nat) (Option.some Jvm.ClassFile.FieldType.int)) ∈ lw_all := lw_g (lw_at lw_m6 122 rfl) rfl
theorem q1372 : (Jvm.Cond.methodLink "CanecrushModel" (7 : Nat) ({ cls := "java/lang/Math", name := "max", desc := "(II)I" } : Jvm.MethodName)) ∈ lw_all := lw_g (lw_at lw_m6 123 rfl) rfl
theorem q1378 : (Jvm.Cond.instanceMethod ({ cls := "CanecrushModel", name := "ofField", desc := "(II)I" } : Jvm.MethodName)) ∈ lw_all := lw_g (lw_at lw_m6 129 rfl) rfl
theorem q1379 : (Jvm.Cond.selects "CanecrushModel" ({ cls := "CanecrushModel", name := "ofField", desc := "(II)I" } : Jvm.MethodName) ({ cls := "CanecrushModel", name := "ofField", desc := "(II)I" } : Jvm.MethodName)) ∈ lw_all := lw_g (lw_at lw_m6 130 rfl) rfl
theorem q1380 : (Jvm.Cond.code ({ cls := "CanecrushModel", name := "ofField", desc := "(II)I" } : Jvm.MethodName) prog_7_method_28_code (3 : Nat) (Option.some Jvm.ClassFile.FieldType.int)) ∈ lw_all := lw_g (lw_at lw_m6 131 rfl) rfl
theorem q1381 : (Jvm.Cond.methodLink "CanecrushModel" (186 : Nat) ({ cls := "CanecrushModel", name := "ofFieldNow", desc := "(II)I" } : Jvm.MethodName)) ∈ lw_all := lw_g (lw_at lw_m6 132 rfl) rfl
theorem q1382 : (Jvm.Cond.privateMethod ({ cls := "CanecrushModel", name := "ofFieldNow", desc := "(II)I" } : Jvm.MethodName)) ∈ lw_tbl := lw_at lw_m6 133 rfl
theorem q1383 : (Jvm.Cond.instanceMethod ({ cls := "CanecrushModel", name := "ofFieldNow", desc := "(II)I" } : Jvm.MethodName)) ∈ lw_all := lw_g (lw_at lw_m6 134 rfl) rfl
theorem q1384 : (Jvm.Cond.code ({ cls := "CanecrushModel", name := "ofFieldNow", desc := "(II)I" } : Jvm.MethodName) prog_7_method_27_code (5 : Nat) (Option.some Jvm.ClassFile.FieldType.int)) ∈ lw_all := lw_g (lw_at lw_m6 135 rfl) rfl
theorem q1385 : (Jvm.Cond.methodLink "CanecrushModel" (183 : Nat) ({ cls := "CanecrushModel", name := "lying", desc := "(I)I" } : Jvm.MethodName)) ∈ lw_all := lw_g (lw_at lw_m6 136 rfl) rfl
theorem q1386 : (Jvm.Cond.privateMethod ({ cls := "CanecrushModel", name := "lying", desc := "(I)I" } : Jvm.MethodName)) ∈ lw_tbl := lw_at lw_m6 137 rfl
theorem q1387 : (Jvm.Cond.instanceMethod ({ cls := "CanecrushModel", name := "lying", desc := "(I)I" } : Jvm.MethodName)) ∈ lw_all := lw_g (lw_at lw_m6 138 rfl) rfl
theorem q1388 : (Jvm.Cond.code ({ cls := "CanecrushModel", name := "lying", desc := "(I)I" } : Jvm.MethodName) prog_7_method_26_code (4 : Nat) (Option.some Jvm.ClassFile.FieldType.int)) ∈ lw_all := lw_g (lw_at lw_m6 139 rfl) rfl
theorem q1390 : (Jvm.Cond.instanceMethod ({ cls := "CanecrushModel", name := "ofLoad", desc := "(II)I" } : Jvm.MethodName)) ∈ lw_all := lw_g (lw_at lw_m6 141 rfl) rfl
theorem q1391 : (Jvm.Cond.selects "CanecrushModel" ({ cls := "CanecrushModel", name := "ofLoad", desc := "(II)I" } : Jvm.MethodName) ({ cls := "CanecrushModel", name := "ofLoad", desc := "(II)I" } : Jvm.MethodName)) ∈ lw_all := lw_g (lw_at lw_m6 142 rfl) rfl
theorem q1392 : (Jvm.Cond.code ({ cls := "CanecrushModel", name := "ofLoad", desc := "(II)I" } : Jvm.MethodName) prog_7_method_30_code (3 : Nat) (Option.some Jvm.ClassFile.FieldType.int)) ∈ lw_all := lw_g (lw_at lw_m6 143 rfl) rfl
theorem q1393 : (Jvm.Cond.methodLink "CanecrushModel" (202 : Nat) ({ cls := "CanecrushModel", name := "isNoLoad", desc := "(I)Z" } : Jvm.MethodName)) ∈ lw_all := lw_g (lw_at lw_m6 144 rfl) rfl
theorem q1394 : (Jvm.Cond.privateMethod ({ cls := "CanecrushModel", name := "isNoLoad", desc := "(I)Z" } : Jvm.MethodName)) ∈ lw_tbl := lw_at lw_m6 145 rfl
theorem q1395 : (Jvm.Cond.instanceMethod ({ cls := "CanecrushModel", name := "isNoLoad", desc := "(I)Z" } : Jvm.MethodName)) ∈ lw_all := lw_g (lw_at lw_m6 146 rfl) rfl
theorem q1396 : (Jvm.Cond.code ({ cls := "CanecrushModel", name := "isNoLoad", desc := "(I)Z" } : Jvm.MethodName) prog_7_method_10_code (2 : Nat) (Option.some Jvm.ClassFile.FieldType.boolean)) ∈ lw_all := lw_g (lw_at lw_m6 147 rfl) rfl
theorem q1397 : (Jvm.Cond.methodLink "CanecrushModel" (205 : Nat) ({ cls := "CanecrushModel", name := "ofLoadNow", desc := "(II)I" } : Jvm.MethodName)) ∈ lw_all := lw_g (lw_at lw_m6 148 rfl) rfl
theorem q1398 : (Jvm.Cond.privateMethod ({ cls := "CanecrushModel", name := "ofLoadNow", desc := "(II)I" } : Jvm.MethodName)) ∈ lw_tbl := lw_at lw_m6 149 rfl
theorem q1399 : (Jvm.Cond.instanceMethod ({ cls := "CanecrushModel", name := "ofLoadNow", desc := "(II)I" } : Jvm.MethodName)) ∈ lw_all := lw_g (lw_at lw_m6 150 rfl) rfl
theorem q1400 : (Jvm.Cond.code ({ cls := "CanecrushModel", name := "ofLoadNow", desc := "(II)I" } : Jvm.MethodName) prog_7_method_29_code (5 : Nat) (Option.some Jvm.ClassFile.FieldType.int)) ∈ lw_all := lw_g (lw_at lw_m6 151 rfl) rfl
theorem q1401 : (Jvm.Cond.methodLink "CanecrushModel" (193 : Nat) ({ cls := "CanecrushModel$Load", name := "trash", desc := "()I" } : Jvm.MethodName)) ∈ lw_all := lw_g (lw_at lw_m6 152 rfl) rfl
theorem q1403 : (Jvm.Cond.instanceMethod ({ cls := "CanecrushModel", name := "ofTruck", desc := "(II)I" } : Jvm.MethodName)) ∈ lw_all := lw_g (lw_at lw_m6 154 rfl) rfl
theorem q1404 : (Jvm.Cond.selects "CanecrushModel" ({ cls := "CanecrushModel", name := "ofTruck", desc := "(II)I" } : Jvm.MethodName) ({ cls := "CanecrushModel", name := "ofTruck", desc := "(II)I" } : Jvm.MethodName)) ∈ lw_all := lw_g (lw_at lw_m6 155 rfl) rfl
theorem q1405 : (Jvm.Cond.code ({ cls := "CanecrushModel", name := "ofTruck", desc := "(II)I" } : Jvm.MethodName) prog_7_method_32_code (3 : Nat) (Option.some Jvm.ClassFile.FieldType.int)) ∈ lw_all := lw_g (lw_at lw_m6 156 rfl) rfl
theorem q1406 : (Jvm.Cond.methodLink "CanecrushModel" (211 : Nat) ({ cls := "CanecrushModel", name := "ofTruckNow", desc := "(II)I" } : Jvm.MethodName)) ∈ lw_all := lw_g (lw_at lw_m6 157 rfl) rfl
theorem q1407 : (Jvm.Cond.privateMethod ({ cls := "CanecrushModel", name := "ofTruckNow", desc := "(II)I" } : Jvm.MethodName)) ∈ lw_tbl := lw_at lw_m6 158 rfl
theorem q1408 : (Jvm.Cond.instanceMethod ({ cls := "CanecrushModel", name := "ofTruckNow", desc := "(II)I" } : Jvm.MethodName)) ∈ lw_all := lw_g (lw_at lw_m6 159 rfl) rfl
theorem q1409 : (Jvm.Cond.code ({ cls := "CanecrushModel", name := "ofTruckNow", desc := "(II)I" } : Jvm.MethodName) prog_7_method_31_code (4 : Nat) (Option.some Jvm.ClassFile.FieldType.int)) ∈ lw_all := lw_g (lw_at lw_m6 160 rfl) rfl
theorem q1411 : (Jvm.Cond.instanceMethod ({ cls := "CanecrushModel", name := "ofGrower", desc := "(II)I" } : Jvm.MethodName)) ∈ lw_all := lw_g (lw_at lw_m6 162 rfl) rfl
theorem q1412 : (Jvm.Cond.selects "CanecrushModel" ({ cls := "CanecrushModel", name := "ofGrower", desc := "(II)I" } : Jvm.MethodName) ({ cls := "CanecrushModel", name := "ofGrower", desc := "(II)I" } : Jvm.MethodName)) ∈ lw_all := lw_g (lw_at lw_m6 163 rfl) rfl
theorem q1413 : (Jvm.Cond.code ({ cls := "CanecrushModel", name := "ofGrower", desc := "(II)I" } : Jvm.MethodName) prog_7_method_34_code (3 : Nat) (Option.some Jvm.ClassFile.FieldType.int)) ∈ lw_all := lw_g (lw_at lw_m6 164 rfl) rfl
theorem q1414 : (Jvm.Cond.methodLink "CanecrushModel" (220 : Nat) ({ cls := "CanecrushModel", name := "ofGrowerNow", desc := "(II)I" } : Jvm.MethodName)) ∈ lw_all := lw_g (lw_at lw_m6 165 rfl) rfl
theorem q1415 : (Jvm.Cond.privateMethod ({ cls := "CanecrushModel", name := "ofGrowerNow", desc := "(II)I" } : Jvm.MethodName)) ∈ lw_tbl := lw_at lw_m6 166 rfl
theorem q1416 : (Jvm.Cond.instanceMethod ({ cls := "CanecrushModel", name := "ofGrowerNow", desc := "(II)I" } : Jvm.MethodName)) ∈ lw_all := lw_g (lw_at lw_m6 167 rfl) rfl
theorem q1417 : (Jvm.Cond.code ({ cls := "CanecrushModel", name := "ofGrowerNow", desc := "(II)I" } : Jvm.MethodName) prog_7_method_33_code (3 : Nat) (Option.some Jvm.ClassFile.FieldType.int)) ∈ lw_all := lw_g (lw_at lw_m6 168 rfl) rfl
theorem q1419 : (Jvm.Cond.instanceMethod ({ cls := "CanecrushModel", name := "many", desc := "(I)I" } : Jvm.MethodName)) ∈ lw_all := lw_g (lw_at lw_m6 170 rfl) rfl
theorem q1420 : (Jvm.Cond.selects "CanecrushModel" ({ cls := "CanecrushModel", name := "many", desc := "(I)I" } : Jvm.MethodName) ({ cls := "CanecrushModel", name := "many", desc := "(I)I" } : Jvm.MethodName)) ∈ lw_all := lw_g (lw_at lw_m6 171 rfl) rfl
theorem q1421 : (Jvm.Cond.code ({ cls := "CanecrushModel", name := "many", desc := "(I)I" } : Jvm.MethodName) prog_7_method_36_code (2 : Nat) (Option.some Jvm.ClassFile.FieldType.int)) ∈ lw_all := lw_g (lw_at lw_m6 172 rfl) rfl
theorem q1422 : (Jvm.Cond.methodLink "CanecrushModel" (238 : Nat) ({ cls := "CanecrushModel", name := "manyNow", desc := "(I)I" } : Jvm.MethodName)) ∈ lw_all := lw_g (lw_at lw_m6 173 rfl) rfl
theorem q1423 : (Jvm.Cond.privateMethod ({ cls := "CanecrushModel", name := "manyNow", desc := "(I)I" } : Jvm.MethodName)) ∈ lw_tbl := lw_at lw_m6 174 rfl
theorem q1424 : (Jvm.Cond.instanceMethod ({ cls := "CanecrushModel", name := "manyNow", desc := "(I)I" } : Jvm.MethodName)) ∈ lw_all := lw_g (lw_at lw_m6 175 rfl) rfl
theorem q1425 : (Jvm.Cond.code ({ cls := "CanecrushModel", name := "manyNow", desc := "(I)I" } : Jvm.MethodName) prog_7_method_35_code (4 : Nat) (Option.some Jvm.ClassFile.FieldType.int)) ∈ lw_all := lw_g (lw_at lw_m6 176 rfl) rfl
theorem q1427 : (Jvm.Cond.instanceMethod ({ cls := "CanecrushModel", name := "meanSweet", desc := "()D" } : Jvm.MethodName)) ∈ lw_all := lw_g (lw_at lw_m6 178 rfl) rfl
theorem q1428 : (Jvm.Cond.selects "CanecrushModel" ({ cls := "CanecrushModel", name := "meanSweet", desc := "()D" } : Jvm.MethodName) ({ cls := "CanecrushModel", name := "meanSweet", desc := "()D" } : Jvm.MethodName)) ∈ lw_all := lw_g (lw_at lw_m6 179 rfl) rfl
theorem q1429 : (Jvm.Cond.code ({ cls := "CanecrushModel", name := "meanSweet", desc := "()D" } : Jvm.MethodName) prog_7_method_37_code (6 : Nat) (Option.some Jvm.ClassFile.FieldType.double)) ∈ lw_all := lw_g (lw_at lw_m6 180 rfl) rfl
theorem q1431 : (Jvm.Cond.instanceMethod ({ cls := "CanecrushModel", name := "crushedIn", desc := "(II)I" } : Jvm.MethodName)) ∈ lw_all := lw_g (lw_at lw_m6 182 rfl) rfl
theorem q1432 : (Jvm.Cond.selects "CanecrushModel" ({ cls := "CanecrushModel", name := "crushedIn", desc := "(II)I" } : Jvm.MethodName) ({ cls := "CanecrushModel", name := "crushedIn", desc := "(II)I" } : Jvm.MethodName)) ∈ lw_all := lw_g (lw_at lw_m6 183 rfl) rfl
theorem q1433 : (Jvm.Cond.code ({ cls := "CanecrushModel", name := "crushedIn", desc := "(II)I" } : Jvm.MethodName) prog_7_method_39_code (3 : Nat) (Option.some Jvm.ClassFile.FieldType.int)) ∈ lw_all := lw_g (lw_at lw_m6 184 rfl) rfl
theorem q1434 : (Jvm.Cond.methodLink "CanecrushModel" (249 : Nat) ({ cls := "CanecrushModel", name := "crushedInNow", desc := "(II)I" } : Jvm.MethodName)) ∈ lw_all := lw_g (lw_at lw_m6 185 rfl) rfl
theorem q1435 : (Jvm.Cond.privateMethod ({ cls := "CanecrushModel", name := "crushedInNow", desc := "(II)I" } : Jvm.MethodName)) ∈ lw_tbl := lw_at lw_m6 186 rfl
theorem q1436 : (Jvm.Cond.instanceMethod ({ cls := "CanecrushModel", name := "crushedInNow", desc := "(II)I" } : Jvm.MethodName)) ∈ lw_all := lw_g (lw_at lw_m6 187 rfl) rfl
theorem q1437 : (Jvm.Cond.code ({ cls := "CanecrushModel", name := "crushedInNow", desc := "(II)I" } : Jvm.MethodName) prog_7_method_38_code (5 : Nat) (Option.some Jvm.ClassFile.FieldType.int)) ∈ lw_all := lw_g (lw_at lw_m6 188 rfl) rfl
theorem q1438 : (Jvm.Cond.methodLink "CanecrushModel" (245 : Nat) ({ cls := "CanecrushModel$Estate", name := "copy", desc := "()LCanecrushModel$Estate;" } : Jvm.MethodName)) ∈ lw_all := lw_g (lw_at lw_m6 189 rfl) rfl
theorem q1478 : (Jvm.Cond.instanceMethod ({ cls := "CanecrushModel", name := "stopsIn", desc := "(I)I" } : Jvm.MethodName)) ∈ lw_all := lw_g (lw_at lw_m6 229 rfl) rfl
theorem q1479 : (Jvm.Cond.selects "CanecrushModel" ({ cls := "CanecrushModel", name := "stopsIn", desc := "(I)I" } : Jvm.MethodName) ({ cls := "CanecrushModel", name := "stopsIn", desc := "(I)I" } : Jvm.MethodName)) ∈ lw_all := lw_g (lw_at lw_m6 230 rfl) rfl
theorem q1480 : (Jvm.Cond.code ({ cls := "CanecrushModel", name := "stopsIn", desc := "(I)I" } : Jvm.MethodName) prog_7_method_41_code (2 : Nat) (Option.some Jvm.ClassFile.FieldType.int)) ∈ lw_all := lw_g (lw_at lw_m6 231 rfl) rfl
theorem q1481 : (Jvm.Cond.methodLink "CanecrushModel" (252 : Nat) ({ cls := "CanecrushModel", name := "stopsInNow", desc := "(I)I" } : Jvm.MethodName)) ∈ lw_all := lw_g (lw_at lw_m6 232 rfl) rfl
theorem q1482 : (Jvm.Cond.privateMethod ({ cls := "CanecrushModel", name := "stopsInNow", desc := "(I)I" } : Jvm.MethodName)) ∈ lw_tbl := lw_at lw_m6 233 rfl
theorem q1483 : (Jvm.Cond.instanceMethod ({ cls := "CanecrushModel", name := "stopsInNow", desc := "(I)I" } : Jvm.MethodName)) ∈ lw_all := lw_g (lw_at lw_m6 234 rfl) rfl
theorem q1484 : (Jvm.Cond.code ({ cls := "CanecrushModel", name := "stopsInNow", desc := "(I)I" } : Jvm.MethodName) prog_7_method_40_code (4 : Nat) (Option.some Jvm.ClassFile.FieldType.int)) ∈ lw_all := lw_g (lw_at lw_m6 235 rfl) rfl
theorem q1486 : (Jvm.Cond.instanceMethod ({ cls := "CanecrushModel", name := "bestOrder", desc := "(I)I" } : Jvm.MethodName)) ∈ lw_all := lw_g (lw_at lw_m6 237 rfl) rfl
theorem q1487 : (Jvm.Cond.selects "CanecrushModel" ({ cls := "CanecrushModel", name := "bestOrder", desc := "(I)I" } : Jvm.MethodName) ({ cls := "CanecrushModel", name := "bestOrder", desc := "(I)I" } : Jvm.MethodName)) ∈ lw_all := lw_g (lw_at lw_m6 238 rfl) rfl
theorem q1488 : (Jvm.Cond.code ({ cls := "CanecrushModel", name := "bestOrder", desc := "(I)I" } : Jvm.MethodName) prog_7_method_43_code (2 : Nat) (Option.some Jvm.ClassFile.FieldType.int)) ∈ lw_all := lw_g (lw_at lw_m6 239 rfl) rfl
theorem q1489 : (Jvm.Cond.methodLink "CanecrushModel" (255 : Nat) ({ cls := "CanecrushModel", name := "bestOrderNow", desc := "(I)I" } : Jvm.MethodName)) ∈ lw_all := lw_g (lw_at lw_m7 0 rfl) rfl
theorem q1490 : (Jvm.Cond.privateMethod ({ cls := "CanecrushModel", name := "bestOrderNow", desc := "(I)I" } : Jvm.MethodName)) ∈ lw_tbl := lw_at lw_m7 1 rfl
theorem q1491 : (Jvm.Cond.instanceMethod ({ cls := "CanecrushModel", name := "bestOrderNow", desc := "(I)I" } : Jvm.MethodName)) ∈ lw_all := lw_g (lw_at lw_m7 2 rfl) rfl
theorem q1492 : (Jvm.Cond.code ({ cls := "CanecrushModel", name := "bestOrderNow", desc := "(I)I" } : Jvm.MethodName) prog_7_method_42_code (7 : Nat) (Option.some Jvm.ClassFile.FieldType.int)) ∈ lw_all := lw_g (lw_at lw_m7 3 rfl) rfl
theorem q1494 : (Jvm.Cond.instanceMethod ({ cls := "CanecrushModel", name := "bestDay", desc := "(IIII)I" } : Jvm.MethodName)) ∈ lw_all := lw_g (lw_at lw_m7 5 rfl) rfl
theorem q1495 : (Jvm.Cond.selects "CanecrushModel" ({ cls := "CanecrushModel", name := "bestDay", desc := "(IIII)I" } : Jvm.MethodName) ({ cls := "CanecrushModel", name := "bestDay", desc := "(IIII)I" } : Jvm.MethodName)) ∈ lw_all := lw_g (lw_at lw_m7 6 rfl) rfl
theorem q1496 : (Jvm.Cond.code ({ cls := "CanecrushModel", name := "bestDay", desc := "(IIII)I" } : Jvm.MethodName) prog_7_method_45_code (5 : Nat) (Option.some Jvm.ClassFile.FieldType.int)) ∈ lw_all := lw_g (lw_at lw_m7 7 rfl) rfl
theorem q1497 : (Jvm.Cond.methodLink "CanecrushModel" (265 : Nat) ({ cls := "CanecrushModel", name := "bestDayNow", desc := "(IIII)I" } : Jvm.MethodName)) ∈ lw_all := lw_g (lw_at lw_m7 8 rfl) rfl
theorem q1498 : (Jvm.Cond.privateMethod ({ cls := "CanecrushModel", name := "bestDayNow", desc := "(IIII)I" } : Jvm.MethodName)) ∈ lw_tbl := lw_at lw_m7 9 rfl
theorem q1499 : (Jvm.Cond.instanceMethod ({ cls := "CanecrushModel", name := "bestDayNow", desc := "(IIII)I" } : Jvm.MethodName)) ∈ lw_all := lw_g (lw_at lw_m7 10 rfl) rfl
theorem q1500 : (Jvm.Cond.code ({ cls := "CanecrushModel", name := "bestDayNow", desc := "(IIII)I" } : Jvm.MethodName) prog_7_method_44_code (10 : Nat) (Option.some Jvm.ClassFile.FieldType.int)) ∈ lw_all := lw_g (lw_at lw_m7 11 rfl) rfl
theorem q1501 : (Jvm.Cond.methodLink "CanecrushModel" (258 : Nat) ({ cls := "CanecrushModel$Field", name := "copy", desc := "()LCanecrushModel$Field;" } : Jvm.MethodName)) ∈ lw_all := lw_g (lw_at lw_m7 12 rfl) rfl
theorem q1502 : (Jvm.Cond.methodLink "CanecrushModel" (261 : Nat) ({ cls := "CanecrushModel$Estate", name := "endFields", desc := "(II)V" } : Jvm.MethodName)) ∈ lw_all := lw_g (lw_at lw_m7 13 rfl) rfl
theorem q1504 : (Jvm.Cond.instanceMethod ({ cls := "CanecrushModel", name := "digest", desc := "()J" } : Jvm.MethodName)) ∈ lw_all := lw_g (lw_at lw_m7 15 rfl) rfl
theorem q1505 : (Jvm.Cond.selects "CanecrushModel" ({ cls := "CanecrushModel", name := "digest", desc := "()J" } : Jvm.MethodName) ({ cls := "CanecrushModel", name := "digest", desc := "()J" } : Jvm.MethodName)) ∈ lw_all := lw_g (lw_at lw_m7 16 rfl) rfl
theorem q1506 : (Jvm.Cond.code ({ cls := "CanecrushModel", name := "digest", desc := "()J" } : Jvm.MethodName) prog_7_method_47_code (5 : Nat) (Option.some Jvm.ClassFile.FieldType.long)) ∈ lw_all := lw_g (lw_at lw_m7 17 rfl) rfl
theorem q1507 : (Jvm.Cond.constantLong "CanecrushModel" (271 : Nat) (58204 : Int64)) ∈ lw_all := lw_g (lw_at lw_m7 18 rfl) rfl
theorem q1508 : (Jvm.Cond.methodLink "CanecrushModel" (273 : Nat) ({ cls := "CanecrushModel", name := "add", desc := "(JJ)J" } : Jvm.MethodName)) ∈ lw_all := lw_g (lw_at lw_m7 19 rfl) rfl
theorem q1509 : (Jvm.Cond.static ({ cls := "CanecrushModel", name := "add", desc := "(JJ)J" } : Jvm.MethodName)) ∈ lw_all := lw_g (lw_at lw_m7 20 rfl) rfl
theorem q1510 : (Jvm.Cond.code ({ cls := "CanecrushModel", name := "add", desc := "(JJ)J" } : Jvm.MethodName) prog_7_method_46_code (4 : Nat) (Option.some Jvm.ClassFile.FieldType.long)) ∈ lw_all := lw_g (lw_at lw_m7 21 rfl) rfl
theorem q1511 : (Jvm.Cond.constantLong "CanecrushModel" (269 : Nat) (31 : Int64)) ∈ lw_all := lw_g (lw_at lw_m7 22 rfl) rfl
theorem q1512 : (Jvm.Cond.methodLink "CanecrushModel" (276 : Nat) ({ cls := "java/util/ArrayList", name := "isEmpty", desc := "()Z" } : Jvm.MethodName)) ∈ lw_all := lw_g (lw_at lw_m7 23 rfl) rfl
theorem q1520 : (Jvm.Cond.castable "CanecrushModel" "java/lang/Object") ∈ lw_tbl := lw_at lw_m7 31 rfl
theorem in_X3 : ∀ w ∈ wsX30, w ∈ lw_all := lw_in wsX30 [1046, 1048, 1050, 1052] (by decide +kernel) (by decide +kernel)

/-! CanecrushModel$Estate -/
set_option maxRecDepth 100000
def RX4 : String := "CanecrushModel$Estate"
def TX4 : u_T := fun k => match k with
  | 0 => ("CanecrushModel$Estate", "hour", "I", false)
  | 1 => ("CanecrushModel$Estate", "fields", "Ljava/util/ArrayList;", true)
  | 2 => ("CanecrushModel$Estate", "loads", "Ljava/util/ArrayList;", true)
  | 3 => ("CanecrushModel$Estate", "trucks", "Ljava/util/ArrayList;", true)
  | 4 => ("CanecrushModel$Estate", "yard", "Ljava/util/ArrayList;", true)
  | 5 => ("CanecrushModel$Estate", "today", "Ljava/util/ArrayList;", true)
  | 6 => ("CanecrushModel$Estate", "rate", "I", false)
  | 7 => ("CanecrushModel$Estate", "water", "I", false)
  | 8 => ("CanecrushModel$Estate", "order", "I", false)
  | 9 => ("CanecrushModel$Estate", "mill", "I", false)
  | 10 => ("CanecrushModel$Estate", "starts", "I", false)
  | 11 => ("CanecrushModel$Estate", "idles", "I", false)
  | 12 => ("CanecrushModel$Estate", "idledEver", "I", false)
  | 13 => ("CanecrushModel$Estate", "stops", "I", false)
  | 14 => ("CanecrushModel$Estate", "stock", "[I", true)
  | 15 => ("CanecrushModel$Estate", "oil", "I", false)
  | 16 => ("CanecrushModel$Estate", "money", "I", false)
  | 17 => ("CanecrushModel$Estate", "lost", "I", false)
  | 18 => ("CanecrushModel$Estate", "tonsToday", "[I", true)
  | 19 => ("CanecrushModel$Estate", "tonsEver", "[I", true)
  | 20 => ("CanecrushModel$Estate", "points", "[I", true)
  | _ => ("CanecrushModel$Estate", "sweets", "J", false)
def tyX4 : Nat → FieldType := fun k => match k with
  | 0 => .int
  | 1 => .object "java/util/ArrayList"
  | 2 => .object "java/util/ArrayList"
  | 3 => .object "java/util/ArrayList"
  | 4 => .object "java/util/ArrayList"
  | 5 => .object "java/util/ArrayList"
  | 6 => .int
  | 7 => .int
  | 8 => .int
  | 9 => .int
  | 10 => .int
  | 11 => .int
  | 12 => .int
  | 13 => .int
  | 14 => .array .int
  | 15 => .int
  | 16 => .int
  | 17 => .int
  | 18 => .array .int
  | 19 => .array .int
  | 20 => .array .int
  | _ => .long
abbrev wsX40 : List Cond := u_ws RX4 TX4 22
set_option maxRecDepth 100000 in
theorem nmX4 : ∀ a, a < 22 → ∀ b, b < 22 → a ≠ b → (TX4 a).2.1 ≠ (TX4 b).2.1 := by decide +kernel
set_option maxRecDepth 100000 in
theorem tyX4_ok : ∀ k, k < 22 → parseFieldDescriptor (TX4 k).2.2.1 = some (tyX4 k) := by decide +kernel
abbrev cX4_init : ByteArray := prog_8_method_1_code
def yX4_init : MethodName := ⟨RX4, "<init>", "()V"⟩
def dkwX4_init_4 : List UInt8 := [181, 0, 44, 42, 7, 188, 10, 181, 0, 47, 177]
abbrev dktX4_init_4 : List UInt8 := dkwX4_init_4 ++ []
def dkwX4_init_3 : List UInt8 := [181, 0, 34, 42, 16, 8, 188, 10, 181, 0, 37, 42, 7, 188, 10, 181, 0, 41, 42, 7, 188, 10]
abbrev dktX4_init_3 : List UInt8 := dkwX4_init_3 ++ dktX4_init_4
def dkwX4_init_2 : List UInt8 := [181, 0, 24, 42, 187, 0, 9, 89, 183, 0, 11, 181, 0, 27, 42, 16, 40, 181, 0, 30, 42, 8]
abbrev dktX4_init_2 : List UInt8 := dkwX4_init_2 ++ dktX4_init_3
def dkwX4_init_1 : List UInt8 := [181, 0, 18, 42, 187, 0, 9, 89, 183, 0, 11, 181, 0, 21, 42, 187, 0, 9, 89, 183, 0, 11]
abbrev dktX4_init_1 : List UInt8 := dkwX4_init_1 ++ dktX4_init_2
def dkwX4_init_0 : List UInt8 := [42, 183, 0, 3, 42, 187, 0, 9, 89, 183, 0, 11, 181, 0, 12, 42, 187, 0, 9, 89, 183, 0, 11]
abbrev dktX4_init_0 : List UInt8 := dkwX4_init_0 ++ dktX4_init_1
theorem dksX4_init_0 : cX4_init.data.toList.drop 0 = dktX4_init_0 := by decide +kernel
theorem dksX4_init_1 : cX4_init.data.toList.drop 23 = dktX4_init_1 := dk_seg dksX4_init_0 23 rfl rfl
theorem dksX4_init_2 : cX4_init.data.toList.drop 45 = dktX4_init_2 := dk_seg dksX4_init_1 22 rfl rfl
theorem dksX4_init_3 : cX4_init.data.toList.drop 67 = dktX4_init_3 := dk_seg dksX4_init_2 22 rfl rfl
theorem dksX4_init_4 : cX4_init.data.toList.drop 89 = dktX4_init_4 := dk_seg dksX4_init_3 22 rfl rfl
theorem dX4_init_0 : decode cX4_init 0 = .ok (.aload_n 0, 1) := dk_42 (dk_at dksX4_init_0 0 rfl rfl)
theorem dX4_init_1 : decode cX4_init 1 = .ok (.invokespecial 3, 3) := dk_183 0 3 (dk_at dksX4_init_0 1 rfl rfl)
theorem dX4_init_4 : decode cX4_init 4 = .ok (.aload_n 0, 1) := dk_42 (dk_at dksX4_init_0 4 rfl rfl)
theorem dX4_init_5 : decode cX4_init 5 = .ok (.new 9, 3) := dk_187 0 9 (dk_at dksX4_init_0 5 rfl rfl)
theorem dX4_init_8 : decode cX4_init 8 = .ok (.dup, 1) := dk_89 (dk_at dksX4_init_0 8 rfl rfl)
theorem dX4_init_9 : decode cX4_init 9 = .ok (.invokespecial 11, 3) := dk_183 0 11 (dk_at dksX4_init_0 9 rfl rfl)
theorem dX4_init_12 : decode cX4_init 12 = .ok (.putfield 12, 3) := dk_181 0 12 (dk_at dksX4_init_0 12 rfl rfl)
theorem dX4_init_15 : decode cX4_init 15 = .ok (.aload_n 0, 1) := dk_42 (dk_at dksX4_init_0 15 rfl rfl)
theorem dX4_init_16 : decode cX4_init 16 = .ok (.new 9, 3) := dk_187 0 9 (dk_at dksX4_init_0 16 rfl rfl)
theorem dX4_init_19 : decode cX4_init 19 = .ok (.dup, 1) := dk_89 (dk_at dksX4_init_0 19 rfl rfl)
theorem dX4_init_20 : decode cX4_init 20 = .ok (.invokespecial 11, 3) := dk_183 0 11 (dk_at dksX4_init_0 20 rfl rfl)
theorem dX4_init_23 : decode cX4_init 23 = .ok (.putfield 18, 3) := dk_181 0 18 (dk_at dksX4_init_1 0 rfl rfl)
theorem dX4_init_26 : decode cX4_init 26 = .ok (.aload_n 0, 1) := dk_42 (dk_at dksX4_init_1 3 rfl rfl)
theorem dX4_init_27 : decode cX4_init 27 = .ok (.new 9, 3) := dk_187 0 9 (dk_at dksX4_init_1 4 rfl rfl)
theorem dX4_init_30 : decode cX4_init 30 = .ok (.dup, 1) := dk_89 (dk_at dksX4_init_1 7 rfl rfl)
theorem dX4_init_31 : decode cX4_init 31 = .ok (.invokespecial 11, 3) := dk_183 0 11 (dk_at dksX4_init_1 8 rfl rfl)
theorem dX4_init_34 : decode cX4_init 34 = .ok (.putfield 21, 3) := dk_181 0 21 (dk_at dksX4_init_1 11 rfl rfl)
theorem dX4_init_37 : decode cX4_init 37 = .ok (.aload_n 0, 1) := dk_42 (dk_at dksX4_init_1 14 rfl rfl)
theorem dX4_init_38 : decode cX4_init 38 = .ok (.new 9, 3) := dk_187 0 9 (dk_at dksX4_init_1 15 rfl rfl)
theorem dX4_init_41 : decode cX4_init 41 = .ok (.dup, 1) := dk_89 (dk_at dksX4_init_1 18 rfl rfl)
theorem dX4_init_42 : decode cX4_init 42 = .ok (.invokespecial 11, 3) := dk_183 0 11 (dk_at dksX4_init_1 19 rfl rfl)
theorem dX4_init_45 : decode cX4_init 45 = .ok (.putfield 24, 3) := dk_181 0 24 (dk_at dksX4_init_2 0 rfl rfl)
theorem dX4_init_48 : decode cX4_init 48 = .ok (.aload_n 0, 1) := dk_42 (dk_at dksX4_init_2 3 rfl rfl)
theorem dX4_init_49 : decode cX4_init 49 = .ok (.new 9, 3) := dk_187 0 9 (dk_at dksX4_init_2 4 rfl rfl)
theorem dX4_init_52 : decode cX4_init 52 = .ok (.dup, 1) := dk_89 (dk_at dksX4_init_2 7 rfl rfl)
theorem dX4_init_53 : decode cX4_init 53 = .ok (.invokespecial 11, 3) := dk_183 0 11 (dk_at dksX4_init_2 8 rfl rfl)
theorem dX4_init_56 : decode cX4_init 56 = .ok (.putfield 27, 3) := dk_181 0 27 (dk_at dksX4_init_2 11 rfl rfl)
theorem dX4_init_59 : decode cX4_init 59 = .ok (.aload_n 0, 1) := dk_42 (dk_at dksX4_init_2 14 rfl rfl)
theorem dX4_init_60 : decode cX4_init 60 = .ok (.bipush 40, 2) := dk_16 40 (dk_at dksX4_init_2 15 rfl rfl)
theorem dX4_init_62 : decode cX4_init 62 = .ok (.putfield 30, 3) := dk_181 0 30 (dk_at dksX4_init_2 17 rfl rfl)
theorem dX4_init_65 : decode cX4_init 65 = .ok (.aload_n 0, 1) := dk_42 (dk_at dksX4_init_2 20 rfl rfl)
theorem dX4_init_66 : decode cX4_init 66 = .ok (.iconst 5, 1) := dk_8 (dk_at dksX4_init_2 21 rfl rfl)
theorem dX4_init_67 : decode cX4_init 67 = .ok (.putfield 34, 3) := dk_181 0 34 (dk_at dksX4_init_3 0 rfl rfl)
theorem dX4_init_70 : decode cX4_init 70 = .ok (.aload_n 0, 1) := dk_42 (dk_at dksX4_init_3 3 rfl rfl)
theorem dX4_init_71 : decode cX4_init 71 = .ok (.bipush 8, 2) := dk_16 8 (dk_at dksX4_init_3 4 rfl rfl)
theorem dX4_init_73 : decode cX4_init 73 = .ok (.newarray .int, 2) := dk_188_10 (dk_at dksX4_init_3 6 rfl rfl)
theorem dX4_init_75 : decode cX4_init 75 = .ok (.putfield 37, 3) := dk_181 0 37 (dk_at dksX4_init_3 8 rfl rfl)
theorem dX4_init_78 : decode cX4_init 78 = .ok (.aload_n 0, 1) := dk_42 (dk_at dksX4_init_3 11 rfl rfl)
theorem dX4_init_79 : decode cX4_init 79 = .ok (.iconst 4, 1) := dk_7 (dk_at dksX4_init_3 12 rfl rfl)
theorem dX4_init_80 : decode cX4_init 80 = .ok (.newarray .int, 2) := dk_188_10 (dk_at dksX4_init_3 13 rfl rfl)
theorem dX4_init_82 : decode cX4_init 82 = .ok (.putfield 41, 3) := dk_181 0 41 (dk_at dksX4_init_3 15 rfl rfl)
theorem dX4_init_85 : decode cX4_init 85 = .ok (.aload_n 0, 1) := dk_42 (dk_at dksX4_init_3 18 rfl rfl)
theorem dX4_init_86 : decode cX4_init 86 = .ok (.iconst 4, 1) := dk_7 (dk_at dksX4_init_3 19 rfl rfl)
theorem dX4_init_87 : decode cX4_init 87 = .ok (.newarray .int, 2) := dk_188_10 (dk_at dksX4_init_3 20 rfl rfl)
theorem dX4_init_89 : decode cX4_init 89 = .ok (.putfield 44, 3) := dk_181 0 44 (dk_at dksX4_init_4 0 rfl rfl)
theorem dX4_init_92 : decode cX4_init 92 = .ok (.aload_n 0, 1) := dk_42 (dk_at dksX4_init_4 3 rfl rfl)
theorem dX4_init_93 : decode cX4_init 93 = .ok (.iconst 4, 1) := dk_7 (dk_at dksX4_init_4 4 rfl rfl)
theorem dX4_init_94 : decode cX4_init 94 = .ok (.newarray .int, 2) := dk_188_10 (dk_at dksX4_init_4 5 rfl rfl)
theorem dX4_init_96 : decode cX4_init 96 = .ok (.putfield 47, 3) := dk_181 0 47 (dk_at dksX4_init_4 7 rfl rfl)
theorem dX4_init_99 : decode cX4_init 99 = .ok (.return_, 1) := dk_177 (dk_at dksX4_init_4 10 rfl rfl)
abbrev cX4_burn : ByteArray := prog_8_method_3_code
def yX4_burn : MethodName := ⟨RX4, "burn", "(I)I"⟩
def dkwX4_burn_2 : List UInt8 := [181, 0, 113, 28, 172]
abbrev dktX4_burn_2 : List UInt8 := dkwX4_burn_2 ++ []
def dkwX4_burn_1 : List UInt8 := [100, 100, 79, 42, 89, 180, 0, 110, 28, 96, 181, 0, 110, 42, 89, 180, 0, 113, 5, 28, 104, 100]
abbrev dktX4_burn_1 : List UInt8 := dkwX4_burn_1 ++ dktX4_burn_2
def dkwX4_burn_0 : List UInt8 := [3, 27, 42, 180, 0, 37, 16, 7, 46, 100, 184, 0, 104, 61, 42, 180, 0, 37, 16, 7, 92, 46, 27, 28]
abbrev dktX4_burn_0 : List UInt8 := dkwX4_burn_0 ++ dktX4_burn_1
theorem dksX4_burn_0 : cX4_burn.data.toList.drop 0 = dktX4_burn_0 := by decide +kernel
theorem dksX4_burn_1 : cX4_burn.data.toList.drop 24 = dktX4_burn_1 := dk_seg dksX4_burn_0 24 rfl rfl
theorem dksX4_burn_2 : cX4_burn.data.toList.drop 46 = dktX4_burn_2 := dk_seg dksX4_burn_1 22 rfl rfl
theorem dX4_burn_0 : decode cX4_burn 0 = .ok (.iconst 0, 1) := dk_3 (dk_at dksX4_burn_0 0 rfl rfl)
theorem dX4_burn_1 : decode cX4_burn 1 = .ok (.iload_n 1, 1) := dk_27 (dk_at dksX4_burn_0 1 rfl rfl)
theorem dX4_burn_2 : decode cX4_burn 2 = .ok (.aload_n 0, 1) := dk_42 (dk_at dksX4_burn_0 2 rfl rfl)
theorem dX4_burn_3 : decode cX4_burn 3 = .ok (.getfield 37, 3) := dk_180 0 37 (dk_at dksX4_burn_0 3 rfl rfl)
theorem dX4_burn_6 : decode cX4_burn 6 = .ok (.bipush 7, 2) := dk_16 7 (dk_at dksX4_burn_0 6 rfl rfl)
theorem dX4_burn_8 : decode cX4_burn 8 = .ok (.iaload, 1) := dk_46 (dk_at dksX4_burn_0 8 rfl rfl)
theorem dX4_burn_9 : decode cX4_burn 9 = .ok (.isub, 1) := dk_100 (dk_at dksX4_burn_0 9 rfl rfl)
theorem dX4_burn_10 : decode cX4_burn 10 = .ok (.invokestatic 104, 3) := dk_184 0 104 (dk_at dksX4_burn_0 10 rfl rfl)
theorem dX4_burn_13 : decode cX4_burn 13 = .ok (.istore_n 2, 1) := dk_61 (dk_at dksX4_burn_0 13 rfl rfl)
theorem dX4_burn_14 : decode cX4_burn 14 = .ok (.aload_n 0, 1) := dk_42 (dk_at dksX4_burn_0 14 rfl rfl)
theorem dX4_burn_15 : decode cX4_burn 15 = .ok (.getfield 37, 3) := dk_180 0 37 (dk_at dksX4_burn_0 15 rfl rfl)
theorem dX4_burn_18 : decode cX4_burn 18 = .ok (.bipush 7, 2) := dk_16 7 (dk_at dksX4_burn_0 18 rfl rfl)
theorem dX4_burn_20 : decode cX4_burn 20 = .ok (.dup2, 1) := dk_92 (dk_at dksX4_burn_0 20 rfl rfl)
theorem dX4_burn_21 : decode cX4_burn 21 = .ok (.iaload, 1) := dk_46 (dk_at dksX4_burn_0 21 rfl rfl)
theorem dX4_burn_22 : decode cX4_burn 22 = .ok (.iload_n 1, 1) := dk_27 (dk_at dksX4_burn_0 22 rfl rfl)
theorem dX4_burn_23 : decode cX4_burn 23 = .ok (.iload_n 2, 1) := dk_28 (dk_at dksX4_burn_0 23 rfl rfl)
theorem dX4_burn_24 : decode cX4_burn 24 = .ok (.isub, 1) := dk_100 (dk_at dksX4_burn_1 0 rfl rfl)
theorem dX4_burn_25 : decode cX4_burn 25 = .ok (.isub, 1) := dk_100 (dk_at dksX4_burn_1 1 rfl rfl)
theorem dX4_burn_26 : decode cX4_burn 26 = .ok (.iastore, 1) := dk_79 (dk_at dksX4_burn_1 2 rfl rfl)
theorem dX4_burn_27 : decode cX4_burn 27 = .ok (.aload_n 0, 1) := dk_42 (dk_at dksX4_burn_1 3 rfl rfl)
theorem dX4_burn_28 : decode cX4_burn 28 = .ok (.dup, 1) := dk_89 (dk_at dksX4_burn_1 4 rfl rfl)
theorem dX4_burn_29 : decode cX4_burn 29 = .ok (.getfield 110, 3) := dk_180 0 110 (dk_at dksX4_burn_1 5 rfl rfl)
theorem dX4_burn_32 : decode cX4_burn 32 = .ok (.iload_n 2, 1) := dk_28 (dk_at dksX4_burn_1 8 rfl rfl)
theorem dX4_burn_33 : decode cX4_burn 33 = .ok (.iadd, 1) := dk_96 (dk_at dksX4_burn_1 9 rfl rfl)
theorem dX4_burn_34 : decode cX4_burn 34 = .ok (.putfield 110, 3) := dk_181 0 110 (dk_at dksX4_burn_1 10 rfl rfl)
theorem dX4_burn_37 : decode cX4_burn 37 = .ok (.aload_n 0, 1) := dk_42 (dk_at dksX4_burn_1 13 rfl rfl)
theorem dX4_burn_38 : decode cX4_burn 38 = .ok (.dup, 1) := dk_89 (dk_at dksX4_burn_1 14 rfl rfl)
theorem dX4_burn_39 : decode cX4_burn 39 = .ok (.getfield 113, 3) := dk_180 0 113 (dk_at dksX4_burn_1 15 rfl rfl)
theorem dX4_burn_42 : decode cX4_burn 42 = .ok (.iconst 2, 1) := dk_5 (dk_at dksX4_burn_1 18 rfl rfl)
theorem dX4_burn_43 : decode cX4_burn 43 = .ok (.iload_n 2, 1) := dk_28 (dk_at dksX4_burn_1 19 rfl rfl)
theorem dX4_burn_44 : decode cX4_burn 44 = .ok (.imul, 1) := dk_104 (dk_at dksX4_burn_1 20 rfl rfl)
theorem dX4_burn_45 : decode cX4_burn 45 = .ok (.isub, 1) := dk_100 (dk_at dksX4_burn_1 21 rfl rfl)
theorem dX4_burn_46 : decode cX4_burn 46 = .ok (.putfield 113, 3) := dk_181 0 113 (dk_at dksX4_burn_2 0 rfl rfl)
theorem dX4_burn_49 : decode cX4_burn 49 = .ok (.iload_n 2, 1) := dk_28 (dk_at dksX4_burn_2 3 rfl rfl)
theorem dX4_burn_50 : decode cX4_burn 50 = .ok (.ireturn, 1) := dk_172 (dk_at dksX4_burn_2 4 rfl rfl)
abbrev cX4_goBy : ByteArray := prog_8_method_12_code
def yX4_goBy : MethodName := ⟨RX4, "goBy", "(II)I"⟩
def dkwX4_goBy_6 : List UInt8 := [42, 27, 28, 182, 0, 219, 29, 172]
abbrev dktX4_goBy_6 : List UInt8 := dkwX4_goBy_6 ++ []
def dkwX4_goBy_5 : List UInt8 := [181, 0, 160, 132, 3, 1, 167, 255, 178, 42, 182, 0, 217, 62, 42, 180, 0, 51, 16, 24, 112, 154, 0, 9]
abbrev dktX4_goBy_5 : List UInt8 := dkwX4_goBy_5 ++ dktX4_goBy_6
def dkwX4_goBy_4 : List UInt8 := [167, 0, 4, 3, 100, 25, 4, 180, 0, 213, 153, 0, 7, 4, 167, 0, 4, 3, 100, 184, 0, 104]
abbrev dktX4_goBy_4 : List UInt8 := dkwX4_goBy_4 ++ dktX4_goBy_5
def dkwX4_goBy_3 : List UInt8 := [180, 0, 130, 6, 159, 0, 45, 25, 4, 3, 25, 4, 180, 0, 160, 4, 100, 27, 16, 30, 161, 0, 7, 4]
abbrev dktX4_goBy_3 : List UInt8 := dkwX4_goBy_3 ++ dktX4_goBy_4
def dkwX4_goBy_2 : List UInt8 := [180, 0, 18, 182, 0, 54, 162, 0, 73, 42, 180, 0, 18, 29, 182, 0, 58, 192, 0, 72, 58, 4, 25, 4]
abbrev dktX4_goBy_2 : List UInt8 := dkwX4_goBy_2 ++ dktX4_goBy_3
def dkwX4_goBy_1 : List UInt8 := [42, 180, 0, 21, 29, 182, 0, 58, 192, 0, 77, 182, 0, 209, 132, 3, 1, 167, 255, 227, 3, 62, 29, 42]
abbrev dktX4_goBy_1 : List UInt8 := dkwX4_goBy_1 ++ dktX4_goBy_2
def dkwX4_goBy_0 : List UInt8 := [42, 89, 180, 0, 51, 4, 96, 181, 0, 51, 3, 62, 29, 42, 180, 0, 21, 182, 0, 54, 162, 0, 24, 42]
abbrev dktX4_goBy_0 : List UInt8 := dkwX4_goBy_0 ++ dktX4_goBy_1
theorem dksX4_goBy_0 : cX4_goBy.data.toList.drop 0 = dktX4_goBy_0 := by decide +kernel
theorem dksX4_goBy_1 : cX4_goBy.data.toList.drop 24 = dktX4_goBy_1 := dk_seg dksX4_goBy_0 24 rfl rfl
theorem dksX4_goBy_2 : cX4_goBy.data.toList.drop 48 = dktX4_goBy_2 := dk_seg dksX4_goBy_1 24 rfl rfl
theorem dksX4_goBy_3 : cX4_goBy.data.toList.drop 72 = dktX4_goBy_3 := dk_seg dksX4_goBy_2 24 rfl rfl
theorem dksX4_goBy_4 : cX4_goBy.data.toList.drop 96 = dktX4_goBy_4 := dk_seg dksX4_goBy_3 24 rfl rfl
theorem dksX4_goBy_5 : cX4_goBy.data.toList.drop 118 = dktX4_goBy_5 := dk_seg dksX4_goBy_4 22 rfl rfl
theorem dksX4_goBy_6 : cX4_goBy.data.toList.drop 142 = dktX4_goBy_6 := dk_seg dksX4_goBy_5 24 rfl rfl
theorem dX4_goBy_0 : decode cX4_goBy 0 = .ok (.aload_n 0, 1) := dk_42 (dk_at dksX4_goBy_0 0 rfl rfl)
theorem dX4_goBy_1 : decode cX4_goBy 1 = .ok (.dup, 1) := dk_89 (dk_at dksX4_goBy_0 1 rfl rfl)
theorem dX4_goBy_2 : decode cX4_goBy 2 = .ok (.getfield 51, 3) := dk_180 0 51 (dk_at dksX4_goBy_0 2 rfl rfl)
theorem dX4_goBy_5 : decode cX4_goBy 5 = .ok (.iconst 1, 1) := dk_4 (dk_at dksX4_goBy_0 5 rfl rfl)
theorem dX4_goBy_6 : decode cX4_goBy 6 = .ok (.iadd, 1) := dk_96 (dk_at dksX4_goBy_0 6 rfl rfl)
theorem dX4_goBy_7 : decode cX4_goBy 7 = .ok (.putfield 51, 3) := dk_181 0 51 (dk_at dksX4_goBy_0 7 rfl rfl)
theorem dX4_goBy_10 : decode cX4_goBy 10 = .ok (.iconst 0, 1) := dk_3 (dk_at dksX4_goBy_0 10 rfl rfl)
theorem dX4_goBy_11 : decode cX4_goBy 11 = .ok (.istore_n 3, 1) := dk_62 (dk_at dksX4_goBy_0 11 rfl rfl)
theorem dX4_goBy_12 : decode cX4_goBy 12 = .ok (.iload_n 3, 1) := dk_29 (dk_at dksX4_goBy_0 12 rfl rfl)
theorem dX4_goBy_13 : decode cX4_goBy 13 = .ok (.aload_n 0, 1) := dk_42 (dk_at dksX4_goBy_0 13 rfl rfl)
theorem dX4_goBy_14 : decode cX4_goBy 14 = .ok (.getfield 21, 3) := dk_180 0 21 (dk_at dksX4_goBy_0 14 rfl rfl)
theorem dX4_goBy_17 : decode cX4_goBy 17 = .ok (.invokevirtual 54, 3) := dk_182 0 54 (dk_at dksX4_goBy_0 17 rfl rfl)
theorem dX4_goBy_20 : decode cX4_goBy 20 = .ok (.if_icmp .ge 24, 3) := dk_162 0 24 (dk_at dksX4_goBy_0 20 rfl rfl)
theorem dX4_goBy_23 : decode cX4_goBy 23 = .ok (.aload_n 0, 1) := dk_42 (dk_at dksX4_goBy_0 23 rfl rfl)
theorem dX4_goBy_24 : decode cX4_goBy 24 = .ok (.aload_n 0, 1) := dk_42 (dk_at dksX4_goBy_1 0 rfl rfl)
theorem dX4_goBy_25 : decode cX4_goBy 25 = .ok (.getfield 21, 3) := dk_180 0 21 (dk_at dksX4_goBy_1 1 rfl rfl)
theorem dX4_goBy_28 : decode cX4_goBy 28 = .ok (.iload_n 3, 1) := dk_29 (dk_at dksX4_goBy_1 4 rfl rfl)
theorem dX4_goBy_29 : decode cX4_goBy 29 = .ok (.invokevirtual 58, 3) := dk_182 0 58 (dk_at dksX4_goBy_1 5 rfl rfl)
theorem dX4_goBy_32 : decode cX4_goBy 32 = .ok (.checkcast 77, 3) := dk_192 0 77 (dk_at dksX4_goBy_1 8 rfl rfl)
theorem dX4_goBy_35 : decode cX4_goBy 35 = .ok (.invokevirtual 209, 3) := dk_182 0 209 (dk_at dksX4_goBy_1 11 rfl rfl)
theorem dX4_goBy_38 : decode cX4_goBy 38 = .ok (.iinc 3 1, 3) := dk_132 3 1 (dk_at dksX4_goBy_1 14 rfl rfl)
theorem dX4_goBy_41 : decode cX4_goBy 41 = .ok (.goto (-29), 3) := dk_167 255 227 (dk_at dksX4_goBy_1 17 rfl rfl)
theorem dX4_goBy_44 : decode cX4_goBy 44 = .ok (.iconst 0, 1) := dk_3 (dk_at dksX4_goBy_1 20 rfl rfl)
theorem dX4_goBy_45 : decode cX4_goBy 45 = .ok (.istore_n 3, 1) := dk_62 (dk_at dksX4_goBy_1 21 rfl rfl)
theorem dX4_goBy_46 : decode cX4_goBy 46 = .ok (.iload_n 3, 1) := dk_29 (dk_at dksX4_goBy_1 22 rfl rfl)
theorem dX4_goBy_47 : decode cX4_goBy 47 = .ok (.aload_n 0, 1) := dk_42 (dk_at dksX4_goBy_1 23 rfl rfl)
theorem dX4_goBy_48 : decode cX4_goBy 48 = .ok (.getfield 18, 3) := dk_180 0 18 (dk_at dksX4_goBy_2 0 rfl rfl)
theorem dX4_goBy_51 : decode cX4_goBy 51 = .ok (.invokevirtual 54, 3) := dk_182 0 54 (dk_at dksX4_goBy_2 3 rfl rfl)
theorem dX4_goBy_54 : decode cX4_goBy 54 = .ok (.if_icmp .ge 73, 3) := dk_162 0 73 (dk_at dksX4_goBy_2 6 rfl rfl)
theorem dX4_goBy_57 : decode cX4_goBy 57 = .ok (.aload_n 0, 1) := dk_42 (dk_at dksX4_goBy_2 9 rfl rfl)
theorem dX4_goBy_58 : decode cX4_goBy 58 = .ok (.getfield 18, 3) := dk_180 0 18 (dk_at dksX4_goBy_2 10 rfl rfl)
theorem dX4_goBy_61 : decode cX4_goBy 61 = .ok (.iload_n 3, 1) := dk_29 (dk_at dksX4_goBy_2 13 rfl rfl)
theorem dX4_goBy_62 : decode cX4_goBy 62 = .ok (.invokevirtual 58, 3) := dk_182 0 58 (dk_at dksX4_goBy_2 14 rfl rfl)
theorem dX4_goBy_65 : decode cX4_goBy 65 = .ok (.checkcast 72, 3) := dk_192 0 72 (dk_at dksX4_goBy_2 17 rfl rfl)
theorem dX4_goBy_68 : decode cX4_goBy 68 = .ok (.astore 4, 2) := dk_58 4 (dk_at dksX4_goBy_2 20 rfl rfl)
theorem dX4_goBy_70 : decode cX4_goBy 70 = .ok (.aload 4, 2) := dk_25 4 (dk_at dksX4_goBy_2 22 rfl rfl)
theorem dX4_goBy_72 : decode cX4_goBy 72 = .ok (.getfield 130, 3) := dk_180 0 130 (dk_at dksX4_goBy_3 0 rfl rfl)
theorem dX4_goBy_75 : decode cX4_goBy 75 = .ok (.iconst 3, 1) := dk_6 (dk_at dksX4_goBy_3 3 rfl rfl)
theorem dX4_goBy_76 : decode cX4_goBy 76 = .ok (.if_icmp .eq 45, 3) := dk_159 0 45 (dk_at dksX4_goBy_3 4 rfl rfl)
theorem dX4_goBy_79 : decode cX4_goBy 79 = .ok (.aload 4, 2) := dk_25 4 (dk_at dksX4_goBy_3 7 rfl rfl)
theorem dX4_goBy_81 : decode cX4_goBy 81 = .ok (.iconst 0, 1) := dk_3 (dk_at dksX4_goBy_3 9 rfl rfl)
theorem dX4_goBy_82 : decode cX4_goBy 82 = .ok (.aload 4, 2) := dk_25 4 (dk_at dksX4_goBy_3 10 rfl rfl)
theorem dX4_goBy_84 : decode cX4_goBy 84 = .ok (.getfield 160, 3) := dk_180 0 160 (dk_at dksX4_goBy_3 12 rfl rfl)
theorem dX4_goBy_87 : decode cX4_goBy 87 = .ok (.iconst 1, 1) := dk_4 (dk_at dksX4_goBy_3 15 rfl rfl)
theorem dX4_goBy_88 : decode cX4_goBy 88 = .ok (.isub, 1) := dk_100 (dk_at dksX4_goBy_3 16 rfl rfl)
theorem dX4_goBy_89 : decode cX4_goBy 89 = .ok (.iload_n 1, 1) := dk_27 (dk_at dksX4_goBy_3 17 rfl rfl)
theorem dX4_goBy_90 : decode cX4_goBy 90 = .ok (.bipush 30, 2) := dk_16 30 (dk_at dksX4_goBy_3 18 rfl rfl)
theorem dX4_goBy_92 : decode cX4_goBy 92 = .ok (.if_icmp .lt 7, 3) := dk_161 0 7 (dk_at dksX4_goBy_3 20 rfl rfl)
theorem dX4_goBy_95 : decode cX4_goBy 95 = .ok (.iconst 1, 1) := dk_4 (dk_at dksX4_goBy_3 23 rfl rfl)
theorem dX4_goBy_96 : decode cX4_goBy 96 = .ok (.goto 4, 3) := dk_167 0 4 (dk_at dksX4_goBy_4 0 rfl rfl)
theorem dX4_goBy_99 : decode cX4_goBy 99 = .ok (.iconst 0, 1) := dk_3 (dk_at dksX4_goBy_4 3 rfl rfl)
theorem dX4_goBy_100 : decode cX4_goBy 100 = .ok (.isub, 1) := dk_100 (dk_at dksX4_goBy_4 4 rfl rfl)
theorem dX4_goBy_101 : decode cX4_goBy 101 = .ok (.aload 4, 2) := dk_25 4 (dk_at dksX4_goBy_4 5 rfl rfl)
theorem dX4_goBy_103 : decode cX4_goBy 103 = .ok (.getfield 213, 3) := dk_180 0 213 (dk_at dksX4_goBy_4 7 rfl rfl)
theorem dX4_goBy_106 : decode cX4_goBy 106 = .ok (.ifCond .eq 7, 3) := dk_153 0 7 (dk_at dksX4_goBy_4 10 rfl rfl)
theorem dX4_goBy_109 : decode cX4_goBy 109 = .ok (.iconst 1, 1) := dk_4 (dk_at dksX4_goBy_4 13 rfl rfl)
theorem dX4_goBy_110 : decode cX4_goBy 110 = .ok (.goto 4, 3) := dk_167 0 4 (dk_at dksX4_goBy_4 14 rfl rfl)
theorem dX4_goBy_113 : decode cX4_goBy 113 = .ok (.iconst 0, 1) := dk_3 (dk_at dksX4_goBy_4 17 rfl rfl)
theorem dX4_goBy_114 : decode cX4_goBy 114 = .ok (.isub, 1) := dk_100 (dk_at dksX4_goBy_4 18 rfl rfl)
theorem dX4_goBy_115 : decode cX4_goBy 115 = .ok (.invokestatic 104, 3) := dk_184 0 104 (dk_at dksX4_goBy_4 19 rfl rfl)
theorem dX4_goBy_118 : decode cX4_goBy 118 = .ok (.putfield 160, 3) := dk_181 0 160 (dk_at dksX4_goBy_5 0 rfl rfl)
theorem dX4_goBy_121 : decode cX4_goBy 121 = .ok (.iinc 3 1, 3) := dk_132 3 1 (dk_at dksX4_goBy_5 3 rfl rfl)
theorem dX4_goBy_124 : decode cX4_goBy 124 = .ok (.goto (-78), 3) := dk_167 255 178 (dk_at dksX4_goBy_5 6 rfl rfl)
theorem dX4_goBy_127 : decode cX4_goBy 127 = .ok (.aload_n 0, 1) := dk_42 (dk_at dksX4_goBy_5 9 rfl rfl)
theorem dX4_goBy_128 : decode cX4_goBy 128 = .ok (.invokevirtual 217, 3) := dk_182 0 217 (dk_at dksX4_goBy_5 10 rfl rfl)
theorem dX4_goBy_131 : decode cX4_goBy 131 = .ok (.istore_n 3, 1) := dk_62 (dk_at dksX4_goBy_5 13 rfl rfl)
theorem dX4_goBy_132 : decode cX4_goBy 132 = .ok (.aload_n 0, 1) := dk_42 (dk_at dksX4_goBy_5 14 rfl rfl)
theorem dX4_goBy_133 : decode cX4_goBy 133 = .ok (.getfield 51, 3) := dk_180 0 51 (dk_at dksX4_goBy_5 15 rfl rfl)
theorem dX4_goBy_136 : decode cX4_goBy 136 = .ok (.bipush 24, 2) := dk_16 24 (dk_at dksX4_goBy_5 18 rfl rfl)
theorem dX4_goBy_138 : decode cX4_goBy 138 = .ok (.irem, 1) := dk_112 (dk_at dksX4_goBy_5 20 rfl rfl)
theorem dX4_goBy_139 : decode cX4_goBy 139 = .ok (.ifCond .ne 9, 3) := dk_154 0 9 (dk_at dksX4_goBy_5 21 rfl rfl)
theorem dX4_goBy_142 : decode cX4_goBy 142 = .ok (.aload_n 0, 1) := dk_42 (dk_at dksX4_goBy_6 0 rfl rfl)
theorem dX4_goBy_143 : decode cX4_goBy 143 = .ok (.iload_n 1, 1) := dk_27 (dk_at dksX4_goBy_6 1 rfl rfl)
theorem dX4_goBy_144 : decode cX4_goBy 144 = .ok (.iload_n 2, 1) := dk_28 (dk_at dksX4_goBy_6 2 rfl rfl)
theorem dX4_goBy_145 : decode cX4_goBy 145 = .ok (.invokevirtual 219, 3) := dk_182 0 219 (dk_at dksX4_goBy_6 3 rfl rfl)
theorem dX4_goBy_148 : decode cX4_goBy 148 = .ok (.iload_n 3, 1) := dk_29 (dk_at dksX4_goBy_6 6 rfl rfl)
theorem dX4_goBy_149 : decode cX4_goBy 149 = .ok (.ireturn, 1) := dk_172 (dk_at dksX4_goBy_6 7 rfl rfl)
abbrev cX4_drive : ByteArray := prog_8_method_7_code
def yX4_drive : MethodName := ⟨RX4, "drive", "(LCanecrushModel$Truck;)V"⟩
def dkwX4_drive_6 : List UInt8 := [182, 0, 58, 192, 0, 62, 180, 0, 151, 181, 0, 134, 177]
abbrev dktX4_drive_6 : List UInt8 := dkwX4_drive_6 ++ []
def dkwX4_drive_5 : List UInt8 := [181, 0, 130, 43, 28, 181, 0, 137, 43, 5, 181, 0, 133, 43, 42, 180, 0, 12, 43, 180, 0, 146]
abbrev dktX4_drive_5 : List UInt8 := dkwX4_drive_5 ++ dktX4_drive_6
def dkwX4_drive_4 : List UInt8 := [182, 0, 147, 61, 28, 2, 160, 0, 4, 177, 42, 180, 0, 18, 28, 182, 0, 58, 192, 0, 72, 4]
abbrev dktX4_drive_4 : List UInt8 := dkwX4_drive_4 ++ dktX4_drive_5
def dkwX4_drive_3 : List UInt8 := [87, 43, 3, 181, 0, 133, 43, 2, 181, 0, 146, 43, 2, 181, 0, 137, 177, 42, 43, 180, 0, 146]
abbrev dktX4_drive_3 : List UInt8 := dkwX4_drive_3 ++ dktX4_drive_4
def dkwX4_drive_2 : List UInt8 := [182, 0, 58, 192, 0, 72, 5, 181, 0, 130, 42, 180, 0, 24, 43, 180, 0, 137, 184, 0, 140, 182, 0, 68]
abbrev dktX4_drive_2 : List UInt8 := dkwX4_drive_2 ++ dktX4_drive_3
def dkwX4_drive_1 : List UInt8 := [180, 0, 134, 158, 0, 4, 177, 43, 180, 0, 133, 5, 160, 0, 52, 42, 180, 0, 18, 43, 180, 0, 137]
abbrev dktX4_drive_1 : List UInt8 := dkwX4_drive_1 ++ dktX4_drive_2
def dkwX4_drive_0 : List UInt8 := [43, 180, 0, 133, 154, 0, 4, 177, 43, 3, 43, 180, 0, 134, 4, 100, 184, 0, 104, 181, 0, 134, 43]
abbrev dktX4_drive_0 : List UInt8 := dkwX4_drive_0 ++ dktX4_drive_1
theorem dksX4_drive_0 : cX4_drive.data.toList.drop 0 = dktX4_drive_0 := by decide +kernel
theorem dksX4_drive_1 : cX4_drive.data.toList.drop 23 = dktX4_drive_1 := dk_seg dksX4_drive_0 23 rfl rfl
theorem dksX4_drive_2 : cX4_drive.data.toList.drop 46 = dktX4_drive_2 := dk_seg dksX4_drive_1 23 rfl rfl
theorem dksX4_drive_3 : cX4_drive.data.toList.drop 70 = dktX4_drive_3 := dk_seg dksX4_drive_2 24 rfl rfl
theorem dksX4_drive_4 : cX4_drive.data.toList.drop 92 = dktX4_drive_4 := dk_seg dksX4_drive_3 22 rfl rfl
theorem dksX4_drive_5 : cX4_drive.data.toList.drop 114 = dktX4_drive_5 := dk_seg dksX4_drive_4 22 rfl rfl
theorem dksX4_drive_6 : cX4_drive.data.toList.drop 136 = dktX4_drive_6 := dk_seg dksX4_drive_5 22 rfl rfl
theorem dX4_drive_0 : decode cX4_drive 0 = .ok (.aload_n 1, 1) := dk_43 (dk_at dksX4_drive_0 0 rfl rfl)
theorem dX4_drive_1 : decode cX4_drive 1 = .ok (.getfield 133, 3) := dk_180 0 133 (dk_at dksX4_drive_0 1 rfl rfl)
theorem dX4_drive_4 : decode cX4_drive 4 = .ok (.ifCond .ne 4, 3) := dk_154 0 4 (dk_at dksX4_drive_0 4 rfl rfl)
theorem dX4_drive_7 : decode cX4_drive 7 = .ok (.return_, 1) := dk_177 (dk_at dksX4_drive_0 7 rfl rfl)
theorem dX4_drive_8 : decode cX4_drive 8 = .ok (.aload_n 1, 1) := dk_43 (dk_at dksX4_drive_0 8 rfl rfl)
theorem dX4_drive_9 : decode cX4_drive 9 = .ok (.iconst 0, 1) := dk_3 (dk_at dksX4_drive_0 9 rfl rfl)
theorem dX4_drive_10 : decode cX4_drive 10 = .ok (.aload_n 1, 1) := dk_43 (dk_at dksX4_drive_0 10 rfl rfl)
theorem dX4_drive_11 : decode cX4_drive 11 = .ok (.getfield 134, 3) := dk_180 0 134 (dk_at dksX4_drive_0 11 rfl rfl)
theorem dX4_drive_14 : decode cX4_drive 14 = .ok (.iconst 1, 1) := dk_4 (dk_at dksX4_drive_0 14 rfl rfl)
theorem dX4_drive_15 : decode cX4_drive 15 = .ok (.isub, 1) := dk_100 (dk_at dksX4_drive_0 15 rfl rfl)
theorem dX4_drive_16 : decode cX4_drive 16 = .ok (.invokestatic 104, 3) := dk_184 0 104 (dk_at dksX4_drive_0 16 rfl rfl)
theorem dX4_drive_19 : decode cX4_drive 19 = .ok (.putfield 134, 3) := dk_181 0 134 (dk_at dksX4_drive_0 19 rfl rfl)
theorem dX4_drive_22 : decode cX4_drive 22 = .ok (.aload_n 1, 1) := dk_43 (dk_at dksX4_drive_0 22 rfl rfl)
theorem dX4_drive_23 : decode cX4_drive 23 = .ok (.getfield 134, 3) := dk_180 0 134 (dk_at dksX4_drive_1 0 rfl rfl)
theorem dX4_drive_26 : decode cX4_drive 26 = .ok (.ifCond .le 4, 3) := dk_158 0 4 (dk_at dksX4_drive_1 3 rfl rfl)
theorem dX4_drive_29 : decode cX4_drive 29 = .ok (.return_, 1) := dk_177 (dk_at dksX4_drive_1 6 rfl rfl)
theorem dX4_drive_30 : decode cX4_drive 30 = .ok (.aload_n 1, 1) := dk_43 (dk_at dksX4_drive_1 7 rfl rfl)
theorem dX4_drive_31 : decode cX4_drive 31 = .ok (.getfield 133, 3) := dk_180 0 133 (dk_at dksX4_drive_1 8 rfl rfl)
theorem dX4_drive_34 : decode cX4_drive 34 = .ok (.iconst 2, 1) := dk_5 (dk_at dksX4_drive_1 11 rfl rfl)
theorem dX4_drive_35 : decode cX4_drive 35 = .ok (.if_icmp .ne 52, 3) := dk_160 0 52 (dk_at dksX4_drive_1 12 rfl rfl)
theorem dX4_drive_38 : decode cX4_drive 38 = .ok (.aload_n 0, 1) := dk_42 (dk_at dksX4_drive_1 15 rfl rfl)
theorem dX4_drive_39 : decode cX4_drive 39 = .ok (.getfield 18, 3) := dk_180 0 18 (dk_at dksX4_drive_1 16 rfl rfl)
theorem dX4_drive_42 : decode cX4_drive 42 = .ok (.aload_n 1, 1) := dk_43 (dk_at dksX4_drive_1 19 rfl rfl)
theorem dX4_drive_43 : decode cX4_drive 43 = .ok (.getfield 137, 3) := dk_180 0 137 (dk_at dksX4_drive_1 20 rfl rfl)
theorem dX4_drive_46 : decode cX4_drive 46 = .ok (.invokevirtual 58, 3) := dk_182 0 58 (dk_at dksX4_drive_2 0 rfl rfl)
theorem dX4_drive_49 : decode cX4_drive 49 = .ok (.checkcast 72, 3) := dk_192 0 72 (dk_at dksX4_drive_2 3 rfl rfl)
theorem dX4_drive_52 : decode cX4_drive 52 = .ok (.iconst 2, 1) := dk_5 (dk_at dksX4_drive_2 6 rfl rfl)
theorem dX4_drive_53 : decode cX4_drive 53 = .ok (.putfield 130, 3) := dk_181 0 130 (dk_at dksX4_drive_2 7 rfl rfl)
theorem dX4_drive_56 : decode cX4_drive 56 = .ok (.aload_n 0, 1) := dk_42 (dk_at dksX4_drive_2 10 rfl rfl)
theorem dX4_drive_57 : decode cX4_drive 57 = .ok (.getfield 24, 3) := dk_180 0 24 (dk_at dksX4_drive_2 11 rfl rfl)
theorem dX4_drive_60 : decode cX4_drive 60 = .ok (.aload_n 1, 1) := dk_43 (dk_at dksX4_drive_2 14 rfl rfl)
theorem dX4_drive_61 : decode cX4_drive 61 = .ok (.getfield 137, 3) := dk_180 0 137 (dk_at dksX4_drive_2 15 rfl rfl)
theorem dX4_drive_64 : decode cX4_drive 64 = .ok (.invokestatic 140, 3) := dk_184 0 140 (dk_at dksX4_drive_2 18 rfl rfl)
theorem dX4_drive_67 : decode cX4_drive 67 = .ok (.invokevirtual 68, 3) := dk_182 0 68 (dk_at dksX4_drive_2 21 rfl rfl)
theorem dX4_drive_70 : decode cX4_drive 70 = .ok (.pop, 1) := dk_87 (dk_at dksX4_drive_3 0 rfl rfl)
theorem dX4_drive_71 : decode cX4_drive 71 = .ok (.aload_n 1, 1) := dk_43 (dk_at dksX4_drive_3 1 rfl rfl)
theorem dX4_drive_72 : decode cX4_drive 72 = .ok (.iconst 0, 1) := dk_3 (dk_at dksX4_drive_3 2 rfl rfl)
theorem dX4_drive_73 : decode cX4_drive 73 = .ok (.putfield 133, 3) := dk_181 0 133 (dk_at dksX4_drive_3 3 rfl rfl)
theorem dX4_drive_76 : decode cX4_drive 76 = .ok (.aload_n 1, 1) := dk_43 (dk_at dksX4_drive_3 6 rfl rfl)
theorem dX4_drive_77 : decode cX4_drive 77 = .ok (.iconst (-1), 1) := dk_2 (dk_at dksX4_drive_3 7 rfl rfl)
theorem dX4_drive_78 : decode cX4_drive 78 = .ok (.putfield 146, 3) := dk_181 0 146 (dk_at dksX4_drive_3 8 rfl rfl)
theorem dX4_drive_81 : decode cX4_drive 81 = .ok (.aload_n 1, 1) := dk_43 (dk_at dksX4_drive_3 11 rfl rfl)
theorem dX4_drive_82 : decode cX4_drive 82 = .ok (.iconst (-1), 1) := dk_2 (dk_at dksX4_drive_3 12 rfl rfl)
theorem dX4_drive_83 : decode cX4_drive 83 = .ok (.putfield 137, 3) := dk_181 0 137 (dk_at dksX4_drive_3 13 rfl rfl)
theorem dX4_drive_86 : decode cX4_drive 86 = .ok (.return_, 1) := dk_177 (dk_at dksX4_drive_3 16 rfl rfl)
theorem dX4_drive_87 : decode cX4_drive 87 = .ok (.aload_n 0, 1) := dk_42 (dk_at dksX4_drive_3 17 rfl rfl)
theorem dX4_drive_88 : decode cX4_drive 88 = .ok (.aload_n 1, 1) := dk_43 (dk_at dksX4_drive_3 18 rfl rfl)
theorem dX4_drive_89 : decode cX4_drive 89 = .ok (.getfield 146, 3) := dk_180 0 146 (dk_at dksX4_drive_3 19 rfl rfl)
theorem dX4_drive_92 : decode cX4_drive 92 = .ok (.invokevirtual 147, 3) := dk_182 0 147 (dk_at dksX4_drive_4 0 rfl rfl)
theorem dX4_drive_95 : decode cX4_drive 95 = .ok (.istore_n 2, 1) := dk_61 (dk_at dksX4_drive_4 3 rfl rfl)
theorem dX4_drive_96 : decode cX4_drive 96 = .ok (.iload_n 2, 1) := dk_28 (dk_at dksX4_drive_4 4 rfl rfl)
theorem dX4_drive_97 : decode cX4_drive 97 = .ok (.iconst (-1), 1) := dk_2 (dk_at dksX4_drive_4 5 rfl rfl)
theorem dX4_drive_98 : decode cX4_drive 98 = .ok (.if_icmp .ne 4, 3) := dk_160 0 4 (dk_at dksX4_drive_4 6 rfl rfl)
theorem dX4_drive_101 : decode cX4_drive 101 = .ok (.return_, 1) := dk_177 (dk_at dksX4_drive_4 9 rfl rfl)
theorem dX4_drive_102 : decode cX4_drive 102 = .ok (.aload_n 0, 1) := dk_42 (dk_at dksX4_drive_4 10 rfl rfl)
theorem dX4_drive_103 : decode cX4_drive 103 = .ok (.getfield 18, 3) := dk_180 0 18 (dk_at dksX4_drive_4 11 rfl rfl)
theorem dX4_drive_106 : decode cX4_drive 106 = .ok (.iload_n 2, 1) := dk_28 (dk_at dksX4_drive_4 14 rfl rfl)
theorem dX4_drive_107 : decode cX4_drive 107 = .ok (.invokevirtual 58, 3) := dk_182 0 58 (dk_at dksX4_drive_4 15 rfl rfl)
theorem dX4_drive_110 : decode cX4_drive 110 = .ok (.checkcast 72, 3) := dk_192 0 72 (dk_at dksX4_drive_4 18 rfl rfl)
theorem dX4_drive_113 : decode cX4_drive 113 = .ok (.iconst 1, 1) := dk_4 (dk_at dksX4_drive_4 21 rfl rfl)
theorem dX4_drive_114 : decode cX4_drive 114 = .ok (.putfield 130, 3) := dk_181 0 130 (dk_at dksX4_drive_5 0 rfl rfl)
theorem dX4_drive_117 : decode cX4_drive 117 = .ok (.aload_n 1, 1) := dk_43 (dk_at dksX4_drive_5 3 rfl rfl)
theorem dX4_drive_118 : decode cX4_drive 118 = .ok (.iload_n 2, 1) := dk_28 (dk_at dksX4_drive_5 4 rfl rfl)
theorem dX4_drive_119 : decode cX4_drive 119 = .ok (.putfield 137, 3) := dk_181 0 137 (dk_at dksX4_drive_5 5 rfl rfl)
theorem dX4_drive_122 : decode cX4_drive 122 = .ok (.aload_n 1, 1) := dk_43 (dk_at dksX4_drive_5 8 rfl rfl)
theorem dX4_drive_123 : decode cX4_drive 123 = .ok (.iconst 2, 1) := dk_5 (dk_at dksX4_drive_5 9 rfl rfl)
theorem dX4_drive_124 : decode cX4_drive 124 = .ok (.putfield 133, 3) := dk_181 0 133 (dk_at dksX4_drive_5 10 rfl rfl)
theorem dX4_drive_127 : decode cX4_drive 127 = .ok (.aload_n 1, 1) := dk_43 (dk_at dksX4_drive_5 13 rfl rfl)
theorem dX4_drive_128 : decode cX4_drive 128 = .ok (.aload_n 0, 1) := dk_42 (dk_at dksX4_drive_5 14 rfl rfl)
theorem dX4_drive_129 : decode cX4_drive 129 = .ok (.getfield 12, 3) := dk_180 0 12 (dk_at dksX4_drive_5 15 rfl rfl)
theorem dX4_drive_132 : decode cX4_drive 132 = .ok (.aload_n 1, 1) := dk_43 (dk_at dksX4_drive_5 18 rfl rfl)
theorem dX4_drive_133 : decode cX4_drive 133 = .ok (.getfield 146, 3) := dk_180 0 146 (dk_at dksX4_drive_5 19 rfl rfl)
theorem dX4_drive_136 : decode cX4_drive 136 = .ok (.invokevirtual 58, 3) := dk_182 0 58 (dk_at dksX4_drive_6 0 rfl rfl)
theorem dX4_drive_139 : decode cX4_drive 139 = .ok (.checkcast 62, 3) := dk_192 0 62 (dk_at dksX4_drive_6 3 rfl rfl)
theorem dX4_drive_142 : decode cX4_drive 142 = .ok (.getfield 151, 3) := dk_180 0 151 (dk_at dksX4_drive_6 6 rfl rfl)
theorem dX4_drive_145 : decode cX4_drive 145 = .ok (.putfield 134, 3) := dk_181 0 134 (dk_at dksX4_drive_6 9 rfl rfl)
theorem dX4_drive_148 : decode cX4_drive 148 = .ok (.return_, 1) := dk_177 (dk_at dksX4_drive_6 12 rfl rfl)
abbrev cX4_firstAt : ByteArray := prog_8_method_6_code
def yX4_firstAt : MethodName := ⟨RX4, "firstAt", "(I)I"⟩
def dkwX4_firstAt_2 : List UInt8 := [28, 172, 132, 2, 1, 167, 255, 205, 2, 172]
abbrev dktX4_firstAt_2 : List UInt8 := dkwX4_firstAt_2 ++ []
def dkwX4_firstAt_1 : List UInt8 := [180, 0, 127, 27, 160, 0, 22, 42, 180, 0, 18, 28, 182, 0, 58, 192, 0, 72, 180, 0, 130, 154, 0, 5]
abbrev dktX4_firstAt_1 : List UInt8 := dkwX4_firstAt_1 ++ dktX4_firstAt_2
def dkwX4_firstAt_0 : List UInt8 := [3, 61, 28, 42, 180, 0, 18, 182, 0, 54, 162, 0, 46, 42, 180, 0, 18, 28, 182, 0, 58, 192, 0, 72]
abbrev dktX4_firstAt_0 : List UInt8 := dkwX4_firstAt_0 ++ dktX4_firstAt_1
theorem dksX4_firstAt_0 : cX4_firstAt.data.toList.drop 0 = dktX4_firstAt_0 := by decide +kernel
theorem dksX4_firstAt_1 : cX4_firstAt.data.toList.drop 24 = dktX4_firstAt_1 := dk_seg dksX4_firstAt_0 24 rfl rfl
theorem dksX4_firstAt_2 : cX4_firstAt.data.toList.drop 48 = dktX4_firstAt_2 := dk_seg dksX4_firstAt_1 24 rfl rfl
theorem dX4_firstAt_0 : decode cX4_firstAt 0 = .ok (.iconst 0, 1) := dk_3 (dk_at dksX4_firstAt_0 0 rfl rfl)
theorem dX4_firstAt_1 : decode cX4_firstAt 1 = .ok (.istore_n 2, 1) := dk_61 (dk_at dksX4_firstAt_0 1 rfl rfl)
theorem dX4_firstAt_2 : decode cX4_firstAt 2 = .ok (.iload_n 2, 1) := dk_28 (dk_at dksX4_firstAt_0 2 rfl rfl)
theorem dX4_firstAt_3 : decode cX4_firstAt 3 = .ok (.aload_n 0, 1) := dk_42 (dk_at dksX4_firstAt_0 3 rfl rfl)
theorem dX4_firstAt_4 : decode cX4_firstAt 4 = .ok (.getfield 18, 3) := dk_180 0 18 (dk_at dksX4_firstAt_0 4 rfl rfl)
theorem dX4_firstAt_7 : decode cX4_firstAt 7 = .ok (.invokevirtual 54, 3) := dk_182 0 54 (dk_at dksX4_firstAt_0 7 rfl rfl)
theorem dX4_firstAt_10 : decode cX4_firstAt 10 = .ok (.if_icmp .ge 46, 3) := dk_162 0 46 (dk_at dksX4_firstAt_0 10 rfl rfl)
theorem dX4_firstAt_13 : decode cX4_firstAt 13 = .ok (.aload_n 0, 1) := dk_42 (dk_at dksX4_firstAt_0 13 rfl rfl)
theorem dX4_firstAt_14 : decode cX4_firstAt 14 = .ok (.getfield 18, 3) := dk_180 0 18 (dk_at dksX4_firstAt_0 14 rfl rfl)
theorem dX4_firstAt_17 : decode cX4_firstAt 17 = .ok (.iload_n 2, 1) := dk_28 (dk_at dksX4_firstAt_0 17 rfl rfl)
theorem dX4_firstAt_18 : decode cX4_firstAt 18 = .ok (.invokevirtual 58, 3) := dk_182 0 58 (dk_at dksX4_firstAt_0 18 rfl rfl)
theorem dX4_firstAt_21 : decode cX4_firstAt 21 = .ok (.checkcast 72, 3) := dk_192 0 72 (dk_at dksX4_firstAt_0 21 rfl rfl)
theorem dX4_firstAt_24 : decode cX4_firstAt 24 = .ok (.getfield 127, 3) := dk_180 0 127 (dk_at dksX4_firstAt_1 0 rfl rfl)
theorem dX4_firstAt_27 : decode cX4_firstAt 27 = .ok (.iload_n 1, 1) := dk_27 (dk_at dksX4_firstAt_1 3 rfl rfl)
theorem dX4_firstAt_28 : decode cX4_firstAt 28 = .ok (.if_icmp .ne 22, 3) := dk_160 0 22 (dk_at dksX4_firstAt_1 4 rfl rfl)
theorem dX4_firstAt_31 : decode cX4_firstAt 31 = .ok (.aload_n 0, 1) := dk_42 (dk_at dksX4_firstAt_1 7 rfl rfl)
theorem dX4_firstAt_32 : decode cX4_firstAt 32 = .ok (.getfield 18, 3) := dk_180 0 18 (dk_at dksX4_firstAt_1 8 rfl rfl)
theorem dX4_firstAt_35 : decode cX4_firstAt 35 = .ok (.iload_n 2, 1) := dk_28 (dk_at dksX4_firstAt_1 11 rfl rfl)
theorem dX4_firstAt_36 : decode cX4_firstAt 36 = .ok (.invokevirtual 58, 3) := dk_182 0 58 (dk_at dksX4_firstAt_1 12 rfl rfl)
theorem dX4_firstAt_39 : decode cX4_firstAt 39 = .ok (.checkcast 72, 3) := dk_192 0 72 (dk_at dksX4_firstAt_1 15 rfl rfl)
theorem dX4_firstAt_42 : decode cX4_firstAt 42 = .ok (.getfield 130, 3) := dk_180 0 130 (dk_at dksX4_firstAt_1 18 rfl rfl)
theorem dX4_firstAt_45 : decode cX4_firstAt 45 = .ok (.ifCond .ne 5, 3) := dk_154 0 5 (dk_at dksX4_firstAt_1 21 rfl rfl)
theorem dX4_firstAt_48 : decode cX4_firstAt 48 = .ok (.iload_n 2, 1) := dk_28 (dk_at dksX4_firstAt_2 0 rfl rfl)
theorem dX4_firstAt_49 : decode cX4_firstAt 49 = .ok (.ireturn, 1) := dk_172 (dk_at dksX4_firstAt_2 1 rfl rfl)
theorem dX4_firstAt_50 : decode cX4_firstAt 50 = .ok (.iinc 2 1, 3) := dk_132 2 1 (dk_at dksX4_firstAt_2 2 rfl rfl)
theorem dX4_firstAt_53 : decode cX4_firstAt 53 = .ok (.goto (-51), 3) := dk_167 255 205 (dk_at dksX4_firstAt_2 5 rfl rfl)
theorem dX4_firstAt_56 : decode cX4_firstAt 56 = .ok (.iconst (-1), 1) := dk_2 (dk_at dksX4_firstAt_2 8 rfl rfl)
theorem dX4_firstAt_57 : decode cX4_firstAt 57 = .ok (.ireturn, 1) := dk_172 (dk_at dksX4_firstAt_2 9 rfl rfl)
abbrev cX4_mill : ByteArray := prog_8_method_10_code
def yX4_mill : MethodName := ⟨RX4, "mill", "()I"⟩
def dkwX4_mill_7 : List UInt8 := [160, 0, 18, 42, 3, 181, 0, 89, 42, 89, 180, 0, 199, 4, 96, 181, 0, 199, 3, 172]
abbrev dktX4_mill_7 : List UInt8 := dkwX4_mill_7 ++ []
def dkwX4_mill_6 : List UInt8 := [89, 180, 0, 95, 4, 96, 181, 0, 95, 42, 89, 180, 0, 196, 4, 96, 181, 0, 196, 42, 180, 0, 95, 6]
abbrev dktX4_mill_6 : List UInt8 := dkwX4_mill_6 ++ dktX4_mill_7
def dkwX4_mill_5 : List UInt8 := [192, 0, 141, 182, 0, 154, 182, 0, 192, 167, 255, 178, 27, 158, 0, 10, 42, 3, 181, 0, 95, 27, 172, 42]
abbrev dktX4_mill_5 : List UInt8 := dkwX4_mill_5 ++ dktX4_mill_6
def dkwX4_mill_4 : List UInt8 := [180, 0, 30, 164, 0, 6, 167, 0, 28, 27, 29, 96, 60, 42, 42, 180, 0, 24, 28, 182, 0, 189]
abbrev dktX4_mill_4 : List UInt8 := dkwX4_mill_4 ++ dktX4_mill_5
def dkwX4_mill_3 : List UInt8 := [182, 0, 58, 192, 0, 141, 182, 0, 154, 182, 0, 58, 192, 0, 72, 180, 0, 166, 62, 27, 29, 96, 42]
abbrev dktX4_mill_3 : List UInt8 := dkwX4_mill_3 ++ dktX4_mill_4
def dkwX4_mill_2 : List UInt8 := [180, 0, 24, 182, 0, 182, 154, 0, 74, 42, 182, 0, 186, 61, 42, 180, 0, 18, 42, 180, 0, 24, 28]
abbrev dktX4_mill_2 : List UInt8 := dkwX4_mill_2 ++ dktX4_mill_3
def dkwX4_mill_1 : List UInt8 := [154, 0, 8, 42, 5, 181, 0, 89, 3, 172, 42, 180, 0, 89, 154, 0, 5, 3, 172, 3, 60, 42]
abbrev dktX4_mill_1 : List UInt8 := dkwX4_mill_1 ++ dktX4_mill_2
def dkwX4_mill_0 : List UInt8 := [42, 180, 0, 89, 4, 160, 0, 27, 42, 89, 180, 0, 92, 4, 100, 181, 0, 92, 42, 180, 0, 92]
abbrev dktX4_mill_0 : List UInt8 := dkwX4_mill_0 ++ dktX4_mill_1
theorem dksX4_mill_0 : cX4_mill.data.toList.drop 0 = dktX4_mill_0 := by decide +kernel
theorem dksX4_mill_1 : cX4_mill.data.toList.drop 22 = dktX4_mill_1 := dk_seg dksX4_mill_0 22 rfl rfl
theorem dksX4_mill_2 : cX4_mill.data.toList.drop 44 = dktX4_mill_2 := dk_seg dksX4_mill_1 22 rfl rfl
theorem dksX4_mill_3 : cX4_mill.data.toList.drop 67 = dktX4_mill_3 := dk_seg dksX4_mill_2 23 rfl rfl
theorem dksX4_mill_4 : cX4_mill.data.toList.drop 90 = dktX4_mill_4 := dk_seg dksX4_mill_3 23 rfl rfl
theorem dksX4_mill_5 : cX4_mill.data.toList.drop 112 = dktX4_mill_5 := dk_seg dksX4_mill_4 22 rfl rfl
theorem dksX4_mill_6 : cX4_mill.data.toList.drop 136 = dktX4_mill_6 := dk_seg dksX4_mill_5 24 rfl rfl
theorem dksX4_mill_7 : cX4_mill.data.toList.drop 160 = dktX4_mill_7 := dk_seg dksX4_mill_6 24 rfl rfl
theorem dX4_mill_0 : decode cX4_mill 0 = .ok (.aload_n 0, 1) := dk_42 (dk_at dksX4_mill_0 0 rfl rfl)
theorem dX4_mill_1 : decode cX4_mill 1 = .ok (.getfield 89, 3) := dk_180 0 89 (dk_at dksX4_mill_0 1 rfl rfl)
theorem dX4_mill_4 : decode cX4_mill 4 = .ok (.iconst 1, 1) := dk_4 (dk_at dksX4_mill_0 4 rfl rfl)
theorem dX4_mill_5 : decode cX4_mill 5 = .ok (.if_icmp .ne 27, 3) := dk_160 0 27 (dk_at dksX4_mill_0 5 rfl rfl)
theorem dX4_mill_8 : decode cX4_mill 8 = .ok (.aload_n 0, 1) := dk_42 (dk_at dksX4_mill_0 8 rfl rfl)
theorem dX4_mill_9 : decode cX4_mill 9 = .ok (.dup, 1) := dk_89 (dk_at dksX4_mill_0 9 rfl rfl)
theorem dX4_mill_10 : decode cX4_mill 10 = .ok (.getfield 92, 3) := dk_180 0 92 (dk_at dksX4_mill_0 10 rfl rfl)
theorem dX4_mill_13 : decode cX4_mill 13 = .ok (.iconst 1, 1) := dk_4 (dk_at dksX4_mill_0 13 rfl rfl)
theorem dX4_mill_14 : decode cX4_mill 14 = .ok (.isub, 1) := dk_100 (dk_at dksX4_mill_0 14 rfl rfl)
theorem dX4_mill_15 : decode cX4_mill 15 = .ok (.putfield 92, 3) := dk_181 0 92 (dk_at dksX4_mill_0 15 rfl rfl)
theorem dX4_mill_18 : decode cX4_mill 18 = .ok (.aload_n 0, 1) := dk_42 (dk_at dksX4_mill_0 18 rfl rfl)
theorem dX4_mill_19 : decode cX4_mill 19 = .ok (.getfield 92, 3) := dk_180 0 92 (dk_at dksX4_mill_0 19 rfl rfl)
theorem dX4_mill_22 : decode cX4_mill 22 = .ok (.ifCond .ne 8, 3) := dk_154 0 8 (dk_at dksX4_mill_1 0 rfl rfl)
theorem dX4_mill_25 : decode cX4_mill 25 = .ok (.aload_n 0, 1) := dk_42 (dk_at dksX4_mill_1 3 rfl rfl)
theorem dX4_mill_26 : decode cX4_mill 26 = .ok (.iconst 2, 1) := dk_5 (dk_at dksX4_mill_1 4 rfl rfl)
theorem dX4_mill_27 : decode cX4_mill 27 = .ok (.putfield 89, 3) := dk_181 0 89 (dk_at dksX4_mill_1 5 rfl rfl)
theorem dX4_mill_30 : decode cX4_mill 30 = .ok (.iconst 0, 1) := dk_3 (dk_at dksX4_mill_1 8 rfl rfl)
theorem dX4_mill_31 : decode cX4_mill 31 = .ok (.ireturn, 1) := dk_172 (dk_at dksX4_mill_1 9 rfl rfl)
theorem dX4_mill_32 : decode cX4_mill 32 = .ok (.aload_n 0, 1) := dk_42 (dk_at dksX4_mill_1 10 rfl rfl)
theorem dX4_mill_33 : decode cX4_mill 33 = .ok (.getfield 89, 3) := dk_180 0 89 (dk_at dksX4_mill_1 11 rfl rfl)
theorem dX4_mill_36 : decode cX4_mill 36 = .ok (.ifCond .ne 5, 3) := dk_154 0 5 (dk_at dksX4_mill_1 14 rfl rfl)
theorem dX4_mill_39 : decode cX4_mill 39 = .ok (.iconst 0, 1) := dk_3 (dk_at dksX4_mill_1 17 rfl rfl)
theorem dX4_mill_40 : decode cX4_mill 40 = .ok (.ireturn, 1) := dk_172 (dk_at dksX4_mill_1 18 rfl rfl)
theorem dX4_mill_41 : decode cX4_mill 41 = .ok (.iconst 0, 1) := dk_3 (dk_at dksX4_mill_1 19 rfl rfl)
theorem dX4_mill_42 : decode cX4_mill 42 = .ok (.istore_n 1, 1) := dk_60 (dk_at dksX4_mill_1 20 rfl rfl)
theorem dX4_mill_43 : decode cX4_mill 43 = .ok (.aload_n 0, 1) := dk_42 (dk_at dksX4_mill_1 21 rfl rfl)
theorem dX4_mill_44 : decode cX4_mill 44 = .ok (.getfield 24, 3) := dk_180 0 24 (dk_at dksX4_mill_2 0 rfl rfl)
theorem dX4_mill_47 : decode cX4_mill 47 = .ok (.invokevirtual 182, 3) := dk_182 0 182 (dk_at dksX4_mill_2 3 rfl rfl)
theorem dX4_mill_50 : decode cX4_mill 50 = .ok (.ifCond .ne 74, 3) := dk_154 0 74 (dk_at dksX4_mill_2 6 rfl rfl)
theorem dX4_mill_53 : decode cX4_mill 53 = .ok (.aload_n 0, 1) := dk_42 (dk_at dksX4_mill_2 9 rfl rfl)
theorem dX4_mill_54 : decode cX4_mill 54 = .ok (.invokevirtual 186, 3) := dk_182 0 186 (dk_at dksX4_mill_2 10 rfl rfl)
theorem dX4_mill_57 : decode cX4_mill 57 = .ok (.istore_n 2, 1) := dk_61 (dk_at dksX4_mill_2 13 rfl rfl)
theorem dX4_mill_58 : decode cX4_mill 58 = .ok (.aload_n 0, 1) := dk_42 (dk_at dksX4_mill_2 14 rfl rfl)
theorem dX4_mill_59 : decode cX4_mill 59 = .ok (.getfield 18, 3) := dk_180 0 18 (dk_at dksX4_mill_2 15 rfl rfl)
theorem dX4_mill_62 : decode cX4_mill 62 = .ok (.aload_n 0, 1) := dk_42 (dk_at dksX4_mill_2 18 rfl rfl)
theorem dX4_mill_63 : decode cX4_mill 63 = .ok (.getfield 24, 3) := dk_180 0 24 (dk_at dksX4_mill_2 19 rfl rfl)
theorem dX4_mill_66 : decode cX4_mill 66 = .ok (.iload_n 2, 1) := dk_28 (dk_at dksX4_mill_2 22 rfl rfl)
theorem dX4_mill_67 : decode cX4_mill 67 = .ok (.invokevirtual 58, 3) := dk_182 0 58 (dk_at dksX4_mill_3 0 rfl rfl)
theorem dX4_mill_70 : decode cX4_mill 70 = .ok (.checkcast 141, 3) := dk_192 0 141 (dk_at dksX4_mill_3 3 rfl rfl)
theorem dX4_mill_73 : decode cX4_mill 73 = .ok (.invokevirtual 154, 3) := dk_182 0 154 (dk_at dksX4_mill_3 6 rfl rfl)
theorem dX4_mill_76 : decode cX4_mill 76 = .ok (.invokevirtual 58, 3) := dk_182 0 58 (dk_at dksX4_mill_3 9 rfl rfl)
theorem dX4_mill_79 : decode cX4_mill 79 = .ok (.checkcast 72, 3) := dk_192 0 72 (dk_at dksX4_mill_3 12 rfl rfl)
theorem dX4_mill_82 : decode cX4_mill 82 = .ok (.getfield 166, 3) := dk_180 0 166 (dk_at dksX4_mill_3 15 rfl rfl)
theorem dX4_mill_85 : decode cX4_mill 85 = .ok (.istore_n 3, 1) := dk_62 (dk_at dksX4_mill_3 18 rfl rfl)
theorem dX4_mill_86 : decode cX4_mill 86 = .ok (.iload_n 1, 1) := dk_27 (dk_at dksX4_mill_3 19 rfl rfl)
theorem dX4_mill_87 : decode cX4_mill 87 = .ok (.iload_n 3, 1) := dk_29 (dk_at dksX4_mill_3 20 rfl rfl)
theorem dX4_mill_88 : decode cX4_mill 88 = .ok (.iadd, 1) := dk_96 (dk_at dksX4_mill_3 21 rfl rfl)
theorem dX4_mill_89 : decode cX4_mill 89 = .ok (.aload_n 0, 1) := dk_42 (dk_at dksX4_mill_3 22 rfl rfl)
theorem dX4_mill_90 : decode cX4_mill 90 = .ok (.getfield 30, 3) := dk_180 0 30 (dk_at dksX4_mill_4 0 rfl rfl)
theorem dX4_mill_93 : decode cX4_mill 93 = .ok (.if_icmp .le 6, 3) := dk_164 0 6 (dk_at dksX4_mill_4 3 rfl rfl)
theorem dX4_mill_96 : decode cX4_mill 96 = .ok (.goto 28, 3) := dk_167 0 28 (dk_at dksX4_mill_4 6 rfl rfl)
theorem dX4_mill_99 : decode cX4_mill 99 = .ok (.iload_n 1, 1) := dk_27 (dk_at dksX4_mill_4 9 rfl rfl)
theorem dX4_mill_100 : decode cX4_mill 100 = .ok (.iload_n 3, 1) := dk_29 (dk_at dksX4_mill_4 10 rfl rfl)
theorem dX4_mill_101 : decode cX4_mill 101 = .ok (.iadd, 1) := dk_96 (dk_at dksX4_mill_4 11 rfl rfl)
theorem dX4_mill_102 : decode cX4_mill 102 = .ok (.istore_n 1, 1) := dk_60 (dk_at dksX4_mill_4 12 rfl rfl)
theorem dX4_mill_103 : decode cX4_mill 103 = .ok (.aload_n 0, 1) := dk_42 (dk_at dksX4_mill_4 13 rfl rfl)
theorem dX4_mill_104 : decode cX4_mill 104 = .ok (.aload_n 0, 1) := dk_42 (dk_at dksX4_mill_4 14 rfl rfl)
theorem dX4_mill_105 : decode cX4_mill 105 = .ok (.getfield 24, 3) := dk_180 0 24 (dk_at dksX4_mill_4 15 rfl rfl)
theorem dX4_mill_108 : decode cX4_mill 108 = .ok (.iload_n 2, 1) := dk_28 (dk_at dksX4_mill_4 18 rfl rfl)
theorem dX4_mill_109 : decode cX4_mill 109 = .ok (.invokevirtual 189, 3) := dk_182 0 189 (dk_at dksX4_mill_4 19 rfl rfl)
theorem dX4_mill_112 : decode cX4_mill 112 = .ok (.checkcast 141, 3) := dk_192 0 141 (dk_at dksX4_mill_5 0 rfl rfl)
theorem dX4_mill_115 : decode cX4_mill 115 = .ok (.invokevirtual 154, 3) := dk_182 0 154 (dk_at dksX4_mill_5 3 rfl rfl)
theorem dX4_mill_118 : decode cX4_mill 118 = .ok (.invokevirtual 192, 3) := dk_182 0 192 (dk_at dksX4_mill_5 6 rfl rfl)
theorem dX4_mill_121 : decode cX4_mill 121 = .ok (.goto (-78), 3) := dk_167 255 178 (dk_at dksX4_mill_5 9 rfl rfl)
theorem dX4_mill_124 : decode cX4_mill 124 = .ok (.iload_n 1, 1) := dk_27 (dk_at dksX4_mill_5 12 rfl rfl)
theorem dX4_mill_125 : decode cX4_mill 125 = .ok (.ifCond .le 10, 3) := dk_158 0 10 (dk_at dksX4_mill_5 13 rfl rfl)
theorem dX4_mill_128 : decode cX4_mill 128 = .ok (.aload_n 0, 1) := dk_42 (dk_at dksX4_mill_5 16 rfl rfl)
theorem dX4_mill_129 : decode cX4_mill 129 = .ok (.iconst 0, 1) := dk_3 (dk_at dksX4_mill_5 17 rfl rfl)
theorem dX4_mill_130 : decode cX4_mill 130 = .ok (.putfield 95, 3) := dk_181 0 95 (dk_at dksX4_mill_5 18 rfl rfl)
theorem dX4_mill_133 : decode cX4_mill 133 = .ok (.iload_n 1, 1) := dk_27 (dk_at dksX4_mill_5 21 rfl rfl)
theorem dX4_mill_134 : decode cX4_mill 134 = .ok (.ireturn, 1) := dk_172 (dk_at dksX4_mill_5 22 rfl rfl)
theorem dX4_mill_135 : decode cX4_mill 135 = .ok (.aload_n 0, 1) := dk_42 (dk_at dksX4_mill_5 23 rfl rfl)
theorem dX4_mill_136 : decode cX4_mill 136 = .ok (.dup, 1) := dk_89 (dk_at dksX4_mill_6 0 rfl rfl)
theorem dX4_mill_137 : decode cX4_mill 137 = .ok (.getfield 95, 3) := dk_180 0 95 (dk_at dksX4_mill_6 1 rfl rfl)
theorem dX4_mill_140 : decode cX4_mill 140 = .ok (.iconst 1, 1) := dk_4 (dk_at dksX4_mill_6 4 rfl rfl)
theorem dX4_mill_141 : decode cX4_mill 141 = .ok (.iadd, 1) := dk_96 (dk_at dksX4_mill_6 5 rfl rfl)
theorem dX4_mill_142 : decode cX4_mill 142 = .ok (.putfield 95, 3) := dk_181 0 95 (dk_at dksX4_mill_6 6 rfl rfl)
theorem dX4_mill_145 : decode cX4_mill 145 = .ok (.aload_n 0, 1) := dk_42 (dk_at dksX4_mill_6 9 rfl rfl)
theorem dX4_mill_146 : decode cX4_mill 146 = .ok (.dup, 1) := dk_89 (dk_at dksX4_mill_6 10 rfl rfl)
theorem dX4_mill_147 : decode cX4_mill 147 = .ok (.getfield 196, 3) := dk_180 0 196 (dk_at dksX4_mill_6 11 rfl rfl)
theorem dX4_mill_150 : decode cX4_mill 150 = .ok (.iconst 1, 1) := dk_4 (dk_at dksX4_mill_6 14 rfl rfl)
theorem dX4_mill_151 : decode cX4_mill 151 = .ok (.iadd, 1) := dk_96 (dk_at dksX4_mill_6 15 rfl rfl)
theorem dX4_mill_152 : decode cX4_mill 152 = .ok (.putfield 196, 3) := dk_181 0 196 (dk_at dksX4_mill_6 16 rfl rfl)
theorem dX4_mill_155 : decode cX4_mill 155 = .ok (.aload_n 0, 1) := dk_42 (dk_at dksX4_mill_6 19 rfl rfl)
theorem dX4_mill_156 : decode cX4_mill 156 = .ok (.getfield 95, 3) := dk_180 0 95 (dk_at dksX4_mill_6 20 rfl rfl)
theorem dX4_mill_159 : decode cX4_mill 159 = .ok (.iconst 3, 1) := dk_6 (dk_at dksX4_mill_6 23 rfl rfl)
theorem dX4_mill_160 : decode cX4_mill 160 = .ok (.if_icmp .ne 18, 3) := dk_160 0 18 (dk_at dksX4_mill_7 0 rfl rfl)
theorem dX4_mill_163 : decode cX4_mill 163 = .ok (.aload_n 0, 1) := dk_42 (dk_at dksX4_mill_7 3 rfl rfl)
theorem dX4_mill_164 : decode cX4_mill 164 = .ok (.iconst 0, 1) := dk_3 (dk_at dksX4_mill_7 4 rfl rfl)
theorem dX4_mill_165 : decode cX4_mill 165 = .ok (.putfield 89, 3) := dk_181 0 89 (dk_at dksX4_mill_7 5 rfl rfl)
theorem dX4_mill_168 : decode cX4_mill 168 = .ok (.aload_n 0, 1) := dk_42 (dk_at dksX4_mill_7 8 rfl rfl)
theorem dX4_mill_169 : decode cX4_mill 169 = .ok (.dup, 1) := dk_89 (dk_at dksX4_mill_7 9 rfl rfl)
theorem dX4_mill_170 : decode cX4_mill 170 = .ok (.getfield 199, 3) := dk_180 0 199 (dk_at dksX4_mill_7 10 rfl rfl)
theorem dX4_mill_173 : decode cX4_mill 173 = .ok (.iconst 1, 1) := dk_4 (dk_at dksX4_mill_7 13 rfl rfl)
theorem dX4_mill_174 : decode cX4_mill 174 = .ok (.iadd, 1) := dk_96 (dk_at dksX4_mill_7 14 rfl rfl)
theorem dX4_mill_175 : decode cX4_mill 175 = .ok (.putfield 199, 3) := dk_181 0 199 (dk_at dksX4_mill_7 15 rfl rfl)
theorem dX4_mill_178 : decode cX4_mill 178 = .ok (.iconst 0, 1) := dk_3 (dk_at dksX4_mill_7 18 rfl rfl)
theorem dX4_mill_179 : decode cX4_mill 179 = .ok (.ireturn, 1) := dk_172 (dk_at dksX4_mill_7 19 rfl rfl)
abbrev cX4_next : ByteArray := prog_8_method_8_code
def yX4_next : MethodName := ⟨RX4, "next", "()I"⟩
def dkwX4_next_5 : List UInt8 := [28, 60, 132, 2, 1, 167, 255, 137, 27, 172]
abbrev dktX4_next_5 : List UInt8 := dkwX4_next_5 ++ []
def dkwX4_next_4 : List UInt8 := [25, 4, 180, 0, 157, 46, 162, 0, 20, 167, 0, 15, 45, 180, 0, 160, 25, 4, 180, 0, 160, 164, 0, 5]
abbrev dktX4_next_4 : List UInt8 := dkwX4_next_4 ++ dktX4_next_5
def dkwX4_next_3 : List UInt8 := [58, 4, 42, 180, 0, 86, 4, 160, 0, 28, 42, 180, 0, 41, 45, 180, 0, 157, 46, 42, 180, 0, 41]
abbrev dktX4_next_3 : List UInt8 := dkwX4_next_3 ++ dktX4_next_4
def dkwX4_next_2 : List UInt8 := [42, 180, 0, 18, 42, 180, 0, 24, 27, 182, 0, 58, 192, 0, 141, 182, 0, 154, 182, 0, 58, 192, 0, 72]
abbrev dktX4_next_2 : List UInt8 := dkwX4_next_2 ++ dktX4_next_3
def dkwX4_next_1 : List UInt8 := [180, 0, 18, 42, 180, 0, 24, 28, 182, 0, 58, 192, 0, 141, 182, 0, 154, 182, 0, 58, 192, 0, 72, 78]
abbrev dktX4_next_1 : List UInt8 := dkwX4_next_1 ++ dktX4_next_2
def dkwX4_next_0 : List UInt8 := [3, 60, 4, 61, 28, 42, 180, 0, 24, 182, 0, 54, 162, 0, 114, 42, 180, 0, 86, 158, 0, 107, 42]
abbrev dktX4_next_0 : List UInt8 := dkwX4_next_0 ++ dktX4_next_1
theorem dksX4_next_0 : cX4_next.data.toList.drop 0 = dktX4_next_0 := by decide +kernel
theorem dksX4_next_1 : cX4_next.data.toList.drop 23 = dktX4_next_1 := dk_seg dksX4_next_0 23 rfl rfl
theorem dksX4_next_2 : cX4_next.data.toList.drop 47 = dktX4_next_2 := dk_seg dksX4_next_1 24 rfl rfl
theorem dksX4_next_3 : cX4_next.data.toList.drop 71 = dktX4_next_3 := dk_seg dksX4_next_2 24 rfl rfl
theorem dksX4_next_4 : cX4_next.data.toList.drop 94 = dktX4_next_4 := dk_seg dksX4_next_3 23 rfl rfl
theorem dksX4_next_5 : cX4_next.data.toList.drop 118 = dktX4_next_5 := dk_seg dksX4_next_4 24 rfl rfl
theorem dX4_next_0 : decode cX4_next 0 = .ok (.iconst 0, 1) := dk_3 (dk_at dksX4_next_0 0 rfl rfl)
theorem dX4_next_1 : decode cX4_next 1 = .ok (.istore_n 1, 1) := dk_60 (dk_at dksX4_next_0 1 rfl rfl)
theorem dX4_next_2 : decode cX4_next 2 = .ok (.iconst 1, 1) := dk_4 (dk_at dksX4_next_0 2 rfl rfl)
theorem dX4_next_3 : decode cX4_next 3 = .ok (.istore_n 2, 1) := dk_61 (dk_at dksX4_next_0 3 rfl rfl)
theorem dX4_next_4 : decode cX4_next 4 = .ok (.iload_n 2, 1) := dk_28 (dk_at dksX4_next_0 4 rfl rfl)
theorem dX4_next_5 : decode cX4_next 5 = .ok (.aload_n 0, 1) := dk_42 (dk_at dksX4_next_0 5 rfl rfl)
theorem dX4_next_6 : decode cX4_next 6 = .ok (.getfield 24, 3) := dk_180 0 24 (dk_at dksX4_next_0 6 rfl rfl)
theorem dX4_next_9 : decode cX4_next 9 = .ok (.invokevirtual 54, 3) := dk_182 0 54 (dk_at dksX4_next_0 9 rfl rfl)
theorem dX4_next_12 : decode cX4_next 12 = .ok (.if_icmp .ge 114, 3) := dk_162 0 114 (dk_at dksX4_next_0 12 rfl rfl)
theorem dX4_next_15 : decode cX4_next 15 = .ok (.aload_n 0, 1) := dk_42 (dk_at dksX4_next_0 15 rfl rfl)
theorem dX4_next_16 : decode cX4_next 16 = .ok (.getfield 86, 3) := dk_180 0 86 (dk_at dksX4_next_0 16 rfl rfl)
theorem dX4_next_19 : decode cX4_next 19 = .ok (.ifCond .le 107, 3) := dk_158 0 107 (dk_at dksX4_next_0 19 rfl rfl)
theorem dX4_next_22 : decode cX4_next 22 = .ok (.aload_n 0, 1) := dk_42 (dk_at dksX4_next_0 22 rfl rfl)
theorem dX4_next_23 : decode cX4_next 23 = .ok (.getfield 18, 3) := dk_180 0 18 (dk_at dksX4_next_1 0 rfl rfl)
theorem dX4_next_26 : decode cX4_next 26 = .ok (.aload_n 0, 1) := dk_42 (dk_at dksX4_next_1 3 rfl rfl)
theorem dX4_next_27 : decode cX4_next 27 = .ok (.getfield 24, 3) := dk_180 0 24 (dk_at dksX4_next_1 4 rfl rfl)
theorem dX4_next_30 : decode cX4_next 30 = .ok (.iload_n 2, 1) := dk_28 (dk_at dksX4_next_1 7 rfl rfl)
theorem dX4_next_31 : decode cX4_next 31 = .ok (.invokevirtual 58, 3) := dk_182 0 58 (dk_at dksX4_next_1 8 rfl rfl)
theorem dX4_next_34 : decode cX4_next 34 = .ok (.checkcast 141, 3) := dk_192 0 141 (dk_at dksX4_next_1 11 rfl rfl)
theorem dX4_next_37 : decode cX4_next 37 = .ok (.invokevirtual 154, 3) := dk_182 0 154 (dk_at dksX4_next_1 14 rfl rfl)
theorem dX4_next_40 : decode cX4_next 40 = .ok (.invokevirtual 58, 3) := dk_182 0 58 (dk_at dksX4_next_1 17 rfl rfl)
theorem dX4_next_43 : decode cX4_next 43 = .ok (.checkcast 72, 3) := dk_192 0 72 (dk_at dksX4_next_1 20 rfl rfl)
theorem dX4_next_46 : decode cX4_next 46 = .ok (.astore_n 3, 1) := dk_78 (dk_at dksX4_next_1 23 rfl rfl)
theorem dX4_next_47 : decode cX4_next 47 = .ok (.aload_n 0, 1) := dk_42 (dk_at dksX4_next_2 0 rfl rfl)
theorem dX4_next_48 : decode cX4_next 48 = .ok (.getfield 18, 3) := dk_180 0 18 (dk_at dksX4_next_2 1 rfl rfl)
theorem dX4_next_51 : decode cX4_next 51 = .ok (.aload_n 0, 1) := dk_42 (dk_at dksX4_next_2 4 rfl rfl)
theorem dX4_next_52 : decode cX4_next 52 = .ok (.getfield 24, 3) := dk_180 0 24 (dk_at dksX4_next_2 5 rfl rfl)
theorem dX4_next_55 : decode cX4_next 55 = .ok (.iload_n 1, 1) := dk_27 (dk_at dksX4_next_2 8 rfl rfl)
theorem dX4_next_56 : decode cX4_next 56 = .ok (.invokevirtual 58, 3) := dk_182 0 58 (dk_at dksX4_next_2 9 rfl rfl)
theorem dX4_next_59 : decode cX4_next 59 = .ok (.checkcast 141, 3) := dk_192 0 141 (dk_at dksX4_next_2 12 rfl rfl)
theorem dX4_next_62 : decode cX4_next 62 = .ok (.invokevirtual 154, 3) := dk_182 0 154 (dk_at dksX4_next_2 15 rfl rfl)
theorem dX4_next_65 : decode cX4_next 65 = .ok (.invokevirtual 58, 3) := dk_182 0 58 (dk_at dksX4_next_2 18 rfl rfl)
theorem dX4_next_68 : decode cX4_next 68 = .ok (.checkcast 72, 3) := dk_192 0 72 (dk_at dksX4_next_2 21 rfl rfl)
theorem dX4_next_71 : decode cX4_next 71 = .ok (.astore 4, 2) := dk_58 4 (dk_at dksX4_next_3 0 rfl rfl)
theorem dX4_next_73 : decode cX4_next 73 = .ok (.aload_n 0, 1) := dk_42 (dk_at dksX4_next_3 2 rfl rfl)
theorem dX4_next_74 : decode cX4_next 74 = .ok (.getfield 86, 3) := dk_180 0 86 (dk_at dksX4_next_3 3 rfl rfl)
theorem dX4_next_77 : decode cX4_next 77 = .ok (.iconst 1, 1) := dk_4 (dk_at dksX4_next_3 6 rfl rfl)
theorem dX4_next_78 : decode cX4_next 78 = .ok (.if_icmp .ne 28, 3) := dk_160 0 28 (dk_at dksX4_next_3 7 rfl rfl)
theorem dX4_next_81 : decode cX4_next 81 = .ok (.aload_n 0, 1) := dk_42 (dk_at dksX4_next_3 10 rfl rfl)
theorem dX4_next_82 : decode cX4_next 82 = .ok (.getfield 41, 3) := dk_180 0 41 (dk_at dksX4_next_3 11 rfl rfl)
theorem dX4_next_85 : decode cX4_next 85 = .ok (.aload_n 3, 1) := dk_45 (dk_at dksX4_next_3 14 rfl rfl)
theorem dX4_next_86 : decode cX4_next 86 = .ok (.getfield 157, 3) := dk_180 0 157 (dk_at dksX4_next_3 15 rfl rfl)
theorem dX4_next_89 : decode cX4_next 89 = .ok (.iaload, 1) := dk_46 (dk_at dksX4_next_3 18 rfl rfl)
theorem dX4_next_90 : decode cX4_next 90 = .ok (.aload_n 0, 1) := dk_42 (dk_at dksX4_next_3 19 rfl rfl)
theorem dX4_next_91 : decode cX4_next 91 = .ok (.getfield 41, 3) := dk_180 0 41 (dk_at dksX4_next_3 20 rfl rfl)
theorem dX4_next_94 : decode cX4_next 94 = .ok (.aload 4, 2) := dk_25 4 (dk_at dksX4_next_4 0 rfl rfl)
theorem dX4_next_96 : decode cX4_next 96 = .ok (.getfield 157, 3) := dk_180 0 157 (dk_at dksX4_next_4 2 rfl rfl)
theorem dX4_next_99 : decode cX4_next 99 = .ok (.iaload, 1) := dk_46 (dk_at dksX4_next_4 5 rfl rfl)
theorem dX4_next_100 : decode cX4_next 100 = .ok (.if_icmp .ge 20, 3) := dk_162 0 20 (dk_at dksX4_next_4 6 rfl rfl)
theorem dX4_next_103 : decode cX4_next 103 = .ok (.goto 15, 3) := dk_167 0 15 (dk_at dksX4_next_4 9 rfl rfl)
theorem dX4_next_106 : decode cX4_next 106 = .ok (.aload_n 3, 1) := dk_45 (dk_at dksX4_next_4 12 rfl rfl)
theorem dX4_next_107 : decode cX4_next 107 = .ok (.getfield 160, 3) := dk_180 0 160 (dk_at dksX4_next_4 13 rfl rfl)
theorem dX4_next_110 : decode cX4_next 110 = .ok (.aload 4, 2) := dk_25 4 (dk_at dksX4_next_4 16 rfl rfl)
theorem dX4_next_112 : decode cX4_next 112 = .ok (.getfield 160, 3) := dk_180 0 160 (dk_at dksX4_next_4 18 rfl rfl)
theorem dX4_next_115 : decode cX4_next 115 = .ok (.if_icmp .le 5, 3) := dk_164 0 5 (dk_at dksX4_next_4 21 rfl rfl)
theorem dX4_next_118 : decode cX4_next 118 = .ok (.iload_n 2, 1) := dk_28 (dk_at dksX4_next_5 0 rfl rfl)
theorem dX4_next_119 : decode cX4_next 119 = .ok (.istore_n 1, 1) := dk_60 (dk_at dksX4_next_5 1 rfl rfl)
theorem dX4_next_120 : decode cX4_next 120 = .ok (.iinc 2 1, 3) := dk_132 2 1 (dk_at dksX4_next_5 2 rfl rfl)
theorem dX4_next_123 : decode cX4_next 123 = .ok (.goto (-119), 3) := dk_167 255 137 (dk_at dksX4_next_5 5 rfl rfl)
theorem dX4_next_126 : decode cX4_next 126 = .ok (.iload_n 1, 1) := dk_27 (dk_at dksX4_next_5 8 rfl rfl)
theorem dX4_next_127 : decode cX4_next 127 = .ok (.ireturn, 1) := dk_172 (dk_at dksX4_next_5 9 rfl rfl)
abbrev cX4_crush : ByteArray := prog_8_method_9_code
def yX4_crush : MethodName := ⟨RX4, "crush", "(I)V"⟩
def dkwX4_crush_7 : List UInt8 := [180, 0, 160, 104, 133, 97, 181, 0, 178, 42, 180, 0, 27, 27, 184, 0, 140, 182, 0, 68, 87, 177]
abbrev dktX4_crush_7 : List UInt8 := dkwX4_crush_7 ++ []
def dkwX4_crush_6 : List UInt8 := [44, 180, 0, 157, 92, 46, 44, 180, 0, 166, 96, 79, 42, 89, 180, 0, 178, 44, 180, 0, 166, 44]
abbrev dktX4_crush_6 : List UInt8 := dkwX4_crush_6 ++ dktX4_crush_7
def dkwX4_crush_5 : List UInt8 := [182, 0, 175, 87, 42, 180, 0, 41, 44, 180, 0, 157, 92, 46, 44, 180, 0, 166, 96, 79, 42, 180, 0, 44]
abbrev dktX4_crush_5 : List UInt8 := dkwX4_crush_5 ++ dktX4_crush_6
def dkwX4_crush_4 : List UInt8 := [180, 0, 166, 104, 16, 10, 108, 96, 79, 42, 44, 180, 0, 166, 5, 42, 180, 0, 34, 96, 104, 16, 20, 108]
abbrev dktX4_crush_4 : List UInt8 := dkwX4_crush_4 ++ dktX4_crush_5
def dkwX4_crush_3 : List UInt8 := [42, 89, 180, 0, 172, 29, 21, 4, 100, 96, 181, 0, 172, 42, 180, 0, 37, 16, 7, 92, 46, 6, 44]
abbrev dktX4_crush_3 : List UInt8 := dkwX4_crush_3 ++ dktX4_crush_4
def dkwX4_crush_2 : List UInt8 := [44, 182, 0, 169, 5, 108, 100, 104, 16, 100, 108, 54, 4, 42, 180, 0, 37, 3, 92, 46, 21, 4, 96, 79]
abbrev dktX4_crush_2 : List UInt8 := dkwX4_crush_2 ++ dktX4_crush_3
def dkwX4_crush_1 : List UInt8 := [181, 0, 163, 44, 180, 0, 166, 44, 180, 0, 160, 104, 16, 10, 108, 62, 29, 16, 88, 42, 180, 0, 34, 96]
abbrev dktX4_crush_1 : List UInt8 := dkwX4_crush_1 ++ dktX4_crush_2
def dkwX4_crush_0 : List UInt8 := [42, 180, 0, 18, 27, 182, 0, 58, 192, 0, 72, 77, 44, 6, 181, 0, 130, 44, 42, 180, 0, 51]
abbrev dktX4_crush_0 : List UInt8 := dkwX4_crush_0 ++ dktX4_crush_1
theorem dksX4_crush_0 : cX4_crush.data.toList.drop 0 = dktX4_crush_0 := by decide +kernel
theorem dksX4_crush_1 : cX4_crush.data.toList.drop 22 = dktX4_crush_1 := dk_seg dksX4_crush_0 22 rfl rfl
theorem dksX4_crush_2 : cX4_crush.data.toList.drop 46 = dktX4_crush_2 := dk_seg dksX4_crush_1 24 rfl rfl
theorem dksX4_crush_3 : cX4_crush.data.toList.drop 70 = dktX4_crush_3 := dk_seg dksX4_crush_2 24 rfl rfl
theorem dksX4_crush_4 : cX4_crush.data.toList.drop 93 = dktX4_crush_4 := dk_seg dksX4_crush_3 23 rfl rfl
theorem dksX4_crush_5 : cX4_crush.data.toList.drop 117 = dktX4_crush_5 := dk_seg dksX4_crush_4 24 rfl rfl
theorem dksX4_crush_6 : cX4_crush.data.toList.drop 141 = dktX4_crush_6 := dk_seg dksX4_crush_5 24 rfl rfl
theorem dksX4_crush_7 : cX4_crush.data.toList.drop 163 = dktX4_crush_7 := dk_seg dksX4_crush_6 22 rfl rfl
theorem dX4_crush_0 : decode cX4_crush 0 = .ok (.aload_n 0, 1) := dk_42 (dk_at dksX4_crush_0 0 rfl rfl)
theorem dX4_crush_1 : decode cX4_crush 1 = .ok (.getfield 18, 3) := dk_180 0 18 (dk_at dksX4_crush_0 1 rfl rfl)
theorem dX4_crush_4 : decode cX4_crush 4 = .ok (.iload_n 1, 1) := dk_27 (dk_at dksX4_crush_0 4 rfl rfl)
theorem dX4_crush_5 : decode cX4_crush 5 = .ok (.invokevirtual 58, 3) := dk_182 0 58 (dk_at dksX4_crush_0 5 rfl rfl)
theorem dX4_crush_8 : decode cX4_crush 8 = .ok (.checkcast 72, 3) := dk_192 0 72 (dk_at dksX4_crush_0 8 rfl rfl)
theorem dX4_crush_11 : decode cX4_crush 11 = .ok (.astore_n 2, 1) := dk_77 (dk_at dksX4_crush_0 11 rfl rfl)
theorem dX4_crush_12 : decode cX4_crush 12 = .ok (.aload_n 2, 1) := dk_44 (dk_at dksX4_crush_0 12 rfl rfl)
theorem dX4_crush_13 : decode cX4_crush 13 = .ok (.iconst 3, 1) := dk_6 (dk_at dksX4_crush_0 13 rfl rfl)
theorem dX4_crush_14 : decode cX4_crush 14 = .ok (.putfield 130, 3) := dk_181 0 130 (dk_at dksX4_crush_0 14 rfl rfl)
theorem dX4_crush_17 : decode cX4_crush 17 = .ok (.aload_n 2, 1) := dk_44 (dk_at dksX4_crush_0 17 rfl rfl)
theorem dX4_crush_18 : decode cX4_crush 18 = .ok (.aload_n 0, 1) := dk_42 (dk_at dksX4_crush_0 18 rfl rfl)
theorem dX4_crush_19 : decode cX4_crush 19 = .ok (.getfield 51, 3) := dk_180 0 51 (dk_at dksX4_crush_0 19 rfl rfl)
theorem dX4_crush_22 : decode cX4_crush 22 = .ok (.putfield 163, 3) := dk_181 0 163 (dk_at dksX4_crush_1 0 rfl rfl)
theorem dX4_crush_25 : decode cX4_crush 25 = .ok (.aload_n 2, 1) := dk_44 (dk_at dksX4_crush_1 3 rfl rfl)
theorem dX4_crush_26 : decode cX4_crush 26 = .ok (.getfield 166, 3) := dk_180 0 166 (dk_at dksX4_crush_1 4 rfl rfl)
theorem dX4_crush_29 : decode cX4_crush 29 = .ok (.aload_n 2, 1) := dk_44 (dk_at dksX4_crush_1 7 rfl rfl)
theorem dX4_crush_30 : decode cX4_crush 30 = .ok (.getfield 160, 3) := dk_180 0 160 (dk_at dksX4_crush_1 8 rfl rfl)
theorem dX4_crush_33 : decode cX4_crush 33 = .ok (.imul, 1) := dk_104 (dk_at dksX4_crush_1 11 rfl rfl)
theorem dX4_crush_34 : decode cX4_crush 34 = .ok (.bipush 10, 2) := dk_16 10 (dk_at dksX4_crush_1 12 rfl rfl)
theorem dX4_crush_36 : decode cX4_crush 36 = .ok (.idiv, 1) := dk_108 (dk_at dksX4_crush_1 14 rfl rfl)
theorem dX4_crush_37 : decode cX4_crush 37 = .ok (.istore_n 3, 1) := dk_62 (dk_at dksX4_crush_1 15 rfl rfl)
theorem dX4_crush_38 : decode cX4_crush 38 = .ok (.iload_n 3, 1) := dk_29 (dk_at dksX4_crush_1 16 rfl rfl)
theorem dX4_crush_39 : decode cX4_crush 39 = .ok (.bipush 88, 2) := dk_16 88 (dk_at dksX4_crush_1 17 rfl rfl)
theorem dX4_crush_41 : decode cX4_crush 41 = .ok (.aload_n 0, 1) := dk_42 (dk_at dksX4_crush_1 19 rfl rfl)
theorem dX4_crush_42 : decode cX4_crush 42 = .ok (.getfield 34, 3) := dk_180 0 34 (dk_at dksX4_crush_1 20 rfl rfl)
theorem dX4_crush_45 : decode cX4_crush 45 = .ok (.iadd, 1) := dk_96 (dk_at dksX4_crush_1 23 rfl rfl)
theorem dX4_crush_46 : decode cX4_crush 46 = .ok (.aload_n 2, 1) := dk_44 (dk_at dksX4_crush_2 0 rfl rfl)
theorem dX4_crush_47 : decode cX4_crush 47 = .ok (.invokevirtual 169, 3) := dk_182 0 169 (dk_at dksX4_crush_2 1 rfl rfl)
theorem dX4_crush_50 : decode cX4_crush 50 = .ok (.iconst 2, 1) := dk_5 (dk_at dksX4_crush_2 4 rfl rfl)
theorem dX4_crush_51 : decode cX4_crush 51 = .ok (.idiv, 1) := dk_108 (dk_at dksX4_crush_2 5 rfl rfl)
theorem dX4_crush_52 : decode cX4_crush 52 = .ok (.isub, 1) := dk_100 (dk_at dksX4_crush_2 6 rfl rfl)
theorem dX4_crush_53 : decode cX4_crush 53 = .ok (.imul, 1) := dk_104 (dk_at dksX4_crush_2 7 rfl rfl)
theorem dX4_crush_54 : decode cX4_crush 54 = .ok (.bipush 100, 2) := dk_16 100 (dk_at dksX4_crush_2 8 rfl rfl)
theorem dX4_crush_56 : decode cX4_crush 56 = .ok (.idiv, 1) := dk_108 (dk_at dksX4_crush_2 10 rfl rfl)
theorem dX4_crush_57 : decode cX4_crush 57 = .ok (.istore 4, 2) := dk_54 4 (dk_at dksX4_crush_2 11 rfl rfl)
theorem dX4_crush_59 : decode cX4_crush 59 = .ok (.aload_n 0, 1) := dk_42 (dk_at dksX4_crush_2 13 rfl rfl)
theorem dX4_crush_60 : decode cX4_crush 60 = .ok (.getfield 37, 3) := dk_180 0 37 (dk_at dksX4_crush_2 14 rfl rfl)
theorem dX4_crush_63 : decode cX4_crush 63 = .ok (.iconst 0, 1) := dk_3 (dk_at dksX4_crush_2 17 rfl rfl)
theorem dX4_crush_64 : decode cX4_crush 64 = .ok (.dup2, 1) := dk_92 (dk_at dksX4_crush_2 18 rfl rfl)
theorem dX4_crush_65 : decode cX4_crush 65 = .ok (.iaload, 1) := dk_46 (dk_at dksX4_crush_2 19 rfl rfl)
theorem dX4_crush_66 : decode cX4_crush 66 = .ok (.iload 4, 2) := dk_21 4 (dk_at dksX4_crush_2 20 rfl rfl)
theorem dX4_crush_68 : decode cX4_crush 68 = .ok (.iadd, 1) := dk_96 (dk_at dksX4_crush_2 22 rfl rfl)
theorem dX4_crush_69 : decode cX4_crush 69 = .ok (.iastore, 1) := dk_79 (dk_at dksX4_crush_2 23 rfl rfl)
theorem dX4_crush_70 : decode cX4_crush 70 = .ok (.aload_n 0, 1) := dk_42 (dk_at dksX4_crush_3 0 rfl rfl)
theorem dX4_crush_71 : decode cX4_crush 71 = .ok (.dup, 1) := dk_89 (dk_at dksX4_crush_3 1 rfl rfl)
theorem dX4_crush_72 : decode cX4_crush 72 = .ok (.getfield 172, 3) := dk_180 0 172 (dk_at dksX4_crush_3 2 rfl rfl)
theorem dX4_crush_75 : decode cX4_crush 75 = .ok (.iload_n 3, 1) := dk_29 (dk_at dksX4_crush_3 5 rfl rfl)
theorem dX4_crush_76 : decode cX4_crush 76 = .ok (.iload 4, 2) := dk_21 4 (dk_at dksX4_crush_3 6 rfl rfl)
theorem dX4_crush_78 : decode cX4_crush 78 = .ok (.isub, 1) := dk_100 (dk_at dksX4_crush_3 8 rfl rfl)
theorem dX4_crush_79 : decode cX4_crush 79 = .ok (.iadd, 1) := dk_96 (dk_at dksX4_crush_3 9 rfl rfl)
theorem dX4_crush_80 : decode cX4_crush 80 = .ok (.putfield 172, 3) := dk_181 0 172 (dk_at dksX4_crush_3 10 rfl rfl)
theorem dX4_crush_83 : decode cX4_crush 83 = .ok (.aload_n 0, 1) := dk_42 (dk_at dksX4_crush_3 13 rfl rfl)
theorem dX4_crush_84 : decode cX4_crush 84 = .ok (.getfield 37, 3) := dk_180 0 37 (dk_at dksX4_crush_3 14 rfl rfl)
theorem dX4_crush_87 : decode cX4_crush 87 = .ok (.bipush 7, 2) := dk_16 7 (dk_at dksX4_crush_3 17 rfl rfl)
theorem dX4_crush_89 : decode cX4_crush 89 = .ok (.dup2, 1) := dk_92 (dk_at dksX4_crush_3 19 rfl rfl)
theorem dX4_crush_90 : decode cX4_crush 90 = .ok (.iaload, 1) := dk_46 (dk_at dksX4_crush_3 20 rfl rfl)
theorem dX4_crush_91 : decode cX4_crush 91 = .ok (.iconst 3, 1) := dk_6 (dk_at dksX4_crush_3 21 rfl rfl)
theorem dX4_crush_92 : decode cX4_crush 92 = .ok (.aload_n 2, 1) := dk_44 (dk_at dksX4_crush_3 22 rfl rfl)
theorem dX4_crush_93 : decode cX4_crush 93 = .ok (.getfield 166, 3) := dk_180 0 166 (dk_at dksX4_crush_4 0 rfl rfl)
theorem dX4_crush_96 : decode cX4_crush 96 = .ok (.imul, 1) := dk_104 (dk_at dksX4_crush_4 3 rfl rfl)
theorem dX4_crush_97 : decode cX4_crush 97 = .ok (.bipush 10, 2) := dk_16 10 (dk_at dksX4_crush_4 4 rfl rfl)
theorem dX4_crush_99 : decode cX4_crush 99 = .ok (.idiv, 1) := dk_108 (dk_at dksX4_crush_4 6 rfl rfl)
theorem dX4_crush_100 : decode cX4_crush 100 = .ok (.iadd, 1) := dk_96 (dk_at dksX4_crush_4 7 rfl rfl)
theorem dX4_crush_101 : decode cX4_crush 101 = .ok (.iastore, 1) := dk_79 (dk_at dksX4_crush_4 8 rfl rfl)
theorem dX4_crush_102 : decode cX4_crush 102 = .ok (.aload_n 0, 1) := dk_42 (dk_at dksX4_crush_4 9 rfl rfl)
theorem dX4_crush_103 : decode cX4_crush 103 = .ok (.aload_n 2, 1) := dk_44 (dk_at dksX4_crush_4 10 rfl rfl)
theorem dX4_crush_104 : decode cX4_crush 104 = .ok (.getfield 166, 3) := dk_180 0 166 (dk_at dksX4_crush_4 11 rfl rfl)
theorem dX4_crush_107 : decode cX4_crush 107 = .ok (.iconst 2, 1) := dk_5 (dk_at dksX4_crush_4 14 rfl rfl)
theorem dX4_crush_108 : decode cX4_crush 108 = .ok (.aload_n 0, 1) := dk_42 (dk_at dksX4_crush_4 15 rfl rfl)
theorem dX4_crush_109 : decode cX4_crush 109 = .ok (.getfield 34, 3) := dk_180 0 34 (dk_at dksX4_crush_4 16 rfl rfl)
theorem dX4_crush_112 : decode cX4_crush 112 = .ok (.iadd, 1) := dk_96 (dk_at dksX4_crush_4 19 rfl rfl)
theorem dX4_crush_113 : decode cX4_crush 113 = .ok (.imul, 1) := dk_104 (dk_at dksX4_crush_4 20 rfl rfl)
theorem dX4_crush_114 : decode cX4_crush 114 = .ok (.bipush 20, 2) := dk_16 20 (dk_at dksX4_crush_4 21 rfl rfl)
theorem dX4_crush_116 : decode cX4_crush 116 = .ok (.idiv, 1) := dk_108 (dk_at dksX4_crush_4 23 rfl rfl)
theorem dX4_crush_117 : decode cX4_crush 117 = .ok (.invokevirtual 175, 3) := dk_182 0 175 (dk_at dksX4_crush_5 0 rfl rfl)
theorem dX4_crush_120 : decode cX4_crush 120 = .ok (.pop, 1) := dk_87 (dk_at dksX4_crush_5 3 rfl rfl)
theorem dX4_crush_121 : decode cX4_crush 121 = .ok (.aload_n 0, 1) := dk_42 (dk_at dksX4_crush_5 4 rfl rfl)
theorem dX4_crush_122 : decode cX4_crush 122 = .ok (.getfield 41, 3) := dk_180 0 41 (dk_at dksX4_crush_5 5 rfl rfl)
theorem dX4_crush_125 : decode cX4_crush 125 = .ok (.aload_n 2, 1) := dk_44 (dk_at dksX4_crush_5 8 rfl rfl)
theorem dX4_crush_126 : decode cX4_crush 126 = .ok (.getfield 157, 3) := dk_180 0 157 (dk_at dksX4_crush_5 9 rfl rfl)
theorem dX4_crush_129 : decode cX4_crush 129 = .ok (.dup2, 1) := dk_92 (dk_at dksX4_crush_5 12 rfl rfl)
theorem dX4_crush_130 : decode cX4_crush 130 = .ok (.iaload, 1) := dk_46 (dk_at dksX4_crush_5 13 rfl rfl)
theorem dX4_crush_131 : decode cX4_crush 131 = .ok (.aload_n 2, 1) := dk_44 (dk_at dksX4_crush_5 14 rfl rfl)
theorem dX4_crush_132 : decode cX4_crush 132 = .ok (.getfield 166, 3) := dk_180 0 166 (dk_at dksX4_crush_5 15 rfl rfl)
theorem dX4_crush_135 : decode cX4_crush 135 = .ok (.iadd, 1) := dk_96 (dk_at dksX4_crush_5 18 rfl rfl)
theorem dX4_crush_136 : decode cX4_crush 136 = .ok (.iastore, 1) := dk_79 (dk_at dksX4_crush_5 19 rfl rfl)
theorem dX4_crush_137 : decode cX4_crush 137 = .ok (.aload_n 0, 1) := dk_42 (dk_at dksX4_crush_5 20 rfl rfl)
theorem dX4_crush_138 : decode cX4_crush 138 = .ok (.getfield 44, 3) := dk_180 0 44 (dk_at dksX4_crush_5 21 rfl rfl)
theorem dX4_crush_141 : decode cX4_crush 141 = .ok (.aload_n 2, 1) := dk_44 (dk_at dksX4_crush_6 0 rfl rfl)
theorem dX4_crush_142 : decode cX4_crush 142 = .ok (.getfield 157, 3) := dk_180 0 157 (dk_at dksX4_crush_6 1 rfl rfl)
theorem dX4_crush_145 : decode cX4_crush 145 = .ok (.dup2, 1) := dk_92 (dk_at dksX4_crush_6 4 rfl rfl)
theorem dX4_crush_146 : decode cX4_crush 146 = .ok (.iaload, 1) := dk_46 (dk_at dksX4_crush_6 5 rfl rfl)
theorem dX4_crush_147 : decode cX4_crush 147 = .ok (.aload_n 2, 1) := dk_44 (dk_at dksX4_crush_6 6 rfl rfl)
theorem dX4_crush_148 : decode cX4_crush 148 = .ok (.getfield 166, 3) := dk_180 0 166 (dk_at dksX4_crush_6 7 rfl rfl)
theorem dX4_crush_151 : decode cX4_crush 151 = .ok (.iadd, 1) := dk_96 (dk_at dksX4_crush_6 10 rfl rfl)
theorem dX4_crush_152 : decode cX4_crush 152 = .ok (.iastore, 1) := dk_79 (dk_at dksX4_crush_6 11 rfl rfl)
theorem dX4_crush_153 : decode cX4_crush 153 = .ok (.aload_n 0, 1) := dk_42 (dk_at dksX4_crush_6 12 rfl rfl)
theorem dX4_crush_154 : decode cX4_crush 154 = .ok (.dup, 1) := dk_89 (dk_at dksX4_crush_6 13 rfl rfl)
theorem dX4_crush_155 : decode cX4_crush 155 = .ok (.getfield 178, 3) := dk_180 0 178 (dk_at dksX4_crush_6 14 rfl rfl)
theorem dX4_crush_158 : decode cX4_crush 158 = .ok (.aload_n 2, 1) := dk_44 (dk_at dksX4_crush_6 17 rfl rfl)
theorem dX4_crush_159 : decode cX4_crush 159 = .ok (.getfield 166, 3) := dk_180 0 166 (dk_at dksX4_crush_6 18 rfl rfl)
theorem dX4_crush_162 : decode cX4_crush 162 = .ok (.aload_n 2, 1) := dk_44 (dk_at dksX4_crush_6 21 rfl rfl)
theorem dX4_crush_163 : decode cX4_crush 163 = .ok (.getfield 160, 3) := dk_180 0 160 (dk_at dksX4_crush_7 0 rfl rfl)
theorem dX4_crush_166 : decode cX4_crush 166 = .ok (.imul, 1) := dk_104 (dk_at dksX4_crush_7 3 rfl rfl)
theorem dX4_crush_167 : decode cX4_crush 167 = .ok (.i2l, 1) := dk_133 (dk_at dksX4_crush_7 4 rfl rfl)
theorem dX4_crush_168 : decode cX4_crush 168 = .ok (.ladd, 1) := dk_97 (dk_at dksX4_crush_7 5 rfl rfl)
theorem dX4_crush_169 : decode cX4_crush 169 = .ok (.putfield 178, 3) := dk_181 0 178 (dk_at dksX4_crush_7 6 rfl rfl)
theorem dX4_crush_172 : decode cX4_crush 172 = .ok (.aload_n 0, 1) := dk_42 (dk_at dksX4_crush_7 9 rfl rfl)
theorem dX4_crush_173 : decode cX4_crush 173 = .ok (.getfield 27, 3) := dk_180 0 27 (dk_at dksX4_crush_7 10 rfl rfl)
theorem dX4_crush_176 : decode cX4_crush 176 = .ok (.iload_n 1, 1) := dk_27 (dk_at dksX4_crush_7 13 rfl rfl)
theorem dX4_crush_177 : decode cX4_crush 177 = .ok (.invokestatic 140, 3) := dk_184 0 140 (dk_at dksX4_crush_7 14 rfl rfl)
theorem dX4_crush_180 : decode cX4_crush 180 = .ok (.invokevirtual 68, 3) := dk_182 0 68 (dk_at dksX4_crush_7 17 rfl rfl)
theorem dX4_crush_183 : decode cX4_crush 183 = .ok (.pop, 1) := dk_87 (dk_at dksX4_crush_7 20 rfl rfl)
theorem dX4_crush_184 : decode cX4_crush 184 = .ok (.return_, 1) := dk_177 (dk_at dksX4_crush_7 21 rfl rfl)
abbrev cX4_endDay : ByteArray := prog_8_method_11_code
def yX4_endDay : MethodName := ⟨RX4, "endDay", "(II)V"⟩
def dkwX4_endDay_8 : List UInt8 := [180, 0, 41, 21, 5, 3, 79, 132, 5, 1, 167, 255, 239, 177]
abbrev dktX4_endDay_8 : List UInt8 := dkwX4_endDay_8 ++ []
def dkwX4_endDay_7 : List UInt8 := [132, 5, 1, 167, 255, 178, 42, 180, 0, 27, 182, 0, 206, 3, 54, 5, 21, 5, 7, 162, 0, 17, 42]
abbrev dktX4_endDay_7 : List UInt8 := dkwX4_endDay_7 ++ dktX4_endDay_8
def dkwX4_endDay_6 : List UInt8 := [25, 6, 180, 0, 166, 16, 100, 25, 6, 180, 0, 160, 96, 21, 4, 29, 108, 100, 104, 184, 0, 104, 96, 79]
abbrev dktX4_endDay_6 : List UInt8 := dkwX4_endDay_6 ++ dktX4_endDay_7
def dkwX4_endDay_5 : List UInt8 := [182, 0, 154, 182, 0, 58, 192, 0, 72, 58, 6, 42, 180, 0, 47, 25, 6, 180, 0, 157, 92, 46, 3]
abbrev dktX4_endDay_5 : List UInt8 := dkwX4_endDay_5 ++ dktX4_endDay_6
def dkwX4_endDay_4 : List UInt8 := [182, 0, 54, 162, 0, 72, 42, 180, 0, 18, 42, 180, 0, 27, 21, 5, 182, 0, 58, 192, 0, 141]
abbrev dktX4_endDay_4 : List UInt8 := dkwX4_endDay_4 ++ dktX4_endDay_5
def dkwX4_endDay_3 : List UInt8 := [25, 6, 180, 0, 160, 104, 96, 54, 4, 132, 5, 1, 167, 255, 190, 3, 54, 5, 21, 5, 42, 180, 0, 27]
abbrev dktX4_endDay_3 : List UInt8 := dkwX4_endDay_3 ++ dktX4_endDay_4
def dkwX4_endDay_2 : List UInt8 := [182, 0, 58, 192, 0, 72, 58, 6, 29, 25, 6, 180, 0, 166, 96, 62, 21, 4, 25, 6, 180, 0, 166]
abbrev dktX4_endDay_2 : List UInt8 := dkwX4_endDay_2 ++ dktX4_endDay_3
def dkwX4_endDay_1 : List UInt8 := [162, 0, 60, 42, 180, 0, 18, 42, 180, 0, 27, 21, 5, 182, 0, 58, 192, 0, 141, 182, 0, 154]
abbrev dktX4_endDay_1 : List UInt8 := dkwX4_endDay_1 ++ dktX4_endDay_2
def dkwX4_endDay_0 : List UInt8 := [42, 27, 28, 182, 0, 202, 3, 62, 3, 54, 4, 3, 54, 5, 21, 5, 42, 180, 0, 27, 182, 0, 54]
abbrev dktX4_endDay_0 : List UInt8 := dkwX4_endDay_0 ++ dktX4_endDay_1
theorem dksX4_endDay_0 : cX4_endDay.data.toList.drop 0 = dktX4_endDay_0 := by decide +kernel
theorem dksX4_endDay_1 : cX4_endDay.data.toList.drop 23 = dktX4_endDay_1 := dk_seg dksX4_endDay_0 23 rfl rfl
theorem dksX4_endDay_2 : cX4_endDay.data.toList.drop 45 = dktX4_endDay_2 := dk_seg dksX4_endDay_1 22 rfl rfl
theorem dksX4_endDay_3 : cX4_endDay.data.toList.drop 68 = dktX4_endDay_3 := dk_seg dksX4_endDay_2 23 rfl rfl
theorem dksX4_endDay_4 : cX4_endDay.data.toList.drop 92 = dktX4_endDay_4 := dk_seg dksX4_endDay_3 24 rfl rfl
theorem dksX4_endDay_5 : cX4_endDay.data.toList.drop 114 = dktX4_endDay_5 := dk_seg dksX4_endDay_4 22 rfl rfl
theorem dksX4_endDay_6 : cX4_endDay.data.toList.drop 137 = dktX4_endDay_6 := dk_seg dksX4_endDay_5 23 rfl rfl
theorem dksX4_endDay_7 : cX4_endDay.data.toList.drop 161 = dktX4_endDay_7 := dk_seg dksX4_endDay_6 24 rfl rfl
theorem dksX4_endDay_8 : cX4_endDay.data.toList.drop 184 = dktX4_endDay_8 := dk_seg dksX4_endDay_7 23 rfl rfl
theorem dX4_endDay_0 : decode cX4_endDay 0 = .ok (.aload_n 0, 1) := dk_42 (dk_at dksX4_endDay_0 0 rfl rfl)
theorem dX4_endDay_1 : decode cX4_endDay 1 = .ok (.iload_n 1, 1) := dk_27 (dk_at dksX4_endDay_0 1 rfl rfl)
theorem dX4_endDay_2 : decode cX4_endDay 2 = .ok (.iload_n 2, 1) := dk_28 (dk_at dksX4_endDay_0 2 rfl rfl)
theorem dX4_endDay_3 : decode cX4_endDay 3 = .ok (.invokevirtual 202, 3) := dk_182 0 202 (dk_at dksX4_endDay_0 3 rfl rfl)
theorem dX4_endDay_6 : decode cX4_endDay 6 = .ok (.iconst 0, 1) := dk_3 (dk_at dksX4_endDay_0 6 rfl rfl)
theorem dX4_endDay_7 : decode cX4_endDay 7 = .ok (.istore_n 3, 1) := dk_62 (dk_at dksX4_endDay_0 7 rfl rfl)
theorem dX4_endDay_8 : decode cX4_endDay 8 = .ok (.iconst 0, 1) := dk_3 (dk_at dksX4_endDay_0 8 rfl rfl)
theorem dX4_endDay_9 : decode cX4_endDay 9 = .ok (.istore 4, 2) := dk_54 4 (dk_at dksX4_endDay_0 9 rfl rfl)
theorem dX4_endDay_11 : decode cX4_endDay 11 = .ok (.iconst 0, 1) := dk_3 (dk_at dksX4_endDay_0 11 rfl rfl)
theorem dX4_endDay_12 : decode cX4_endDay 12 = .ok (.istore 5, 2) := dk_54 5 (dk_at dksX4_endDay_0 12 rfl rfl)
theorem dX4_endDay_14 : decode cX4_endDay 14 = .ok (.iload 5, 2) := dk_21 5 (dk_at dksX4_endDay_0 14 rfl rfl)
theorem dX4_endDay_16 : decode cX4_endDay 16 = .ok (.aload_n 0, 1) := dk_42 (dk_at dksX4_endDay_0 16 rfl rfl)
theorem dX4_endDay_17 : decode cX4_endDay 17 = .ok (.getfield 27, 3) := dk_180 0 27 (dk_at dksX4_endDay_0 17 rfl rfl)
theorem dX4_endDay_20 : decode cX4_endDay 20 = .ok (.invokevirtual 54, 3) := dk_182 0 54 (dk_at dksX4_endDay_0 20 rfl rfl)
theorem dX4_endDay_23 : decode cX4_endDay 23 = .ok (.if_icmp .ge 60, 3) := dk_162 0 60 (dk_at dksX4_endDay_1 0 rfl rfl)
theorem dX4_endDay_26 : decode cX4_endDay 26 = .ok (.aload_n 0, 1) := dk_42 (dk_at dksX4_endDay_1 3 rfl rfl)
theorem dX4_endDay_27 : decode cX4_endDay 27 = .ok (.getfield 18, 3) := dk_180 0 18 (dk_at dksX4_endDay_1 4 rfl rfl)
theorem dX4_endDay_30 : decode cX4_endDay 30 = .ok (.aload_n 0, 1) := dk_42 (dk_at dksX4_endDay_1 7 rfl rfl)
theorem dX4_endDay_31 : decode cX4_endDay 31 = .ok (.getfield 27, 3) := dk_180 0 27 (dk_at dksX4_endDay_1 8 rfl rfl)
theorem dX4_endDay_34 : decode cX4_endDay 34 = .ok (.iload 5, 2) := dk_21 5 (dk_at dksX4_endDay_1 11 rfl rfl)
theorem dX4_endDay_36 : decode cX4_endDay 36 = .ok (.invokevirtual 58, 3) := dk_182 0 58 (dk_at dksX4_endDay_1 13 rfl rfl)
theorem dX4_endDay_39 : decode cX4_endDay 39 = .ok (.checkcast 141, 3) := dk_192 0 141 (dk_at dksX4_endDay_1 16 rfl rfl)
theorem dX4_endDay_42 : decode cX4_endDay 42 = .ok (.invokevirtual 154, 3) := dk_182 0 154 (dk_at dksX4_endDay_1 19 rfl rfl)
theorem dX4_endDay_45 : decode cX4_endDay 45 = .ok (.invokevirtual 58, 3) := dk_182 0 58 (dk_at dksX4_endDay_2 0 rfl rfl)
theorem dX4_endDay_48 : decode cX4_endDay 48 = .ok (.checkcast 72, 3) := dk_192 0 72 (dk_at dksX4_endDay_2 3 rfl rfl)
theorem dX4_endDay_51 : decode cX4_endDay 51 = .ok (.astore 6, 2) := dk_58 6 (dk_at dksX4_endDay_2 6 rfl rfl)
theorem dX4_endDay_53 : decode cX4_endDay 53 = .ok (.iload_n 3, 1) := dk_29 (dk_at dksX4_endDay_2 8 rfl rfl)
theorem dX4_endDay_54 : decode cX4_endDay 54 = .ok (.aload 6, 2) := dk_25 6 (dk_at dksX4_endDay_2 9 rfl rfl)
theorem dX4_endDay_56 : decode cX4_endDay 56 = .ok (.getfield 166, 3) := dk_180 0 166 (dk_at dksX4_endDay_2 11 rfl rfl)
theorem dX4_endDay_59 : decode cX4_endDay 59 = .ok (.iadd, 1) := dk_96 (dk_at dksX4_endDay_2 14 rfl rfl)
theorem dX4_endDay_60 : decode cX4_endDay 60 = .ok (.istore_n 3, 1) := dk_62 (dk_at dksX4_endDay_2 15 rfl rfl)
theorem dX4_endDay_61 : decode cX4_endDay 61 = .ok (.iload 4, 2) := dk_21 4 (dk_at dksX4_endDay_2 16 rfl rfl)
theorem dX4_endDay_63 : decode cX4_endDay 63 = .ok (.aload 6, 2) := dk_25 6 (dk_at dksX4_endDay_2 18 rfl rfl)
theorem dX4_endDay_65 : decode cX4_endDay 65 = .ok (.getfield 166, 3) := dk_180 0 166 (dk_at dksX4_endDay_2 20 rfl rfl)
theorem dX4_endDay_68 : decode cX4_endDay 68 = .ok (.aload 6, 2) := dk_25 6 (dk_at dksX4_endDay_3 0 rfl rfl)
theorem dX4_endDay_70 : decode cX4_endDay 70 = .ok (.getfield 160, 3) := dk_180 0 160 (dk_at dksX4_endDay_3 2 rfl rfl)
theorem dX4_endDay_73 : decode cX4_endDay 73 = .ok (.imul, 1) := dk_104 (dk_at dksX4_endDay_3 5 rfl rfl)
theorem dX4_endDay_74 : decode cX4_endDay 74 = .ok (.iadd, 1) := dk_96 (dk_at dksX4_endDay_3 6 rfl rfl)
theorem dX4_endDay_75 : decode cX4_endDay 75 = .ok (.istore 4, 2) := dk_54 4 (dk_at dksX4_endDay_3 7 rfl rfl)
theorem dX4_endDay_77 : decode cX4_endDay 77 = .ok (.iinc 5 1, 3) := dk_132 5 1 (dk_at dksX4_endDay_3 9 rfl rfl)
theorem dX4_endDay_80 : decode cX4_endDay 80 = .ok (.goto (-66), 3) := dk_167 255 190 (dk_at dksX4_endDay_3 12 rfl rfl)
theorem dX4_endDay_83 : decode cX4_endDay 83 = .ok (.iconst 0, 1) := dk_3 (dk_at dksX4_endDay_3 15 rfl rfl)
theorem dX4_endDay_84 : decode cX4_endDay 84 = .ok (.istore 5, 2) := dk_54 5 (dk_at dksX4_endDay_3 16 rfl rfl)
theorem dX4_endDay_86 : decode cX4_endDay 86 = .ok (.iload 5, 2) := dk_21 5 (dk_at dksX4_endDay_3 18 rfl rfl)
theorem dX4_endDay_88 : decode cX4_endDay 88 = .ok (.aload_n 0, 1) := dk_42 (dk_at dksX4_endDay_3 20 rfl rfl)
theorem dX4_endDay_89 : decode cX4_endDay 89 = .ok (.getfield 27, 3) := dk_180 0 27 (dk_at dksX4_endDay_3 21 rfl rfl)
theorem dX4_endDay_92 : decode cX4_endDay 92 = .ok (.invokevirtual 54, 3) := dk_182 0 54 (dk_at dksX4_endDay_4 0 rfl rfl)
theorem dX4_endDay_95 : decode cX4_endDay 95 = .ok (.if_icmp .ge 72, 3) := dk_162 0 72 (dk_at dksX4_endDay_4 3 rfl rfl)
theorem dX4_endDay_98 : decode cX4_endDay 98 = .ok (.aload_n 0, 1) := dk_42 (dk_at dksX4_endDay_4 6 rfl rfl)
theorem dX4_endDay_99 : decode cX4_endDay 99 = .ok (.getfield 18, 3) := dk_180 0 18 (dk_at dksX4_endDay_4 7 rfl rfl)
theorem dX4_endDay_102 : decode cX4_endDay 102 = .ok (.aload_n 0, 1) := dk_42 (dk_at dksX4_endDay_4 10 rfl rfl)
theorem dX4_endDay_103 : decode cX4_endDay 103 = .ok (.getfield 27, 3) := dk_180 0 27 (dk_at dksX4_endDay_4 11 rfl rfl)
theorem dX4_endDay_106 : decode cX4_endDay 106 = .ok (.iload 5, 2) := dk_21 5 (dk_at dksX4_endDay_4 14 rfl rfl)
theorem dX4_endDay_108 : decode cX4_endDay 108 = .ok (.invokevirtual 58, 3) := dk_182 0 58 (dk_at dksX4_endDay_4 16 rfl rfl)
theorem dX4_endDay_111 : decode cX4_endDay 111 = .ok (.checkcast 141, 3) := dk_192 0 141 (dk_at dksX4_endDay_4 19 rfl rfl)
theorem dX4_endDay_114 : decode cX4_endDay 114 = .ok (.invokevirtual 154, 3) := dk_182 0 154 (dk_at dksX4_endDay_5 0 rfl rfl)
theorem dX4_endDay_117 : decode cX4_endDay 117 = .ok (.invokevirtual 58, 3) := dk_182 0 58 (dk_at dksX4_endDay_5 3 rfl rfl)
theorem dX4_endDay_120 : decode cX4_endDay 120 = .ok (.checkcast 72, 3) := dk_192 0 72 (dk_at dksX4_endDay_5 6 rfl rfl)
theorem dX4_endDay_123 : decode cX4_endDay 123 = .ok (.astore 6, 2) := dk_58 6 (dk_at dksX4_endDay_5 9 rfl rfl)
theorem dX4_endDay_125 : decode cX4_endDay 125 = .ok (.aload_n 0, 1) := dk_42 (dk_at dksX4_endDay_5 11 rfl rfl)
theorem dX4_endDay_126 : decode cX4_endDay 126 = .ok (.getfield 47, 3) := dk_180 0 47 (dk_at dksX4_endDay_5 12 rfl rfl)
theorem dX4_endDay_129 : decode cX4_endDay 129 = .ok (.aload 6, 2) := dk_25 6 (dk_at dksX4_endDay_5 15 rfl rfl)
theorem dX4_endDay_131 : decode cX4_endDay 131 = .ok (.getfield 157, 3) := dk_180 0 157 (dk_at dksX4_endDay_5 17 rfl rfl)
theorem dX4_endDay_134 : decode cX4_endDay 134 = .ok (.dup2, 1) := dk_92 (dk_at dksX4_endDay_5 20 rfl rfl)
theorem dX4_endDay_135 : decode cX4_endDay 135 = .ok (.iaload, 1) := dk_46 (dk_at dksX4_endDay_5 21 rfl rfl)
theorem dX4_endDay_136 : decode cX4_endDay 136 = .ok (.iconst 0, 1) := dk_3 (dk_at dksX4_endDay_5 22 rfl rfl)
theorem dX4_endDay_137 : decode cX4_endDay 137 = .ok (.aload 6, 2) := dk_25 6 (dk_at dksX4_endDay_6 0 rfl rfl)
theorem dX4_endDay_139 : decode cX4_endDay 139 = .ok (.getfield 166, 3) := dk_180 0 166 (dk_at dksX4_endDay_6 2 rfl rfl)
theorem dX4_endDay_142 : decode cX4_endDay 142 = .ok (.bipush 100, 2) := dk_16 100 (dk_at dksX4_endDay_6 5 rfl rfl)
theorem dX4_endDay_144 : decode cX4_endDay 144 = .ok (.aload 6, 2) := dk_25 6 (dk_at dksX4_endDay_6 7 rfl rfl)
theorem dX4_endDay_146 : decode cX4_endDay 146 = .ok (.getfield 160, 3) := dk_180 0 160 (dk_at dksX4_endDay_6 9 rfl rfl)
theorem dX4_endDay_149 : decode cX4_endDay 149 = .ok (.iadd, 1) := dk_96 (dk_at dksX4_endDay_6 12 rfl rfl)
theorem dX4_endDay_150 : decode cX4_endDay 150 = .ok (.iload 4, 2) := dk_21 4 (dk_at dksX4_endDay_6 13 rfl rfl)
theorem dX4_endDay_152 : decode cX4_endDay 152 = .ok (.iload_n 3, 1) := dk_29 (dk_at dksX4_endDay_6 15 rfl rfl)
theorem dX4_endDay_153 : decode cX4_endDay 153 = .ok (.idiv, 1) := dk_108 (dk_at dksX4_endDay_6 16 rfl rfl)
theorem dX4_endDay_154 : decode cX4_endDay 154 = .ok (.isub, 1) := dk_100 (dk_at dksX4_endDay_6 17 rfl rfl)
theorem dX4_endDay_155 : decode cX4_endDay 155 = .ok (.imul, 1) := dk_104 (dk_at dksX4_endDay_6 18 rfl rfl)
theorem dX4_endDay_156 : decode cX4_endDay 156 = .ok (.invokestatic 104, 3) := dk_184 0 104 (dk_at dksX4_endDay_6 19 rfl rfl)
theorem dX4_endDay_159 : decode cX4_endDay 159 = .ok (.iadd, 1) := dk_96 (dk_at dksX4_endDay_6 22 rfl rfl)
theorem dX4_endDay_160 : decode cX4_endDay 160 = .ok (.iastore, 1) := dk_79 (dk_at dksX4_endDay_6 23 rfl rfl)
theorem dX4_endDay_161 : decode cX4_endDay 161 = .ok (.iinc 5 1, 3) := dk_132 5 1 (dk_at dksX4_endDay_7 0 rfl rfl)
theorem dX4_endDay_164 : decode cX4_endDay 164 = .ok (.goto (-78), 3) := dk_167 255 178 (dk_at dksX4_endDay_7 3 rfl rfl)
theorem dX4_endDay_167 : decode cX4_endDay 167 = .ok (.aload_n 0, 1) := dk_42 (dk_at dksX4_endDay_7 6 rfl rfl)
theorem dX4_endDay_168 : decode cX4_endDay 168 = .ok (.getfield 27, 3) := dk_180 0 27 (dk_at dksX4_endDay_7 7 rfl rfl)
theorem dX4_endDay_171 : decode cX4_endDay 171 = .ok (.invokevirtual 206, 3) := dk_182 0 206 (dk_at dksX4_endDay_7 10 rfl rfl)
theorem dX4_endDay_174 : decode cX4_endDay 174 = .ok (.iconst 0, 1) := dk_3 (dk_at dksX4_endDay_7 13 rfl rfl)
theorem dX4_endDay_175 : decode cX4_endDay 175 = .ok (.istore 5, 2) := dk_54 5 (dk_at dksX4_endDay_7 14 rfl rfl)
theorem dX4_endDay_177 : decode cX4_endDay 177 = .ok (.iload 5, 2) := dk_21 5 (dk_at dksX4_endDay_7 16 rfl rfl)
theorem dX4_endDay_179 : decode cX4_endDay 179 = .ok (.iconst 4, 1) := dk_7 (dk_at dksX4_endDay_7 18 rfl rfl)
theorem dX4_endDay_180 : decode cX4_endDay 180 = .ok (.if_icmp .ge 17, 3) := dk_162 0 17 (dk_at dksX4_endDay_7 19 rfl rfl)
theorem dX4_endDay_183 : decode cX4_endDay 183 = .ok (.aload_n 0, 1) := dk_42 (dk_at dksX4_endDay_7 22 rfl rfl)
theorem dX4_endDay_184 : decode cX4_endDay 184 = .ok (.getfield 41, 3) := dk_180 0 41 (dk_at dksX4_endDay_8 0 rfl rfl)
theorem dX4_endDay_187 : decode cX4_endDay 187 = .ok (.iload 5, 2) := dk_21 5 (dk_at dksX4_endDay_8 3 rfl rfl)
theorem dX4_endDay_189 : decode cX4_endDay 189 = .ok (.iconst 0, 1) := dk_3 (dk_at dksX4_endDay_8 5 rfl rfl)
theorem dX4_endDay_190 : decode cX4_endDay 190 = .ok (.iastore, 1) := dk_79 (dk_at dksX4_endDay_8 6 rfl rfl)
theorem dX4_endDay_191 : decode cX4_endDay 191 = .ok (.iinc 5 1, 3) := dk_132 5 1 (dk_at dksX4_endDay_8 7 rfl rfl)
theorem dX4_endDay_194 : decode cX4_endDay 194 = .ok (.goto (-17), 3) := dk_167 255 239 (dk_at dksX4_endDay_8 10 rfl rfl)
theorem dX4_endDay_197 : decode cX4_endDay 197 = .ok (.return_, 1) := dk_177 (dk_at dksX4_endDay_8 13 rfl rfl)
abbrev cX4_endFields : ByteArray := prog_8_method_5_code
def yX4_endFields : MethodName := ⟨RX4, "endFields", "(II)V"⟩
def dkwX4_endFields_3 : List UInt8 := [45, 182, 0, 119, 182, 0, 123, 132, 4, 1, 167, 255, 222, 177]
abbrev dktX4_endFields_3 : List UInt8 := dkwX4_endFields_3 ++ []
def dkwX4_endFields_2 : List UInt8 := [21, 4, 45, 190, 162, 0, 33, 42, 180, 0, 12, 21, 4, 182, 0, 58, 192, 0, 62, 27, 28, 42, 21, 4]
abbrev dktX4_endFields_2 : List UInt8 := dkwX4_endFields_2 ++ dktX4_endFields_3
def dkwX4_endFields_1 : List UInt8 := [180, 0, 12, 21, 4, 182, 0, 58, 192, 0, 62, 180, 0, 116, 79, 132, 4, 1, 167, 255, 227, 3, 54, 4]
abbrev dktX4_endFields_1 : List UInt8 := dkwX4_endFields_1 ++ dktX4_endFields_2
def dkwX4_endFields_0 : List UInt8 := [42, 180, 0, 12, 182, 0, 54, 188, 10, 78, 3, 54, 4, 21, 4, 45, 190, 162, 0, 28, 45, 21, 4, 42]
abbrev dktX4_endFields_0 : List UInt8 := dkwX4_endFields_0 ++ dktX4_endFields_1
theorem dksX4_endFields_0 : cX4_endFields.data.toList.drop 0 = dktX4_endFields_0 := by decide +kernel
theorem dksX4_endFields_1 : cX4_endFields.data.toList.drop 24 = dktX4_endFields_1 := dk_seg dksX4_endFields_0 24 rfl rfl
theorem dksX4_endFields_2 : cX4_endFields.data.toList.drop 48 = dktX4_endFields_2 := dk_seg dksX4_endFields_1 24 rfl rfl
theorem dksX4_endFields_3 : cX4_endFields.data.toList.drop 72 = dktX4_endFields_3 := dk_seg dksX4_endFields_2 24 rfl rfl
theorem dX4_endFields_0 : decode cX4_endFields 0 = .ok (.aload_n 0, 1) := dk_42 (dk_at dksX4_endFields_0 0 rfl rfl)
theorem dX4_endFields_1 : decode cX4_endFields 1 = .ok (.getfield 12, 3) := dk_180 0 12 (dk_at dksX4_endFields_0 1 rfl rfl)
theorem dX4_endFields_4 : decode cX4_endFields 4 = .ok (.invokevirtual 54, 3) := dk_182 0 54 (dk_at dksX4_endFields_0 4 rfl rfl)
theorem dX4_endFields_7 : decode cX4_endFields 7 = .ok (.newarray .int, 2) := dk_188_10 (dk_at dksX4_endFields_0 7 rfl rfl)
theorem dX4_endFields_9 : decode cX4_endFields 9 = .ok (.astore_n 3, 1) := dk_78 (dk_at dksX4_endFields_0 9 rfl rfl)
theorem dX4_endFields_10 : decode cX4_endFields 10 = .ok (.iconst 0, 1) := dk_3 (dk_at dksX4_endFields_0 10 rfl rfl)
theorem dX4_endFields_11 : decode cX4_endFields 11 = .ok (.istore 4, 2) := dk_54 4 (dk_at dksX4_endFields_0 11 rfl rfl)
theorem dX4_endFields_13 : decode cX4_endFields 13 = .ok (.iload 4, 2) := dk_21 4 (dk_at dksX4_endFields_0 13 rfl rfl)
theorem dX4_endFields_15 : decode cX4_endFields 15 = .ok (.aload_n 3, 1) := dk_45 (dk_at dksX4_endFields_0 15 rfl rfl)
theorem dX4_endFields_16 : decode cX4_endFields 16 = .ok (.arraylength, 1) := dk_190 (dk_at dksX4_endFields_0 16 rfl rfl)
theorem dX4_endFields_17 : decode cX4_endFields 17 = .ok (.if_icmp .ge 28, 3) := dk_162 0 28 (dk_at dksX4_endFields_0 17 rfl rfl)
theorem dX4_endFields_20 : decode cX4_endFields 20 = .ok (.aload_n 3, 1) := dk_45 (dk_at dksX4_endFields_0 20 rfl rfl)
theorem dX4_endFields_21 : decode cX4_endFields 21 = .ok (.iload 4, 2) := dk_21 4 (dk_at dksX4_endFields_0 21 rfl rfl)
theorem dX4_endFields_23 : decode cX4_endFields 23 = .ok (.aload_n 0, 1) := dk_42 (dk_at dksX4_endFields_0 23 rfl rfl)
theorem dX4_endFields_24 : decode cX4_endFields 24 = .ok (.getfield 12, 3) := dk_180 0 12 (dk_at dksX4_endFields_1 0 rfl rfl)
theorem dX4_endFields_27 : decode cX4_endFields 27 = .ok (.iload 4, 2) := dk_21 4 (dk_at dksX4_endFields_1 3 rfl rfl)
theorem dX4_endFields_29 : decode cX4_endFields 29 = .ok (.invokevirtual 58, 3) := dk_182 0 58 (dk_at dksX4_endFields_1 5 rfl rfl)
theorem dX4_endFields_32 : decode cX4_endFields 32 = .ok (.checkcast 62, 3) := dk_192 0 62 (dk_at dksX4_endFields_1 8 rfl rfl)
theorem dX4_endFields_35 : decode cX4_endFields 35 = .ok (.getfield 116, 3) := dk_180 0 116 (dk_at dksX4_endFields_1 11 rfl rfl)
theorem dX4_endFields_38 : decode cX4_endFields 38 = .ok (.iastore, 1) := dk_79 (dk_at dksX4_endFields_1 14 rfl rfl)
theorem dX4_endFields_39 : decode cX4_endFields 39 = .ok (.iinc 4 1, 3) := dk_132 4 1 (dk_at dksX4_endFields_1 15 rfl rfl)
theorem dX4_endFields_42 : decode cX4_endFields 42 = .ok (.goto (-29), 3) := dk_167 255 227 (dk_at dksX4_endFields_1 18 rfl rfl)
theorem dX4_endFields_45 : decode cX4_endFields 45 = .ok (.iconst 0, 1) := dk_3 (dk_at dksX4_endFields_1 21 rfl rfl)
theorem dX4_endFields_46 : decode cX4_endFields 46 = .ok (.istore 4, 2) := dk_54 4 (dk_at dksX4_endFields_1 22 rfl rfl)
theorem dX4_endFields_48 : decode cX4_endFields 48 = .ok (.iload 4, 2) := dk_21 4 (dk_at dksX4_endFields_2 0 rfl rfl)
theorem dX4_endFields_50 : decode cX4_endFields 50 = .ok (.aload_n 3, 1) := dk_45 (dk_at dksX4_endFields_2 2 rfl rfl)
theorem dX4_endFields_51 : decode cX4_endFields 51 = .ok (.arraylength, 1) := dk_190 (dk_at dksX4_endFields_2 3 rfl rfl)
theorem dX4_endFields_52 : decode cX4_endFields 52 = .ok (.if_icmp .ge 33, 3) := dk_162 0 33 (dk_at dksX4_endFields_2 4 rfl rfl)
theorem dX4_endFields_55 : decode cX4_endFields 55 = .ok (.aload_n 0, 1) := dk_42 (dk_at dksX4_endFields_2 7 rfl rfl)
theorem dX4_endFields_56 : decode cX4_endFields 56 = .ok (.getfield 12, 3) := dk_180 0 12 (dk_at dksX4_endFields_2 8 rfl rfl)
theorem dX4_endFields_59 : decode cX4_endFields 59 = .ok (.iload 4, 2) := dk_21 4 (dk_at dksX4_endFields_2 11 rfl rfl)
theorem dX4_endFields_61 : decode cX4_endFields 61 = .ok (.invokevirtual 58, 3) := dk_182 0 58 (dk_at dksX4_endFields_2 13 rfl rfl)
theorem dX4_endFields_64 : decode cX4_endFields 64 = .ok (.checkcast 62, 3) := dk_192 0 62 (dk_at dksX4_endFields_2 16 rfl rfl)
theorem dX4_endFields_67 : decode cX4_endFields 67 = .ok (.iload_n 1, 1) := dk_27 (dk_at dksX4_endFields_2 19 rfl rfl)
theorem dX4_endFields_68 : decode cX4_endFields 68 = .ok (.iload_n 2, 1) := dk_28 (dk_at dksX4_endFields_2 20 rfl rfl)
theorem dX4_endFields_69 : decode cX4_endFields 69 = .ok (.aload_n 0, 1) := dk_42 (dk_at dksX4_endFields_2 21 rfl rfl)
theorem dX4_endFields_70 : decode cX4_endFields 70 = .ok (.iload 4, 2) := dk_21 4 (dk_at dksX4_endFields_2 22 rfl rfl)
theorem dX4_endFields_72 : decode cX4_endFields 72 = .ok (.aload_n 3, 1) := dk_45 (dk_at dksX4_endFields_3 0 rfl rfl)
theorem dX4_endFields_73 : decode cX4_endFields 73 = .ok (.invokevirtual 119, 3) := dk_182 0 119 (dk_at dksX4_endFields_3 1 rfl rfl)
theorem dX4_endFields_76 : decode cX4_endFields 76 = .ok (.invokevirtual 123, 3) := dk_182 0 123 (dk_at dksX4_endFields_3 4 rfl rfl)
theorem dX4_endFields_79 : decode cX4_endFields 79 = .ok (.iinc 4 1, 3) := dk_132 4 1 (dk_at dksX4_endFields_3 7 rfl rfl)
theorem dX4_endFields_82 : decode cX4_endFields 82 = .ok (.goto (-34), 3) := dk_167 255 222 (dk_at dksX4_endFields_3 10 rfl rfl)
theorem dX4_endFields_85 : decode cX4_endFields 85 = .ok (.return_, 1) := dk_177 (dk_at dksX4_endFields_3 13 rfl rfl)
abbrev cX4_isNear : ByteArray := prog_8_method_4_code
def yX4_isNear : MethodName := ⟨RX4, "isNear", "(I[I)Z"⟩
def dkwX4_isNear_1 : List UInt8 := [100, 162, 0, 18, 44, 27, 4, 96, 46, 44, 27, 46, 164, 0, 7, 4, 167, 0, 4, 3, 172]
abbrev dktX4_isNear_1 : List UInt8 := dkwX4_isNear_1 ++ []
def dkwX4_isNear_0 : List UInt8 := [27, 158, 0, 14, 44, 27, 4, 100, 46, 44, 27, 46, 163, 0, 27, 27, 42, 180, 0, 12, 182, 0, 54, 4]
abbrev dktX4_isNear_0 : List UInt8 := dkwX4_isNear_0 ++ dktX4_isNear_1
theorem dksX4_isNear_0 : cX4_isNear.data.toList.drop 0 = dktX4_isNear_0 := by decide +kernel
theorem dksX4_isNear_1 : cX4_isNear.data.toList.drop 24 = dktX4_isNear_1 := dk_seg dksX4_isNear_0 24 rfl rfl
theorem dX4_isNear_0 : decode cX4_isNear 0 = .ok (.iload_n 1, 1) := dk_27 (dk_at dksX4_isNear_0 0 rfl rfl)
theorem dX4_isNear_1 : decode cX4_isNear 1 = .ok (.ifCond .le 14, 3) := dk_158 0 14 (dk_at dksX4_isNear_0 1 rfl rfl)
theorem dX4_isNear_4 : decode cX4_isNear 4 = .ok (.aload_n 2, 1) := dk_44 (dk_at dksX4_isNear_0 4 rfl rfl)
theorem dX4_isNear_5 : decode cX4_isNear 5 = .ok (.iload_n 1, 1) := dk_27 (dk_at dksX4_isNear_0 5 rfl rfl)
theorem dX4_isNear_6 : decode cX4_isNear 6 = .ok (.iconst 1, 1) := dk_4 (dk_at dksX4_isNear_0 6 rfl rfl)
theorem dX4_isNear_7 : decode cX4_isNear 7 = .ok (.isub, 1) := dk_100 (dk_at dksX4_isNear_0 7 rfl rfl)
theorem dX4_isNear_8 : decode cX4_isNear 8 = .ok (.iaload, 1) := dk_46 (dk_at dksX4_isNear_0 8 rfl rfl)
theorem dX4_isNear_9 : decode cX4_isNear 9 = .ok (.aload_n 2, 1) := dk_44 (dk_at dksX4_isNear_0 9 rfl rfl)
theorem dX4_isNear_10 : decode cX4_isNear 10 = .ok (.iload_n 1, 1) := dk_27 (dk_at dksX4_isNear_0 10 rfl rfl)
theorem dX4_isNear_11 : decode cX4_isNear 11 = .ok (.iaload, 1) := dk_46 (dk_at dksX4_isNear_0 11 rfl rfl)
theorem dX4_isNear_12 : decode cX4_isNear 12 = .ok (.if_icmp .gt 27, 3) := dk_163 0 27 (dk_at dksX4_isNear_0 12 rfl rfl)
theorem dX4_isNear_15 : decode cX4_isNear 15 = .ok (.iload_n 1, 1) := dk_27 (dk_at dksX4_isNear_0 15 rfl rfl)
theorem dX4_isNear_16 : decode cX4_isNear 16 = .ok (.aload_n 0, 1) := dk_42 (dk_at dksX4_isNear_0 16 rfl rfl)
theorem dX4_isNear_17 : decode cX4_isNear 17 = .ok (.getfield 12, 3) := dk_180 0 12 (dk_at dksX4_isNear_0 17 rfl rfl)
theorem dX4_isNear_20 : decode cX4_isNear 20 = .ok (.invokevirtual 54, 3) := dk_182 0 54 (dk_at dksX4_isNear_0 20 rfl rfl)
theorem dX4_isNear_23 : decode cX4_isNear 23 = .ok (.iconst 1, 1) := dk_4 (dk_at dksX4_isNear_0 23 rfl rfl)
theorem dX4_isNear_24 : decode cX4_isNear 24 = .ok (.isub, 1) := dk_100 (dk_at dksX4_isNear_1 0 rfl rfl)
theorem dX4_isNear_25 : decode cX4_isNear 25 = .ok (.if_icmp .ge 18, 3) := dk_162 0 18 (dk_at dksX4_isNear_1 1 rfl rfl)
theorem dX4_isNear_28 : decode cX4_isNear 28 = .ok (.aload_n 2, 1) := dk_44 (dk_at dksX4_isNear_1 4 rfl rfl)
theorem dX4_isNear_29 : decode cX4_isNear 29 = .ok (.iload_n 1, 1) := dk_27 (dk_at dksX4_isNear_1 5 rfl rfl)
theorem dX4_isNear_30 : decode cX4_isNear 30 = .ok (.iconst 1, 1) := dk_4 (dk_at dksX4_isNear_1 6 rfl rfl)
theorem dX4_isNear_31 : decode cX4_isNear 31 = .ok (.iadd, 1) := dk_96 (dk_at dksX4_isNear_1 7 rfl rfl)
theorem dX4_isNear_32 : decode cX4_isNear 32 = .ok (.iaload, 1) := dk_46 (dk_at dksX4_isNear_1 8 rfl rfl)
theorem dX4_isNear_33 : decode cX4_isNear 33 = .ok (.aload_n 2, 1) := dk_44 (dk_at dksX4_isNear_1 9 rfl rfl)
theorem dX4_isNear_34 : decode cX4_isNear 34 = .ok (.iload_n 1, 1) := dk_27 (dk_at dksX4_isNear_1 10 rfl rfl)
theorem dX4_isNear_35 : decode cX4_isNear 35 = .ok (.iaload, 1) := dk_46 (dk_at dksX4_isNear_1 11 rfl rfl)
theorem dX4_isNear_36 : decode cX4_isNear 36 = .ok (.if_icmp .le 7, 3) := dk_164 0 7 (dk_at dksX4_isNear_1 12 rfl rfl)
theorem dX4_isNear_39 : decode cX4_isNear 39 = .ok (.iconst 1, 1) := dk_4 (dk_at dksX4_isNear_1 15 rfl rfl)
theorem dX4_isNear_40 : decode cX4_isNear 40 = .ok (.goto 4, 3) := dk_167 0 4 (dk_at dksX4_isNear_1 16 rfl rfl)
theorem dX4_isNear_43 : decode cX4_isNear 43 = .ok (.iconst 0, 1) := dk_3 (dk_at dksX4_isNear_1 19 rfl rfl)
theorem dX4_isNear_44 : decode cX4_isNear 44 = .ok (.ireturn, 1) := dk_172 (dk_at dksX4_isNear_1 20 rfl rfl)
abbrev cX4_copy : ByteArray := prog_8_method_2_code
def yX4_copy : MethodName := ⟨RX4, "copy", "()LCanecrushModel$Estate;"⟩
def dkwX4_copy_10 : List UInt8 := [180, 0, 41, 3, 7, 184, 0, 98, 43, 176]
abbrev dktX4_copy_10 : List UInt8 := dkwX4_copy_10 ++ []
def dkwX4_copy_9 : List UInt8 := [180, 0, 37, 3, 43, 180, 0, 37, 3, 42, 180, 0, 37, 190, 184, 0, 98, 42, 180, 0, 41, 3, 43]
abbrev dktX4_copy_9 : List UInt8 := dkwX4_copy_9 ++ dktX4_copy_10
def dkwX4_copy_8 : List UInt8 := [180, 0, 89, 181, 0, 89, 43, 42, 180, 0, 92, 181, 0, 92, 43, 42, 180, 0, 95, 181, 0, 95, 42]
abbrev dktX4_copy_8 : List UInt8 := dkwX4_copy_8 ++ dktX4_copy_9
def dkwX4_copy_7 : List UInt8 := [180, 0, 30, 181, 0, 30, 43, 42, 180, 0, 34, 181, 0, 34, 43, 42, 180, 0, 86, 181, 0, 86, 43, 42]
abbrev dktX4_copy_7 : List UInt8 := dkwX4_copy_7 ++ dktX4_copy_8
def dkwX4_copy_6 : List UInt8 := [42, 180, 0, 24, 182, 0, 82, 87, 43, 180, 0, 27, 42, 180, 0, 27, 182, 0, 82, 87, 43, 42]
abbrev dktX4_copy_6 : List UInt8 := dkwX4_copy_6 ++ dktX4_copy_7
def dkwX4_copy_5 : List UInt8 := [28, 182, 0, 58, 192, 0, 77, 182, 0, 79, 182, 0, 68, 87, 132, 2, 1, 167, 255, 220, 43, 180, 0, 24]
abbrev dktX4_copy_5 : List UInt8 := dkwX4_copy_5 ++ dktX4_copy_6
def dkwX4_copy_4 : List UInt8 := [167, 255, 220, 3, 61, 28, 42, 180, 0, 21, 182, 0, 54, 162, 0, 31, 43, 180, 0, 21, 42, 180, 0, 21]
abbrev dktX4_copy_4 : List UInt8 := dkwX4_copy_4 ++ dktX4_copy_5
def dkwX4_copy_3 : List UInt8 := [180, 0, 18, 42, 180, 0, 18, 28, 182, 0, 58, 192, 0, 72, 182, 0, 74, 182, 0, 68, 87, 132, 2, 1]
abbrev dktX4_copy_3 : List UInt8 := dkwX4_copy_3 ++ dktX4_copy_4
def dkwX4_copy_2 : List UInt8 := [182, 0, 68, 87, 132, 2, 1, 167, 255, 220, 3, 61, 28, 42, 180, 0, 18, 182, 0, 54, 162, 0, 31, 43]
abbrev dktX4_copy_2 : List UInt8 := dkwX4_copy_2 ++ dktX4_copy_3
def dkwX4_copy_1 : List UInt8 := [182, 0, 54, 162, 0, 31, 43, 180, 0, 12, 42, 180, 0, 12, 28, 182, 0, 58, 192, 0, 62, 182, 0, 64]
abbrev dktX4_copy_1 : List UInt8 := dkwX4_copy_1 ++ dktX4_copy_2
def dkwX4_copy_0 : List UInt8 := [187, 0, 13, 89, 183, 0, 50, 76, 43, 42, 180, 0, 51, 181, 0, 51, 3, 61, 28, 42, 180, 0, 12]
abbrev dktX4_copy_0 : List UInt8 := dkwX4_copy_0 ++ dktX4_copy_1
theorem dksX4_copy_0 : cX4_copy.data.toList.drop 0 = dktX4_copy_0 := by decide +kernel
theorem dksX4_copy_1 : cX4_copy.data.toList.drop 23 = dktX4_copy_1 := dk_seg dksX4_copy_0 23 rfl rfl
theorem dksX4_copy_2 : cX4_copy.data.toList.drop 47 = dktX4_copy_2 := dk_seg dksX4_copy_1 24 rfl rfl
theorem dksX4_copy_3 : cX4_copy.data.toList.drop 71 = dktX4_copy_3 := dk_seg dksX4_copy_2 24 rfl rfl
theorem dksX4_copy_4 : cX4_copy.data.toList.drop 95 = dktX4_copy_4 := dk_seg dksX4_copy_3 24 rfl rfl
theorem dksX4_copy_5 : cX4_copy.data.toList.drop 119 = dktX4_copy_5 := dk_seg dksX4_copy_4 24 rfl rfl
theorem dksX4_copy_6 : cX4_copy.data.toList.drop 143 = dktX4_copy_6 := dk_seg dksX4_copy_5 24 rfl rfl
theorem dksX4_copy_7 : cX4_copy.data.toList.drop 165 = dktX4_copy_7 := dk_seg dksX4_copy_6 22 rfl rfl
theorem dksX4_copy_8 : cX4_copy.data.toList.drop 189 = dktX4_copy_8 := dk_seg dksX4_copy_7 24 rfl rfl
theorem dksX4_copy_9 : cX4_copy.data.toList.drop 212 = dktX4_copy_9 := dk_seg dksX4_copy_8 23 rfl rfl
theorem dksX4_copy_10 : cX4_copy.data.toList.drop 235 = dktX4_copy_10 := dk_seg dksX4_copy_9 23 rfl rfl
theorem dX4_copy_0 : decode cX4_copy 0 = .ok (.new 13, 3) := dk_187 0 13 (dk_at dksX4_copy_0 0 rfl rfl)
theorem dX4_copy_3 : decode cX4_copy 3 = .ok (.dup, 1) := dk_89 (dk_at dksX4_copy_0 3 rfl rfl)
theorem dX4_copy_4 : decode cX4_copy 4 = .ok (.invokespecial 50, 3) := dk_183 0 50 (dk_at dksX4_copy_0 4 rfl rfl)
theorem dX4_copy_7 : decode cX4_copy 7 = .ok (.astore_n 1, 1) := dk_76 (dk_at dksX4_copy_0 7 rfl rfl)
theorem dX4_copy_8 : decode cX4_copy 8 = .ok (.aload_n 1, 1) := dk_43 (dk_at dksX4_copy_0 8 rfl rfl)
theorem dX4_copy_9 : decode cX4_copy 9 = .ok (.aload_n 0, 1) := dk_42 (dk_at dksX4_copy_0 9 rfl rfl)
theorem dX4_copy_10 : decode cX4_copy 10 = .ok (.getfield 51, 3) := dk_180 0 51 (dk_at dksX4_copy_0 10 rfl rfl)
theorem dX4_copy_13 : decode cX4_copy 13 = .ok (.putfield 51, 3) := dk_181 0 51 (dk_at dksX4_copy_0 13 rfl rfl)
theorem dX4_copy_16 : decode cX4_copy 16 = .ok (.iconst 0, 1) := dk_3 (dk_at dksX4_copy_0 16 rfl rfl)
theorem dX4_copy_17 : decode cX4_copy 17 = .ok (.istore_n 2, 1) := dk_61 (dk_at dksX4_copy_0 17 rfl rfl)
theorem dX4_copy_18 : decode cX4_copy 18 = .ok (.iload_n 2, 1) := dk_28 (dk_at dksX4_copy_0 18 rfl rfl)
theorem dX4_copy_19 : decode cX4_copy 19 = .ok (.aload_n 0, 1) := dk_42 (dk_at dksX4_copy_0 19 rfl rfl)
theorem dX4_copy_20 : decode cX4_copy 20 = .ok (.getfield 12, 3) := dk_180 0 12 (dk_at dksX4_copy_0 20 rfl rfl)
theorem dX4_copy_23 : decode cX4_copy 23 = .ok (.invokevirtual 54, 3) := dk_182 0 54 (dk_at dksX4_copy_1 0 rfl rfl)
theorem dX4_copy_26 : decode cX4_copy 26 = .ok (.if_icmp .ge 31, 3) := dk_162 0 31 (dk_at dksX4_copy_1 3 rfl rfl)
theorem dX4_copy_29 : decode cX4_copy 29 = .ok (.aload_n 1, 1) := dk_43 (dk_at dksX4_copy_1 6 rfl rfl)
theorem dX4_copy_30 : decode cX4_copy 30 = .ok (.getfield 12, 3) := dk_180 0 12 (dk_at dksX4_copy_1 7 rfl rfl)
theorem dX4_copy_33 : decode cX4_copy 33 = .ok (.aload_n 0, 1) := dk_42 (dk_at dksX4_copy_1 10 rfl rfl)
theorem dX4_copy_34 : decode cX4_copy 34 = .ok (.getfield 12, 3) := dk_180 0 12 (dk_at dksX4_copy_1 11 rfl rfl)
theorem dX4_copy_37 : decode cX4_copy 37 = .ok (.iload_n 2, 1) := dk_28 (dk_at dksX4_copy_1 14 rfl rfl)
theorem dX4_copy_38 : decode cX4_copy 38 = .ok (.invokevirtual 58, 3) := dk_182 0 58 (dk_at dksX4_copy_1 15 rfl rfl)
theorem dX4_copy_41 : decode cX4_copy 41 = .ok (.checkcast 62, 3) := dk_192 0 62 (dk_at dksX4_copy_1 18 rfl rfl)
theorem dX4_copy_44 : decode cX4_copy 44 = .ok (.invokevirtual 64, 3) := dk_182 0 64 (dk_at dksX4_copy_1 21 rfl rfl)
theorem dX4_copy_47 : decode cX4_copy 47 = .ok (.invokevirtual 68, 3) := dk_182 0 68 (dk_at dksX4_copy_2 0 rfl rfl)
theorem dX4_copy_50 : decode cX4_copy 50 = .ok (.pop, 1) := dk_87 (dk_at dksX4_copy_2 3 rfl rfl)
theorem dX4_copy_51 : decode cX4_copy 51 = .ok (.iinc 2 1, 3) := dk_132 2 1 (dk_at dksX4_copy_2 4 rfl rfl)
theorem dX4_copy_54 : decode cX4_copy 54 = .ok (.goto (-36), 3) := dk_167 255 220 (dk_at dksX4_copy_2 7 rfl rfl)
theorem dX4_copy_57 : decode cX4_copy 57 = .ok (.iconst 0, 1) := dk_3 (dk_at dksX4_copy_2 10 rfl rfl)
theorem dX4_copy_58 : decode cX4_copy 58 = .ok (.istore_n 2, 1) := dk_61 (dk_at dksX4_copy_2 11 rfl rfl)
theorem dX4_copy_59 : decode cX4_copy 59 = .ok (.iload_n 2, 1) := dk_28 (dk_at dksX4_copy_2 12 rfl rfl)
theorem dX4_copy_60 : decode cX4_copy 60 = .ok (.aload_n 0, 1) := dk_42 (dk_at dksX4_copy_2 13 rfl rfl)
theorem dX4_copy_61 : decode cX4_copy 61 = .ok (.getfield 18, 3) := dk_180 0 18 (dk_at dksX4_copy_2 14 rfl rfl)
theorem dX4_copy_64 : decode cX4_copy 64 = .ok (.invokevirtual 54, 3) := dk_182 0 54 (dk_at dksX4_copy_2 17 rfl rfl)
theorem dX4_copy_67 : decode cX4_copy 67 = .ok (.if_icmp .ge 31, 3) := dk_162 0 31 (dk_at dksX4_copy_2 20 rfl rfl)
theorem dX4_copy_70 : decode cX4_copy 70 = .ok (.aload_n 1, 1) := dk_43 (dk_at dksX4_copy_2 23 rfl rfl)
theorem dX4_copy_71 : decode cX4_copy 71 = .ok (.getfield 18, 3) := dk_180 0 18 (dk_at dksX4_copy_3 0 rfl rfl)
theorem dX4_copy_74 : decode cX4_copy 74 = .ok (.aload_n 0, 1) := dk_42 (dk_at dksX4_copy_3 3 rfl rfl)
theorem dX4_copy_75 : decode cX4_copy 75 = .ok (.getfield 18, 3) := dk_180 0 18 (dk_at dksX4_copy_3 4 rfl rfl)
theorem dX4_copy_78 : decode cX4_copy 78 = .ok (.iload_n 2, 1) := dk_28 (dk_at dksX4_copy_3 7 rfl rfl)
theorem dX4_copy_79 : decode cX4_copy 79 = .ok (.invokevirtual 58, 3) := dk_182 0 58 (dk_at dksX4_copy_3 8 rfl rfl)
theorem dX4_copy_82 : decode cX4_copy 82 = .ok (.checkcast 72, 3) := dk_192 0 72 (dk_at dksX4_copy_3 11 rfl rfl)
theorem dX4_copy_85 : decode cX4_copy 85 = .ok (.invokevirtual 74, 3) := dk_182 0 74 (dk_at dksX4_copy_3 14 rfl rfl)
theorem dX4_copy_88 : decode cX4_copy 88 = .ok (.invokevirtual 68, 3) := dk_182 0 68 (dk_at dksX4_copy_3 17 rfl rfl)
theorem dX4_copy_91 : decode cX4_copy 91 = .ok (.pop, 1) := dk_87 (dk_at dksX4_copy_3 20 rfl rfl)
theorem dX4_copy_92 : decode cX4_copy 92 = .ok (.iinc 2 1, 3) := dk_132 2 1 (dk_at dksX4_copy_3 21 rfl rfl)
theorem dX4_copy_95 : decode cX4_copy 95 = .ok (.goto (-36), 3) := dk_167 255 220 (dk_at dksX4_copy_4 0 rfl rfl)
theorem dX4_copy_98 : decode cX4_copy 98 = .ok (.iconst 0, 1) := dk_3 (dk_at dksX4_copy_4 3 rfl rfl)
theorem dX4_copy_99 : decode cX4_copy 99 = .ok (.istore_n 2, 1) := dk_61 (dk_at dksX4_copy_4 4 rfl rfl)
theorem dX4_copy_100 : decode cX4_copy 100 = .ok (.iload_n 2, 1) := dk_28 (dk_at dksX4_copy_4 5 rfl rfl)
theorem dX4_copy_101 : decode cX4_copy 101 = .ok (.aload_n 0, 1) := dk_42 (dk_at dksX4_copy_4 6 rfl rfl)
theorem dX4_copy_102 : decode cX4_copy 102 = .ok (.getfield 21, 3) := dk_180 0 21 (dk_at dksX4_copy_4 7 rfl rfl)
theorem dX4_copy_105 : decode cX4_copy 105 = .ok (.invokevirtual 54, 3) := dk_182 0 54 (dk_at dksX4_copy_4 10 rfl rfl)
theorem dX4_copy_108 : decode cX4_copy 108 = .ok (.if_icmp .ge 31, 3) := dk_162 0 31 (dk_at dksX4_copy_4 13 rfl rfl)
theorem dX4_copy_111 : decode cX4_copy 111 = .ok (.aload_n 1, 1) := dk_43 (dk_at dksX4_copy_4 16 rfl rfl)
theorem dX4_copy_112 : decode cX4_copy 112 = .ok (.getfield 21, 3) := dk_180 0 21 (dk_at dksX4_copy_4 17 rfl rfl)
theorem dX4_copy_115 : decode cX4_copy 115 = .ok (.aload_n 0, 1) := dk_42 (dk_at dksX4_copy_4 20 rfl rfl)
theorem dX4_copy_116 : decode cX4_copy 116 = .ok (.getfield 21, 3) := dk_180 0 21 (dk_at dksX4_copy_4 21 rfl rfl)
theorem dX4_copy_119 : decode cX4_copy 119 = .ok (.iload_n 2, 1) := dk_28 (dk_at dksX4_copy_5 0 rfl rfl)
theorem dX4_copy_120 : decode cX4_copy 120 = .ok (.invokevirtual 58, 3) := dk_182 0 58 (dk_at dksX4_copy_5 1 rfl rfl)
theorem dX4_copy_123 : decode cX4_copy 123 = .ok (.checkcast 77, 3) := dk_192 0 77 (dk_at dksX4_copy_5 4 rfl rfl)
theorem dX4_copy_126 : decode cX4_copy 126 = .ok (.invokevirtual 79, 3) := dk_182 0 79 (dk_at dksX4_copy_5 7 rfl rfl)
theorem dX4_copy_129 : decode cX4_copy 129 = .ok (.invokevirtual 68, 3) := dk_182 0 68 (dk_at dksX4_copy_5 10 rfl rfl)
theorem dX4_copy_132 : decode cX4_copy 132 = .ok (.pop, 1) := dk_87 (dk_at dksX4_copy_5 13 rfl rfl)
theorem dX4_copy_133 : decode cX4_copy 133 = .ok (.iinc 2 1, 3) := dk_132 2 1 (dk_at dksX4_copy_5 14 rfl rfl)
theorem dX4_copy_136 : decode cX4_copy 136 = .ok (.goto (-36), 3) := dk_167 255 220 (dk_at dksX4_copy_5 17 rfl rfl)
theorem dX4_copy_139 : decode cX4_copy 139 = .ok (.aload_n 1, 1) := dk_43 (dk_at dksX4_copy_5 20 rfl rfl)
theorem dX4_copy_140 : decode cX4_copy 140 = .ok (.getfield 24, 3) := dk_180 0 24 (dk_at dksX4_copy_5 21 rfl rfl)
theorem dX4_copy_143 : decode cX4_copy 143 = .ok (.aload_n 0, 1) := dk_42 (dk_at dksX4_copy_6 0 rfl rfl)
theorem dX4_copy_144 : decode cX4_copy 144 = .ok (.getfield 24, 3) := dk_180 0 24 (dk_at dksX4_copy_6 1 rfl rfl)
theorem dX4_copy_147 : decode cX4_copy 147 = .ok (.invokevirtual 82, 3) := dk_182 0 82 (dk_at dksX4_copy_6 4 rfl rfl)
theorem dX4_copy_150 : decode cX4_copy 150 = .ok (.pop, 1) := dk_87 (dk_at dksX4_copy_6 7 rfl rfl)
theorem dX4_copy_151 : decode cX4_copy 151 = .ok (.aload_n 1, 1) := dk_43 (dk_at dksX4_copy_6 8 rfl rfl)
theorem dX4_copy_152 : decode cX4_copy 152 = .ok (.getfield 27, 3) := dk_180 0 27 (dk_at dksX4_copy_6 9 rfl rfl)
theorem dX4_copy_155 : decode cX4_copy 155 = .ok (.aload_n 0, 1) := dk_42 (dk_at dksX4_copy_6 12 rfl rfl)
theorem dX4_copy_156 : decode cX4_copy 156 = .ok (.getfield 27, 3) := dk_180 0 27 (dk_at dksX4_copy_6 13 rfl rfl)
theorem dX4_copy_159 : decode cX4_copy 159 = .ok (.invokevirtual 82, 3) := dk_182 0 82 (dk_at dksX4_copy_6 16 rfl rfl)
theorem dX4_copy_162 : decode cX4_copy 162 = .ok (.pop, 1) := dk_87 (dk_at dksX4_copy_6 19 rfl rfl)
theorem dX4_copy_163 : decode cX4_copy 163 = .ok (.aload_n 1, 1) := dk_43 (dk_at dksX4_copy_6 20 rfl rfl)
theorem dX4_copy_164 : decode cX4_copy 164 = .ok (.aload_n 0, 1) := dk_42 (dk_at dksX4_copy_6 21 rfl rfl)
theorem dX4_copy_165 : decode cX4_copy 165 = .ok (.getfield 30, 3) := dk_180 0 30 (dk_at dksX4_copy_7 0 rfl rfl)
theorem dX4_copy_168 : decode cX4_copy 168 = .ok (.putfield 30, 3) := dk_181 0 30 (dk_at dksX4_copy_7 3 rfl rfl)
theorem dX4_copy_171 : decode cX4_copy 171 = .ok (.aload_n 1, 1) := dk_43 (dk_at dksX4_copy_7 6 rfl rfl)
theorem dX4_copy_172 : decode cX4_copy 172 = .ok (.aload_n 0, 1) := dk_42 (dk_at dksX4_copy_7 7 rfl rfl)
theorem dX4_copy_173 : decode cX4_copy 173 = .ok (.getfield 34, 3) := dk_180 0 34 (dk_at dksX4_copy_7 8 rfl rfl)
theorem dX4_copy_176 : decode cX4_copy 176 = .ok (.putfield 34, 3) := dk_181 0 34 (dk_at dksX4_copy_7 11 rfl rfl)
theorem dX4_copy_179 : decode cX4_copy 179 = .ok (.aload_n 1, 1) := dk_43 (dk_at dksX4_copy_7 14 rfl rfl)
theorem dX4_copy_180 : decode cX4_copy 180 = .ok (.aload_n 0, 1) := dk_42 (dk_at dksX4_copy_7 15 rfl rfl)
theorem dX4_copy_181 : decode cX4_copy 181 = .ok (.getfield 86, 3) := dk_180 0 86 (dk_at dksX4_copy_7 16 rfl rfl)
theorem dX4_copy_184 : decode cX4_copy 184 = .ok (.putfield 86, 3) := dk_181 0 86 (dk_at dksX4_copy_7 19 rfl rfl)
theorem dX4_copy_187 : decode cX4_copy 187 = .ok (.aload_n 1, 1) := dk_43 (dk_at dksX4_copy_7 22 rfl rfl)
theorem dX4_copy_188 : decode cX4_copy 188 = .ok (.aload_n 0, 1) := dk_42 (dk_at dksX4_copy_7 23 rfl rfl)
theorem dX4_copy_189 : decode cX4_copy 189 = .ok (.getfield 89, 3) := dk_180 0 89 (dk_at dksX4_copy_8 0 rfl rfl)
theorem dX4_copy_192 : decode cX4_copy 192 = .ok (.putfield 89, 3) := dk_181 0 89 (dk_at dksX4_copy_8 3 rfl rfl)
theorem dX4_copy_195 : decode cX4_copy 195 = .ok (.aload_n 1, 1) := dk_43 (dk_at dksX4_copy_8 6 rfl rfl)
theorem dX4_copy_196 : decode cX4_copy 196 = .ok (.aload_n 0, 1) := dk_42 (dk_at dksX4_copy_8 7 rfl rfl)
theorem dX4_copy_197 : decode cX4_copy 197 = .ok (.getfield 92, 3) := dk_180 0 92 (dk_at dksX4_copy_8 8 rfl rfl)
theorem dX4_copy_200 : decode cX4_copy 200 = .ok (.putfield 92, 3) := dk_181 0 92 (dk_at dksX4_copy_8 11 rfl rfl)
theorem dX4_copy_203 : decode cX4_copy 203 = .ok (.aload_n 1, 1) := dk_43 (dk_at dksX4_copy_8 14 rfl rfl)
theorem dX4_copy_204 : decode cX4_copy 204 = .ok (.aload_n 0, 1) := dk_42 (dk_at dksX4_copy_8 15 rfl rfl)
theorem dX4_copy_205 : decode cX4_copy 205 = .ok (.getfield 95, 3) := dk_180 0 95 (dk_at dksX4_copy_8 16 rfl rfl)
theorem dX4_copy_208 : decode cX4_copy 208 = .ok (.putfield 95, 3) := dk_181 0 95 (dk_at dksX4_copy_8 19 rfl rfl)
theorem dX4_copy_211 : decode cX4_copy 211 = .ok (.aload_n 0, 1) := dk_42 (dk_at dksX4_copy_8 22 rfl rfl)
theorem dX4_copy_212 : decode cX4_copy 212 = .ok (.getfield 37, 3) := dk_180 0 37 (dk_at dksX4_copy_9 0 rfl rfl)
theorem dX4_copy_215 : decode cX4_copy 215 = .ok (.iconst 0, 1) := dk_3 (dk_at dksX4_copy_9 3 rfl rfl)
theorem dX4_copy_216 : decode cX4_copy 216 = .ok (.aload_n 1, 1) := dk_43 (dk_at dksX4_copy_9 4 rfl rfl)
theorem dX4_copy_217 : decode cX4_copy 217 = .ok (.getfield 37, 3) := dk_180 0 37 (dk_at dksX4_copy_9 5 rfl rfl)
theorem dX4_copy_220 : decode cX4_copy 220 = .ok (.iconst 0, 1) := dk_3 (dk_at dksX4_copy_9 8 rfl rfl)
theorem dX4_copy_221 : decode cX4_copy 221 = .ok (.aload_n 0, 1) := dk_42 (dk_at dksX4_copy_9 9 rfl rfl)
theorem dX4_copy_222 : decode cX4_copy 222 = .ok (.getfield 37, 3) := dk_180 0 37 (dk_at dksX4_copy_9 10 rfl rfl)
theorem dX4_copy_225 : decode cX4_copy 225 = .ok (.arraylength, 1) := dk_190 (dk_at dksX4_copy_9 13 rfl rfl)
theorem dX4_copy_226 : decode cX4_copy 226 = .ok (.invokestatic 98, 3) := dk_184 0 98 (dk_at dksX4_copy_9 14 rfl rfl)
theorem dX4_copy_229 : decode cX4_copy 229 = .ok (.aload_n 0, 1) := dk_42 (dk_at dksX4_copy_9 17 rfl rfl)
theorem dX4_copy_230 : decode cX4_copy 230 = .ok (.getfield 41, 3) := dk_180 0 41 (dk_at dksX4_copy_9 18 rfl rfl)
theorem dX4_copy_233 : decode cX4_copy 233 = .ok (.iconst 0, 1) := dk_3 (dk_at dksX4_copy_9 21 rfl rfl)
theorem dX4_copy_234 : decode cX4_copy 234 = .ok (.aload_n 1, 1) := dk_43 (dk_at dksX4_copy_9 22 rfl rfl)
theorem dX4_copy_235 : decode cX4_copy 235 = .ok (.getfield 41, 3) := dk_180 0 41 (dk_at dksX4_copy_10 0 rfl rfl)
theorem dX4_copy_238 : decode cX4_copy 238 = .ok (.iconst 0, 1) := dk_3 (dk_at dksX4_copy_10 3 rfl rfl)
theorem dX4_copy_239 : decode cX4_copy 239 = .ok (.iconst 4, 1) := dk_7 (dk_at dksX4_copy_10 4 rfl rfl)
theorem dX4_copy_240 : decode cX4_copy 240 = .ok (.invokestatic 98, 3) := dk_184 0 98 (dk_at dksX4_copy_10 5 rfl rfl)
theorem dX4_copy_243 : decode cX4_copy 243 = .ok (.aload_n 1, 1) := dk_43 (dk_at dksX4_copy_10 8 rfl rfl)
theorem dX4_copy_244 : decode cX4_copy 244 = .ok (.areturn, 1) := dk_176 (dk_at dksX4_copy_10 9 rfl rfl)
theorem q56 : (Jvm.Cond.initialized "CanecrushModel$Estate") ∈ lw_all := lw_g (lw_at lw_m1 7 rfl) rfl
theorem q393 : (Jvm.Cond.selects "CanecrushModel$Estate" ({ cls := "java/lang/Object", name := "getClass", desc := "()Ljava/lang/Class;" } : Jvm.MethodName) ({ cls := "java/lang/Object", name := "getClass", desc := "()Ljava/lang/Class;" } : Jvm.MethodName)) ∈ lw_all := lw_g (lw_at lw_m2 104 rfl) rfl
theorem q947 : (Jvm.Cond.instantiable "CanecrushModel$Estate" (22 : Nat)) ∈ lw_all := lw_g (lw_at lw_m4 178 rfl) rfl
theorem q949 : (Jvm.Cond.instanceMethod ({ cls := "CanecrushModel$Estate", name := "<init>", desc := "()V" } : Jvm.MethodName)) ∈ lw_all := lw_g (lw_at lw_m4 180 rfl) rfl
theorem q950 : (Jvm.Cond.code ({ cls := "CanecrushModel$Estate", name := "<init>", desc := "()V" } : Jvm.MethodName) prog_8_method_1_code (1 : Nat) (Option.none : Option Jvm.ClassFile.FieldType)) ∈ lw_all := lw_g (lw_at lw_m4 181 rfl) rfl
theorem q951 : (Jvm.Cond.methodLink "CanecrushModel$Estate" (3 : Nat) ({ cls := "java/lang/Object", name := "<init>", desc := "()V" } : Jvm.MethodName)) ∈ lw_all := lw_g (lw_at lw_m4 182 rfl) rfl
theorem q952 : (Jvm.Cond.classLink "CanecrushModel$Estate" (9 : Nat) "java/util/ArrayList") ∈ lw_all := lw_g (lw_at lw_m4 183 rfl) rfl
theorem q953 : (Jvm.Cond.methodLink "CanecrushModel$Estate" (11 : Nat) ({ cls := "java/util/ArrayList", name := "<init>", desc := "()V" } : Jvm.MethodName)) ∈ lw_all := lw_g (lw_at lw_m4 184 rfl) rfl
theorem q954 : (Jvm.Cond.fieldLink "CanecrushModel$Estate" (51 : Nat) "CanecrushModel$Estate" "hour" "I") ∈ lw_all := lw_g (lw_at lw_m4 185 rfl) rfl
theorem q956 : (Jvm.Cond.fieldLink "CanecrushModel$Estate" (12 : Nat) "CanecrushModel$Estate" "fields" "Ljava/util/ArrayList;") ∈ lw_all := lw_g (lw_at lw_m4 187 rfl) rfl
theorem q958 : (Jvm.Cond.fieldLink "CanecrushModel$Estate" (18 : Nat) "CanecrushModel$Estate" "loads" "Ljava/util/ArrayList;") ∈ lw_all := lw_g (lw_at lw_m4 189 rfl) rfl
theorem q960 : (Jvm.Cond.fieldLink "CanecrushModel$Estate" (21 : Nat) "CanecrushModel$Estate" "trucks" "Ljava/util/ArrayList;") ∈ lw_all := lw_g (lw_at lw_m4 191 rfl) rfl
theorem q962 : (Jvm.Cond.fieldLink "CanecrushModel$Estate" (24 : Nat) "CanecrushModel$Estate" "yard" "Ljava/util/ArrayList;") ∈ lw_all := lw_g (lw_at lw_m4 193 rfl) rfl
theorem q964 : (Jvm.Cond.fieldLink "CanecrushModel$Estate" (27 : Nat) "CanecrushModel$Estate" "today" "Ljava/util/ArrayList;") ∈ lw_all := lw_g (lw_at lw_m4 195 rfl) rfl
theorem q965 : (Jvm.Cond.fieldLink "CanecrushModel$Estate" (30 : Nat) "CanecrushModel$Estate" "rate" "I") ∈ lw_all := lw_g (lw_at lw_m4 196 rfl) rfl
theorem q967 : (Jvm.Cond.fieldLink "CanecrushModel$Estate" (34 : Nat) "CanecrushModel$Estate" "water" "I") ∈ lw_all := lw_g (lw_at lw_m4 198 rfl) rfl
theorem q969 : (Jvm.Cond.fieldLink "CanecrushModel$Estate" (86 : Nat) "CanecrushModel$Estate" "order" "I") ∈ lw_all := lw_g (lw_at lw_m4 200 rfl) rfl
theorem q971 : (Jvm.Cond.fieldLink "CanecrushModel$Estate" (89 : Nat) "CanecrushModel$Estate" "mill" "I") ∈ lw_all := lw_g (lw_at lw_m4 202 rfl) rfl
theorem q973 : (Jvm.Cond.fieldLink "CanecrushModel$Estate" (92 : Nat) "CanecrushModel$Estate" "starts" "I") ∈ lw_all := lw_g (lw_at lw_m4 204 rfl) rfl
theorem q975 : (Jvm.Cond.fieldLink "CanecrushModel$Estate" (95 : Nat) "CanecrushModel$Estate" "idles" "I") ∈ lw_all := lw_g (lw_at lw_m4 206 rfl) rfl
theorem q977 : (Jvm.Cond.fieldLink "CanecrushModel$Estate" (196 : Nat) "CanecrushModel$Estate" "idledEver" "I") ∈ lw_all := lw_g (lw_at lw_m4 208 rfl) rfl
theorem q979 : (Jvm.Cond.fieldLink "CanecrushModel$Estate" (199 : Nat) "CanecrushModel$Estate" "stops" "I") ∈ lw_all := lw_g (lw_at lw_m4 210 rfl) rfl
theorem q981 : (Jvm.Cond.fieldLink "CanecrushModel$Estate" (37 : Nat) "CanecrushModel$Estate" "stock" "[I") ∈ lw_all := lw_g (lw_at lw_m4 212 rfl) rfl
theorem q983 : (Jvm.Cond.fieldLink "CanecrushModel$Estate" (110 : Nat) "CanecrushModel$Estate" "oil" "I") ∈ lw_all := lw_g (lw_at lw_m4 214 rfl) rfl
theorem q985 : (Jvm.Cond.fieldLink "CanecrushModel$Estate" (113 : Nat) "CanecrushModel$Estate" "money" "I") ∈ lw_all := lw_g (lw_at lw_m4 216 rfl) rfl
theorem q987 : (Jvm.Cond.fieldLink "CanecrushModel$Estate" (172 : Nat) "CanecrushModel$Estate" "lost" "I") ∈ lw_all := lw_g (lw_at lw_m4 218 rfl) rfl
theorem q989 : (Jvm.Cond.fieldLink "CanecrushModel$Estate" (41 : Nat) "CanecrushModel$Estate" "tonsToday" "[I") ∈ lw_all := lw_g (lw_at lw_m4 220 rfl) rfl
theorem q991 : (Jvm.Cond.fieldLink "CanecrushModel$Estate" (44 : Nat) "CanecrushModel$Estate" "tonsEver" "[I") ∈ lw_all := lw_g (lw_at lw_m4 222 rfl) rfl
theorem q993 : (Jvm.Cond.fieldLink "CanecrushModel$Estate" (47 : Nat) "CanecrushModel$Estate" "points" "[I") ∈ lw_all := lw_g (lw_at lw_m4 224 rfl) rfl
theorem q995 : (Jvm.Cond.fieldLink "CanecrushModel$Estate" (178 : Nat) "CanecrushModel$Estate" "sweets" "J") ∈ lw_all := lw_g (lw_at lw_m4 226 rfl) rfl
theorem q997 : (Jvm.Cond.lays "CanecrushModel$Estate" "CanecrushModel$Estate" "hour" "I") ∈ lw_all := lw_g (lw_at lw_m4 228 rfl) rfl
theorem q998 : (Jvm.Cond.soleField "CanecrushModel$Estate" "hour") ∈ lw_all := lw_g (lw_at lw_m4 229 rfl) rfl
theorem q999 : (Jvm.Cond.laysFinal "CanecrushModel$Estate" "CanecrushModel$Estate" "fields" "Ljava/util/ArrayList;") ∈ lw_all := lw_g (lw_at lw_m4 230 rfl) rfl
theorem q1000 : (Jvm.Cond.soleField "CanecrushModel$Estate" "fields") ∈ lw_all := lw_g (lw_at lw_m4 231 rfl) rfl
theorem q1001 : (Jvm.Cond.laysFinal "CanecrushModel$Estate" "CanecrushModel$Estate" "loads" "Ljava/util/ArrayList;") ∈ lw_all := lw_g (lw_at lw_m4 232 rfl) rfl
theorem q1002 : (Jvm.Cond.soleField "CanecrushModel$Estate" "loads") ∈ lw_all := lw_g (lw_at lw_m4 233 rfl) rfl
theorem q1003 : (Jvm.Cond.laysFinal "CanecrushModel$Estate" "CanecrushModel$Estate" "trucks" "Ljava/util/ArrayList;") ∈ lw_all := lw_g (lw_at lw_m4 234 rfl) rfl
theorem q1004 : (Jvm.Cond.soleField "CanecrushModel$Estate" "trucks") ∈ lw_all := lw_g (lw_at lw_m4 235 rfl) rfl
theorem q1005 : (Jvm.Cond.laysFinal "CanecrushModel$Estate" "CanecrushModel$Estate" "yard" "Ljava/util/ArrayList;") ∈ lw_all := lw_g (lw_at lw_m4 236 rfl) rfl
theorem q1006 : (Jvm.Cond.soleField "CanecrushModel$Estate" "yard") ∈ lw_all := lw_g (lw_at lw_m4 237 rfl) rfl
theorem q1007 : (Jvm.Cond.laysFinal "CanecrushModel$Estate" "CanecrushModel$Estate" "today" "Ljava/util/ArrayList;") ∈ lw_all := lw_g (lw_at lw_m4 238 rfl) rfl
theorem q1008 : (Jvm.Cond.soleField "CanecrushModel$Estate" "today") ∈ lw_all := lw_g (lw_at lw_m4 239 rfl) rfl
theorem q1009 : (Jvm.Cond.lays "CanecrushModel$Estate" "CanecrushModel$Estate" "rate" "I") ∈ lw_all := lw_g (lw_at lw_m5 0 rfl) rfl
theorem q1010 : (Jvm.Cond.soleField "CanecrushModel$Estate" "rate") ∈ lw_all := lw_g (lw_at lw_m5 1 rfl) rfl
theorem q1011 : (Jvm.Cond.lays "CanecrushModel$Estate" "CanecrushModel$Estate" "water" "I") ∈ lw_all := lw_g (lw_at lw_m5 2 rfl) rfl
theorem q1012 : (Jvm.Cond.soleField "CanecrushModel$Estate" "water") ∈ lw_all := lw_g (lw_at lw_m5 3 rfl) rfl
theorem q1013 : (Jvm.Cond.lays "CanecrushModel$Estate" "CanecrushModel$Estate" "order" "I") ∈ lw_all := lw_g (lw_at lw_m5 4 rfl) rfl
theorem q1014 : (Jvm.Cond.soleField "CanecrushModel$Estate" "order") ∈ lw_all := lw_g (lw_at lw_m5 5 rfl) rfl
theorem q1015 : (Jvm.Cond.lays "CanecrushModel$Estate" "CanecrushModel$Estate" "mill" "I") ∈ lw_all := lw_g (lw_at lw_m5 6 rfl) rfl
theorem q1016 : (Jvm.Cond.soleField "CanecrushModel$Estate" "mill") ∈ lw_all := lw_g (lw_at lw_m5 7 rfl) rfl
theorem q1017 : (Jvm.Cond.lays "CanecrushModel$Estate" "CanecrushModel$Estate" "starts" "I") ∈ lw_all := lw_g (lw_at lw_m5 8 rfl) rfl
theorem q1018 : (Jvm.Cond.soleField "CanecrushModel$Estate" "starts") ∈ lw_all := lw_g (lw_at lw_m5 9 rfl) rfl
theorem q1019 : (Jvm.Cond.lays "CanecrushModel$Estate" "CanecrushModel$Estate" "idles" "I") ∈ lw_all := lw_g (lw_at lw_m5 10 rfl) rfl
theorem q1020 : (Jvm.Cond.soleField "CanecrushModel$Estate" "idles") ∈ lw_all := lw_g (lw_at lw_m5 11 rfl) rfl
theorem q1021 : (Jvm.Cond.lays "CanecrushModel$Estate" "CanecrushModel$Estate" "idledEver" "I") ∈ lw_all := lw_g (lw_at lw_m5 12 rfl) rfl
theorem q1022 : (Jvm.Cond.soleField "CanecrushModel$Estate" "idledEver") ∈ lw_all := lw_g (lw_at lw_m5 13 rfl) rfl
theorem q1023 : (Jvm.Cond.lays "CanecrushModel$Estate" "CanecrushModel$Estate" "stops" "I") ∈ lw_all := lw_g (lw_at lw_m5 14 rfl) rfl
theorem q1024 : (Jvm.Cond.soleField "CanecrushModel$Estate" "stops") ∈ lw_all := lw_g (lw_at lw_m5 15 rfl) rfl
theorem q1025 : (Jvm.Cond.laysFinal "CanecrushModel$Estate" "CanecrushModel$Estate" "stock" "[I") ∈ lw_all := lw_g (lw_at lw_m5 16 rfl) rfl
theorem q1026 : (Jvm.Cond.soleField "CanecrushModel$Estate" "stock") ∈ lw_all := lw_g (lw_at lw_m5 17 rfl) rfl
theorem q1027 : (Jvm.Cond.lays "CanecrushModel$Estate" "CanecrushModel$Estate" "oil" "I") ∈ lw_all := lw_g (lw_at lw_m5 18 rfl) rfl
theorem q1028 : (Jvm.Cond.soleField "CanecrushModel$Estate" "oil") ∈ lw_all := lw_g (lw_at lw_m5 19 rfl) rfl
theorem q1029 : (Jvm.Cond.lays "CanecrushModel$Estate" "CanecrushModel$Estate" "money" "I") ∈ lw_all := lw_g (lw_at lw_m5 20 rfl) rfl
theorem q1030 : (Jvm.Cond.soleField "CanecrushModel$Estate" "money") ∈ lw_all := lw_g (lw_at lw_m5 21 rfl) rfl
theorem q1031 : (Jvm.Cond.lays "CanecrushModel$Estate" "CanecrushModel$Estate" "lost" "I") ∈ lw_all := lw_g (lw_at lw_m5 22 rfl) rfl
theorem q1032 : (Jvm.Cond.soleField "CanecrushModel$Estate" "lost") ∈ lw_all := lw_g (lw_at lw_m5 23 rfl) rfl
theorem q1033 : (Jvm.Cond.laysFinal "CanecrushModel$Estate" "CanecrushModel$Estate" "tonsToday" "[I") ∈ lw_all := lw_g (lw_at lw_m5 24 rfl) rfl
theorem q1034 : (Jvm.Cond.soleField "CanecrushModel$Estate" "tonsToday") ∈ lw_all := lw_g (lw_at lw_m5 25 rfl) rfl
theorem q1035 : (Jvm.Cond.laysFinal "CanecrushModel$Estate" "CanecrushModel$Estate" "tonsEver" "[I") ∈ lw_all := lw_g (lw_at lw_m5 26 rfl) rfl
theorem q1036 : (Jvm.Cond.soleField "CanecrushModel$Estate" "tonsEver") ∈ lw_all := lw_g (lw_at lw_m5 27 rfl) rfl
theorem q1037 : (Jvm.Cond.laysFinal "CanecrushModel$Estate" "CanecrushModel$Estate" "points" "[I") ∈ lw_all := lw_g (lw_at lw_m5 28 rfl) rfl
theorem q1038 : (Jvm.Cond.soleField "CanecrushModel$Estate" "points") ∈ lw_all := lw_g (lw_at lw_m5 29 rfl) rfl
theorem q1039 : (Jvm.Cond.lays "CanecrushModel$Estate" "CanecrushModel$Estate" "sweets" "J") ∈ lw_all := lw_g (lw_at lw_m5 30 rfl) rfl
theorem q1040 : (Jvm.Cond.soleField "CanecrushModel$Estate" "sweets") ∈ lw_all := lw_g (lw_at lw_m5 31 rfl) rfl
theorem q1041 : (Jvm.Cond.superclass "CanecrushModel$Estate" "java/lang/Object") ∈ lw_all := lw_g (lw_at lw_m5 32 rfl) rfl
theorem q1089 : (Jvm.Cond.fieldLink "CanecrushModel$Estate" (151 : Nat) "CanecrushModel$Field" "far" "I") ∈ lw_all := lw_g (lw_at lw_m5 80 rfl) rfl
theorem q1100 : (Jvm.Cond.fieldLink "CanecrushModel$Estate" (116 : Nat) "CanecrushModel$Field" "smut" "I") ∈ lw_all := lw_g (lw_at lw_m5 91 rfl) rfl
theorem q1143 : (Jvm.Cond.fieldLink "CanecrushModel$Estate" (133 : Nat) "CanecrushModel$Truck" "at" "I") ∈ lw_all := lw_g (lw_at lw_m5 134 rfl) rfl
theorem q1146 : (Jvm.Cond.fieldLink "CanecrushModel$Estate" (146 : Nat) "CanecrushModel$Truck" "field" "I") ∈ lw_all := lw_g (lw_at lw_m5 137 rfl) rfl
theorem q1149 : (Jvm.Cond.fieldLink "CanecrushModel$Estate" (137 : Nat) "CanecrushModel$Truck" "load" "I") ∈ lw_all := lw_g (lw_at lw_m5 140 rfl) rfl
theorem q1152 : (Jvm.Cond.fieldLink "CanecrushModel$Estate" (134 : Nat) "CanecrushModel$Truck" "hours" "I") ∈ lw_all := lw_g (lw_at lw_m5 143 rfl) rfl
theorem q1192 : (Jvm.Cond.fieldLink "CanecrushModel$Estate" (127 : Nat) "CanecrushModel$Load" "field" "I") ∈ lw_all := lw_g (lw_at lw_m5 183 rfl) rfl
theorem q1195 : (Jvm.Cond.fieldLink "CanecrushModel$Estate" (157 : Nat) "CanecrushModel$Load" "grower" "I") ∈ lw_all := lw_g (lw_at lw_m5 186 rfl) rfl
theorem q1197 : (Jvm.Cond.fieldLink "CanecrushModel$Estate" (166 : Nat) "CanecrushModel$Load" "tons" "I") ∈ lw_all := lw_g (lw_at lw_m5 188 rfl) rfl
theorem q1200 : (Jvm.Cond.fieldLink "CanecrushModel$Estate" (160 : Nat) "CanecrushModel$Load" "sweet" "I") ∈ lw_all := lw_g (lw_at lw_m5 191 rfl) rfl
theorem q1203 : (Jvm.Cond.fieldLink "CanecrushModel$Estate" (213 : Nat) "CanecrushModel$Load" "isBurnt" "Z") ∈ lw_all := lw_g (lw_at lw_m5 194 rfl) rfl
theorem q1207 : (Jvm.Cond.fieldLink "CanecrushModel$Estate" (130 : Nat) "CanecrushModel$Load" "at" "I") ∈ lw_all := lw_g (lw_at lw_m5 198 rfl) rfl
theorem q1210 : (Jvm.Cond.fieldLink "CanecrushModel$Estate" (163 : Nat) "CanecrushModel$Load" "crushed" "I") ∈ lw_all := lw_g (lw_at lw_m5 201 rfl) rfl
theorem q1250 : (Jvm.Cond.instanceMethod ({ cls := "CanecrushModel$Estate", name := "burn", desc := "(I)I" } : Jvm.MethodName)) ∈ lw_all := lw_g (lw_at lw_m6 1 rfl) rfl
theorem q1251 : (Jvm.Cond.selects "CanecrushModel$Estate" ({ cls := "CanecrushModel$Estate", name := "burn", desc := "(I)I" } : Jvm.MethodName) ({ cls := "CanecrushModel$Estate", name := "burn", desc := "(I)I" } : Jvm.MethodName)) ∈ lw_all := lw_g (lw_at lw_m6 2 rfl) rfl
theorem q1252 : (Jvm.Cond.code ({ cls := "CanecrushModel$Estate", name := "burn", desc := "(I)I" } : Jvm.MethodName) prog_8_method_3_code (3 : Nat) (Option.some Jvm.ClassFile.FieldType.int)) ∈ lw_all := lw_g (lw_at lw_m6 3 rfl) rfl
theorem q1253 : (Jvm.Cond.methodLink "CanecrushModel$Estate" (104 : Nat) ({ cls := "java/lang/Math", name := "max", desc := "(II)I" } : Jvm.MethodName)) ∈ lw_all := lw_g (lw_at lw_m6 4 rfl) rfl
theorem q1278 : (Jvm.Cond.instanceMethod ({ cls := "CanecrushModel$Estate", name := "goBy", desc := "(II)I" } : Jvm.MethodName)) ∈ lw_all := lw_g (lw_at lw_m6 29 rfl) rfl
theorem q1279 : (Jvm.Cond.selects "CanecrushModel$Estate" ({ cls := "CanecrushModel$Estate", name := "goBy", desc := "(II)I" } : Jvm.MethodName) ({ cls := "CanecrushModel$Estate", name := "goBy", desc := "(II)I" } : Jvm.MethodName)) ∈ lw_all := lw_g (lw_at lw_m6 30 rfl) rfl
theorem q1280 : (Jvm.Cond.code ({ cls := "CanecrushModel$Estate", name := "goBy", desc := "(II)I" } : Jvm.MethodName) prog_8_method_12_code (5 : Nat) (Option.some Jvm.ClassFile.FieldType.int)) ∈ lw_all := lw_g (lw_at lw_m6 31 rfl) rfl
theorem q1281 : (Jvm.Cond.methodLink "CanecrushModel$Estate" (54 : Nat) ({ cls := "java/util/ArrayList", name := "size", desc := "()I" } : Jvm.MethodName)) ∈ lw_all := lw_g (lw_at lw_m6 32 rfl) rfl
theorem q1282 : (Jvm.Cond.methodLink "CanecrushModel$Estate" (58 : Nat) ({ cls := "java/util/ArrayList", name := "get", desc := "(I)Ljava/lang/Object;" } : Jvm.MethodName)) ∈ lw_all := lw_g (lw_at lw_m6 33 rfl) rfl
theorem q1283 : (Jvm.Cond.classLink "CanecrushModel$Estate" (77 : Nat) "CanecrushModel$Truck") ∈ lw_all := lw_g (lw_at lw_m6 34 rfl) rfl
theorem q1284 : (Jvm.Cond.methodLink "CanecrushModel$Estate" (209 : Nat) ({ cls := "CanecrushModel$Estate", name := "drive", desc := "(LCanecrushModel$Truck;)V" } : Jvm.MethodName)) ∈ lw_all := lw_g (lw_at lw_m6 35 rfl) rfl
theorem q1285 : (Jvm.Cond.privateMethod ({ cls := "CanecrushModel$Estate", name := "drive", desc := "(LCanecrushModel$Truck;)V" } : Jvm.MethodName)) ∈ lw_tbl := lw_at lw_m6 36 rfl
theorem q1286 : (Jvm.Cond.instanceMethod ({ cls := "CanecrushModel$Estate", name := "drive", desc := "(LCanecrushModel$Truck;)V" } : Jvm.MethodName)) ∈ lw_all := lw_g (lw_at lw_m6 37 rfl) rfl
theorem q1287 : (Jvm.Cond.code ({ cls := "CanecrushModel$Estate", name := "drive", desc := "(LCanecrushModel$Truck;)V" } : Jvm.MethodName) prog_8_method_7_code (3 : Nat) (Option.none : Option Jvm.ClassFile.FieldType)) ∈ lw_all := lw_g (lw_at lw_m6 38 rfl) rfl
theorem q1288 : (Jvm.Cond.classLink "CanecrushModel$Estate" (72 : Nat) "CanecrushModel$Load") ∈ lw_all := lw_g (lw_at lw_m6 39 rfl) rfl
theorem q1289 : (Jvm.Cond.methodLink "CanecrushModel$Estate" (140 : Nat) ({ cls := "java/lang/Integer", name := "valueOf", desc := "(I)Ljava/lang/Integer;" } : Jvm.MethodName)) ∈ lw_all := lw_g (lw_at lw_m6 40 rfl) rfl
theorem q1309 : (Jvm.Cond.methodLink "CanecrushModel$Estate" (68 : Nat) ({ cls := "java/util/ArrayList", name := "add", desc := "(Ljava/lang/Object;)Z" } : Jvm.MethodName)) ∈ lw_all := lw_g (lw_at lw_m6 60 rfl) rfl
theorem q1310 : (Jvm.Cond.methodLink "CanecrushModel$Estate" (147 : Nat) ({ cls := "CanecrushModel$Estate", name := "firstAt", desc := "(I)I" } : Jvm.MethodName)) ∈ lw_all := lw_g (lw_at lw_m6 61 rfl) rfl
theorem q1311 : (Jvm.Cond.privateMethod ({ cls := "CanecrushModel$Estate", name := "firstAt", desc := "(I)I" } : Jvm.MethodName)) ∈ lw_tbl := lw_at lw_m6 62 rfl
theorem q1312 : (Jvm.Cond.instanceMethod ({ cls := "CanecrushModel$Estate", name := "firstAt", desc := "(I)I" } : Jvm.MethodName)) ∈ lw_all := lw_g (lw_at lw_m6 63 rfl) rfl
theorem q1313 : (Jvm.Cond.code ({ cls := "CanecrushModel$Estate", name := "firstAt", desc := "(I)I" } : Jvm.MethodName) prog_8_method_6_code (3 : Nat) (Option.some Jvm.ClassFile.FieldType.int)) ∈ lw_all := lw_g (lw_at lw_m6 64 rfl) rfl
theorem q1314 : (Jvm.Cond.classLink "CanecrushModel$Estate" (62 : Nat) "CanecrushModel$Field") ∈ lw_all := lw_g (lw_at lw_m6 65 rfl) rfl
theorem q1315 : (Jvm.Cond.methodLink "CanecrushModel$Estate" (217 : Nat) ({ cls := "CanecrushModel$Estate", name := "mill", desc := "()I" } : Jvm.MethodName)) ∈ lw_all := lw_g (lw_at lw_m6 66 rfl) rfl
theorem q1316 : (Jvm.Cond.privateMethod ({ cls := "CanecrushModel$Estate", name := "mill", desc := "()I" } : Jvm.MethodName)) ∈ lw_tbl := lw_at lw_m6 67 rfl
theorem q1317 : (Jvm.Cond.instanceMethod ({ cls := "CanecrushModel$Estate", name := "mill", desc := "()I" } : Jvm.MethodName)) ∈ lw_all := lw_g (lw_at lw_m6 68 rfl) rfl
theorem q1318 : (Jvm.Cond.code ({ cls := "CanecrushModel$Estate", name := "mill", desc := "()I" } : Jvm.MethodName) prog_8_method_10_code (4 : Nat) (Option.some Jvm.ClassFile.FieldType.int)) ∈ lw_all := lw_g (lw_at lw_m6 69 rfl) rfl
theorem q1319 : (Jvm.Cond.methodLink "CanecrushModel$Estate" (182 : Nat) ({ cls := "java/util/ArrayList", name := "isEmpty", desc := "()Z" } : Jvm.MethodName)) ∈ lw_all := lw_g (lw_at lw_m6 70 rfl) rfl
theorem q1323 : (Jvm.Cond.methodLink "CanecrushModel$Estate" (186 : Nat) ({ cls := "CanecrushModel$Estate", name := "next", desc := "()I" } : Jvm.MethodName)) ∈ lw_all := lw_g (lw_at lw_m6 74 rfl) rfl
theorem q1324 : (Jvm.Cond.privateMethod ({ cls := "CanecrushModel$Estate", name := "next", desc := "()I" } : Jvm.MethodName)) ∈ lw_tbl := lw_at lw_m6 75 rfl
theorem q1325 : (Jvm.Cond.instanceMethod ({ cls := "CanecrushModel$Estate", name := "next", desc := "()I" } : Jvm.MethodName)) ∈ lw_all := lw_g (lw_at lw_m6 76 rfl) rfl
theorem q1326 : (Jvm.Cond.code ({ cls := "CanecrushModel$Estate", name := "next", desc := "()I" } : Jvm.MethodName) prog_8_method_8_code (5 : Nat) (Option.some Jvm.ClassFile.FieldType.int)) ∈ lw_all := lw_g (lw_at lw_m6 77 rfl) rfl
theorem q1327 : (Jvm.Cond.classLink "CanecrushModel$Estate" (141 : Nat) "java/lang/Integer") ∈ lw_all := lw_g (lw_at lw_m6 78 rfl) rfl
theorem q1328 : (Jvm.Cond.methodLink "CanecrushModel$Estate" (154 : Nat) ({ cls := "java/lang/Integer", name := "intValue", desc := "()I" } : Jvm.MethodName)) ∈ lw_all := lw_g (lw_at lw_m6 79 rfl) rfl
theorem q1332 : (Jvm.Cond.methodLink "CanecrushModel$Estate" (189 : Nat) ({ cls := "java/util/ArrayList", name := "remove", desc := "(I)Ljava/lang/Object;" } : Jvm.MethodName)) ∈ lw_all := lw_g (lw_at lw_m6 83 rfl) rfl
theorem q1341 : (Jvm.Cond.methodLink "CanecrushModel$Estate" (192 : Nat) ({ cls := "CanecrushModel$Estate", name := "crush", desc := "(I)V" } : Jvm.MethodName)) ∈ lw_all := lw_g (lw_at lw_m6 92 rfl) rfl
theorem q1342 : (Jvm.Cond.privateMethod ({ cls := "CanecrushModel$Estate", name := "crush", desc := "(I)V" } : Jvm.MethodName)) ∈ lw_tbl := lw_at lw_m6 93 rfl
theorem q1343 : (Jvm.Cond.instanceMethod ({ cls := "CanecrushModel$Estate", name := "crush", desc := "(I)V" } : Jvm.MethodName)) ∈ lw_all := lw_g (lw_at lw_m6 94 rfl) rfl
theorem q1344 : (Jvm.Cond.code ({ cls := "CanecrushModel$Estate", name := "crush", desc := "(I)V" } : Jvm.MethodName) prog_8_method_9_code (5 : Nat) (Option.none : Option Jvm.ClassFile.FieldType)) ∈ lw_all := lw_g (lw_at lw_m6 95 rfl) rfl
theorem q1345 : (Jvm.Cond.methodLink "CanecrushModel$Estate" (169 : Nat) ({ cls := "CanecrushModel$Load", name := "trash", desc := "()I" } : Jvm.MethodName)) ∈ lw_all := lw_g (lw_at lw_m6 96 rfl) rfl
theorem q1349 : (Jvm.Cond.methodLink "CanecrushModel$Estate" (175 : Nat) ({ cls := "CanecrushModel$Estate", name := "burn", desc := "(I)I" } : Jvm.MethodName)) ∈ lw_all := lw_g (lw_at lw_m6 100 rfl) rfl
theorem q1350 : (Jvm.Cond.methodLink "CanecrushModel$Estate" (219 : Nat) ({ cls := "CanecrushModel$Estate", name := "endDay", desc := "(II)V" } : Jvm.MethodName)) ∈ lw_all := lw_g (lw_at lw_m6 101 rfl) rfl
theorem q1351 : (Jvm.Cond.privateMethod ({ cls := "CanecrushModel$Estate", name := "endDay", desc := "(II)V" } : Jvm.MethodName)) ∈ lw_tbl := lw_at lw_m6 102 rfl
theorem q1352 : (Jvm.Cond.instanceMethod ({ cls := "CanecrushModel$Estate", name := "endDay", desc := "(II)V" } : Jvm.MethodName)) ∈ lw_all := lw_g (lw_at lw_m6 103 rfl) rfl
theorem q1353 : (Jvm.Cond.code ({ cls := "CanecrushModel$Estate", name := "endDay", desc := "(II)V" } : Jvm.MethodName) prog_8_method_11_code (7 : Nat) (Option.none : Option Jvm.ClassFile.FieldType)) ∈ lw_all := lw_g (lw_at lw_m6 104 rfl) rfl
theorem q1354 : (Jvm.Cond.methodLink "CanecrushModel$Estate" (202 : Nat) ({ cls := "CanecrushModel$Estate", name := "endFields", desc := "(II)V" } : Jvm.MethodName)) ∈ lw_all := lw_g (lw_at lw_m6 105 rfl) rfl
theorem q1355 : (Jvm.Cond.instanceMethod ({ cls := "CanecrushModel$Estate", name := "endFields", desc := "(II)V" } : Jvm.MethodName)) ∈ lw_all := lw_g (lw_at lw_m6 106 rfl) rfl
theorem q1356 : (Jvm.Cond.selects "CanecrushModel$Estate" ({ cls := "CanecrushModel$Estate", name := "endFields", desc := "(II)V" } : Jvm.MethodName) ({ cls := "CanecrushModel$Estate", name := "endFields", desc := "(II)V" } : Jvm.MethodName)) ∈ lw_all := lw_g (lw_at lw_m6 107 rfl) rfl
theorem q1357 : (Jvm.Cond.code ({ cls := "CanecrushModel$Estate", name := "endFields", desc := "(II)V" } : Jvm.MethodName) prog_8_method_5_code (5 : Nat) (Option.none : Option Jvm.ClassFile.FieldType)) ∈ lw_all := lw_g (lw_at lw_m6 108 rfl) rfl
theorem q1358 : (Jvm.Cond.methodLink "CanecrushModel$Estate" (119 : Nat) ({ cls := "CanecrushModel$Estate", name := "isNear", desc := "(I[I)Z" } : Jvm.MethodName)) ∈ lw_all := lw_g (lw_at lw_m6 109 rfl) rfl
theorem q1359 : (Jvm.Cond.privateMethod ({ cls := "CanecrushModel$Estate", name := "isNear", desc := "(I[I)Z" } : Jvm.MethodName)) ∈ lw_tbl := lw_at lw_m6 110 rfl
theorem q1360 : (Jvm.Cond.instanceMethod ({ cls := "CanecrushModel$Estate", name := "isNear", desc := "(I[I)Z" } : Jvm.MethodName)) ∈ lw_all := lw_g (lw_at lw_m6 111 rfl) rfl
theorem q1361 : (Jvm.Cond.code ({ cls := "CanecrushModel$Estate", name := "isNear", desc := "(I[I)Z" } : Jvm.MethodName) prog_8_method_4_code (3 : Nat) (Option.some Jvm.ClassFile.FieldType.boolean)) ∈ lw_all := lw_g (lw_at lw_m6 112 rfl) rfl
theorem q1362 : (Jvm.Cond.methodLink "CanecrushModel$Estate" (123 : Nat) ({ cls := "CanecrushModel$Field", name := "day", desc := "(IIZ)V" } : Jvm.MethodName)) ∈ lw_all := lw_g (lw_at lw_m6 113 rfl) rfl
theorem q1373 : (Jvm.Cond.methodLink "CanecrushModel$Estate" (206 : Nat) ({ cls := "java/util/ArrayList", name := "clear", desc := "()V" } : Jvm.MethodName)) ∈ lw_all := lw_g (lw_at lw_m6 124 rfl) rfl
theorem q1439 : (Jvm.Cond.instanceMethod ({ cls := "CanecrushModel$Estate", name := "copy", desc := "()LCanecrushModel$Estate;" } : Jvm.MethodName)) ∈ lw_all := lw_g (lw_at lw_m6 190 rfl) rfl
theorem q1440 : (Jvm.Cond.selects "CanecrushModel$Estate" ({ cls := "CanecrushModel$Estate", name := "copy", desc := "()LCanecrushModel$Estate;" } : Jvm.MethodName) ({ cls := "CanecrushModel$Estate", name := "copy", desc := "()LCanecrushModel$Estate;" } : Jvm.MethodName)) ∈ lw_all := lw_g (lw_at lw_m6 191 rfl) rfl
theorem q1441 : (Jvm.Cond.code ({ cls := "CanecrushModel$Estate", name := "copy", desc := "()LCanecrushModel$Estate;" } : Jvm.MethodName) prog_8_method_2_code (3 : Nat) (Option.some (Jvm.ClassFile.FieldType.object "CanecrushModel$Estate"))) ∈ lw_all := lw_g (lw_at lw_m6 192 rfl) rfl
theorem q1442 : (Jvm.Cond.classLink "CanecrushModel$Estate" (13 : Nat) "CanecrushModel$Estate") ∈ lw_all := lw_g (lw_at lw_m6 193 rfl) rfl
theorem q1443 : (Jvm.Cond.methodLink "CanecrushModel$Estate" (50 : Nat) ({ cls := "CanecrushModel$Estate", name := "<init>", desc := "()V" } : Jvm.MethodName)) ∈ lw_all := lw_g (lw_at lw_m6 194 rfl) rfl
theorem q1444 : (Jvm.Cond.methodLink "CanecrushModel$Estate" (64 : Nat) ({ cls := "CanecrushModel$Field", name := "copy", desc := "()LCanecrushModel$Field;" } : Jvm.MethodName)) ∈ lw_all := lw_g (lw_at lw_m6 195 rfl) rfl
theorem q1450 : (Jvm.Cond.methodLink "CanecrushModel$Estate" (74 : Nat) ({ cls := "CanecrushModel$Load", name := "copy", desc := "()LCanecrushModel$Load;" } : Jvm.MethodName)) ∈ lw_all := lw_g (lw_at lw_m6 201 rfl) rfl
theorem q1456 : (Jvm.Cond.methodLink "CanecrushModel$Estate" (79 : Nat) ({ cls := "CanecrushModel$Truck", name := "copy", desc := "()LCanecrushModel$Truck;" } : Jvm.MethodName)) ∈ lw_all := lw_g (lw_at lw_m6 207 rfl) rfl
theorem q1462 : (Jvm.Cond.methodLink "CanecrushModel$Estate" (82 : Nat) ({ cls := "java/util/ArrayList", name := "addAll", desc := "(Ljava/util/Collection;)Z" } : Jvm.MethodName)) ∈ lw_all := lw_g (lw_at lw_m6 213 rfl) rfl
theorem q1476 : (Jvm.Cond.methodLink "CanecrushModel$Estate" (98 : Nat) ({ cls := "java/lang/System", name := "arraycopy", desc := "(Ljava/lang/Object;ILjava/lang/Object;II)V" } : Jvm.MethodName)) ∈ lw_all := lw_g (lw_at lw_m6 227 rfl) rfl
theorem q1521 : (Jvm.Cond.castable "CanecrushModel$Estate" "java/lang/Object") ∈ lw_tbl := lw_at lw_m7 32 rfl
theorem in_X4 : ∀ w ∈ wsX40, w ∈ lw_all := lw_in wsX40 [997, 999, 1001, 1003, 1005, 1007, 1009, 1011, 1013, 1015, 1017, 1019, 1021, 1023, 1025, 1027, 1029, 1031, 1033, 1035, 1037, 1039] (by decide +kernel) (by decide +kernel)

/-! CanecrushModel$Field -/
set_option maxRecDepth 100000
def RX6 : String := "CanecrushModel$Field"
def TX6 : u_T := fun k => match k with
  | 0 => ("CanecrushModel$Field", "grower", "I", true)
  | 1 => ("CanecrushModel$Field", "area", "I", true)
  | 2 => ("CanecrushModel$Field", "far", "I", true)
  | 3 => ("CanecrushModel$Field", "cane", "I", false)
  | 4 => ("CanecrushModel$Field", "sweet", "I", false)
  | 5 => ("CanecrushModel$Field", "age", "I", false)
  | 6 => ("CanecrushModel$Field", "ratoons", "I", false)
  | 7 => ("CanecrushModel$Field", "smut", "I", false)
  | 8 => ("CanecrushModel$Field", "isLodged", "Z", false)
  | 9 => ("CanecrushModel$Field", "isFrosted", "Z", false)
  | _ => ("CanecrushModel$Field", "isBurnt", "Z", false)
def tyX6 : Nat → FieldType := fun k => match k with
  | 0 => .int
  | 1 => .int
  | 2 => .int
  | 3 => .int
  | 4 => .int
  | 5 => .int
  | 6 => .int
  | 7 => .int
  | 8 => .boolean
  | 9 => .boolean
  | _ => .boolean
abbrev wsX60 : List Cond := u_ws RX6 TX6 11
theorem nmX6 : ∀ a, a < 11 → ∀ b, b < 11 → a ≠ b → (TX6 a).2.1 ≠ (TX6 b).2.1 := by decide +kernel
theorem tyX6_ok : ∀ k, k < 11 → parseFieldDescriptor (TX6 k).2.2.1 = some (tyX6 k) := by decide +kernel
abbrev cX6_init : ByteArray := prog_9_method_1_code
def yX6_init : MethodName := ⟨RX6, "<init>", "(III)V"⟩
def dkwX6_init_1 : List UInt8 := [181, 0, 21, 177]
abbrev dktX6_init_1 : List UInt8 := dkwX6_init_1 ++ []
def dkwX6_init_0 : List UInt8 := [42, 183, 0, 3, 42, 16, 60, 181, 0, 9, 42, 27, 181, 0, 15, 42, 28, 181, 0, 18, 42, 29]
abbrev dktX6_init_0 : List UInt8 := dkwX6_init_0 ++ dktX6_init_1
theorem dksX6_init_0 : cX6_init.data.toList.drop 0 = dktX6_init_0 := by decide +kernel
theorem dksX6_init_1 : cX6_init.data.toList.drop 22 = dktX6_init_1 := dk_seg dksX6_init_0 22 rfl rfl
theorem dX6_init_0 : decode cX6_init 0 = .ok (.aload_n 0, 1) := dk_42 (dk_at dksX6_init_0 0 rfl rfl)
theorem dX6_init_1 : decode cX6_init 1 = .ok (.invokespecial 3, 3) := dk_183 0 3 (dk_at dksX6_init_0 1 rfl rfl)
theorem dX6_init_4 : decode cX6_init 4 = .ok (.aload_n 0, 1) := dk_42 (dk_at dksX6_init_0 4 rfl rfl)
theorem dX6_init_5 : decode cX6_init 5 = .ok (.bipush 60, 2) := dk_16 60 (dk_at dksX6_init_0 5 rfl rfl)
theorem dX6_init_7 : decode cX6_init 7 = .ok (.putfield 9, 3) := dk_181 0 9 (dk_at dksX6_init_0 7 rfl rfl)
theorem dX6_init_10 : decode cX6_init 10 = .ok (.aload_n 0, 1) := dk_42 (dk_at dksX6_init_0 10 rfl rfl)
theorem dX6_init_11 : decode cX6_init 11 = .ok (.iload_n 1, 1) := dk_27 (dk_at dksX6_init_0 11 rfl rfl)
theorem dX6_init_12 : decode cX6_init 12 = .ok (.putfield 15, 3) := dk_181 0 15 (dk_at dksX6_init_0 12 rfl rfl)
theorem dX6_init_15 : decode cX6_init 15 = .ok (.aload_n 0, 1) := dk_42 (dk_at dksX6_init_0 15 rfl rfl)
theorem dX6_init_16 : decode cX6_init 16 = .ok (.iload_n 2, 1) := dk_28 (dk_at dksX6_init_0 16 rfl rfl)
theorem dX6_init_17 : decode cX6_init 17 = .ok (.putfield 18, 3) := dk_181 0 18 (dk_at dksX6_init_0 17 rfl rfl)
theorem dX6_init_20 : decode cX6_init 20 = .ok (.aload_n 0, 1) := dk_42 (dk_at dksX6_init_0 20 rfl rfl)
theorem dX6_init_21 : decode cX6_init 21 = .ok (.iload_n 3, 1) := dk_29 (dk_at dksX6_init_0 21 rfl rfl)
theorem dX6_init_22 : decode cX6_init 22 = .ok (.putfield 21, 3) := dk_181 0 21 (dk_at dksX6_init_1 0 rfl rfl)
theorem dX6_init_25 : decode cX6_init 25 = .ok (.return_, 1) := dk_177 (dk_at dksX6_init_1 3 rfl rfl)
abbrev cX6_again : ByteArray := prog_9_method_4_code
def yX6_again : MethodName := ⟨RX6, "again", "()V"⟩
def dkwX6_again_1 : List UInt8 := [180, 0, 36, 5, 108, 181, 0, 36, 42, 3, 181, 0, 39, 42, 3, 181, 0, 43, 42, 3, 181, 0, 46, 177]
abbrev dktX6_again_1 : List UInt8 := dkwX6_again_1 ++ []
def dkwX6_again_0 : List UInt8 := [42, 89, 180, 0, 33, 4, 96, 181, 0, 33, 42, 3, 181, 0, 30, 42, 16, 60, 181, 0, 9, 42, 89]
abbrev dktX6_again_0 : List UInt8 := dkwX6_again_0 ++ dktX6_again_1
theorem dksX6_again_0 : cX6_again.data.toList.drop 0 = dktX6_again_0 := by decide +kernel
theorem dksX6_again_1 : cX6_again.data.toList.drop 23 = dktX6_again_1 := dk_seg dksX6_again_0 23 rfl rfl
theorem dX6_again_0 : decode cX6_again 0 = .ok (.aload_n 0, 1) := dk_42 (dk_at dksX6_again_0 0 rfl rfl)
theorem dX6_again_1 : decode cX6_again 1 = .ok (.dup, 1) := dk_89 (dk_at dksX6_again_0 1 rfl rfl)
theorem dX6_again_2 : decode cX6_again 2 = .ok (.getfield 33, 3) := dk_180 0 33 (dk_at dksX6_again_0 2 rfl rfl)
theorem dX6_again_5 : decode cX6_again 5 = .ok (.iconst 1, 1) := dk_4 (dk_at dksX6_again_0 5 rfl rfl)
theorem dX6_again_6 : decode cX6_again 6 = .ok (.iadd, 1) := dk_96 (dk_at dksX6_again_0 6 rfl rfl)
theorem dX6_again_7 : decode cX6_again 7 = .ok (.putfield 33, 3) := dk_181 0 33 (dk_at dksX6_again_0 7 rfl rfl)
theorem dX6_again_10 : decode cX6_again 10 = .ok (.aload_n 0, 1) := dk_42 (dk_at dksX6_again_0 10 rfl rfl)
theorem dX6_again_11 : decode cX6_again 11 = .ok (.iconst 0, 1) := dk_3 (dk_at dksX6_again_0 11 rfl rfl)
theorem dX6_again_12 : decode cX6_again 12 = .ok (.putfield 30, 3) := dk_181 0 30 (dk_at dksX6_again_0 12 rfl rfl)
theorem dX6_again_15 : decode cX6_again 15 = .ok (.aload_n 0, 1) := dk_42 (dk_at dksX6_again_0 15 rfl rfl)
theorem dX6_again_16 : decode cX6_again 16 = .ok (.bipush 60, 2) := dk_16 60 (dk_at dksX6_again_0 16 rfl rfl)
theorem dX6_again_18 : decode cX6_again 18 = .ok (.putfield 9, 3) := dk_181 0 9 (dk_at dksX6_again_0 18 rfl rfl)
theorem dX6_again_21 : decode cX6_again 21 = .ok (.aload_n 0, 1) := dk_42 (dk_at dksX6_again_0 21 rfl rfl)
theorem dX6_again_22 : decode cX6_again 22 = .ok (.dup, 1) := dk_89 (dk_at dksX6_again_0 22 rfl rfl)
theorem dX6_again_23 : decode cX6_again 23 = .ok (.getfield 36, 3) := dk_180 0 36 (dk_at dksX6_again_1 0 rfl rfl)
theorem dX6_again_26 : decode cX6_again 26 = .ok (.iconst 2, 1) := dk_5 (dk_at dksX6_again_1 3 rfl rfl)
theorem dX6_again_27 : decode cX6_again 27 = .ok (.idiv, 1) := dk_108 (dk_at dksX6_again_1 4 rfl rfl)
theorem dX6_again_28 : decode cX6_again 28 = .ok (.putfield 36, 3) := dk_181 0 36 (dk_at dksX6_again_1 5 rfl rfl)
theorem dX6_again_31 : decode cX6_again 31 = .ok (.aload_n 0, 1) := dk_42 (dk_at dksX6_again_1 8 rfl rfl)
theorem dX6_again_32 : decode cX6_again 32 = .ok (.iconst 0, 1) := dk_3 (dk_at dksX6_again_1 9 rfl rfl)
theorem dX6_again_33 : decode cX6_again 33 = .ok (.putfield 39, 3) := dk_181 0 39 (dk_at dksX6_again_1 10 rfl rfl)
theorem dX6_again_36 : decode cX6_again 36 = .ok (.aload_n 0, 1) := dk_42 (dk_at dksX6_again_1 13 rfl rfl)
theorem dX6_again_37 : decode cX6_again 37 = .ok (.iconst 0, 1) := dk_3 (dk_at dksX6_again_1 14 rfl rfl)
theorem dX6_again_38 : decode cX6_again 38 = .ok (.putfield 43, 3) := dk_181 0 43 (dk_at dksX6_again_1 15 rfl rfl)
theorem dX6_again_41 : decode cX6_again 41 = .ok (.aload_n 0, 1) := dk_42 (dk_at dksX6_again_1 18 rfl rfl)
theorem dX6_again_42 : decode cX6_again 42 = .ok (.iconst 0, 1) := dk_3 (dk_at dksX6_again_1 19 rfl rfl)
theorem dX6_again_43 : decode cX6_again 43 = .ok (.putfield 46, 3) := dk_181 0 46 (dk_at dksX6_again_1 20 rfl rfl)
theorem dX6_again_46 : decode cX6_again 46 = .ok (.return_, 1) := dk_177 (dk_at dksX6_again_1 23 rfl rfl)
abbrev cX6_day : ByteArray := prog_9_method_3_code
def yX6_day : MethodName := ⟨RX6, "day", "(IIZ)V"⟩
def dkwX6_day_10 : List UInt8 := [184, 0, 58, 181, 0, 36, 177]
abbrev dktX6_day_10 : List UInt8 := dkwX6_day_10 ++ []
def dkwX6_day_9 : List UInt8 := [4, 167, 0, 4, 3, 96, 29, 153, 0, 13, 27, 16, 25, 161, 0, 7, 5, 167, 0, 4, 3, 96]
abbrev dktX6_day_9 : List UInt8 := dkwX6_day_9 ++ dktX6_day_10
def dkwX6_day_8 : List UInt8 := [27, 5, 162, 0, 8, 42, 4, 181, 0, 43, 42, 16, 100, 42, 180, 0, 36, 42, 180, 0, 36, 158, 0, 7]
abbrev dktX6_day_8 : List UInt8 := dkwX6_day_8 ++ dktX6_day_9
def dkwX6_day_7 : List UInt8 := [16, 8, 161, 0, 22, 42, 180, 0, 27, 16, 20, 42, 180, 0, 18, 104, 161, 0, 8, 42, 4, 181, 0, 39]
abbrev dktX6_day_7 : List UInt8 := dkwX6_day_7 ++ dktX6_day_8
def dkwX6_day_6 : List UInt8 := [153, 0, 6, 132, 4, 251, 42, 42, 180, 0, 9, 21, 4, 96, 17, 0, 180, 184, 0, 61, 181, 0, 9, 28]
abbrev dktX6_day_6 : List UInt8 := dkwX6_day_6 ++ dktX6_day_7
def dkwX6_day_5 : List UInt8 := [16, 20, 27, 100, 16, 10, 108, 96, 54, 4, 42, 180, 0, 43, 153, 0, 6, 132, 4, 250, 42, 180, 0, 46]
abbrev dktX6_day_5 : List UInt8 := dkwX6_day_5 ++ dktX6_day_6
def dkwX6_day_4 : List UInt8 := [162, 0, 6, 132, 4, 4, 28, 16, 6, 161, 0, 6, 132, 4, 254, 27, 16, 20, 162, 0, 15, 21, 4]
abbrev dktX6_day_4 : List UInt8 := dkwX6_day_4 ++ dktX6_day_5
def dkwX6_day_3 : List UInt8 := [108, 100, 184, 0, 58, 181, 0, 27, 3, 54, 4, 42, 180, 0, 30, 16, 10, 161, 0, 11, 28, 6]
abbrev dktX6_day_3 : List UInt8 := dkwX6_day_3 ++ dktX6_day_4
def dkwX6_day_2 : List UInt8 := [5, 108, 54, 4, 42, 17, 3, 231, 42, 180, 0, 27, 21, 4, 96, 21, 4, 42, 180, 0, 36, 104, 16, 100]
abbrev dktX6_day_2 : List UInt8 := dkwX6_day_2 ++ dktX6_day_3
def dkwX6_day_1 : List UInt8 := [16, 8, 184, 0, 49, 184, 0, 55, 28, 6, 108, 96, 104, 54, 4, 42, 180, 0, 39, 153, 0, 9, 21, 4]
abbrev dktX6_day_1 : List UInt8 := dkwX6_day_1 ++ dktX6_day_2
def dkwX6_day_0 : List UInt8 := [42, 89, 180, 0, 30, 4, 96, 181, 0, 30, 42, 180, 0, 46, 154, 0, 65, 42, 180, 0, 18, 3, 27]
abbrev dktX6_day_0 : List UInt8 := dkwX6_day_0 ++ dktX6_day_1
theorem dksX6_day_0 : cX6_day.data.toList.drop 0 = dktX6_day_0 := by decide +kernel
theorem dksX6_day_1 : cX6_day.data.toList.drop 23 = dktX6_day_1 := dk_seg dksX6_day_0 23 rfl rfl
theorem dksX6_day_2 : cX6_day.data.toList.drop 47 = dktX6_day_2 := dk_seg dksX6_day_1 24 rfl rfl
theorem dksX6_day_3 : cX6_day.data.toList.drop 71 = dktX6_day_3 := dk_seg dksX6_day_2 24 rfl rfl
theorem dksX6_day_4 : cX6_day.data.toList.drop 93 = dktX6_day_4 := dk_seg dksX6_day_3 22 rfl rfl
theorem dksX6_day_5 : cX6_day.data.toList.drop 116 = dktX6_day_5 := dk_seg dksX6_day_4 23 rfl rfl
theorem dksX6_day_6 : cX6_day.data.toList.drop 140 = dktX6_day_6 := dk_seg dksX6_day_5 24 rfl rfl
theorem dksX6_day_7 : cX6_day.data.toList.drop 164 = dktX6_day_7 := dk_seg dksX6_day_6 24 rfl rfl
theorem dksX6_day_8 : cX6_day.data.toList.drop 188 = dktX6_day_8 := dk_seg dksX6_day_7 24 rfl rfl
theorem dksX6_day_9 : cX6_day.data.toList.drop 212 = dktX6_day_9 := dk_seg dksX6_day_8 24 rfl rfl
theorem dksX6_day_10 : cX6_day.data.toList.drop 234 = dktX6_day_10 := dk_seg dksX6_day_9 22 rfl rfl
theorem dX6_day_0 : decode cX6_day 0 = .ok (.aload_n 0, 1) := dk_42 (dk_at dksX6_day_0 0 rfl rfl)
theorem dX6_day_1 : decode cX6_day 1 = .ok (.dup, 1) := dk_89 (dk_at dksX6_day_0 1 rfl rfl)
theorem dX6_day_2 : decode cX6_day 2 = .ok (.getfield 30, 3) := dk_180 0 30 (dk_at dksX6_day_0 2 rfl rfl)
theorem dX6_day_5 : decode cX6_day 5 = .ok (.iconst 1, 1) := dk_4 (dk_at dksX6_day_0 5 rfl rfl)
theorem dX6_day_6 : decode cX6_day 6 = .ok (.iadd, 1) := dk_96 (dk_at dksX6_day_0 6 rfl rfl)
theorem dX6_day_7 : decode cX6_day 7 = .ok (.putfield 30, 3) := dk_181 0 30 (dk_at dksX6_day_0 7 rfl rfl)
theorem dX6_day_10 : decode cX6_day 10 = .ok (.aload_n 0, 1) := dk_42 (dk_at dksX6_day_0 10 rfl rfl)
theorem dX6_day_11 : decode cX6_day 11 = .ok (.getfield 46, 3) := dk_180 0 46 (dk_at dksX6_day_0 11 rfl rfl)
theorem dX6_day_14 : decode cX6_day 14 = .ok (.ifCond .ne 65, 3) := dk_154 0 65 (dk_at dksX6_day_0 14 rfl rfl)
theorem dX6_day_17 : decode cX6_day 17 = .ok (.aload_n 0, 1) := dk_42 (dk_at dksX6_day_0 17 rfl rfl)
theorem dX6_day_18 : decode cX6_day 18 = .ok (.getfield 18, 3) := dk_180 0 18 (dk_at dksX6_day_0 18 rfl rfl)
theorem dX6_day_21 : decode cX6_day 21 = .ok (.iconst 0, 1) := dk_3 (dk_at dksX6_day_0 21 rfl rfl)
theorem dX6_day_22 : decode cX6_day 22 = .ok (.iload_n 1, 1) := dk_27 (dk_at dksX6_day_0 22 rfl rfl)
theorem dX6_day_23 : decode cX6_day 23 = .ok (.bipush 8, 2) := dk_16 8 (dk_at dksX6_day_1 0 rfl rfl)
theorem dX6_day_25 : decode cX6_day 25 = .ok (.invokestatic 49, 3) := dk_184 0 49 (dk_at dksX6_day_1 2 rfl rfl)
theorem dX6_day_28 : decode cX6_day 28 = .ok (.invokestatic 55, 3) := dk_184 0 55 (dk_at dksX6_day_1 5 rfl rfl)
theorem dX6_day_31 : decode cX6_day 31 = .ok (.iload_n 2, 1) := dk_28 (dk_at dksX6_day_1 8 rfl rfl)
theorem dX6_day_32 : decode cX6_day 32 = .ok (.iconst 3, 1) := dk_6 (dk_at dksX6_day_1 9 rfl rfl)
theorem dX6_day_33 : decode cX6_day 33 = .ok (.idiv, 1) := dk_108 (dk_at dksX6_day_1 10 rfl rfl)
theorem dX6_day_34 : decode cX6_day 34 = .ok (.iadd, 1) := dk_96 (dk_at dksX6_day_1 11 rfl rfl)
theorem dX6_day_35 : decode cX6_day 35 = .ok (.imul, 1) := dk_104 (dk_at dksX6_day_1 12 rfl rfl)
theorem dX6_day_36 : decode cX6_day 36 = .ok (.istore 4, 2) := dk_54 4 (dk_at dksX6_day_1 13 rfl rfl)
theorem dX6_day_38 : decode cX6_day 38 = .ok (.aload_n 0, 1) := dk_42 (dk_at dksX6_day_1 15 rfl rfl)
theorem dX6_day_39 : decode cX6_day 39 = .ok (.getfield 39, 3) := dk_180 0 39 (dk_at dksX6_day_1 16 rfl rfl)
theorem dX6_day_42 : decode cX6_day 42 = .ok (.ifCond .eq 9, 3) := dk_153 0 9 (dk_at dksX6_day_1 19 rfl rfl)
theorem dX6_day_45 : decode cX6_day 45 = .ok (.iload 4, 2) := dk_21 4 (dk_at dksX6_day_1 22 rfl rfl)
theorem dX6_day_47 : decode cX6_day 47 = .ok (.iconst 2, 1) := dk_5 (dk_at dksX6_day_2 0 rfl rfl)
theorem dX6_day_48 : decode cX6_day 48 = .ok (.idiv, 1) := dk_108 (dk_at dksX6_day_2 1 rfl rfl)
theorem dX6_day_49 : decode cX6_day 49 = .ok (.istore 4, 2) := dk_54 4 (dk_at dksX6_day_2 2 rfl rfl)
theorem dX6_day_51 : decode cX6_day 51 = .ok (.aload_n 0, 1) := dk_42 (dk_at dksX6_day_2 4 rfl rfl)
theorem dX6_day_52 : decode cX6_day 52 = .ok (.sipush 999, 3) := dk_17 3 231 (dk_at dksX6_day_2 5 rfl rfl)
theorem dX6_day_55 : decode cX6_day 55 = .ok (.aload_n 0, 1) := dk_42 (dk_at dksX6_day_2 8 rfl rfl)
theorem dX6_day_56 : decode cX6_day 56 = .ok (.getfield 27, 3) := dk_180 0 27 (dk_at dksX6_day_2 9 rfl rfl)
theorem dX6_day_59 : decode cX6_day 59 = .ok (.iload 4, 2) := dk_21 4 (dk_at dksX6_day_2 12 rfl rfl)
theorem dX6_day_61 : decode cX6_day 61 = .ok (.iadd, 1) := dk_96 (dk_at dksX6_day_2 14 rfl rfl)
theorem dX6_day_62 : decode cX6_day 62 = .ok (.iload 4, 2) := dk_21 4 (dk_at dksX6_day_2 15 rfl rfl)
theorem dX6_day_64 : decode cX6_day 64 = .ok (.aload_n 0, 1) := dk_42 (dk_at dksX6_day_2 17 rfl rfl)
theorem dX6_day_65 : decode cX6_day 65 = .ok (.getfield 36, 3) := dk_180 0 36 (dk_at dksX6_day_2 18 rfl rfl)
theorem dX6_day_68 : decode cX6_day 68 = .ok (.imul, 1) := dk_104 (dk_at dksX6_day_2 21 rfl rfl)
theorem dX6_day_69 : decode cX6_day 69 = .ok (.bipush 100, 2) := dk_16 100 (dk_at dksX6_day_2 22 rfl rfl)
theorem dX6_day_71 : decode cX6_day 71 = .ok (.idiv, 1) := dk_108 (dk_at dksX6_day_3 0 rfl rfl)
theorem dX6_day_72 : decode cX6_day 72 = .ok (.isub, 1) := dk_100 (dk_at dksX6_day_3 1 rfl rfl)
theorem dX6_day_73 : decode cX6_day 73 = .ok (.invokestatic 58, 3) := dk_184 0 58 (dk_at dksX6_day_3 2 rfl rfl)
theorem dX6_day_76 : decode cX6_day 76 = .ok (.putfield 27, 3) := dk_181 0 27 (dk_at dksX6_day_3 5 rfl rfl)
theorem dX6_day_79 : decode cX6_day 79 = .ok (.iconst 0, 1) := dk_3 (dk_at dksX6_day_3 8 rfl rfl)
theorem dX6_day_80 : decode cX6_day 80 = .ok (.istore 4, 2) := dk_54 4 (dk_at dksX6_day_3 9 rfl rfl)
theorem dX6_day_82 : decode cX6_day 82 = .ok (.aload_n 0, 1) := dk_42 (dk_at dksX6_day_3 11 rfl rfl)
theorem dX6_day_83 : decode cX6_day 83 = .ok (.getfield 30, 3) := dk_180 0 30 (dk_at dksX6_day_3 12 rfl rfl)
theorem dX6_day_86 : decode cX6_day 86 = .ok (.bipush 10, 2) := dk_16 10 (dk_at dksX6_day_3 15 rfl rfl)
theorem dX6_day_88 : decode cX6_day 88 = .ok (.if_icmp .lt 11, 3) := dk_161 0 11 (dk_at dksX6_day_3 17 rfl rfl)
theorem dX6_day_91 : decode cX6_day 91 = .ok (.iload_n 2, 1) := dk_28 (dk_at dksX6_day_3 20 rfl rfl)
theorem dX6_day_92 : decode cX6_day 92 = .ok (.iconst 3, 1) := dk_6 (dk_at dksX6_day_3 21 rfl rfl)
theorem dX6_day_93 : decode cX6_day 93 = .ok (.if_icmp .ge 6, 3) := dk_162 0 6 (dk_at dksX6_day_4 0 rfl rfl)
theorem dX6_day_96 : decode cX6_day 96 = .ok (.iinc 4 4, 3) := dk_132 4 4 (dk_at dksX6_day_4 3 rfl rfl)
theorem dX6_day_99 : decode cX6_day 99 = .ok (.iload_n 2, 1) := dk_28 (dk_at dksX6_day_4 6 rfl rfl)
theorem dX6_day_100 : decode cX6_day 100 = .ok (.bipush 6, 2) := dk_16 6 (dk_at dksX6_day_4 7 rfl rfl)
theorem dX6_day_102 : decode cX6_day 102 = .ok (.if_icmp .lt 6, 3) := dk_161 0 6 (dk_at dksX6_day_4 9 rfl rfl)
theorem dX6_day_105 : decode cX6_day 105 = .ok (.iinc 4 (-2), 3) := dk_132 4 254 (dk_at dksX6_day_4 12 rfl rfl)
theorem dX6_day_108 : decode cX6_day 108 = .ok (.iload_n 1, 1) := dk_27 (dk_at dksX6_day_4 15 rfl rfl)
theorem dX6_day_109 : decode cX6_day 109 = .ok (.bipush 20, 2) := dk_16 20 (dk_at dksX6_day_4 16 rfl rfl)
theorem dX6_day_111 : decode cX6_day 111 = .ok (.if_icmp .ge 15, 3) := dk_162 0 15 (dk_at dksX6_day_4 18 rfl rfl)
theorem dX6_day_114 : decode cX6_day 114 = .ok (.iload 4, 2) := dk_21 4 (dk_at dksX6_day_4 21 rfl rfl)
theorem dX6_day_116 : decode cX6_day 116 = .ok (.bipush 20, 2) := dk_16 20 (dk_at dksX6_day_5 0 rfl rfl)
theorem dX6_day_118 : decode cX6_day 118 = .ok (.iload_n 1, 1) := dk_27 (dk_at dksX6_day_5 2 rfl rfl)
theorem dX6_day_119 : decode cX6_day 119 = .ok (.isub, 1) := dk_100 (dk_at dksX6_day_5 3 rfl rfl)
theorem dX6_day_120 : decode cX6_day 120 = .ok (.bipush 10, 2) := dk_16 10 (dk_at dksX6_day_5 4 rfl rfl)
theorem dX6_day_122 : decode cX6_day 122 = .ok (.idiv, 1) := dk_108 (dk_at dksX6_day_5 6 rfl rfl)
theorem dX6_day_123 : decode cX6_day 123 = .ok (.iadd, 1) := dk_96 (dk_at dksX6_day_5 7 rfl rfl)
theorem dX6_day_124 : decode cX6_day 124 = .ok (.istore 4, 2) := dk_54 4 (dk_at dksX6_day_5 8 rfl rfl)
theorem dX6_day_126 : decode cX6_day 126 = .ok (.aload_n 0, 1) := dk_42 (dk_at dksX6_day_5 10 rfl rfl)
theorem dX6_day_127 : decode cX6_day 127 = .ok (.getfield 43, 3) := dk_180 0 43 (dk_at dksX6_day_5 11 rfl rfl)
theorem dX6_day_130 : decode cX6_day 130 = .ok (.ifCond .eq 6, 3) := dk_153 0 6 (dk_at dksX6_day_5 14 rfl rfl)
theorem dX6_day_133 : decode cX6_day 133 = .ok (.iinc 4 (-6), 3) := dk_132 4 250 (dk_at dksX6_day_5 17 rfl rfl)
theorem dX6_day_136 : decode cX6_day 136 = .ok (.aload_n 0, 1) := dk_42 (dk_at dksX6_day_5 20 rfl rfl)
theorem dX6_day_137 : decode cX6_day 137 = .ok (.getfield 46, 3) := dk_180 0 46 (dk_at dksX6_day_5 21 rfl rfl)
theorem dX6_day_140 : decode cX6_day 140 = .ok (.ifCond .eq 6, 3) := dk_153 0 6 (dk_at dksX6_day_6 0 rfl rfl)
theorem dX6_day_143 : decode cX6_day 143 = .ok (.iinc 4 (-5), 3) := dk_132 4 251 (dk_at dksX6_day_6 3 rfl rfl)
theorem dX6_day_146 : decode cX6_day 146 = .ok (.aload_n 0, 1) := dk_42 (dk_at dksX6_day_6 6 rfl rfl)
theorem dX6_day_147 : decode cX6_day 147 = .ok (.aload_n 0, 1) := dk_42 (dk_at dksX6_day_6 7 rfl rfl)
theorem dX6_day_148 : decode cX6_day 148 = .ok (.getfield 9, 3) := dk_180 0 9 (dk_at dksX6_day_6 8 rfl rfl)
theorem dX6_day_151 : decode cX6_day 151 = .ok (.iload 4, 2) := dk_21 4 (dk_at dksX6_day_6 11 rfl rfl)
theorem dX6_day_153 : decode cX6_day 153 = .ok (.iadd, 1) := dk_96 (dk_at dksX6_day_6 13 rfl rfl)
theorem dX6_day_154 : decode cX6_day 154 = .ok (.sipush 180, 3) := dk_17 0 180 (dk_at dksX6_day_6 14 rfl rfl)
theorem dX6_day_157 : decode cX6_day 157 = .ok (.invokestatic 61, 3) := dk_184 0 61 (dk_at dksX6_day_6 17 rfl rfl)
theorem dX6_day_160 : decode cX6_day 160 = .ok (.putfield 9, 3) := dk_181 0 9 (dk_at dksX6_day_6 20 rfl rfl)
theorem dX6_day_163 : decode cX6_day 163 = .ok (.iload_n 2, 1) := dk_28 (dk_at dksX6_day_6 23 rfl rfl)
theorem dX6_day_164 : decode cX6_day 164 = .ok (.bipush 8, 2) := dk_16 8 (dk_at dksX6_day_7 0 rfl rfl)
theorem dX6_day_166 : decode cX6_day 166 = .ok (.if_icmp .lt 22, 3) := dk_161 0 22 (dk_at dksX6_day_7 2 rfl rfl)
theorem dX6_day_169 : decode cX6_day 169 = .ok (.aload_n 0, 1) := dk_42 (dk_at dksX6_day_7 5 rfl rfl)
theorem dX6_day_170 : decode cX6_day 170 = .ok (.getfield 27, 3) := dk_180 0 27 (dk_at dksX6_day_7 6 rfl rfl)
theorem dX6_day_173 : decode cX6_day 173 = .ok (.bipush 20, 2) := dk_16 20 (dk_at dksX6_day_7 9 rfl rfl)
theorem dX6_day_175 : decode cX6_day 175 = .ok (.aload_n 0, 1) := dk_42 (dk_at dksX6_day_7 11 rfl rfl)
theorem dX6_day_176 : decode cX6_day 176 = .ok (.getfield 18, 3) := dk_180 0 18 (dk_at dksX6_day_7 12 rfl rfl)
theorem dX6_day_179 : decode cX6_day 179 = .ok (.imul, 1) := dk_104 (dk_at dksX6_day_7 15 rfl rfl)
theorem dX6_day_180 : decode cX6_day 180 = .ok (.if_icmp .lt 8, 3) := dk_161 0 8 (dk_at dksX6_day_7 16 rfl rfl)
theorem dX6_day_183 : decode cX6_day 183 = .ok (.aload_n 0, 1) := dk_42 (dk_at dksX6_day_7 19 rfl rfl)
theorem dX6_day_184 : decode cX6_day 184 = .ok (.iconst 1, 1) := dk_4 (dk_at dksX6_day_7 20 rfl rfl)
theorem dX6_day_185 : decode cX6_day 185 = .ok (.putfield 39, 3) := dk_181 0 39 (dk_at dksX6_day_7 21 rfl rfl)
theorem dX6_day_188 : decode cX6_day 188 = .ok (.iload_n 1, 1) := dk_27 (dk_at dksX6_day_8 0 rfl rfl)
theorem dX6_day_189 : decode cX6_day 189 = .ok (.iconst 2, 1) := dk_5 (dk_at dksX6_day_8 1 rfl rfl)
theorem dX6_day_190 : decode cX6_day 190 = .ok (.if_icmp .ge 8, 3) := dk_162 0 8 (dk_at dksX6_day_8 2 rfl rfl)
theorem dX6_day_193 : decode cX6_day 193 = .ok (.aload_n 0, 1) := dk_42 (dk_at dksX6_day_8 5 rfl rfl)
theorem dX6_day_194 : decode cX6_day 194 = .ok (.iconst 1, 1) := dk_4 (dk_at dksX6_day_8 6 rfl rfl)
theorem dX6_day_195 : decode cX6_day 195 = .ok (.putfield 43, 3) := dk_181 0 43 (dk_at dksX6_day_8 7 rfl rfl)
theorem dX6_day_198 : decode cX6_day 198 = .ok (.aload_n 0, 1) := dk_42 (dk_at dksX6_day_8 10 rfl rfl)
theorem dX6_day_199 : decode cX6_day 199 = .ok (.bipush 100, 2) := dk_16 100 (dk_at dksX6_day_8 11 rfl rfl)
theorem dX6_day_201 : decode cX6_day 201 = .ok (.aload_n 0, 1) := dk_42 (dk_at dksX6_day_8 13 rfl rfl)
theorem dX6_day_202 : decode cX6_day 202 = .ok (.getfield 36, 3) := dk_180 0 36 (dk_at dksX6_day_8 14 rfl rfl)
theorem dX6_day_205 : decode cX6_day 205 = .ok (.aload_n 0, 1) := dk_42 (dk_at dksX6_day_8 17 rfl rfl)
theorem dX6_day_206 : decode cX6_day 206 = .ok (.getfield 36, 3) := dk_180 0 36 (dk_at dksX6_day_8 18 rfl rfl)
theorem dX6_day_209 : decode cX6_day 209 = .ok (.ifCond .le 7, 3) := dk_158 0 7 (dk_at dksX6_day_8 21 rfl rfl)
theorem dX6_day_212 : decode cX6_day 212 = .ok (.iconst 1, 1) := dk_4 (dk_at dksX6_day_9 0 rfl rfl)
theorem dX6_day_213 : decode cX6_day 213 = .ok (.goto 4, 3) := dk_167 0 4 (dk_at dksX6_day_9 1 rfl rfl)
theorem dX6_day_216 : decode cX6_day 216 = .ok (.iconst 0, 1) := dk_3 (dk_at dksX6_day_9 4 rfl rfl)
theorem dX6_day_217 : decode cX6_day 217 = .ok (.iadd, 1) := dk_96 (dk_at dksX6_day_9 5 rfl rfl)
theorem dX6_day_218 : decode cX6_day 218 = .ok (.iload_n 3, 1) := dk_29 (dk_at dksX6_day_9 6 rfl rfl)
theorem dX6_day_219 : decode cX6_day 219 = .ok (.ifCond .eq 13, 3) := dk_153 0 13 (dk_at dksX6_day_9 7 rfl rfl)
theorem dX6_day_222 : decode cX6_day 222 = .ok (.iload_n 1, 1) := dk_27 (dk_at dksX6_day_9 10 rfl rfl)
theorem dX6_day_223 : decode cX6_day 223 = .ok (.bipush 25, 2) := dk_16 25 (dk_at dksX6_day_9 11 rfl rfl)
theorem dX6_day_225 : decode cX6_day 225 = .ok (.if_icmp .lt 7, 3) := dk_161 0 7 (dk_at dksX6_day_9 13 rfl rfl)
theorem dX6_day_228 : decode cX6_day 228 = .ok (.iconst 2, 1) := dk_5 (dk_at dksX6_day_9 16 rfl rfl)
theorem dX6_day_229 : decode cX6_day 229 = .ok (.goto 4, 3) := dk_167 0 4 (dk_at dksX6_day_9 17 rfl rfl)
theorem dX6_day_232 : decode cX6_day 232 = .ok (.iconst 0, 1) := dk_3 (dk_at dksX6_day_9 20 rfl rfl)
theorem dX6_day_233 : decode cX6_day 233 = .ok (.iadd, 1) := dk_96 (dk_at dksX6_day_9 21 rfl rfl)
theorem dX6_day_234 : decode cX6_day 234 = .ok (.invokestatic 58, 3) := dk_184 0 58 (dk_at dksX6_day_10 0 rfl rfl)
theorem dX6_day_237 : decode cX6_day 237 = .ok (.putfield 36, 3) := dk_181 0 36 (dk_at dksX6_day_10 3 rfl rfl)
theorem dX6_day_240 : decode cX6_day 240 = .ok (.return_, 1) := dk_177 (dk_at dksX6_day_10 6 rfl rfl)
abbrev cX6_copy : ByteArray := prog_9_method_2_code
def yX6_copy : MethodName := ⟨RX6, "copy", "()LCanecrushModel$Field;"⟩
def dkwX6_copy_3 : List UInt8 := [180, 0, 43, 181, 0, 43, 43, 42, 180, 0, 46, 181, 0, 46, 43, 176]
abbrev dktX6_copy_3 : List UInt8 := dkwX6_copy_3 ++ []
def dkwX6_copy_2 : List UInt8 := [180, 0, 33, 181, 0, 33, 43, 42, 180, 0, 36, 181, 0, 36, 43, 42, 180, 0, 39, 181, 0, 39, 43, 42]
abbrev dktX6_copy_2 : List UInt8 := dkwX6_copy_2 ++ dktX6_copy_3
def dkwX6_copy_1 : List UInt8 := [180, 0, 27, 181, 0, 27, 43, 42, 180, 0, 9, 181, 0, 9, 43, 42, 180, 0, 30, 181, 0, 30, 43, 42]
abbrev dktX6_copy_1 : List UInt8 := dkwX6_copy_1 ++ dktX6_copy_2
def dkwX6_copy_0 : List UInt8 := [187, 0, 10, 89, 42, 180, 0, 15, 42, 180, 0, 18, 42, 180, 0, 21, 183, 0, 24, 76, 43, 42]
abbrev dktX6_copy_0 : List UInt8 := dkwX6_copy_0 ++ dktX6_copy_1
theorem dksX6_copy_0 : cX6_copy.data.toList.drop 0 = dktX6_copy_0 := by decide +kernel
theorem dksX6_copy_1 : cX6_copy.data.toList.drop 22 = dktX6_copy_1 := dk_seg dksX6_copy_0 22 rfl rfl
theorem dksX6_copy_2 : cX6_copy.data.toList.drop 46 = dktX6_copy_2 := dk_seg dksX6_copy_1 24 rfl rfl
theorem dksX6_copy_3 : cX6_copy.data.toList.drop 70 = dktX6_copy_3 := dk_seg dksX6_copy_2 24 rfl rfl
theorem dX6_copy_0 : decode cX6_copy 0 = .ok (.new 10, 3) := dk_187 0 10 (dk_at dksX6_copy_0 0 rfl rfl)
theorem dX6_copy_3 : decode cX6_copy 3 = .ok (.dup, 1) := dk_89 (dk_at dksX6_copy_0 3 rfl rfl)
theorem dX6_copy_4 : decode cX6_copy 4 = .ok (.aload_n 0, 1) := dk_42 (dk_at dksX6_copy_0 4 rfl rfl)
theorem dX6_copy_5 : decode cX6_copy 5 = .ok (.getfield 15, 3) := dk_180 0 15 (dk_at dksX6_copy_0 5 rfl rfl)
theorem dX6_copy_8 : decode cX6_copy 8 = .ok (.aload_n 0, 1) := dk_42 (dk_at dksX6_copy_0 8 rfl rfl)
theorem dX6_copy_9 : decode cX6_copy 9 = .ok (.getfield 18, 3) := dk_180 0 18 (dk_at dksX6_copy_0 9 rfl rfl)
theorem dX6_copy_12 : decode cX6_copy 12 = .ok (.aload_n 0, 1) := dk_42 (dk_at dksX6_copy_0 12 rfl rfl)
theorem dX6_copy_13 : decode cX6_copy 13 = .ok (.getfield 21, 3) := dk_180 0 21 (dk_at dksX6_copy_0 13 rfl rfl)
theorem dX6_copy_16 : decode cX6_copy 16 = .ok (.invokespecial 24, 3) := dk_183 0 24 (dk_at dksX6_copy_0 16 rfl rfl)
theorem dX6_copy_19 : decode cX6_copy 19 = .ok (.astore_n 1, 1) := dk_76 (dk_at dksX6_copy_0 19 rfl rfl)
theorem dX6_copy_20 : decode cX6_copy 20 = .ok (.aload_n 1, 1) := dk_43 (dk_at dksX6_copy_0 20 rfl rfl)
theorem dX6_copy_21 : decode cX6_copy 21 = .ok (.aload_n 0, 1) := dk_42 (dk_at dksX6_copy_0 21 rfl rfl)
theorem dX6_copy_22 : decode cX6_copy 22 = .ok (.getfield 27, 3) := dk_180 0 27 (dk_at dksX6_copy_1 0 rfl rfl)
theorem dX6_copy_25 : decode cX6_copy 25 = .ok (.putfield 27, 3) := dk_181 0 27 (dk_at dksX6_copy_1 3 rfl rfl)
theorem dX6_copy_28 : decode cX6_copy 28 = .ok (.aload_n 1, 1) := dk_43 (dk_at dksX6_copy_1 6 rfl rfl)
theorem dX6_copy_29 : decode cX6_copy 29 = .ok (.aload_n 0, 1) := dk_42 (dk_at dksX6_copy_1 7 rfl rfl)
theorem dX6_copy_30 : decode cX6_copy 30 = .ok (.getfield 9, 3) := dk_180 0 9 (dk_at dksX6_copy_1 8 rfl rfl)
theorem dX6_copy_33 : decode cX6_copy 33 = .ok (.putfield 9, 3) := dk_181 0 9 (dk_at dksX6_copy_1 11 rfl rfl)
theorem dX6_copy_36 : decode cX6_copy 36 = .ok (.aload_n 1, 1) := dk_43 (dk_at dksX6_copy_1 14 rfl rfl)
theorem dX6_copy_37 : decode cX6_copy 37 = .ok (.aload_n 0, 1) := dk_42 (dk_at dksX6_copy_1 15 rfl rfl)
theorem dX6_copy_38 : decode cX6_copy 38 = .ok (.getfield 30, 3) := dk_180 0 30 (dk_at dksX6_copy_1 16 rfl rfl)
theorem dX6_copy_41 : decode cX6_copy 41 = .ok (.putfield 30, 3) := dk_181 0 30 (dk_at dksX6_copy_1 19 rfl rfl)
theorem dX6_copy_44 : decode cX6_copy 44 = .ok (.aload_n 1, 1) := dk_43 (dk_at dksX6_copy_1 22 rfl rfl)
theorem dX6_copy_45 : decode cX6_copy 45 = .ok (.aload_n 0, 1) := dk_42 (dk_at dksX6_copy_1 23 rfl rfl)
theorem dX6_copy_46 : decode cX6_copy 46 = .ok (.getfield 33, 3) := dk_180 0 33 (dk_at dksX6_copy_2 0 rfl rfl)
theorem dX6_copy_49 : decode cX6_copy 49 = .ok (.putfield 33, 3) := dk_181 0 33 (dk_at dksX6_copy_2 3 rfl rfl)
theorem dX6_copy_52 : decode cX6_copy 52 = .ok (.aload_n 1, 1) := dk_43 (dk_at dksX6_copy_2 6 rfl rfl)
theorem dX6_copy_53 : decode cX6_copy 53 = .ok (.aload_n 0, 1) := dk_42 (dk_at dksX6_copy_2 7 rfl rfl)
theorem dX6_copy_54 : decode cX6_copy 54 = .ok (.getfield 36, 3) := dk_180 0 36 (dk_at dksX6_copy_2 8 rfl rfl)
theorem dX6_copy_57 : decode cX6_copy 57 = .ok (.putfield 36, 3) := dk_181 0 36 (dk_at dksX6_copy_2 11 rfl rfl)
theorem dX6_copy_60 : decode cX6_copy 60 = .ok (.aload_n 1, 1) := dk_43 (dk_at dksX6_copy_2 14 rfl rfl)
theorem dX6_copy_61 : decode cX6_copy 61 = .ok (.aload_n 0, 1) := dk_42 (dk_at dksX6_copy_2 15 rfl rfl)
theorem dX6_copy_62 : decode cX6_copy 62 = .ok (.getfield 39, 3) := dk_180 0 39 (dk_at dksX6_copy_2 16 rfl rfl)
theorem dX6_copy_65 : decode cX6_copy 65 = .ok (.putfield 39, 3) := dk_181 0 39 (dk_at dksX6_copy_2 19 rfl rfl)
theorem dX6_copy_68 : decode cX6_copy 68 = .ok (.aload_n 1, 1) := dk_43 (dk_at dksX6_copy_2 22 rfl rfl)
theorem dX6_copy_69 : decode cX6_copy 69 = .ok (.aload_n 0, 1) := dk_42 (dk_at dksX6_copy_2 23 rfl rfl)
theorem dX6_copy_70 : decode cX6_copy 70 = .ok (.getfield 43, 3) := dk_180 0 43 (dk_at dksX6_copy_3 0 rfl rfl)
theorem dX6_copy_73 : decode cX6_copy 73 = .ok (.putfield 43, 3) := dk_181 0 43 (dk_at dksX6_copy_3 3 rfl rfl)
theorem dX6_copy_76 : decode cX6_copy 76 = .ok (.aload_n 1, 1) := dk_43 (dk_at dksX6_copy_3 6 rfl rfl)
theorem dX6_copy_77 : decode cX6_copy 77 = .ok (.aload_n 0, 1) := dk_42 (dk_at dksX6_copy_3 7 rfl rfl)
theorem dX6_copy_78 : decode cX6_copy 78 = .ok (.getfield 46, 3) := dk_180 0 46 (dk_at dksX6_copy_3 8 rfl rfl)
theorem dX6_copy_81 : decode cX6_copy 81 = .ok (.putfield 46, 3) := dk_181 0 46 (dk_at dksX6_copy_3 11 rfl rfl)
theorem dX6_copy_84 : decode cX6_copy 84 = .ok (.aload_n 1, 1) := dk_43 (dk_at dksX6_copy_3 14 rfl rfl)
theorem dX6_copy_85 : decode cX6_copy 85 = .ok (.areturn, 1) := dk_176 (dk_at dksX6_copy_3 15 rfl rfl)
theorem q70 : (Jvm.Cond.initialized "CanecrushModel$Field") ∈ lw_all := lw_g (lw_at lw_m1 21 rfl) rfl
theorem q394 : (Jvm.Cond.selects "CanecrushModel$Field" ({ cls := "java/lang/Object", name := "getClass", desc := "()Ljava/lang/Class;" } : Jvm.MethodName) ({ cls := "java/lang/Object", name := "getClass", desc := "()Ljava/lang/Class;" } : Jvm.MethodName)) ∈ lw_all := lw_g (lw_at lw_m2 105 rfl) rfl
theorem q1079 : (Jvm.Cond.instantiable "CanecrushModel$Field" (11 : Nat)) ∈ lw_all := lw_g (lw_at lw_m5 70 rfl) rfl
theorem q1081 : (Jvm.Cond.instanceMethod ({ cls := "CanecrushModel$Field", name := "<init>", desc := "(III)V" } : Jvm.MethodName)) ∈ lw_all := lw_g (lw_at lw_m5 72 rfl) rfl
theorem q1082 : (Jvm.Cond.code ({ cls := "CanecrushModel$Field", name := "<init>", desc := "(III)V" } : Jvm.MethodName) prog_9_method_1_code (4 : Nat) (Option.none : Option Jvm.ClassFile.FieldType)) ∈ lw_all := lw_g (lw_at lw_m5 73 rfl) rfl
theorem q1083 : (Jvm.Cond.methodLink "CanecrushModel$Field" (3 : Nat) ({ cls := "java/lang/Object", name := "<init>", desc := "()V" } : Jvm.MethodName)) ∈ lw_all := lw_g (lw_at lw_m5 74 rfl) rfl
theorem q1084 : (Jvm.Cond.fieldLink "CanecrushModel$Field" (15 : Nat) "CanecrushModel$Field" "grower" "I") ∈ lw_all := lw_g (lw_at lw_m5 75 rfl) rfl
theorem q1086 : (Jvm.Cond.fieldLink "CanecrushModel$Field" (18 : Nat) "CanecrushModel$Field" "area" "I") ∈ lw_all := lw_g (lw_at lw_m5 77 rfl) rfl
theorem q1088 : (Jvm.Cond.fieldLink "CanecrushModel$Field" (21 : Nat) "CanecrushModel$Field" "far" "I") ∈ lw_all := lw_g (lw_at lw_m5 79 rfl) rfl
theorem q1091 : (Jvm.Cond.fieldLink "CanecrushModel$Field" (27 : Nat) "CanecrushModel$Field" "cane" "I") ∈ lw_all := lw_g (lw_at lw_m5 82 rfl) rfl
theorem q1093 : (Jvm.Cond.fieldLink "CanecrushModel$Field" (9 : Nat) "CanecrushModel$Field" "sweet" "I") ∈ lw_all := lw_g (lw_at lw_m5 84 rfl) rfl
theorem q1095 : (Jvm.Cond.fieldLink "CanecrushModel$Field" (30 : Nat) "CanecrushModel$Field" "age" "I") ∈ lw_all := lw_g (lw_at lw_m5 86 rfl) rfl
theorem q1097 : (Jvm.Cond.fieldLink "CanecrushModel$Field" (33 : Nat) "CanecrushModel$Field" "ratoons" "I") ∈ lw_all := lw_g (lw_at lw_m5 88 rfl) rfl
theorem q1099 : (Jvm.Cond.fieldLink "CanecrushModel$Field" (36 : Nat) "CanecrushModel$Field" "smut" "I") ∈ lw_all := lw_g (lw_at lw_m5 90 rfl) rfl
theorem q1102 : (Jvm.Cond.fieldLink "CanecrushModel$Field" (39 : Nat) "CanecrushModel$Field" "isLodged" "Z") ∈ lw_all := lw_g (lw_at lw_m5 93 rfl) rfl
theorem q1104 : (Jvm.Cond.fieldLink "CanecrushModel$Field" (43 : Nat) "CanecrushModel$Field" "isFrosted" "Z") ∈ lw_all := lw_g (lw_at lw_m5 95 rfl) rfl
theorem q1106 : (Jvm.Cond.fieldLink "CanecrushModel$Field" (46 : Nat) "CanecrushModel$Field" "isBurnt" "Z") ∈ lw_all := lw_g (lw_at lw_m5 97 rfl) rfl
theorem q1108 : (Jvm.Cond.laysFinal "CanecrushModel$Field" "CanecrushModel$Field" "grower" "I") ∈ lw_all := lw_g (lw_at lw_m5 99 rfl) rfl
theorem q1109 : (Jvm.Cond.soleField "CanecrushModel$Field" "grower") ∈ lw_all := lw_g (lw_at lw_m5 100 rfl) rfl
theorem q1110 : (Jvm.Cond.laysFinal "CanecrushModel$Field" "CanecrushModel$Field" "area" "I") ∈ lw_all := lw_g (lw_at lw_m5 101 rfl) rfl
theorem q1111 : (Jvm.Cond.soleField "CanecrushModel$Field" "area") ∈ lw_all := lw_g (lw_at lw_m5 102 rfl) rfl
theorem q1112 : (Jvm.Cond.laysFinal "CanecrushModel$Field" "CanecrushModel$Field" "far" "I") ∈ lw_all := lw_g (lw_at lw_m5 103 rfl) rfl
theorem q1113 : (Jvm.Cond.soleField "CanecrushModel$Field" "far") ∈ lw_all := lw_g (lw_at lw_m5 104 rfl) rfl
theorem q1114 : (Jvm.Cond.lays "CanecrushModel$Field" "CanecrushModel$Field" "cane" "I") ∈ lw_all := lw_g (lw_at lw_m5 105 rfl) rfl
theorem q1115 : (Jvm.Cond.soleField "CanecrushModel$Field" "cane") ∈ lw_all := lw_g (lw_at lw_m5 106 rfl) rfl
theorem q1116 : (Jvm.Cond.lays "CanecrushModel$Field" "CanecrushModel$Field" "sweet" "I") ∈ lw_all := lw_g (lw_at lw_m5 107 rfl) rfl
theorem q1117 : (Jvm.Cond.soleField "CanecrushModel$Field" "sweet") ∈ lw_all := lw_g (lw_at lw_m5 108 rfl) rfl
theorem q1118 : (Jvm.Cond.lays "CanecrushModel$Field" "CanecrushModel$Field" "age" "I") ∈ lw_all := lw_g (lw_at lw_m5 109 rfl) rfl
theorem q1119 : (Jvm.Cond.soleField "CanecrushModel$Field" "age") ∈ lw_all := lw_g (lw_at lw_m5 110 rfl) rfl
theorem q1120 : (Jvm.Cond.lays "CanecrushModel$Field" "CanecrushModel$Field" "ratoons" "I") ∈ lw_all := lw_g (lw_at lw_m5 111 rfl) rfl
theorem q1121 : (Jvm.Cond.soleField "CanecrushModel$Field" "ratoons") ∈ lw_all := lw_g (lw_at lw_m5 112 rfl) rfl
theorem q1122 : (Jvm.Cond.lays "CanecrushModel$Field" "CanecrushModel$Field" "smut" "I") ∈ lw_all := lw_g (lw_at lw_m5 113 rfl) rfl
theorem q1123 : (Jvm.Cond.soleField "CanecrushModel$Field" "smut") ∈ lw_all := lw_g (lw_at lw_m5 114 rfl) rfl
theorem q1124 : (Jvm.Cond.lays "CanecrushModel$Field" "CanecrushModel$Field" "isLodged" "Z") ∈ lw_all := lw_g (lw_at lw_m5 115 rfl) rfl
theorem q1125 : (Jvm.Cond.soleField "CanecrushModel$Field" "isLodged") ∈ lw_all := lw_g (lw_at lw_m5 116 rfl) rfl
theorem q1126 : (Jvm.Cond.lays "CanecrushModel$Field" "CanecrushModel$Field" "isFrosted" "Z") ∈ lw_all := lw_g (lw_at lw_m5 117 rfl) rfl
theorem q1127 : (Jvm.Cond.soleField "CanecrushModel$Field" "isFrosted") ∈ lw_all := lw_g (lw_at lw_m5 118 rfl) rfl
theorem q1128 : (Jvm.Cond.lays "CanecrushModel$Field" "CanecrushModel$Field" "isBurnt" "Z") ∈ lw_all := lw_g (lw_at lw_m5 119 rfl) rfl
theorem q1129 : (Jvm.Cond.soleField "CanecrushModel$Field" "isBurnt") ∈ lw_all := lw_g (lw_at lw_m5 120 rfl) rfl
theorem q1130 : (Jvm.Cond.superclass "CanecrushModel$Field" "java/lang/Object") ∈ lw_all := lw_g (lw_at lw_m5 121 rfl) rfl
theorem q1230 : (Jvm.Cond.instanceMethod ({ cls := "CanecrushModel$Field", name := "again", desc := "()V" } : Jvm.MethodName)) ∈ lw_all := lw_g (lw_at lw_m5 221 rfl) rfl
theorem q1231 : (Jvm.Cond.selects "CanecrushModel$Field" ({ cls := "CanecrushModel$Field", name := "again", desc := "()V" } : Jvm.MethodName) ({ cls := "CanecrushModel$Field", name := "again", desc := "()V" } : Jvm.MethodName)) ∈ lw_all := lw_g (lw_at lw_m5 222 rfl) rfl
theorem q1232 : (Jvm.Cond.code ({ cls := "CanecrushModel$Field", name := "again", desc := "()V" } : Jvm.MethodName) prog_9_method_4_code (1 : Nat) (Option.none : Option Jvm.ClassFile.FieldType)) ∈ lw_all := lw_g (lw_at lw_m5 223 rfl) rfl
theorem q1363 : (Jvm.Cond.instanceMethod ({ cls := "CanecrushModel$Field", name := "day", desc := "(IIZ)V" } : Jvm.MethodName)) ∈ lw_all := lw_g (lw_at lw_m6 114 rfl) rfl
theorem q1364 : (Jvm.Cond.selects "CanecrushModel$Field" ({ cls := "CanecrushModel$Field", name := "day", desc := "(IIZ)V" } : Jvm.MethodName) ({ cls := "CanecrushModel$Field", name := "day", desc := "(IIZ)V" } : Jvm.MethodName)) ∈ lw_all := lw_g (lw_at lw_m6 115 rfl) rfl
theorem q1365 : (Jvm.Cond.code ({ cls := "CanecrushModel$Field", name := "day", desc := "(IIZ)V" } : Jvm.MethodName) prog_9_method_3_code (5 : Nat) (Option.none : Option Jvm.ClassFile.FieldType)) ∈ lw_all := lw_g (lw_at lw_m6 116 rfl) rfl
theorem q1366 : (Jvm.Cond.methodLink "CanecrushModel$Field" (49 : Nat) ({ cls := "java/lang/Math", name := "floorDiv", desc := "(II)I" } : Jvm.MethodName)) ∈ lw_all := lw_g (lw_at lw_m6 117 rfl) rfl
theorem q1367 : (Jvm.Cond.methodLink "CanecrushModel$Field" (55 : Nat) ({ cls := "java/lang/Math", name := "max", desc := "(II)I" } : Jvm.MethodName)) ∈ lw_all := lw_g (lw_at lw_m6 118 rfl) rfl
theorem q1368 : (Jvm.Cond.methodLink "CanecrushModel$Field" (58 : Nat) ({ cls := "java/lang/Math", name := "min", desc := "(II)I" } : Jvm.MethodName)) ∈ lw_all := lw_g (lw_at lw_m6 119 rfl) rfl
theorem q1369 : (Jvm.Cond.methodLinkNest "CanecrushModel$Field" (61 : Nat) ({ cls := "CanecrushModel", name := "held", desc := "(II)I" } : Jvm.MethodName) "CanecrushModel") ∈ lw_tbl := lw_at lw_m6 120 rfl
theorem q1445 : (Jvm.Cond.instanceMethod ({ cls := "CanecrushModel$Field", name := "copy", desc := "()LCanecrushModel$Field;" } : Jvm.MethodName)) ∈ lw_all := lw_g (lw_at lw_m6 196 rfl) rfl
theorem q1446 : (Jvm.Cond.selects "CanecrushModel$Field" ({ cls := "CanecrushModel$Field", name := "copy", desc := "()LCanecrushModel$Field;" } : Jvm.MethodName) ({ cls := "CanecrushModel$Field", name := "copy", desc := "()LCanecrushModel$Field;" } : Jvm.MethodName)) ∈ lw_all := lw_g (lw_at lw_m6 197 rfl) rfl
theorem q1447 : (Jvm.Cond.code ({ cls := "CanecrushModel$Field", name := "copy", desc := "()LCanecrushModel$Field;" } : Jvm.MethodName) prog_9_method_2_code (2 : Nat) (Option.some (Jvm.ClassFile.FieldType.object "CanecrushModel$Field"))) ∈ lw_all := lw_g (lw_at lw_m6 198 rfl) rfl
theorem q1448 : (Jvm.Cond.classLink "CanecrushModel$Field" (10 : Nat) "CanecrushModel$Field") ∈ lw_all := lw_g (lw_at lw_m6 199 rfl) rfl
theorem q1449 : (Jvm.Cond.methodLink "CanecrushModel$Field" (24 : Nat) ({ cls := "CanecrushModel$Field", name := "<init>", desc := "(III)V" } : Jvm.MethodName)) ∈ lw_all := lw_g (lw_at lw_m6 200 rfl) rfl
theorem q1527 : (Jvm.Cond.castable "CanecrushModel$Field" "java/lang/Object") ∈ lw_tbl := lw_at lw_m7 38 rfl
theorem in_X6 : ∀ w ∈ wsX60, w ∈ lw_all := lw_in wsX60 [1108, 1110, 1112, 1114, 1116, 1118, 1120, 1122, 1124, 1126, 1128] (by decide +kernel) (by decide +kernel)

/-! CanecrushModel$Truck -/
set_option maxRecDepth 100000
def RX8 : String := "CanecrushModel$Truck"
def TX8 : u_T := fun k => match k with
  | 0 => ("CanecrushModel$Truck", "at", "I", false)
  | 1 => ("CanecrushModel$Truck", "field", "I", false)
  | 2 => ("CanecrushModel$Truck", "load", "I", false)
  | _ => ("CanecrushModel$Truck", "hours", "I", false)
def tyX8 : Nat → FieldType := fun k => match k with
  | 0 => .int
  | 1 => .int
  | 2 => .int
  | _ => .int
abbrev wsX80 : List Cond := u_ws RX8 TX8 4
theorem nmX8 : ∀ a, a < 4 → ∀ b, b < 4 → a ≠ b → (TX8 a).2.1 ≠ (TX8 b).2.1 := by decide +kernel
theorem tyX8_ok : ∀ k, k < 4 → parseFieldDescriptor (TX8 k).2.2.1 = some (tyX8 k) := by decide +kernel
abbrev cX8_init : ByteArray := prog_11_method_1_code
def yX8_init : MethodName := ⟨RX8, "<init>", "()V"⟩
def dkwX8_init_0 : List UInt8 := [42, 183, 0, 3, 42, 3, 181, 0, 9, 42, 2, 181, 0, 15, 42, 2, 181, 0, 18, 177]
abbrev dktX8_init_0 : List UInt8 := dkwX8_init_0 ++ []
theorem dksX8_init_0 : cX8_init.data.toList.drop 0 = dktX8_init_0 := by decide +kernel
theorem dX8_init_0 : decode cX8_init 0 = .ok (.aload_n 0, 1) := dk_42 (dk_at dksX8_init_0 0 rfl rfl)
theorem dX8_init_1 : decode cX8_init 1 = .ok (.invokespecial 3, 3) := dk_183 0 3 (dk_at dksX8_init_0 1 rfl rfl)
theorem dX8_init_4 : decode cX8_init 4 = .ok (.aload_n 0, 1) := dk_42 (dk_at dksX8_init_0 4 rfl rfl)
theorem dX8_init_5 : decode cX8_init 5 = .ok (.iconst 0, 1) := dk_3 (dk_at dksX8_init_0 5 rfl rfl)
theorem dX8_init_6 : decode cX8_init 6 = .ok (.putfield 9, 3) := dk_181 0 9 (dk_at dksX8_init_0 6 rfl rfl)
theorem dX8_init_9 : decode cX8_init 9 = .ok (.aload_n 0, 1) := dk_42 (dk_at dksX8_init_0 9 rfl rfl)
theorem dX8_init_10 : decode cX8_init 10 = .ok (.iconst (-1), 1) := dk_2 (dk_at dksX8_init_0 10 rfl rfl)
theorem dX8_init_11 : decode cX8_init 11 = .ok (.putfield 15, 3) := dk_181 0 15 (dk_at dksX8_init_0 11 rfl rfl)
theorem dX8_init_14 : decode cX8_init 14 = .ok (.aload_n 0, 1) := dk_42 (dk_at dksX8_init_0 14 rfl rfl)
theorem dX8_init_15 : decode cX8_init 15 = .ok (.iconst (-1), 1) := dk_2 (dk_at dksX8_init_0 15 rfl rfl)
theorem dX8_init_16 : decode cX8_init 16 = .ok (.putfield 18, 3) := dk_181 0 18 (dk_at dksX8_init_0 16 rfl rfl)
theorem dX8_init_19 : decode cX8_init 19 = .ok (.return_, 1) := dk_177 (dk_at dksX8_init_0 19 rfl rfl)
abbrev cX8_copy : ByteArray := prog_11_method_2_code
def yX8_copy : MethodName := ⟨RX8, "copy", "()LCanecrushModel$Truck;"⟩
def dkwX8_copy_1 : List UInt8 := [43, 42, 180, 0, 18, 181, 0, 18, 43, 42, 180, 0, 22, 181, 0, 22, 43, 176]
abbrev dktX8_copy_1 : List UInt8 := dkwX8_copy_1 ++ []
def dkwX8_copy_0 : List UInt8 := [187, 0, 10, 89, 183, 0, 21, 76, 43, 42, 180, 0, 9, 181, 0, 9, 43, 42, 180, 0, 15, 181, 0, 15]
abbrev dktX8_copy_0 : List UInt8 := dkwX8_copy_0 ++ dktX8_copy_1
theorem dksX8_copy_0 : cX8_copy.data.toList.drop 0 = dktX8_copy_0 := by decide +kernel
theorem dksX8_copy_1 : cX8_copy.data.toList.drop 24 = dktX8_copy_1 := dk_seg dksX8_copy_0 24 rfl rfl
theorem dX8_copy_0 : decode cX8_copy 0 = .ok (.new 10, 3) := dk_187 0 10 (dk_at dksX8_copy_0 0 rfl rfl)
theorem dX8_copy_3 : decode cX8_copy 3 = .ok (.dup, 1) := dk_89 (dk_at dksX8_copy_0 3 rfl rfl)
theorem dX8_copy_4 : decode cX8_copy 4 = .ok (.invokespecial 21, 3) := dk_183 0 21 (dk_at dksX8_copy_0 4 rfl rfl)
theorem dX8_copy_7 : decode cX8_copy 7 = .ok (.astore_n 1, 1) := dk_76 (dk_at dksX8_copy_0 7 rfl rfl)
theorem dX8_copy_8 : decode cX8_copy 8 = .ok (.aload_n 1, 1) := dk_43 (dk_at dksX8_copy_0 8 rfl rfl)
theorem dX8_copy_9 : decode cX8_copy 9 = .ok (.aload_n 0, 1) := dk_42 (dk_at dksX8_copy_0 9 rfl rfl)
theorem dX8_copy_10 : decode cX8_copy 10 = .ok (.getfield 9, 3) := dk_180 0 9 (dk_at dksX8_copy_0 10 rfl rfl)
theorem dX8_copy_13 : decode cX8_copy 13 = .ok (.putfield 9, 3) := dk_181 0 9 (dk_at dksX8_copy_0 13 rfl rfl)
theorem dX8_copy_16 : decode cX8_copy 16 = .ok (.aload_n 1, 1) := dk_43 (dk_at dksX8_copy_0 16 rfl rfl)
theorem dX8_copy_17 : decode cX8_copy 17 = .ok (.aload_n 0, 1) := dk_42 (dk_at dksX8_copy_0 17 rfl rfl)
theorem dX8_copy_18 : decode cX8_copy 18 = .ok (.getfield 15, 3) := dk_180 0 15 (dk_at dksX8_copy_0 18 rfl rfl)
theorem dX8_copy_21 : decode cX8_copy 21 = .ok (.putfield 15, 3) := dk_181 0 15 (dk_at dksX8_copy_0 21 rfl rfl)
theorem dX8_copy_24 : decode cX8_copy 24 = .ok (.aload_n 1, 1) := dk_43 (dk_at dksX8_copy_1 0 rfl rfl)
theorem dX8_copy_25 : decode cX8_copy 25 = .ok (.aload_n 0, 1) := dk_42 (dk_at dksX8_copy_1 1 rfl rfl)
theorem dX8_copy_26 : decode cX8_copy 26 = .ok (.getfield 18, 3) := dk_180 0 18 (dk_at dksX8_copy_1 2 rfl rfl)
theorem dX8_copy_29 : decode cX8_copy 29 = .ok (.putfield 18, 3) := dk_181 0 18 (dk_at dksX8_copy_1 5 rfl rfl)
theorem dX8_copy_32 : decode cX8_copy 32 = .ok (.aload_n 1, 1) := dk_43 (dk_at dksX8_copy_1 8 rfl rfl)
theorem dX8_copy_33 : decode cX8_copy 33 = .ok (.aload_n 0, 1) := dk_42 (dk_at dksX8_copy_1 9 rfl rfl)
theorem dX8_copy_34 : decode cX8_copy 34 = .ok (.getfield 22, 3) := dk_180 0 22 (dk_at dksX8_copy_1 10 rfl rfl)
theorem dX8_copy_37 : decode cX8_copy 37 = .ok (.putfield 22, 3) := dk_181 0 22 (dk_at dksX8_copy_1 13 rfl rfl)
theorem dX8_copy_40 : decode cX8_copy 40 = .ok (.aload_n 1, 1) := dk_43 (dk_at dksX8_copy_1 16 rfl rfl)
theorem dX8_copy_41 : decode cX8_copy 41 = .ok (.areturn, 1) := dk_176 (dk_at dksX8_copy_1 17 rfl rfl)
theorem q72 : (Jvm.Cond.initialized "CanecrushModel$Truck") ∈ lw_all := lw_g (lw_at lw_m1 23 rfl) rfl
theorem q396 : (Jvm.Cond.selects "CanecrushModel$Truck" ({ cls := "java/lang/Object", name := "getClass", desc := "()Ljava/lang/Class;" } : Jvm.MethodName) ({ cls := "java/lang/Object", name := "getClass", desc := "()Ljava/lang/Class;" } : Jvm.MethodName)) ∈ lw_all := lw_g (lw_at lw_m2 107 rfl) rfl
theorem q1137 : (Jvm.Cond.instantiable "CanecrushModel$Truck" (4 : Nat)) ∈ lw_all := lw_g (lw_at lw_m5 128 rfl) rfl
theorem q1139 : (Jvm.Cond.instanceMethod ({ cls := "CanecrushModel$Truck", name := "<init>", desc := "()V" } : Jvm.MethodName)) ∈ lw_all := lw_g (lw_at lw_m5 130 rfl) rfl
theorem q1140 : (Jvm.Cond.code ({ cls := "CanecrushModel$Truck", name := "<init>", desc := "()V" } : Jvm.MethodName) prog_11_method_1_code (1 : Nat) (Option.none : Option Jvm.ClassFile.FieldType)) ∈ lw_all := lw_g (lw_at lw_m5 131 rfl) rfl
theorem q1141 : (Jvm.Cond.methodLink "CanecrushModel$Truck" (3 : Nat) ({ cls := "java/lang/Object", name := "<init>", desc := "()V" } : Jvm.MethodName)) ∈ lw_all := lw_g (lw_at lw_m5 132 rfl) rfl
theorem q1142 : (Jvm.Cond.fieldLink "CanecrushModel$Truck" (9 : Nat) "CanecrushModel$Truck" "at" "I") ∈ lw_all := lw_g (lw_at lw_m5 133 rfl) rfl
theorem q1145 : (Jvm.Cond.fieldLink "CanecrushModel$Truck" (15 : Nat) "CanecrushModel$Truck" "field" "I") ∈ lw_all := lw_g (lw_at lw_m5 136 rfl) rfl
theorem q1148 : (Jvm.Cond.fieldLink "CanecrushModel$Truck" (18 : Nat) "CanecrushModel$Truck" "load" "I") ∈ lw_all := lw_g (lw_at lw_m5 139 rfl) rfl
theorem q1151 : (Jvm.Cond.fieldLink "CanecrushModel$Truck" (22 : Nat) "CanecrushModel$Truck" "hours" "I") ∈ lw_all := lw_g (lw_at lw_m5 142 rfl) rfl
theorem q1154 : (Jvm.Cond.lays "CanecrushModel$Truck" "CanecrushModel$Truck" "at" "I") ∈ lw_all := lw_g (lw_at lw_m5 145 rfl) rfl
theorem q1155 : (Jvm.Cond.soleField "CanecrushModel$Truck" "at") ∈ lw_all := lw_g (lw_at lw_m5 146 rfl) rfl
theorem q1156 : (Jvm.Cond.lays "CanecrushModel$Truck" "CanecrushModel$Truck" "field" "I") ∈ lw_all := lw_g (lw_at lw_m5 147 rfl) rfl
theorem q1157 : (Jvm.Cond.soleField "CanecrushModel$Truck" "field") ∈ lw_all := lw_g (lw_at lw_m5 148 rfl) rfl
theorem q1158 : (Jvm.Cond.lays "CanecrushModel$Truck" "CanecrushModel$Truck" "load" "I") ∈ lw_all := lw_g (lw_at lw_m5 149 rfl) rfl
theorem q1159 : (Jvm.Cond.soleField "CanecrushModel$Truck" "load") ∈ lw_all := lw_g (lw_at lw_m5 150 rfl) rfl
theorem q1160 : (Jvm.Cond.lays "CanecrushModel$Truck" "CanecrushModel$Truck" "hours" "I") ∈ lw_all := lw_g (lw_at lw_m5 151 rfl) rfl
theorem q1161 : (Jvm.Cond.soleField "CanecrushModel$Truck" "hours") ∈ lw_all := lw_g (lw_at lw_m5 152 rfl) rfl
theorem q1162 : (Jvm.Cond.superclass "CanecrushModel$Truck" "java/lang/Object") ∈ lw_all := lw_g (lw_at lw_m5 153 rfl) rfl
theorem q1457 : (Jvm.Cond.instanceMethod ({ cls := "CanecrushModel$Truck", name := "copy", desc := "()LCanecrushModel$Truck;" } : Jvm.MethodName)) ∈ lw_all := lw_g (lw_at lw_m6 208 rfl) rfl
theorem q1458 : (Jvm.Cond.selects "CanecrushModel$Truck" ({ cls := "CanecrushModel$Truck", name := "copy", desc := "()LCanecrushModel$Truck;" } : Jvm.MethodName) ({ cls := "CanecrushModel$Truck", name := "copy", desc := "()LCanecrushModel$Truck;" } : Jvm.MethodName)) ∈ lw_all := lw_g (lw_at lw_m6 209 rfl) rfl
theorem q1459 : (Jvm.Cond.code ({ cls := "CanecrushModel$Truck", name := "copy", desc := "()LCanecrushModel$Truck;" } : Jvm.MethodName) prog_11_method_2_code (2 : Nat) (Option.some (Jvm.ClassFile.FieldType.object "CanecrushModel$Truck"))) ∈ lw_all := lw_g (lw_at lw_m6 210 rfl) rfl
theorem q1460 : (Jvm.Cond.classLink "CanecrushModel$Truck" (10 : Nat) "CanecrushModel$Truck") ∈ lw_all := lw_g (lw_at lw_m6 211 rfl) rfl
theorem q1461 : (Jvm.Cond.methodLink "CanecrushModel$Truck" (21 : Nat) ({ cls := "CanecrushModel$Truck", name := "<init>", desc := "()V" } : Jvm.MethodName)) ∈ lw_all := lw_g (lw_at lw_m6 212 rfl) rfl
theorem q1529 : (Jvm.Cond.castable "CanecrushModel$Truck" "java/lang/Object") ∈ lw_tbl := lw_at lw_m7 40 rfl
theorem in_X8 : ∀ w ∈ wsX80, w ∈ lw_all := lw_in wsX80 [1154, 1156, 1158, 1160] (by decide +kernel) (by decide +kernel)

/-! CanecrushModel$Load -/
set_option maxRecDepth 100000
def RX10 : String := "CanecrushModel$Load"
def TX10 : u_T := fun k => match k with
  | 0 => ("CanecrushModel$Load", "field", "I", true)
  | 1 => ("CanecrushModel$Load", "grower", "I", true)
  | 2 => ("CanecrushModel$Load", "tons", "I", true)
  | 3 => ("CanecrushModel$Load", "sweet", "I", false)
  | 4 => ("CanecrushModel$Load", "isBurnt", "Z", true)
  | 5 => ("CanecrushModel$Load", "cut", "I", true)
  | 6 => ("CanecrushModel$Load", "at", "I", false)
  | _ => ("CanecrushModel$Load", "crushed", "I", false)
def tyX10 : Nat → FieldType := fun k => match k with
  | 0 => .int
  | 1 => .int
  | 2 => .int
  | 3 => .int
  | 4 => .boolean
  | 5 => .int
  | 6 => .int
  | _ => .int
abbrev wsX100 : List Cond := u_ws RX10 TX10 8
theorem nmX10 : ∀ a, a < 8 → ∀ b, b < 8 → a ≠ b → (TX10 a).2.1 ≠ (TX10 b).2.1 := by decide +kernel
theorem tyX10_ok : ∀ k, k < 8 → parseFieldDescriptor (TX10 k).2.2.1 = some (tyX10 k) := by decide +kernel
abbrev cX10_init : ByteArray := prog_10_method_1_code
def yX10_init : MethodName := ⟨RX10, "<init>", "(IIIIZI)V"⟩
def dkwX10_init_1 : List UInt8 := [42, 29, 181, 0, 24, 42, 21, 4, 181, 0, 27, 42, 21, 5, 181, 0, 30, 42, 21, 6, 181, 0, 34, 177]
abbrev dktX10_init_1 : List UInt8 := dkwX10_init_1 ++ []
def dkwX10_init_0 : List UInt8 := [42, 183, 0, 3, 42, 3, 181, 0, 9, 42, 2, 181, 0, 15, 42, 27, 181, 0, 18, 42, 28, 181, 0, 21]
abbrev dktX10_init_0 : List UInt8 := dkwX10_init_0 ++ dktX10_init_1
theorem dksX10_init_0 : cX10_init.data.toList.drop 0 = dktX10_init_0 := by decide +kernel
theorem dksX10_init_1 : cX10_init.data.toList.drop 24 = dktX10_init_1 := dk_seg dksX10_init_0 24 rfl rfl
theorem dX10_init_0 : decode cX10_init 0 = .ok (.aload_n 0, 1) := dk_42 (dk_at dksX10_init_0 0 rfl rfl)
theorem dX10_init_1 : decode cX10_init 1 = .ok (.invokespecial 3, 3) := dk_183 0 3 (dk_at dksX10_init_0 1 rfl rfl)
theorem dX10_init_4 : decode cX10_init 4 = .ok (.aload_n 0, 1) := dk_42 (dk_at dksX10_init_0 4 rfl rfl)
theorem dX10_init_5 : decode cX10_init 5 = .ok (.iconst 0, 1) := dk_3 (dk_at dksX10_init_0 5 rfl rfl)
theorem dX10_init_6 : decode cX10_init 6 = .ok (.putfield 9, 3) := dk_181 0 9 (dk_at dksX10_init_0 6 rfl rfl)
theorem dX10_init_9 : decode cX10_init 9 = .ok (.aload_n 0, 1) := dk_42 (dk_at dksX10_init_0 9 rfl rfl)
theorem dX10_init_10 : decode cX10_init 10 = .ok (.iconst (-1), 1) := dk_2 (dk_at dksX10_init_0 10 rfl rfl)
theorem dX10_init_11 : decode cX10_init 11 = .ok (.putfield 15, 3) := dk_181 0 15 (dk_at dksX10_init_0 11 rfl rfl)
theorem dX10_init_14 : decode cX10_init 14 = .ok (.aload_n 0, 1) := dk_42 (dk_at dksX10_init_0 14 rfl rfl)
theorem dX10_init_15 : decode cX10_init 15 = .ok (.iload_n 1, 1) := dk_27 (dk_at dksX10_init_0 15 rfl rfl)
theorem dX10_init_16 : decode cX10_init 16 = .ok (.putfield 18, 3) := dk_181 0 18 (dk_at dksX10_init_0 16 rfl rfl)
theorem dX10_init_19 : decode cX10_init 19 = .ok (.aload_n 0, 1) := dk_42 (dk_at dksX10_init_0 19 rfl rfl)
theorem dX10_init_20 : decode cX10_init 20 = .ok (.iload_n 2, 1) := dk_28 (dk_at dksX10_init_0 20 rfl rfl)
theorem dX10_init_21 : decode cX10_init 21 = .ok (.putfield 21, 3) := dk_181 0 21 (dk_at dksX10_init_0 21 rfl rfl)
theorem dX10_init_24 : decode cX10_init 24 = .ok (.aload_n 0, 1) := dk_42 (dk_at dksX10_init_1 0 rfl rfl)
theorem dX10_init_25 : decode cX10_init 25 = .ok (.iload_n 3, 1) := dk_29 (dk_at dksX10_init_1 1 rfl rfl)
theorem dX10_init_26 : decode cX10_init 26 = .ok (.putfield 24, 3) := dk_181 0 24 (dk_at dksX10_init_1 2 rfl rfl)
theorem dX10_init_29 : decode cX10_init 29 = .ok (.aload_n 0, 1) := dk_42 (dk_at dksX10_init_1 5 rfl rfl)
theorem dX10_init_30 : decode cX10_init 30 = .ok (.iload 4, 2) := dk_21 4 (dk_at dksX10_init_1 6 rfl rfl)
theorem dX10_init_32 : decode cX10_init 32 = .ok (.putfield 27, 3) := dk_181 0 27 (dk_at dksX10_init_1 8 rfl rfl)
theorem dX10_init_35 : decode cX10_init 35 = .ok (.aload_n 0, 1) := dk_42 (dk_at dksX10_init_1 11 rfl rfl)
theorem dX10_init_36 : decode cX10_init 36 = .ok (.iload 5, 2) := dk_21 5 (dk_at dksX10_init_1 12 rfl rfl)
theorem dX10_init_38 : decode cX10_init 38 = .ok (.putfield 30, 3) := dk_181 0 30 (dk_at dksX10_init_1 14 rfl rfl)
theorem dX10_init_41 : decode cX10_init 41 = .ok (.aload_n 0, 1) := dk_42 (dk_at dksX10_init_1 17 rfl rfl)
theorem dX10_init_42 : decode cX10_init 42 = .ok (.iload 6, 2) := dk_21 6 (dk_at dksX10_init_1 18 rfl rfl)
theorem dX10_init_44 : decode cX10_init 44 = .ok (.putfield 34, 3) := dk_181 0 34 (dk_at dksX10_init_1 20 rfl rfl)
theorem dX10_init_47 : decode cX10_init 47 = .ok (.return_, 1) := dk_177 (dk_at dksX10_init_1 23 rfl rfl)
abbrev cX10_trash : ByteArray := prog_10_method_3_code
def yX10_trash : MethodName := ⟨RX10, "trash", "()I"⟩
def dkwX10_trash_0 : List UInt8 := [42, 180, 0, 30, 153, 0, 7, 5, 167, 0, 5, 16, 8, 172]
abbrev dktX10_trash_0 : List UInt8 := dkwX10_trash_0 ++ []
theorem dksX10_trash_0 : cX10_trash.data.toList.drop 0 = dktX10_trash_0 := by decide +kernel
theorem dX10_trash_0 : decode cX10_trash 0 = .ok (.aload_n 0, 1) := dk_42 (dk_at dksX10_trash_0 0 rfl rfl)
theorem dX10_trash_1 : decode cX10_trash 1 = .ok (.getfield 30, 3) := dk_180 0 30 (dk_at dksX10_trash_0 1 rfl rfl)
theorem dX10_trash_4 : decode cX10_trash 4 = .ok (.ifCond .eq 7, 3) := dk_153 0 7 (dk_at dksX10_trash_0 4 rfl rfl)
theorem dX10_trash_7 : decode cX10_trash 7 = .ok (.iconst 2, 1) := dk_5 (dk_at dksX10_trash_0 7 rfl rfl)
theorem dX10_trash_8 : decode cX10_trash 8 = .ok (.goto 5, 3) := dk_167 0 5 (dk_at dksX10_trash_0 8 rfl rfl)
theorem dX10_trash_11 : decode cX10_trash 11 = .ok (.bipush 8, 2) := dk_16 8 (dk_at dksX10_trash_0 11 rfl rfl)
theorem dX10_trash_13 : decode cX10_trash 13 = .ok (.ireturn, 1) := dk_172 (dk_at dksX10_trash_0 13 rfl rfl)
abbrev cX10_copy : ByteArray := prog_10_method_2_code
def yX10_copy : MethodName := ⟨RX10, "copy", "()LCanecrushModel$Load;"⟩
def dkwX10_copy_2 : List UInt8 := [43, 176]
abbrev dktX10_copy_2 : List UInt8 := dkwX10_copy_2 ++ []
def dkwX10_copy_1 : List UInt8 := [42, 180, 0, 34, 183, 0, 37, 76, 43, 42, 180, 0, 9, 181, 0, 9, 43, 42, 180, 0, 15, 181, 0, 15]
abbrev dktX10_copy_1 : List UInt8 := dkwX10_copy_1 ++ dktX10_copy_2
def dkwX10_copy_0 : List UInt8 := [187, 0, 10, 89, 42, 180, 0, 18, 42, 180, 0, 21, 42, 180, 0, 24, 42, 180, 0, 27, 42, 180, 0, 30]
abbrev dktX10_copy_0 : List UInt8 := dkwX10_copy_0 ++ dktX10_copy_1
theorem dksX10_copy_0 : cX10_copy.data.toList.drop 0 = dktX10_copy_0 := by decide +kernel
theorem dksX10_copy_1 : cX10_copy.data.toList.drop 24 = dktX10_copy_1 := dk_seg dksX10_copy_0 24 rfl rfl
theorem dksX10_copy_2 : cX10_copy.data.toList.drop 48 = dktX10_copy_2 := dk_seg dksX10_copy_1 24 rfl rfl
theorem dX10_copy_0 : decode cX10_copy 0 = .ok (.new 10, 3) := dk_187 0 10 (dk_at dksX10_copy_0 0 rfl rfl)
theorem dX10_copy_3 : decode cX10_copy 3 = .ok (.dup, 1) := dk_89 (dk_at dksX10_copy_0 3 rfl rfl)
theorem dX10_copy_4 : decode cX10_copy 4 = .ok (.aload_n 0, 1) := dk_42 (dk_at dksX10_copy_0 4 rfl rfl)
theorem dX10_copy_5 : decode cX10_copy 5 = .ok (.getfield 18, 3) := dk_180 0 18 (dk_at dksX10_copy_0 5 rfl rfl)
theorem dX10_copy_8 : decode cX10_copy 8 = .ok (.aload_n 0, 1) := dk_42 (dk_at dksX10_copy_0 8 rfl rfl)
theorem dX10_copy_9 : decode cX10_copy 9 = .ok (.getfield 21, 3) := dk_180 0 21 (dk_at dksX10_copy_0 9 rfl rfl)
theorem dX10_copy_12 : decode cX10_copy 12 = .ok (.aload_n 0, 1) := dk_42 (dk_at dksX10_copy_0 12 rfl rfl)
theorem dX10_copy_13 : decode cX10_copy 13 = .ok (.getfield 24, 3) := dk_180 0 24 (dk_at dksX10_copy_0 13 rfl rfl)
theorem dX10_copy_16 : decode cX10_copy 16 = .ok (.aload_n 0, 1) := dk_42 (dk_at dksX10_copy_0 16 rfl rfl)
theorem dX10_copy_17 : decode cX10_copy 17 = .ok (.getfield 27, 3) := dk_180 0 27 (dk_at dksX10_copy_0 17 rfl rfl)
theorem dX10_copy_20 : decode cX10_copy 20 = .ok (.aload_n 0, 1) := dk_42 (dk_at dksX10_copy_0 20 rfl rfl)
theorem dX10_copy_21 : decode cX10_copy 21 = .ok (.getfield 30, 3) := dk_180 0 30 (dk_at dksX10_copy_0 21 rfl rfl)
theorem dX10_copy_24 : decode cX10_copy 24 = .ok (.aload_n 0, 1) := dk_42 (dk_at dksX10_copy_1 0 rfl rfl)
theorem dX10_copy_25 : decode cX10_copy 25 = .ok (.getfield 34, 3) := dk_180 0 34 (dk_at dksX10_copy_1 1 rfl rfl)
theorem dX10_copy_28 : decode cX10_copy 28 = .ok (.invokespecial 37, 3) := dk_183 0 37 (dk_at dksX10_copy_1 4 rfl rfl)
theorem dX10_copy_31 : decode cX10_copy 31 = .ok (.astore_n 1, 1) := dk_76 (dk_at dksX10_copy_1 7 rfl rfl)
theorem dX10_copy_32 : decode cX10_copy 32 = .ok (.aload_n 1, 1) := dk_43 (dk_at dksX10_copy_1 8 rfl rfl)
theorem dX10_copy_33 : decode cX10_copy 33 = .ok (.aload_n 0, 1) := dk_42 (dk_at dksX10_copy_1 9 rfl rfl)
theorem dX10_copy_34 : decode cX10_copy 34 = .ok (.getfield 9, 3) := dk_180 0 9 (dk_at dksX10_copy_1 10 rfl rfl)
theorem dX10_copy_37 : decode cX10_copy 37 = .ok (.putfield 9, 3) := dk_181 0 9 (dk_at dksX10_copy_1 13 rfl rfl)
theorem dX10_copy_40 : decode cX10_copy 40 = .ok (.aload_n 1, 1) := dk_43 (dk_at dksX10_copy_1 16 rfl rfl)
theorem dX10_copy_41 : decode cX10_copy 41 = .ok (.aload_n 0, 1) := dk_42 (dk_at dksX10_copy_1 17 rfl rfl)
theorem dX10_copy_42 : decode cX10_copy 42 = .ok (.getfield 15, 3) := dk_180 0 15 (dk_at dksX10_copy_1 18 rfl rfl)
theorem dX10_copy_45 : decode cX10_copy 45 = .ok (.putfield 15, 3) := dk_181 0 15 (dk_at dksX10_copy_1 21 rfl rfl)
theorem dX10_copy_48 : decode cX10_copy 48 = .ok (.aload_n 1, 1) := dk_43 (dk_at dksX10_copy_2 0 rfl rfl)
theorem dX10_copy_49 : decode cX10_copy 49 = .ok (.areturn, 1) := dk_176 (dk_at dksX10_copy_2 1 rfl rfl)
theorem q76 : (Jvm.Cond.initialized "CanecrushModel$Load") ∈ lw_all := lw_g (lw_at lw_m1 27 rfl) rfl
theorem q395 : (Jvm.Cond.selects "CanecrushModel$Load" ({ cls := "java/lang/Object", name := "getClass", desc := "()Ljava/lang/Class;" } : Jvm.MethodName) ({ cls := "java/lang/Object", name := "getClass", desc := "()Ljava/lang/Class;" } : Jvm.MethodName)) ∈ lw_all := lw_g (lw_at lw_m2 106 rfl) rfl
theorem q1186 : (Jvm.Cond.instantiable "CanecrushModel$Load" (8 : Nat)) ∈ lw_all := lw_g (lw_at lw_m5 177 rfl) rfl
theorem q1188 : (Jvm.Cond.instanceMethod ({ cls := "CanecrushModel$Load", name := "<init>", desc := "(IIIIZI)V" } : Jvm.MethodName)) ∈ lw_all := lw_g (lw_at lw_m5 179 rfl) rfl
theorem q1189 : (Jvm.Cond.code ({ cls := "CanecrushModel$Load", name := "<init>", desc := "(IIIIZI)V" } : Jvm.MethodName) prog_10_method_1_code (7 : Nat) (Option.none : Option Jvm.ClassFile.FieldType)) ∈ lw_all := lw_g (lw_at lw_m5 180 rfl) rfl
theorem q1190 : (Jvm.Cond.methodLink "CanecrushModel$Load" (3 : Nat) ({ cls := "java/lang/Object", name := "<init>", desc := "()V" } : Jvm.MethodName)) ∈ lw_all := lw_g (lw_at lw_m5 181 rfl) rfl
theorem q1191 : (Jvm.Cond.fieldLink "CanecrushModel$Load" (18 : Nat) "CanecrushModel$Load" "field" "I") ∈ lw_all := lw_g (lw_at lw_m5 182 rfl) rfl
theorem q1194 : (Jvm.Cond.fieldLink "CanecrushModel$Load" (21 : Nat) "CanecrushModel$Load" "grower" "I") ∈ lw_all := lw_g (lw_at lw_m5 185 rfl) rfl
theorem q1196 : (Jvm.Cond.fieldLink "CanecrushModel$Load" (24 : Nat) "CanecrushModel$Load" "tons" "I") ∈ lw_all := lw_g (lw_at lw_m5 187 rfl) rfl
theorem q1199 : (Jvm.Cond.fieldLink "CanecrushModel$Load" (27 : Nat) "CanecrushModel$Load" "sweet" "I") ∈ lw_all := lw_g (lw_at lw_m5 190 rfl) rfl
theorem q1202 : (Jvm.Cond.fieldLink "CanecrushModel$Load" (30 : Nat) "CanecrushModel$Load" "isBurnt" "Z") ∈ lw_all := lw_g (lw_at lw_m5 193 rfl) rfl
theorem q1204 : (Jvm.Cond.fieldLink "CanecrushModel$Load" (34 : Nat) "CanecrushModel$Load" "cut" "I") ∈ lw_all := lw_g (lw_at lw_m5 195 rfl) rfl
theorem q1206 : (Jvm.Cond.fieldLink "CanecrushModel$Load" (9 : Nat) "CanecrushModel$Load" "at" "I") ∈ lw_all := lw_g (lw_at lw_m5 197 rfl) rfl
theorem q1209 : (Jvm.Cond.fieldLink "CanecrushModel$Load" (15 : Nat) "CanecrushModel$Load" "crushed" "I") ∈ lw_all := lw_g (lw_at lw_m5 200 rfl) rfl
theorem q1212 : (Jvm.Cond.laysFinal "CanecrushModel$Load" "CanecrushModel$Load" "field" "I") ∈ lw_all := lw_g (lw_at lw_m5 203 rfl) rfl
theorem q1213 : (Jvm.Cond.soleField "CanecrushModel$Load" "field") ∈ lw_all := lw_g (lw_at lw_m5 204 rfl) rfl
theorem q1214 : (Jvm.Cond.laysFinal "CanecrushModel$Load" "CanecrushModel$Load" "grower" "I") ∈ lw_all := lw_g (lw_at lw_m5 205 rfl) rfl
theorem q1215 : (Jvm.Cond.soleField "CanecrushModel$Load" "grower") ∈ lw_all := lw_g (lw_at lw_m5 206 rfl) rfl
theorem q1216 : (Jvm.Cond.laysFinal "CanecrushModel$Load" "CanecrushModel$Load" "tons" "I") ∈ lw_all := lw_g (lw_at lw_m5 207 rfl) rfl
theorem q1217 : (Jvm.Cond.soleField "CanecrushModel$Load" "tons") ∈ lw_all := lw_g (lw_at lw_m5 208 rfl) rfl
theorem q1218 : (Jvm.Cond.lays "CanecrushModel$Load" "CanecrushModel$Load" "sweet" "I") ∈ lw_all := lw_g (lw_at lw_m5 209 rfl) rfl
theorem q1219 : (Jvm.Cond.soleField "CanecrushModel$Load" "sweet") ∈ lw_all := lw_g (lw_at lw_m5 210 rfl) rfl
theorem q1220 : (Jvm.Cond.laysFinal "CanecrushModel$Load" "CanecrushModel$Load" "isBurnt" "Z") ∈ lw_all := lw_g (lw_at lw_m5 211 rfl) rfl
theorem q1221 : (Jvm.Cond.soleField "CanecrushModel$Load" "isBurnt") ∈ lw_all := lw_g (lw_at lw_m5 212 rfl) rfl
theorem q1222 : (Jvm.Cond.laysFinal "CanecrushModel$Load" "CanecrushModel$Load" "cut" "I") ∈ lw_all := lw_g (lw_at lw_m5 213 rfl) rfl
theorem q1223 : (Jvm.Cond.soleField "CanecrushModel$Load" "cut") ∈ lw_all := lw_g (lw_at lw_m5 214 rfl) rfl
theorem q1224 : (Jvm.Cond.lays "CanecrushModel$Load" "CanecrushModel$Load" "at" "I") ∈ lw_all := lw_g (lw_at lw_m5 215 rfl) rfl
theorem q1225 : (Jvm.Cond.soleField "CanecrushModel$Load" "at") ∈ lw_all := lw_g (lw_at lw_m5 216 rfl) rfl
theorem q1226 : (Jvm.Cond.lays "CanecrushModel$Load" "CanecrushModel$Load" "crushed" "I") ∈ lw_all := lw_g (lw_at lw_m5 217 rfl) rfl
theorem q1227 : (Jvm.Cond.soleField "CanecrushModel$Load" "crushed") ∈ lw_all := lw_g (lw_at lw_m5 218 rfl) rfl
theorem q1228 : (Jvm.Cond.superclass "CanecrushModel$Load" "java/lang/Object") ∈ lw_all := lw_g (lw_at lw_m5 219 rfl) rfl
theorem q1346 : (Jvm.Cond.instanceMethod ({ cls := "CanecrushModel$Load", name := "trash", desc := "()I" } : Jvm.MethodName)) ∈ lw_all := lw_g (lw_at lw_m6 97 rfl) rfl
theorem q1347 : (Jvm.Cond.selects "CanecrushModel$Load" ({ cls := "CanecrushModel$Load", name := "trash", desc := "()I" } : Jvm.MethodName) ({ cls := "CanecrushModel$Load", name := "trash", desc := "()I" } : Jvm.MethodName)) ∈ lw_all := lw_g (lw_at lw_m6 98 rfl) rfl
theorem q1348 : (Jvm.Cond.code ({ cls := "CanecrushModel$Load", name := "trash", desc := "()I" } : Jvm.MethodName) prog_10_method_3_code (1 : Nat) (Option.some Jvm.ClassFile.FieldType.int)) ∈ lw_all := lw_g (lw_at lw_m6 99 rfl) rfl
theorem q1451 : (Jvm.Cond.instanceMethod ({ cls := "CanecrushModel$Load", name := "copy", desc := "()LCanecrushModel$Load;" } : Jvm.MethodName)) ∈ lw_all := lw_g (lw_at lw_m6 202 rfl) rfl
theorem q1452 : (Jvm.Cond.selects "CanecrushModel$Load" ({ cls := "CanecrushModel$Load", name := "copy", desc := "()LCanecrushModel$Load;" } : Jvm.MethodName) ({ cls := "CanecrushModel$Load", name := "copy", desc := "()LCanecrushModel$Load;" } : Jvm.MethodName)) ∈ lw_all := lw_g (lw_at lw_m6 203 rfl) rfl
theorem q1453 : (Jvm.Cond.code ({ cls := "CanecrushModel$Load", name := "copy", desc := "()LCanecrushModel$Load;" } : Jvm.MethodName) prog_10_method_2_code (2 : Nat) (Option.some (Jvm.ClassFile.FieldType.object "CanecrushModel$Load"))) ∈ lw_all := lw_g (lw_at lw_m6 204 rfl) rfl
theorem q1454 : (Jvm.Cond.classLink "CanecrushModel$Load" (10 : Nat) "CanecrushModel$Load") ∈ lw_all := lw_g (lw_at lw_m6 205 rfl) rfl
theorem q1455 : (Jvm.Cond.methodLink "CanecrushModel$Load" (37 : Nat) ({ cls := "CanecrushModel$Load", name := "<init>", desc := "(IIIIZI)V" } : Jvm.MethodName)) ∈ lw_all := lw_g (lw_at lw_m6 206 rfl) rfl
theorem q1531 : (Jvm.Cond.castable "CanecrushModel$Load" "java/lang/Object") ∈ lw_tbl := lw_at lw_m7 42 rfl
theorem in_X10 : ∀ w ∈ wsX100, w ∈ lw_all := lw_in wsX100 [1212, 1214, 1216, 1218, 1220, 1222, 1224, 1226] (by decide +kernel) (by decide +kernel)
