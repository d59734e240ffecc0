/-! CanecrushLaw -/
set_option maxRecDepth 100000
def RX0 : String := "CanecrushLaw"
abbrev cX0_field : ByteArray := method_3_code
def yX0_field : MethodName := ⟨RX0, "field", "(LCanecrush;III[J)I"⟩
def dkwX0_field_1 : List UInt8 := [58, 5, 6, 172, 3, 172]
abbrev dktX0_field_1 : List UInt8 := dkwX0_field_1 ++ []
def dkwX0_field_0 : List UInt8 := [25, 4, 3, 42, 27, 28, 29, 182, 0, 7, 133, 80, 167, 0, 15, 58, 5, 4, 172, 58, 5, 5, 172]
abbrev dktX0_field_0 : List UInt8 := dkwX0_field_0 ++ dktX0_field_1
theorem dksX0_field_0 : cX0_field.data.toList.drop 0 = dktX0_field_0 := by decide +kernel
theorem dksX0_field_1 : cX0_field.data.toList.drop 23 = dktX0_field_1 := dk_seg dksX0_field_0 23 rfl rfl
theorem dX0_field_0 : decode cX0_field 0 = .ok (.aload 4, 2) := dk_25 4 (dk_at dksX0_field_0 0 rfl rfl)
theorem dX0_field_2 : decode cX0_field 2 = .ok (.iconst 0, 1) := dk_3 (dk_at dksX0_field_0 2 rfl rfl)
theorem dX0_field_3 : decode cX0_field 3 = .ok (.aload_n 0, 1) := dk_42 (dk_at dksX0_field_0 3 rfl rfl)
theorem dX0_field_4 : decode cX0_field 4 = .ok (.iload_n 1, 1) := dk_27 (dk_at dksX0_field_0 4 rfl rfl)
theorem dX0_field_5 : decode cX0_field 5 = .ok (.iload_n 2, 1) := dk_28 (dk_at dksX0_field_0 5 rfl rfl)
theorem dX0_field_6 : decode cX0_field 6 = .ok (.iload_n 3, 1) := dk_29 (dk_at dksX0_field_0 6 rfl rfl)
theorem dX0_field_7 : decode cX0_field 7 = .ok (.invokevirtual 7, 3) := dk_182 0 7 (dk_at dksX0_field_0 7 rfl rfl)
theorem dX0_field_10 : decode cX0_field 10 = .ok (.i2l, 1) := dk_133 (dk_at dksX0_field_0 10 rfl rfl)
theorem dX0_field_11 : decode cX0_field 11 = .ok (.lastore, 1) := dk_80 (dk_at dksX0_field_0 11 rfl rfl)
theorem dX0_field_12 : decode cX0_field 12 = .ok (.goto 15, 3) := dk_167 0 15 (dk_at dksX0_field_0 12 rfl rfl)
theorem dX0_field_15 : decode cX0_field 15 = .ok (.astore 5, 2) := dk_58 5 (dk_at dksX0_field_0 15 rfl rfl)
theorem dX0_field_17 : decode cX0_field 17 = .ok (.iconst 1, 1) := dk_4 (dk_at dksX0_field_0 17 rfl rfl)
theorem dX0_field_18 : decode cX0_field 18 = .ok (.ireturn, 1) := dk_172 (dk_at dksX0_field_0 18 rfl rfl)
theorem dX0_field_19 : decode cX0_field 19 = .ok (.astore 5, 2) := dk_58 5 (dk_at dksX0_field_0 19 rfl rfl)
theorem dX0_field_21 : decode cX0_field 21 = .ok (.iconst 2, 1) := dk_5 (dk_at dksX0_field_0 21 rfl rfl)
theorem dX0_field_22 : decode cX0_field 22 = .ok (.ireturn, 1) := dk_172 (dk_at dksX0_field_0 22 rfl rfl)
theorem dX0_field_23 : decode cX0_field 23 = .ok (.astore 5, 2) := dk_58 5 (dk_at dksX0_field_1 0 rfl rfl)
theorem dX0_field_25 : decode cX0_field 25 = .ok (.iconst 3, 1) := dk_6 (dk_at dksX0_field_1 2 rfl rfl)
theorem dX0_field_26 : decode cX0_field 26 = .ok (.ireturn, 1) := dk_172 (dk_at dksX0_field_1 3 rfl rfl)
theorem dX0_field_27 : decode cX0_field 27 = .ok (.iconst 0, 1) := dk_3 (dk_at dksX0_field_1 4 rfl rfl)
theorem dX0_field_28 : decode cX0_field 28 = .ok (.ireturn, 1) := dk_172 (dk_at dksX0_field_1 5 rfl rfl)
abbrev cX0_truck : ByteArray := method_4_code
def yX0_truck : MethodName := ⟨RX0, "truck", "(LCanecrush;[J)I"⟩
def dkwX0_truck_0 : List UInt8 := [43, 3, 42, 182, 0, 19, 133, 80, 167, 0, 6, 77, 4, 172, 3, 172]
abbrev dktX0_truck_0 : List UInt8 := dkwX0_truck_0 ++ []
theorem dksX0_truck_0 : cX0_truck.data.toList.drop 0 = dktX0_truck_0 := by decide +kernel
theorem dX0_truck_0 : decode cX0_truck 0 = .ok (.aload_n 1, 1) := dk_43 (dk_at dksX0_truck_0 0 rfl rfl)
theorem dX0_truck_1 : decode cX0_truck 1 = .ok (.iconst 0, 1) := dk_3 (dk_at dksX0_truck_0 1 rfl rfl)
theorem dX0_truck_2 : decode cX0_truck 2 = .ok (.aload_n 0, 1) := dk_42 (dk_at dksX0_truck_0 2 rfl rfl)
theorem dX0_truck_3 : decode cX0_truck 3 = .ok (.invokevirtual 19, 3) := dk_182 0 19 (dk_at dksX0_truck_0 3 rfl rfl)
theorem dX0_truck_6 : decode cX0_truck 6 = .ok (.i2l, 1) := dk_133 (dk_at dksX0_truck_0 6 rfl rfl)
theorem dX0_truck_7 : decode cX0_truck 7 = .ok (.lastore, 1) := dk_80 (dk_at dksX0_truck_0 7 rfl rfl)
theorem dX0_truck_8 : decode cX0_truck 8 = .ok (.goto 6, 3) := dk_167 0 6 (dk_at dksX0_truck_0 8 rfl rfl)
theorem dX0_truck_11 : decode cX0_truck 11 = .ok (.astore_n 2, 1) := dk_77 (dk_at dksX0_truck_0 11 rfl rfl)
theorem dX0_truck_12 : decode cX0_truck 12 = .ok (.iconst 1, 1) := dk_4 (dk_at dksX0_truck_0 12 rfl rfl)
theorem dX0_truck_13 : decode cX0_truck 13 = .ok (.ireturn, 1) := dk_172 (dk_at dksX0_truck_0 13 rfl rfl)
theorem dX0_truck_14 : decode cX0_truck 14 = .ok (.iconst 0, 1) := dk_3 (dk_at dksX0_truck_0 14 rfl rfl)
theorem dX0_truck_15 : decode cX0_truck 15 = .ok (.ireturn, 1) := dk_172 (dk_at dksX0_truck_0 15 rfl rfl)
abbrev cX0_smut : ByteArray := method_5_code
def yX0_smut : MethodName := ⟨RX0, "smut", "(LCanecrush;II[J)I"⟩
def dkwX0_smut_0 : List UInt8 := [45, 3, 42, 27, 28, 182, 0, 23, 133, 80, 167, 0, 11, 58, 4, 4, 172, 58, 4, 5, 172, 3, 172]
abbrev dktX0_smut_0 : List UInt8 := dkwX0_smut_0 ++ []
theorem dksX0_smut_0 : cX0_smut.data.toList.drop 0 = dktX0_smut_0 := by decide +kernel
theorem dX0_smut_0 : decode cX0_smut 0 = .ok (.aload_n 3, 1) := dk_45 (dk_at dksX0_smut_0 0 rfl rfl)
theorem dX0_smut_1 : decode cX0_smut 1 = .ok (.iconst 0, 1) := dk_3 (dk_at dksX0_smut_0 1 rfl rfl)
theorem dX0_smut_2 : decode cX0_smut 2 = .ok (.aload_n 0, 1) := dk_42 (dk_at dksX0_smut_0 2 rfl rfl)
theorem dX0_smut_3 : decode cX0_smut 3 = .ok (.iload_n 1, 1) := dk_27 (dk_at dksX0_smut_0 3 rfl rfl)
theorem dX0_smut_4 : decode cX0_smut 4 = .ok (.iload_n 2, 1) := dk_28 (dk_at dksX0_smut_0 4 rfl rfl)
theorem dX0_smut_5 : decode cX0_smut 5 = .ok (.invokevirtual 23, 3) := dk_182 0 23 (dk_at dksX0_smut_0 5 rfl rfl)
theorem dX0_smut_8 : decode cX0_smut 8 = .ok (.i2l, 1) := dk_133 (dk_at dksX0_smut_0 8 rfl rfl)
theorem dX0_smut_9 : decode cX0_smut 9 = .ok (.lastore, 1) := dk_80 (dk_at dksX0_smut_0 9 rfl rfl)
theorem dX0_smut_10 : decode cX0_smut 10 = .ok (.goto 11, 3) := dk_167 0 11 (dk_at dksX0_smut_0 10 rfl rfl)
theorem dX0_smut_13 : decode cX0_smut 13 = .ok (.astore 4, 2) := dk_58 4 (dk_at dksX0_smut_0 13 rfl rfl)
theorem dX0_smut_15 : decode cX0_smut 15 = .ok (.iconst 1, 1) := dk_4 (dk_at dksX0_smut_0 15 rfl rfl)
theorem dX0_smut_16 : decode cX0_smut 16 = .ok (.ireturn, 1) := dk_172 (dk_at dksX0_smut_0 16 rfl rfl)
theorem dX0_smut_17 : decode cX0_smut 17 = .ok (.astore 4, 2) := dk_58 4 (dk_at dksX0_smut_0 17 rfl rfl)
theorem dX0_smut_19 : decode cX0_smut 19 = .ok (.iconst 2, 1) := dk_5 (dk_at dksX0_smut_0 19 rfl rfl)
theorem dX0_smut_20 : decode cX0_smut 20 = .ok (.ireturn, 1) := dk_172 (dk_at dksX0_smut_0 20 rfl rfl)
theorem dX0_smut_21 : decode cX0_smut 21 = .ok (.iconst 0, 1) := dk_3 (dk_at dksX0_smut_0 21 rfl rfl)
theorem dX0_smut_22 : decode cX0_smut 22 = .ok (.ireturn, 1) := dk_172 (dk_at dksX0_smut_0 22 rfl rfl)
abbrev cX0_set : ByteArray := method_6_code
def yX0_set : MethodName := ⟨RX0, "set", "(LCanecrush;III[J)I"⟩
def dkwX0_set_0 : List UInt8 := [25, 4, 3, 42, 27, 28, 29, 182, 0, 27, 133, 80, 167, 0, 7, 58, 5, 4, 172, 3, 172]
abbrev dktX0_set_0 : List UInt8 := dkwX0_set_0 ++ []
theorem dksX0_set_0 : cX0_set.data.toList.drop 0 = dktX0_set_0 := by decide +kernel
theorem dX0_set_0 : decode cX0_set 0 = .ok (.aload 4, 2) := dk_25 4 (dk_at dksX0_set_0 0 rfl rfl)
theorem dX0_set_2 : decode cX0_set 2 = .ok (.iconst 0, 1) := dk_3 (dk_at dksX0_set_0 2 rfl rfl)
theorem dX0_set_3 : decode cX0_set 3 = .ok (.aload_n 0, 1) := dk_42 (dk_at dksX0_set_0 3 rfl rfl)
theorem dX0_set_4 : decode cX0_set 4 = .ok (.iload_n 1, 1) := dk_27 (dk_at dksX0_set_0 4 rfl rfl)
theorem dX0_set_5 : decode cX0_set 5 = .ok (.iload_n 2, 1) := dk_28 (dk_at dksX0_set_0 5 rfl rfl)
theorem dX0_set_6 : decode cX0_set 6 = .ok (.iload_n 3, 1) := dk_29 (dk_at dksX0_set_0 6 rfl rfl)
theorem dX0_set_7 : decode cX0_set 7 = .ok (.invokevirtual 27, 3) := dk_182 0 27 (dk_at dksX0_set_0 7 rfl rfl)
theorem dX0_set_10 : decode cX0_set 10 = .ok (.i2l, 1) := dk_133 (dk_at dksX0_set_0 10 rfl rfl)
theorem dX0_set_11 : decode cX0_set 11 = .ok (.lastore, 1) := dk_80 (dk_at dksX0_set_0 11 rfl rfl)
theorem dX0_set_12 : decode cX0_set 12 = .ok (.goto 7, 3) := dk_167 0 7 (dk_at dksX0_set_0 12 rfl rfl)
theorem dX0_set_15 : decode cX0_set 15 = .ok (.astore 5, 2) := dk_58 5 (dk_at dksX0_set_0 15 rfl rfl)
theorem dX0_set_17 : decode cX0_set 17 = .ok (.iconst 1, 1) := dk_4 (dk_at dksX0_set_0 17 rfl rfl)
theorem dX0_set_18 : decode cX0_set 18 = .ok (.ireturn, 1) := dk_172 (dk_at dksX0_set_0 18 rfl rfl)
theorem dX0_set_19 : decode cX0_set 19 = .ok (.iconst 0, 1) := dk_3 (dk_at dksX0_set_0 19 rfl rfl)
theorem dX0_set_20 : decode cX0_set 20 = .ok (.ireturn, 1) := dk_172 (dk_at dksX0_set_0 20 rfl rfl)
abbrev cX0_burn : ByteArray := method_7_code
def yX0_burn : MethodName := ⟨RX0, "burn", "(LCanecrush;I[J)I"⟩
def dkwX0_burn_1 : List UInt8 := [172, 3, 172]
abbrev dktX0_burn_1 : List UInt8 := dkwX0_burn_1 ++ []
def dkwX0_burn_0 : List UInt8 := [44, 3, 42, 27, 182, 0, 30, 153, 0, 7, 10, 167, 0, 4, 9, 80, 167, 0, 9, 78, 4, 172, 78, 5]
abbrev dktX0_burn_0 : List UInt8 := dkwX0_burn_0 ++ dktX0_burn_1
theorem dksX0_burn_0 : cX0_burn.data.toList.drop 0 = dktX0_burn_0 := by decide +kernel
theorem dksX0_burn_1 : cX0_burn.data.toList.drop 24 = dktX0_burn_1 := dk_seg dksX0_burn_0 24 rfl rfl
theorem dX0_burn_0 : decode cX0_burn 0 = .ok (.aload_n 2, 1) := dk_44 (dk_at dksX0_burn_0 0 rfl rfl)
theorem dX0_burn_1 : decode cX0_burn 1 = .ok (.iconst 0, 1) := dk_3 (dk_at dksX0_burn_0 1 rfl rfl)
theorem dX0_burn_2 : decode cX0_burn 2 = .ok (.aload_n 0, 1) := dk_42 (dk_at dksX0_burn_0 2 rfl rfl)
theorem dX0_burn_3 : decode cX0_burn 3 = .ok (.iload_n 1, 1) := dk_27 (dk_at dksX0_burn_0 3 rfl rfl)
theorem dX0_burn_4 : decode cX0_burn 4 = .ok (.invokevirtual 30, 3) := dk_182 0 30 (dk_at dksX0_burn_0 4 rfl rfl)
theorem dX0_burn_7 : decode cX0_burn 7 = .ok (.ifCond .eq 7, 3) := dk_153 0 7 (dk_at dksX0_burn_0 7 rfl rfl)
theorem dX0_burn_10 : decode cX0_burn 10 = .ok (.lconst 1, 1) := dk_10 (dk_at dksX0_burn_0 10 rfl rfl)
theorem dX0_burn_11 : decode cX0_burn 11 = .ok (.goto 4, 3) := dk_167 0 4 (dk_at dksX0_burn_0 11 rfl rfl)
theorem dX0_burn_14 : decode cX0_burn 14 = .ok (.lconst 0, 1) := dk_9 (dk_at dksX0_burn_0 14 rfl rfl)
theorem dX0_burn_15 : decode cX0_burn 15 = .ok (.lastore, 1) := dk_80 (dk_at dksX0_burn_0 15 rfl rfl)
theorem dX0_burn_16 : decode cX0_burn 16 = .ok (.goto 9, 3) := dk_167 0 9 (dk_at dksX0_burn_0 16 rfl rfl)
theorem dX0_burn_19 : decode cX0_burn 19 = .ok (.astore_n 3, 1) := dk_78 (dk_at dksX0_burn_0 19 rfl rfl)
theorem dX0_burn_20 : decode cX0_burn 20 = .ok (.iconst 1, 1) := dk_4 (dk_at dksX0_burn_0 20 rfl rfl)
theorem dX0_burn_21 : decode cX0_burn 21 = .ok (.ireturn, 1) := dk_172 (dk_at dksX0_burn_0 21 rfl rfl)
theorem dX0_burn_22 : decode cX0_burn 22 = .ok (.astore_n 3, 1) := dk_78 (dk_at dksX0_burn_0 22 rfl rfl)
theorem dX0_burn_23 : decode cX0_burn 23 = .ok (.iconst 2, 1) := dk_5 (dk_at dksX0_burn_0 23 rfl rfl)
theorem dX0_burn_24 : decode cX0_burn 24 = .ok (.ireturn, 1) := dk_172 (dk_at dksX0_burn_1 0 rfl rfl)
theorem dX0_burn_25 : decode cX0_burn 25 = .ok (.iconst 0, 1) := dk_3 (dk_at dksX0_burn_1 1 rfl rfl)
theorem dX0_burn_26 : decode cX0_burn 26 = .ok (.ireturn, 1) := dk_172 (dk_at dksX0_burn_1 2 rfl rfl)
abbrev cX0_cut : ByteArray := method_8_code
def yX0_cut : MethodName := ⟨RX0, "cut", "(LCanecrush;II[J)I"⟩
def dkwX0_cut_1 : List UInt8 := [172, 3, 172]
abbrev dktX0_cut_1 : List UInt8 := dkwX0_cut_1 ++ []
def dkwX0_cut_0 : List UInt8 := [45, 3, 42, 27, 28, 182, 0, 34, 133, 80, 167, 0, 15, 58, 4, 4, 172, 58, 4, 5, 172, 58, 4, 6]
abbrev dktX0_cut_0 : List UInt8 := dkwX0_cut_0 ++ dktX0_cut_1
theorem dksX0_cut_0 : cX0_cut.data.toList.drop 0 = dktX0_cut_0 := by decide +kernel
theorem dksX0_cut_1 : cX0_cut.data.toList.drop 24 = dktX0_cut_1 := dk_seg dksX0_cut_0 24 rfl rfl
theorem dX0_cut_0 : decode cX0_cut 0 = .ok (.aload_n 3, 1) := dk_45 (dk_at dksX0_cut_0 0 rfl rfl)
theorem dX0_cut_1 : decode cX0_cut 1 = .ok (.iconst 0, 1) := dk_3 (dk_at dksX0_cut_0 1 rfl rfl)
theorem dX0_cut_2 : decode cX0_cut 2 = .ok (.aload_n 0, 1) := dk_42 (dk_at dksX0_cut_0 2 rfl rfl)
theorem dX0_cut_3 : decode cX0_cut 3 = .ok (.iload_n 1, 1) := dk_27 (dk_at dksX0_cut_0 3 rfl rfl)
theorem dX0_cut_4 : decode cX0_cut 4 = .ok (.iload_n 2, 1) := dk_28 (dk_at dksX0_cut_0 4 rfl rfl)
theorem dX0_cut_5 : decode cX0_cut 5 = .ok (.invokevirtual 34, 3) := dk_182 0 34 (dk_at dksX0_cut_0 5 rfl rfl)
theorem dX0_cut_8 : decode cX0_cut 8 = .ok (.i2l, 1) := dk_133 (dk_at dksX0_cut_0 8 rfl rfl)
theorem dX0_cut_9 : decode cX0_cut 9 = .ok (.lastore, 1) := dk_80 (dk_at dksX0_cut_0 9 rfl rfl)
theorem dX0_cut_10 : decode cX0_cut 10 = .ok (.goto 15, 3) := dk_167 0 15 (dk_at dksX0_cut_0 10 rfl rfl)
theorem dX0_cut_13 : decode cX0_cut 13 = .ok (.astore 4, 2) := dk_58 4 (dk_at dksX0_cut_0 13 rfl rfl)
theorem dX0_cut_15 : decode cX0_cut 15 = .ok (.iconst 1, 1) := dk_4 (dk_at dksX0_cut_0 15 rfl rfl)
theorem dX0_cut_16 : decode cX0_cut 16 = .ok (.ireturn, 1) := dk_172 (dk_at dksX0_cut_0 16 rfl rfl)
theorem dX0_cut_17 : decode cX0_cut 17 = .ok (.astore 4, 2) := dk_58 4 (dk_at dksX0_cut_0 17 rfl rfl)
theorem dX0_cut_19 : decode cX0_cut 19 = .ok (.iconst 2, 1) := dk_5 (dk_at dksX0_cut_0 19 rfl rfl)
theorem dX0_cut_20 : decode cX0_cut 20 = .ok (.ireturn, 1) := dk_172 (dk_at dksX0_cut_0 20 rfl rfl)
theorem dX0_cut_21 : decode cX0_cut 21 = .ok (.astore 4, 2) := dk_58 4 (dk_at dksX0_cut_0 21 rfl rfl)
theorem dX0_cut_23 : decode cX0_cut 23 = .ok (.iconst 3, 1) := dk_6 (dk_at dksX0_cut_0 23 rfl rfl)
theorem dX0_cut_24 : decode cX0_cut 24 = .ok (.ireturn, 1) := dk_172 (dk_at dksX0_cut_1 0 rfl rfl)
theorem dX0_cut_25 : decode cX0_cut 25 = .ok (.iconst 0, 1) := dk_3 (dk_at dksX0_cut_1 1 rfl rfl)
theorem dX0_cut_26 : decode cX0_cut 26 = .ok (.ireturn, 1) := dk_172 (dk_at dksX0_cut_1 2 rfl rfl)
abbrev cX0_send : ByteArray := method_9_code
def yX0_send : MethodName := ⟨RX0, "send", "(LCanecrush;II[J)I"⟩
def dkwX0_send_0 : List UInt8 := [45, 3, 42, 27, 28, 182, 0, 37, 133, 80, 167, 0, 11, 58, 4, 4, 172, 58, 4, 5, 172, 3, 172]
abbrev dktX0_send_0 : List UInt8 := dkwX0_send_0 ++ []
theorem dksX0_send_0 : cX0_send.data.toList.drop 0 = dktX0_send_0 := by decide +kernel
theorem dX0_send_0 : decode cX0_send 0 = .ok (.aload_n 3, 1) := dk_45 (dk_at dksX0_send_0 0 rfl rfl)
theorem dX0_send_1 : decode cX0_send 1 = .ok (.iconst 0, 1) := dk_3 (dk_at dksX0_send_0 1 rfl rfl)
theorem dX0_send_2 : decode cX0_send 2 = .ok (.aload_n 0, 1) := dk_42 (dk_at dksX0_send_0 2 rfl rfl)
theorem dX0_send_3 : decode cX0_send 3 = .ok (.iload_n 1, 1) := dk_27 (dk_at dksX0_send_0 3 rfl rfl)
theorem dX0_send_4 : decode cX0_send 4 = .ok (.iload_n 2, 1) := dk_28 (dk_at dksX0_send_0 4 rfl rfl)
theorem dX0_send_5 : decode cX0_send 5 = .ok (.invokevirtual 37, 3) := dk_182 0 37 (dk_at dksX0_send_0 5 rfl rfl)
theorem dX0_send_8 : decode cX0_send 8 = .ok (.i2l, 1) := dk_133 (dk_at dksX0_send_0 8 rfl rfl)
theorem dX0_send_9 : decode cX0_send 9 = .ok (.lastore, 1) := dk_80 (dk_at dksX0_send_0 9 rfl rfl)
theorem dX0_send_10 : decode cX0_send 10 = .ok (.goto 11, 3) := dk_167 0 11 (dk_at dksX0_send_0 10 rfl rfl)
theorem dX0_send_13 : decode cX0_send 13 = .ok (.astore 4, 2) := dk_58 4 (dk_at dksX0_send_0 13 rfl rfl)
theorem dX0_send_15 : decode cX0_send 15 = .ok (.iconst 1, 1) := dk_4 (dk_at dksX0_send_0 15 rfl rfl)
theorem dX0_send_16 : decode cX0_send 16 = .ok (.ireturn, 1) := dk_172 (dk_at dksX0_send_0 16 rfl rfl)
theorem dX0_send_17 : decode cX0_send 17 = .ok (.astore 4, 2) := dk_58 4 (dk_at dksX0_send_0 17 rfl rfl)
theorem dX0_send_19 : decode cX0_send 19 = .ok (.iconst 2, 1) := dk_5 (dk_at dksX0_send_0 19 rfl rfl)
theorem dX0_send_20 : decode cX0_send 20 = .ok (.ireturn, 1) := dk_172 (dk_at dksX0_send_0 20 rfl rfl)
theorem dX0_send_21 : decode cX0_send 21 = .ok (.iconst 0, 1) := dk_3 (dk_at dksX0_send_0 21 rfl rfl)
theorem dX0_send_22 : decode cX0_send 22 = .ok (.ireturn, 1) := dk_172 (dk_at dksX0_send_0 22 rfl rfl)
abbrev cX0_recall : ByteArray := method_10_code
def yX0_recall : MethodName := ⟨RX0, "recall", "(LCanecrush;I[J)I"⟩
def dkwX0_recall_0 : List UInt8 := [44, 3, 42, 27, 182, 0, 40, 133, 80, 167, 0, 9, 78, 4, 172, 78, 5, 172, 3, 172]
abbrev dktX0_recall_0 : List UInt8 := dkwX0_recall_0 ++ []
theorem dksX0_recall_0 : cX0_recall.data.toList.drop 0 = dktX0_recall_0 := by decide +kernel
theorem dX0_recall_0 : decode cX0_recall 0 = .ok (.aload_n 2, 1) := dk_44 (dk_at dksX0_recall_0 0 rfl rfl)
theorem dX0_recall_1 : decode cX0_recall 1 = .ok (.iconst 0, 1) := dk_3 (dk_at dksX0_recall_0 1 rfl rfl)
theorem dX0_recall_2 : decode cX0_recall 2 = .ok (.aload_n 0, 1) := dk_42 (dk_at dksX0_recall_0 2 rfl rfl)
theorem dX0_recall_3 : decode cX0_recall 3 = .ok (.iload_n 1, 1) := dk_27 (dk_at dksX0_recall_0 3 rfl rfl)
theorem dX0_recall_4 : decode cX0_recall 4 = .ok (.invokevirtual 40, 3) := dk_182 0 40 (dk_at dksX0_recall_0 4 rfl rfl)
theorem dX0_recall_7 : decode cX0_recall 7 = .ok (.i2l, 1) := dk_133 (dk_at dksX0_recall_0 7 rfl rfl)
theorem dX0_recall_8 : decode cX0_recall 8 = .ok (.lastore, 1) := dk_80 (dk_at dksX0_recall_0 8 rfl rfl)
theorem dX0_recall_9 : decode cX0_recall 9 = .ok (.goto 9, 3) := dk_167 0 9 (dk_at dksX0_recall_0 9 rfl rfl)
theorem dX0_recall_12 : decode cX0_recall 12 = .ok (.astore_n 3, 1) := dk_78 (dk_at dksX0_recall_0 12 rfl rfl)
theorem dX0_recall_13 : decode cX0_recall 13 = .ok (.iconst 1, 1) := dk_4 (dk_at dksX0_recall_0 13 rfl rfl)
theorem dX0_recall_14 : decode cX0_recall 14 = .ok (.ireturn, 1) := dk_172 (dk_at dksX0_recall_0 14 rfl rfl)
theorem dX0_recall_15 : decode cX0_recall 15 = .ok (.astore_n 3, 1) := dk_78 (dk_at dksX0_recall_0 15 rfl rfl)
theorem dX0_recall_16 : decode cX0_recall 16 = .ok (.iconst 2, 1) := dk_5 (dk_at dksX0_recall_0 16 rfl rfl)
theorem dX0_recall_17 : decode cX0_recall 17 = .ok (.ireturn, 1) := dk_172 (dk_at dksX0_recall_0 17 rfl rfl)
theorem dX0_recall_18 : decode cX0_recall 18 = .ok (.iconst 0, 1) := dk_3 (dk_at dksX0_recall_0 18 rfl rfl)
theorem dX0_recall_19 : decode cX0_recall 19 = .ok (.ireturn, 1) := dk_172 (dk_at dksX0_recall_0 19 rfl rfl)
abbrev cX0_start : ByteArray := method_11_code
def yX0_start : MethodName := ⟨RX0, "start", "(LCanecrush;[J)I"⟩
def dkwX0_start_0 : List UInt8 := [43, 3, 42, 182, 0, 44, 133, 80, 167, 0, 6, 77, 4, 172, 3, 172]
abbrev dktX0_start_0 : List UInt8 := dkwX0_start_0 ++ []
theorem dksX0_start_0 : cX0_start.data.toList.drop 0 = dktX0_start_0 := by decide +kernel
theorem dX0_start_0 : decode cX0_start 0 = .ok (.aload_n 1, 1) := dk_43 (dk_at dksX0_start_0 0 rfl rfl)
theorem dX0_start_1 : decode cX0_start 1 = .ok (.iconst 0, 1) := dk_3 (dk_at dksX0_start_0 1 rfl rfl)
theorem dX0_start_2 : decode cX0_start 2 = .ok (.aload_n 0, 1) := dk_42 (dk_at dksX0_start_0 2 rfl rfl)
theorem dX0_start_3 : decode cX0_start 3 = .ok (.invokevirtual 44, 3) := dk_182 0 44 (dk_at dksX0_start_0 3 rfl rfl)
theorem dX0_start_6 : decode cX0_start 6 = .ok (.i2l, 1) := dk_133 (dk_at dksX0_start_0 6 rfl rfl)
theorem dX0_start_7 : decode cX0_start 7 = .ok (.lastore, 1) := dk_80 (dk_at dksX0_start_0 7 rfl rfl)
theorem dX0_start_8 : decode cX0_start 8 = .ok (.goto 6, 3) := dk_167 0 6 (dk_at dksX0_start_0 8 rfl rfl)
theorem dX0_start_11 : decode cX0_start 11 = .ok (.astore_n 2, 1) := dk_77 (dk_at dksX0_start_0 11 rfl rfl)
theorem dX0_start_12 : decode cX0_start 12 = .ok (.iconst 1, 1) := dk_4 (dk_at dksX0_start_0 12 rfl rfl)
theorem dX0_start_13 : decode cX0_start 13 = .ok (.ireturn, 1) := dk_172 (dk_at dksX0_start_0 13 rfl rfl)
theorem dX0_start_14 : decode cX0_start 14 = .ok (.iconst 0, 1) := dk_3 (dk_at dksX0_start_0 14 rfl rfl)
theorem dX0_start_15 : decode cX0_start 15 = .ok (.ireturn, 1) := dk_172 (dk_at dksX0_start_0 15 rfl rfl)
abbrev cX0_boil : ByteArray := method_12_code
def yX0_boil : MethodName := ⟨RX0, "boil", "(LCanecrush;I[J)I"⟩
def dkwX0_boil_0 : List UInt8 := [44, 3, 42, 27, 182, 0, 47, 133, 80, 167, 0, 9, 78, 4, 172, 78, 5, 172, 3, 172]
abbrev dktX0_boil_0 : List UInt8 := dkwX0_boil_0 ++ []
theorem dksX0_boil_0 : cX0_boil.data.toList.drop 0 = dktX0_boil_0 := by decide +kernel
theorem dX0_boil_0 : decode cX0_boil 0 = .ok (.aload_n 2, 1) := dk_44 (dk_at dksX0_boil_0 0 rfl rfl)
theorem dX0_boil_1 : decode cX0_boil 1 = .ok (.iconst 0, 1) := dk_3 (dk_at dksX0_boil_0 1 rfl rfl)
theorem dX0_boil_2 : decode cX0_boil 2 = .ok (.aload_n 0, 1) := dk_42 (dk_at dksX0_boil_0 2 rfl rfl)
theorem dX0_boil_3 : decode cX0_boil 3 = .ok (.iload_n 1, 1) := dk_27 (dk_at dksX0_boil_0 3 rfl rfl)
theorem dX0_boil_4 : decode cX0_boil 4 = .ok (.invokevirtual 47, 3) := dk_182 0 47 (dk_at dksX0_boil_0 4 rfl rfl)
theorem dX0_boil_7 : decode cX0_boil 7 = .ok (.i2l, 1) := dk_133 (dk_at dksX0_boil_0 7 rfl rfl)
theorem dX0_boil_8 : decode cX0_boil 8 = .ok (.lastore, 1) := dk_80 (dk_at dksX0_boil_0 8 rfl rfl)
theorem dX0_boil_9 : decode cX0_boil 9 = .ok (.goto 9, 3) := dk_167 0 9 (dk_at dksX0_boil_0 9 rfl rfl)
theorem dX0_boil_12 : decode cX0_boil 12 = .ok (.astore_n 3, 1) := dk_78 (dk_at dksX0_boil_0 12 rfl rfl)
theorem dX0_boil_13 : decode cX0_boil 13 = .ok (.iconst 1, 1) := dk_4 (dk_at dksX0_boil_0 13 rfl rfl)
theorem dX0_boil_14 : decode cX0_boil 14 = .ok (.ireturn, 1) := dk_172 (dk_at dksX0_boil_0 14 rfl rfl)
theorem dX0_boil_15 : decode cX0_boil 15 = .ok (.astore_n 3, 1) := dk_78 (dk_at dksX0_boil_0 15 rfl rfl)
theorem dX0_boil_16 : decode cX0_boil 16 = .ok (.iconst 2, 1) := dk_5 (dk_at dksX0_boil_0 16 rfl rfl)
theorem dX0_boil_17 : decode cX0_boil 17 = .ok (.ireturn, 1) := dk_172 (dk_at dksX0_boil_0 17 rfl rfl)
theorem dX0_boil_18 : decode cX0_boil 18 = .ok (.iconst 0, 1) := dk_3 (dk_at dksX0_boil_0 18 rfl rfl)
theorem dX0_boil_19 : decode cX0_boil 19 = .ok (.ireturn, 1) := dk_172 (dk_at dksX0_boil_0 19 rfl rfl)
abbrev cX0_distil : ByteArray := method_13_code
def yX0_distil : MethodName := ⟨RX0, "distil", "(LCanecrush;[J)I"⟩
def dkwX0_distil_0 : List UInt8 := [43, 3, 42, 182, 0, 50, 133, 80, 167, 0, 6, 77, 4, 172, 3, 172]
abbrev dktX0_distil_0 : List UInt8 := dkwX0_distil_0 ++ []
theorem dksX0_distil_0 : cX0_distil.data.toList.drop 0 = dktX0_distil_0 := by decide +kernel
theorem dX0_distil_0 : decode cX0_distil 0 = .ok (.aload_n 1, 1) := dk_43 (dk_at dksX0_distil_0 0 rfl rfl)
theorem dX0_distil_1 : decode cX0_distil 1 = .ok (.iconst 0, 1) := dk_3 (dk_at dksX0_distil_0 1 rfl rfl)
theorem dX0_distil_2 : decode cX0_distil 2 = .ok (.aload_n 0, 1) := dk_42 (dk_at dksX0_distil_0 2 rfl rfl)
theorem dX0_distil_3 : decode cX0_distil 3 = .ok (.invokevirtual 50, 3) := dk_182 0 50 (dk_at dksX0_distil_0 3 rfl rfl)
theorem dX0_distil_6 : decode cX0_distil 6 = .ok (.i2l, 1) := dk_133 (dk_at dksX0_distil_0 6 rfl rfl)
theorem dX0_distil_7 : decode cX0_distil 7 = .ok (.lastore, 1) := dk_80 (dk_at dksX0_distil_0 7 rfl rfl)
theorem dX0_distil_8 : decode cX0_distil 8 = .ok (.goto 6, 3) := dk_167 0 6 (dk_at dksX0_distil_0 8 rfl rfl)
theorem dX0_distil_11 : decode cX0_distil 11 = .ok (.astore_n 2, 1) := dk_77 (dk_at dksX0_distil_0 11 rfl rfl)
theorem dX0_distil_12 : decode cX0_distil 12 = .ok (.iconst 1, 1) := dk_4 (dk_at dksX0_distil_0 12 rfl rfl)
theorem dX0_distil_13 : decode cX0_distil 13 = .ok (.ireturn, 1) := dk_172 (dk_at dksX0_distil_0 13 rfl rfl)
theorem dX0_distil_14 : decode cX0_distil 14 = .ok (.iconst 0, 1) := dk_3 (dk_at dksX0_distil_0 14 rfl rfl)
theorem dX0_distil_15 : decode cX0_distil 15 = .ok (.ireturn, 1) := dk_172 (dk_at dksX0_distil_0 15 rfl rfl)
abbrev cX0_sell : ByteArray := method_14_code
def yX0_sell : MethodName := ⟨RX0, "sell", "(LCanecrush;II[J)I"⟩
def dkwX0_sell_1 : List UInt8 := [172, 3, 172]
abbrev dktX0_sell_1 : List UInt8 := dkwX0_sell_1 ++ []
def dkwX0_sell_0 : List UInt8 := [45, 3, 42, 27, 28, 182, 0, 53, 133, 80, 167, 0, 15, 58, 4, 4, 172, 58, 4, 5, 172, 58, 4, 6]
abbrev dktX0_sell_0 : List UInt8 := dkwX0_sell_0 ++ dktX0_sell_1
theorem dksX0_sell_0 : cX0_sell.data.toList.drop 0 = dktX0_sell_0 := by decide +kernel
theorem dksX0_sell_1 : cX0_sell.data.toList.drop 24 = dktX0_sell_1 := dk_seg dksX0_sell_0 24 rfl rfl
theorem dX0_sell_0 : decode cX0_sell 0 = .ok (.aload_n 3, 1) := dk_45 (dk_at dksX0_sell_0 0 rfl rfl)
theorem dX0_sell_1 : decode cX0_sell 1 = .ok (.iconst 0, 1) := dk_3 (dk_at dksX0_sell_0 1 rfl rfl)
theorem dX0_sell_2 : decode cX0_sell 2 = .ok (.aload_n 0, 1) := dk_42 (dk_at dksX0_sell_0 2 rfl rfl)
theorem dX0_sell_3 : decode cX0_sell 3 = .ok (.iload_n 1, 1) := dk_27 (dk_at dksX0_sell_0 3 rfl rfl)
theorem dX0_sell_4 : decode cX0_sell 4 = .ok (.iload_n 2, 1) := dk_28 (dk_at dksX0_sell_0 4 rfl rfl)
theorem dX0_sell_5 : decode cX0_sell 5 = .ok (.invokevirtual 53, 3) := dk_182 0 53 (dk_at dksX0_sell_0 5 rfl rfl)
theorem dX0_sell_8 : decode cX0_sell 8 = .ok (.i2l, 1) := dk_133 (dk_at dksX0_sell_0 8 rfl rfl)
theorem dX0_sell_9 : decode cX0_sell 9 = .ok (.lastore, 1) := dk_80 (dk_at dksX0_sell_0 9 rfl rfl)
theorem dX0_sell_10 : decode cX0_sell 10 = .ok (.goto 15, 3) := dk_167 0 15 (dk_at dksX0_sell_0 10 rfl rfl)
theorem dX0_sell_13 : decode cX0_sell 13 = .ok (.astore 4, 2) := dk_58 4 (dk_at dksX0_sell_0 13 rfl rfl)
theorem dX0_sell_15 : decode cX0_sell 15 = .ok (.iconst 1, 1) := dk_4 (dk_at dksX0_sell_0 15 rfl rfl)
theorem dX0_sell_16 : decode cX0_sell 16 = .ok (.ireturn, 1) := dk_172 (dk_at dksX0_sell_0 16 rfl rfl)
theorem dX0_sell_17 : decode cX0_sell 17 = .ok (.astore 4, 2) := dk_58 4 (dk_at dksX0_sell_0 17 rfl rfl)
theorem dX0_sell_19 : decode cX0_sell 19 = .ok (.iconst 2, 1) := dk_5 (dk_at dksX0_sell_0 19 rfl rfl)
theorem dX0_sell_20 : decode cX0_sell 20 = .ok (.ireturn, 1) := dk_172 (dk_at dksX0_sell_0 20 rfl rfl)
theorem dX0_sell_21 : decode cX0_sell 21 = .ok (.astore 4, 2) := dk_58 4 (dk_at dksX0_sell_0 21 rfl rfl)
theorem dX0_sell_23 : decode cX0_sell 23 = .ok (.iconst 3, 1) := dk_6 (dk_at dksX0_sell_0 23 rfl rfl)
theorem dX0_sell_24 : decode cX0_sell 24 = .ok (.ireturn, 1) := dk_172 (dk_at dksX0_sell_1 0 rfl rfl)
theorem dX0_sell_25 : decode cX0_sell 25 = .ok (.iconst 0, 1) := dk_3 (dk_at dksX0_sell_1 1 rfl rfl)
theorem dX0_sell_26 : decode cX0_sell 26 = .ok (.ireturn, 1) := dk_172 (dk_at dksX0_sell_1 2 rfl rfl)
abbrev cX0_pay : ByteArray := method_15_code
def yX0_pay : MethodName := ⟨RX0, "pay", "(LCanecrush;I[J)I"⟩
def dkwX0_pay_0 : List UInt8 := [44, 3, 42, 27, 182, 0, 56, 133, 80, 167, 0, 9, 78, 4, 172, 78, 5, 172, 3, 172]
abbrev dktX0_pay_0 : List UInt8 := dkwX0_pay_0 ++ []
theorem dksX0_pay_0 : cX0_pay.data.toList.drop 0 = dktX0_pay_0 := by decide +kernel
theorem dX0_pay_0 : decode cX0_pay 0 = .ok (.aload_n 2, 1) := dk_44 (dk_at dksX0_pay_0 0 rfl rfl)
theorem dX0_pay_1 : decode cX0_pay 1 = .ok (.iconst 0, 1) := dk_3 (dk_at dksX0_pay_0 1 rfl rfl)
theorem dX0_pay_2 : decode cX0_pay 2 = .ok (.aload_n 0, 1) := dk_42 (dk_at dksX0_pay_0 2 rfl rfl)
theorem dX0_pay_3 : decode cX0_pay 3 = .ok (.iload_n 1, 1) := dk_27 (dk_at dksX0_pay_0 3 rfl rfl)
theorem dX0_pay_4 : decode cX0_pay 4 = .ok (.invokevirtual 56, 3) := dk_182 0 56 (dk_at dksX0_pay_0 4 rfl rfl)
theorem dX0_pay_7 : decode cX0_pay 7 = .ok (.i2l, 1) := dk_133 (dk_at dksX0_pay_0 7 rfl rfl)
theorem dX0_pay_8 : decode cX0_pay 8 = .ok (.lastore, 1) := dk_80 (dk_at dksX0_pay_0 8 rfl rfl)
theorem dX0_pay_9 : decode cX0_pay 9 = .ok (.goto 9, 3) := dk_167 0 9 (dk_at dksX0_pay_0 9 rfl rfl)
theorem dX0_pay_12 : decode cX0_pay 12 = .ok (.astore_n 3, 1) := dk_78 (dk_at dksX0_pay_0 12 rfl rfl)
theorem dX0_pay_13 : decode cX0_pay 13 = .ok (.iconst 1, 1) := dk_4 (dk_at dksX0_pay_0 13 rfl rfl)
theorem dX0_pay_14 : decode cX0_pay 14 = .ok (.ireturn, 1) := dk_172 (dk_at dksX0_pay_0 14 rfl rfl)
theorem dX0_pay_15 : decode cX0_pay 15 = .ok (.astore_n 3, 1) := dk_78 (dk_at dksX0_pay_0 15 rfl rfl)
theorem dX0_pay_16 : decode cX0_pay 16 = .ok (.iconst 2, 1) := dk_5 (dk_at dksX0_pay_0 16 rfl rfl)
theorem dX0_pay_17 : decode cX0_pay 17 = .ok (.ireturn, 1) := dk_172 (dk_at dksX0_pay_0 17 rfl rfl)
theorem dX0_pay_18 : decode cX0_pay 18 = .ok (.iconst 0, 1) := dk_3 (dk_at dksX0_pay_0 18 rfl rfl)
theorem dX0_pay_19 : decode cX0_pay 19 = .ok (.ireturn, 1) := dk_172 (dk_at dksX0_pay_0 19 rfl rfl)
abbrev cX0_pass : ByteArray := method_16_code
def yX0_pass : MethodName := ⟨RX0, "pass", "(LCanecrush;III[J)I"⟩
def dkwX0_pass_0 : List UInt8 := [25, 4, 3, 42, 27, 28, 29, 182, 0, 59, 133, 80, 167, 0, 7, 58, 5, 4, 172, 3, 172]
abbrev dktX0_pass_0 : List UInt8 := dkwX0_pass_0 ++ []
theorem dksX0_pass_0 : cX0_pass.data.toList.drop 0 = dktX0_pass_0 := by decide +kernel
theorem dX0_pass_0 : decode cX0_pass 0 = .ok (.aload 4, 2) := dk_25 4 (dk_at dksX0_pass_0 0 rfl rfl)
theorem dX0_pass_2 : decode cX0_pass 2 = .ok (.iconst 0, 1) := dk_3 (dk_at dksX0_pass_0 2 rfl rfl)
theorem dX0_pass_3 : decode cX0_pass 3 = .ok (.aload_n 0, 1) := dk_42 (dk_at dksX0_pass_0 3 rfl rfl)
theorem dX0_pass_4 : decode cX0_pass 4 = .ok (.iload_n 1, 1) := dk_27 (dk_at dksX0_pass_0 4 rfl rfl)
theorem dX0_pass_5 : decode cX0_pass 5 = .ok (.iload_n 2, 1) := dk_28 (dk_at dksX0_pass_0 5 rfl rfl)
theorem dX0_pass_6 : decode cX0_pass 6 = .ok (.iload_n 3, 1) := dk_29 (dk_at dksX0_pass_0 6 rfl rfl)
theorem dX0_pass_7 : decode cX0_pass 7 = .ok (.invokevirtual 59, 3) := dk_182 0 59 (dk_at dksX0_pass_0 7 rfl rfl)
theorem dX0_pass_10 : decode cX0_pass 10 = .ok (.i2l, 1) := dk_133 (dk_at dksX0_pass_0 10 rfl rfl)
theorem dX0_pass_11 : decode cX0_pass 11 = .ok (.lastore, 1) := dk_80 (dk_at dksX0_pass_0 11 rfl rfl)
theorem dX0_pass_12 : decode cX0_pass 12 = .ok (.goto 7, 3) := dk_167 0 7 (dk_at dksX0_pass_0 12 rfl rfl)
theorem dX0_pass_15 : decode cX0_pass 15 = .ok (.astore 5, 2) := dk_58 5 (dk_at dksX0_pass_0 15 rfl rfl)
theorem dX0_pass_17 : decode cX0_pass 17 = .ok (.iconst 1, 1) := dk_4 (dk_at dksX0_pass_0 17 rfl rfl)
theorem dX0_pass_18 : decode cX0_pass 18 = .ok (.ireturn, 1) := dk_172 (dk_at dksX0_pass_0 18 rfl rfl)
theorem dX0_pass_19 : decode cX0_pass 19 = .ok (.iconst 0, 1) := dk_3 (dk_at dksX0_pass_0 19 rfl rfl)
theorem dX0_pass_20 : decode cX0_pass 20 = .ok (.ireturn, 1) := dk_172 (dk_at dksX0_pass_0 20 rfl rfl)
abbrev cX0_ofField : ByteArray := method_17_code
def yX0_ofField : MethodName := ⟨RX0, "ofField", "(LCanecrush;II[J)I"⟩
def dkwX0_ofField_0 : List UInt8 := [45, 3, 42, 27, 28, 182, 0, 62, 133, 80, 167, 0, 11, 58, 4, 4, 172, 58, 4, 5, 172, 3, 172]
abbrev dktX0_ofField_0 : List UInt8 := dkwX0_ofField_0 ++ []
theorem dksX0_ofField_0 : cX0_ofField.data.toList.drop 0 = dktX0_ofField_0 := by decide +kernel
theorem dX0_ofField_0 : decode cX0_ofField 0 = .ok (.aload_n 3, 1) := dk_45 (dk_at dksX0_ofField_0 0 rfl rfl)
theorem dX0_ofField_1 : decode cX0_ofField 1 = .ok (.iconst 0, 1) := dk_3 (dk_at dksX0_ofField_0 1 rfl rfl)
theorem dX0_ofField_2 : decode cX0_ofField 2 = .ok (.aload_n 0, 1) := dk_42 (dk_at dksX0_ofField_0 2 rfl rfl)
theorem dX0_ofField_3 : decode cX0_ofField 3 = .ok (.iload_n 1, 1) := dk_27 (dk_at dksX0_ofField_0 3 rfl rfl)
theorem dX0_ofField_4 : decode cX0_ofField 4 = .ok (.iload_n 2, 1) := dk_28 (dk_at dksX0_ofField_0 4 rfl rfl)
theorem dX0_ofField_5 : decode cX0_ofField 5 = .ok (.invokevirtual 62, 3) := dk_182 0 62 (dk_at dksX0_ofField_0 5 rfl rfl)
theorem dX0_ofField_8 : decode cX0_ofField 8 = .ok (.i2l, 1) := dk_133 (dk_at dksX0_ofField_0 8 rfl rfl)
theorem dX0_ofField_9 : decode cX0_ofField 9 = .ok (.lastore, 1) := dk_80 (dk_at dksX0_ofField_0 9 rfl rfl)
theorem dX0_ofField_10 : decode cX0_ofField 10 = .ok (.goto 11, 3) := dk_167 0 11 (dk_at dksX0_ofField_0 10 rfl rfl)
theorem dX0_ofField_13 : decode cX0_ofField 13 = .ok (.astore 4, 2) := dk_58 4 (dk_at dksX0_ofField_0 13 rfl rfl)
theorem dX0_ofField_15 : decode cX0_ofField 15 = .ok (.iconst 1, 1) := dk_4 (dk_at dksX0_ofField_0 15 rfl rfl)
theorem dX0_ofField_16 : decode cX0_ofField 16 = .ok (.ireturn, 1) := dk_172 (dk_at dksX0_ofField_0 16 rfl rfl)
theorem dX0_ofField_17 : decode cX0_ofField 17 = .ok (.astore 4, 2) := dk_58 4 (dk_at dksX0_ofField_0 17 rfl rfl)
theorem dX0_ofField_19 : decode cX0_ofField 19 = .ok (.iconst 2, 1) := dk_5 (dk_at dksX0_ofField_0 19 rfl rfl)
theorem dX0_ofField_20 : decode cX0_ofField 20 = .ok (.ireturn, 1) := dk_172 (dk_at dksX0_ofField_0 20 rfl rfl)
theorem dX0_ofField_21 : decode cX0_ofField 21 = .ok (.iconst 0, 1) := dk_3 (dk_at dksX0_ofField_0 21 rfl rfl)
theorem dX0_ofField_22 : decode cX0_ofField 22 = .ok (.ireturn, 1) := dk_172 (dk_at dksX0_ofField_0 22 rfl rfl)
abbrev cX0_ofLoad : ByteArray := method_18_code
def yX0_ofLoad : MethodName := ⟨RX0, "ofLoad", "(LCanecrush;II[J)I"⟩
def dkwX0_ofLoad_0 : List UInt8 := [45, 3, 42, 27, 28, 182, 0, 65, 133, 80, 167, 0, 11, 58, 4, 4, 172, 58, 4, 5, 172, 3, 172]
abbrev dktX0_ofLoad_0 : List UInt8 := dkwX0_ofLoad_0 ++ []
theorem dksX0_ofLoad_0 : cX0_ofLoad.data.toList.drop 0 = dktX0_ofLoad_0 := by decide +kernel
theorem dX0_ofLoad_0 : decode cX0_ofLoad 0 = .ok (.aload_n 3, 1) := dk_45 (dk_at dksX0_ofLoad_0 0 rfl rfl)
theorem dX0_ofLoad_1 : decode cX0_ofLoad 1 = .ok (.iconst 0, 1) := dk_3 (dk_at dksX0_ofLoad_0 1 rfl rfl)
theorem dX0_ofLoad_2 : decode cX0_ofLoad 2 = .ok (.aload_n 0, 1) := dk_42 (dk_at dksX0_ofLoad_0 2 rfl rfl)
theorem dX0_ofLoad_3 : decode cX0_ofLoad 3 = .ok (.iload_n 1, 1) := dk_27 (dk_at dksX0_ofLoad_0 3 rfl rfl)
theorem dX0_ofLoad_4 : decode cX0_ofLoad 4 = .ok (.iload_n 2, 1) := dk_28 (dk_at dksX0_ofLoad_0 4 rfl rfl)
theorem dX0_ofLoad_5 : decode cX0_ofLoad 5 = .ok (.invokevirtual 65, 3) := dk_182 0 65 (dk_at dksX0_ofLoad_0 5 rfl rfl)
theorem dX0_ofLoad_8 : decode cX0_ofLoad 8 = .ok (.i2l, 1) := dk_133 (dk_at dksX0_ofLoad_0 8 rfl rfl)
theorem dX0_ofLoad_9 : decode cX0_ofLoad 9 = .ok (.lastore, 1) := dk_80 (dk_at dksX0_ofLoad_0 9 rfl rfl)
theorem dX0_ofLoad_10 : decode cX0_ofLoad 10 = .ok (.goto 11, 3) := dk_167 0 11 (dk_at dksX0_ofLoad_0 10 rfl rfl)
theorem dX0_ofLoad_13 : decode cX0_ofLoad 13 = .ok (.astore 4, 2) := dk_58 4 (dk_at dksX0_ofLoad_0 13 rfl rfl)
theorem dX0_ofLoad_15 : decode cX0_ofLoad 15 = .ok (.iconst 1, 1) := dk_4 (dk_at dksX0_ofLoad_0 15 rfl rfl)
theorem dX0_ofLoad_16 : decode cX0_ofLoad 16 = .ok (.ireturn, 1) := dk_172 (dk_at dksX0_ofLoad_0 16 rfl rfl)
theorem dX0_ofLoad_17 : decode cX0_ofLoad 17 = .ok (.astore 4, 2) := dk_58 4 (dk_at dksX0_ofLoad_0 17 rfl rfl)
theorem dX0_ofLoad_19 : decode cX0_ofLoad 19 = .ok (.iconst 2, 1) := dk_5 (dk_at dksX0_ofLoad_0 19 rfl rfl)
theorem dX0_ofLoad_20 : decode cX0_ofLoad 20 = .ok (.ireturn, 1) := dk_172 (dk_at dksX0_ofLoad_0 20 rfl rfl)
theorem dX0_ofLoad_21 : decode cX0_ofLoad 21 = .ok (.iconst 0, 1) := dk_3 (dk_at dksX0_ofLoad_0 21 rfl rfl)
theorem dX0_ofLoad_22 : decode cX0_ofLoad 22 = .ok (.ireturn, 1) := dk_172 (dk_at dksX0_ofLoad_0 22 rfl rfl)
abbrev cX0_ofTruck : ByteArray := method_19_code
def yX0_ofTruck : MethodName := ⟨RX0, "ofTruck", "(LCanecrush;II[J)I"⟩
def dkwX0_ofTruck_0 : List UInt8 := [45, 3, 42, 27, 28, 182, 0, 68, 133, 80, 167, 0, 11, 58, 4, 4, 172, 58, 4, 5, 172, 3, 172]
abbrev dktX0_ofTruck_0 : List UInt8 := dkwX0_ofTruck_0 ++ []
theorem dksX0_ofTruck_0 : cX0_ofTruck.data.toList.drop 0 = dktX0_ofTruck_0 := by decide +kernel
theorem dX0_ofTruck_0 : decode cX0_ofTruck 0 = .ok (.aload_n 3, 1) := dk_45 (dk_at dksX0_ofTruck_0 0 rfl rfl)
theorem dX0_ofTruck_1 : decode cX0_ofTruck 1 = .ok (.iconst 0, 1) := dk_3 (dk_at dksX0_ofTruck_0 1 rfl rfl)
theorem dX0_ofTruck_2 : decode cX0_ofTruck 2 = .ok (.aload_n 0, 1) := dk_42 (dk_at dksX0_ofTruck_0 2 rfl rfl)
theorem dX0_ofTruck_3 : decode cX0_ofTruck 3 = .ok (.iload_n 1, 1) := dk_27 (dk_at dksX0_ofTruck_0 3 rfl rfl)
theorem dX0_ofTruck_4 : decode cX0_ofTruck 4 = .ok (.iload_n 2, 1) := dk_28 (dk_at dksX0_ofTruck_0 4 rfl rfl)
theorem dX0_ofTruck_5 : decode cX0_ofTruck 5 = .ok (.invokevirtual 68, 3) := dk_182 0 68 (dk_at dksX0_ofTruck_0 5 rfl rfl)
theorem dX0_ofTruck_8 : decode cX0_ofTruck 8 = .ok (.i2l, 1) := dk_133 (dk_at dksX0_ofTruck_0 8 rfl rfl)
theorem dX0_ofTruck_9 : decode cX0_ofTruck 9 = .ok (.lastore, 1) := dk_80 (dk_at dksX0_ofTruck_0 9 rfl rfl)
theorem dX0_ofTruck_10 : decode cX0_ofTruck 10 = .ok (.goto 11, 3) := dk_167 0 11 (dk_at dksX0_ofTruck_0 10 rfl rfl)
theorem dX0_ofTruck_13 : decode cX0_ofTruck 13 = .ok (.astore 4, 2) := dk_58 4 (dk_at dksX0_ofTruck_0 13 rfl rfl)
theorem dX0_ofTruck_15 : decode cX0_ofTruck 15 = .ok (.iconst 1, 1) := dk_4 (dk_at dksX0_ofTruck_0 15 rfl rfl)
theorem dX0_ofTruck_16 : decode cX0_ofTruck 16 = .ok (.ireturn, 1) := dk_172 (dk_at dksX0_ofTruck_0 16 rfl rfl)
theorem dX0_ofTruck_17 : decode cX0_ofTruck 17 = .ok (.astore 4, 2) := dk_58 4 (dk_at dksX0_ofTruck_0 17 rfl rfl)
theorem dX0_ofTruck_19 : decode cX0_ofTruck 19 = .ok (.iconst 2, 1) := dk_5 (dk_at dksX0_ofTruck_0 19 rfl rfl)
theorem dX0_ofTruck_20 : decode cX0_ofTruck 20 = .ok (.ireturn, 1) := dk_172 (dk_at dksX0_ofTruck_0 20 rfl rfl)
theorem dX0_ofTruck_21 : decode cX0_ofTruck 21 = .ok (.iconst 0, 1) := dk_3 (dk_at dksX0_ofTruck_0 21 rfl rfl)
theorem dX0_ofTruck_22 : decode cX0_ofTruck 22 = .ok (.ireturn, 1) := dk_172 (dk_at dksX0_ofTruck_0 22 rfl rfl)
abbrev cX0_ofGrower : ByteArray := method_20_code
def yX0_ofGrower : MethodName := ⟨RX0, "ofGrower", "(LCanecrush;II[J)I"⟩
def dkwX0_ofGrower_0 : List UInt8 := [45, 3, 42, 27, 28, 182, 0, 71, 133, 80, 167, 0, 11, 58, 4, 4, 172, 58, 4, 5, 172, 3, 172]
abbrev dktX0_ofGrower_0 : List UInt8 := dkwX0_ofGrower_0 ++ []
theorem dksX0_ofGrower_0 : cX0_ofGrower.data.toList.drop 0 = dktX0_ofGrower_0 := by decide +kernel
theorem dX0_ofGrower_0 : decode cX0_ofGrower 0 = .ok (.aload_n 3, 1) := dk_45 (dk_at dksX0_ofGrower_0 0 rfl rfl)
theorem dX0_ofGrower_1 : decode cX0_ofGrower 1 = .ok (.iconst 0, 1) := dk_3 (dk_at dksX0_ofGrower_0 1 rfl rfl)
theorem dX0_ofGrower_2 : decode cX0_ofGrower 2 = .ok (.aload_n 0, 1) := dk_42 (dk_at dksX0_ofGrower_0 2 rfl rfl)
theorem dX0_ofGrower_3 : decode cX0_ofGrower 3 = .ok (.iload_n 1, 1) := dk_27 (dk_at dksX0_ofGrower_0 3 rfl rfl)
theorem dX0_ofGrower_4 : decode cX0_ofGrower 4 = .ok (.iload_n 2, 1) := dk_28 (dk_at dksX0_ofGrower_0 4 rfl rfl)
theorem dX0_ofGrower_5 : decode cX0_ofGrower 5 = .ok (.invokevirtual 71, 3) := dk_182 0 71 (dk_at dksX0_ofGrower_0 5 rfl rfl)
theorem dX0_ofGrower_8 : decode cX0_ofGrower 8 = .ok (.i2l, 1) := dk_133 (dk_at dksX0_ofGrower_0 8 rfl rfl)
theorem dX0_ofGrower_9 : decode cX0_ofGrower 9 = .ok (.lastore, 1) := dk_80 (dk_at dksX0_ofGrower_0 9 rfl rfl)
theorem dX0_ofGrower_10 : decode cX0_ofGrower 10 = .ok (.goto 11, 3) := dk_167 0 11 (dk_at dksX0_ofGrower_0 10 rfl rfl)
theorem dX0_ofGrower_13 : decode cX0_ofGrower 13 = .ok (.astore 4, 2) := dk_58 4 (dk_at dksX0_ofGrower_0 13 rfl rfl)
theorem dX0_ofGrower_15 : decode cX0_ofGrower 15 = .ok (.iconst 1, 1) := dk_4 (dk_at dksX0_ofGrower_0 15 rfl rfl)
theorem dX0_ofGrower_16 : decode cX0_ofGrower 16 = .ok (.ireturn, 1) := dk_172 (dk_at dksX0_ofGrower_0 16 rfl rfl)
theorem dX0_ofGrower_17 : decode cX0_ofGrower 17 = .ok (.astore 4, 2) := dk_58 4 (dk_at dksX0_ofGrower_0 17 rfl rfl)
theorem dX0_ofGrower_19 : decode cX0_ofGrower 19 = .ok (.iconst 2, 1) := dk_5 (dk_at dksX0_ofGrower_0 19 rfl rfl)
theorem dX0_ofGrower_20 : decode cX0_ofGrower 20 = .ok (.ireturn, 1) := dk_172 (dk_at dksX0_ofGrower_0 20 rfl rfl)
theorem dX0_ofGrower_21 : decode cX0_ofGrower 21 = .ok (.iconst 0, 1) := dk_3 (dk_at dksX0_ofGrower_0 21 rfl rfl)
theorem dX0_ofGrower_22 : decode cX0_ofGrower 22 = .ok (.ireturn, 1) := dk_172 (dk_at dksX0_ofGrower_0 22 rfl rfl)
abbrev cX0_many : ByteArray := method_21_code
def yX0_many : MethodName := ⟨RX0, "many", "(LCanecrush;I[J)I"⟩
def dkwX0_many_0 : List UInt8 := [44, 3, 42, 27, 182, 0, 74, 133, 80, 167, 0, 6, 78, 4, 172, 3, 172]
abbrev dktX0_many_0 : List UInt8 := dkwX0_many_0 ++ []
theorem dksX0_many_0 : cX0_many.data.toList.drop 0 = dktX0_many_0 := by decide +kernel
theorem dX0_many_0 : decode cX0_many 0 = .ok (.aload_n 2, 1) := dk_44 (dk_at dksX0_many_0 0 rfl rfl)
theorem dX0_many_1 : decode cX0_many 1 = .ok (.iconst 0, 1) := dk_3 (dk_at dksX0_many_0 1 rfl rfl)
theorem dX0_many_2 : decode cX0_many 2 = .ok (.aload_n 0, 1) := dk_42 (dk_at dksX0_many_0 2 rfl rfl)
theorem dX0_many_3 : decode cX0_many 3 = .ok (.iload_n 1, 1) := dk_27 (dk_at dksX0_many_0 3 rfl rfl)
theorem dX0_many_4 : decode cX0_many 4 = .ok (.invokevirtual 74, 3) := dk_182 0 74 (dk_at dksX0_many_0 4 rfl rfl)
theorem dX0_many_7 : decode cX0_many 7 = .ok (.i2l, 1) := dk_133 (dk_at dksX0_many_0 7 rfl rfl)
theorem dX0_many_8 : decode cX0_many 8 = .ok (.lastore, 1) := dk_80 (dk_at dksX0_many_0 8 rfl rfl)
theorem dX0_many_9 : decode cX0_many 9 = .ok (.goto 6, 3) := dk_167 0 6 (dk_at dksX0_many_0 9 rfl rfl)
theorem dX0_many_12 : decode cX0_many 12 = .ok (.astore_n 3, 1) := dk_78 (dk_at dksX0_many_0 12 rfl rfl)
theorem dX0_many_13 : decode cX0_many 13 = .ok (.iconst 1, 1) := dk_4 (dk_at dksX0_many_0 13 rfl rfl)
theorem dX0_many_14 : decode cX0_many 14 = .ok (.ireturn, 1) := dk_172 (dk_at dksX0_many_0 14 rfl rfl)
theorem dX0_many_15 : decode cX0_many 15 = .ok (.iconst 0, 1) := dk_3 (dk_at dksX0_many_0 15 rfl rfl)
theorem dX0_many_16 : decode cX0_many 16 = .ok (.ireturn, 1) := dk_172 (dk_at dksX0_many_0 16 rfl rfl)
abbrev cX0_crushedIn : ByteArray := method_22_code
def yX0_crushedIn : MethodName := ⟨RX0, "crushedIn", "(LCanecrush;II[J)I"⟩
def dkwX0_crushedIn_0 : List UInt8 := [45, 3, 42, 27, 28, 182, 0, 77, 133, 80, 167, 0, 11, 58, 4, 4, 172, 58, 4, 5, 172, 3, 172]
abbrev dktX0_crushedIn_0 : List UInt8 := dkwX0_crushedIn_0 ++ []
theorem dksX0_crushedIn_0 : cX0_crushedIn.data.toList.drop 0 = dktX0_crushedIn_0 := by decide +kernel
theorem dX0_crushedIn_0 : decode cX0_crushedIn 0 = .ok (.aload_n 3, 1) := dk_45 (dk_at dksX0_crushedIn_0 0 rfl rfl)
theorem dX0_crushedIn_1 : decode cX0_crushedIn 1 = .ok (.iconst 0, 1) := dk_3 (dk_at dksX0_crushedIn_0 1 rfl rfl)
theorem dX0_crushedIn_2 : decode cX0_crushedIn 2 = .ok (.aload_n 0, 1) := dk_42 (dk_at dksX0_crushedIn_0 2 rfl rfl)
theorem dX0_crushedIn_3 : decode cX0_crushedIn 3 = .ok (.iload_n 1, 1) := dk_27 (dk_at dksX0_crushedIn_0 3 rfl rfl)
theorem dX0_crushedIn_4 : decode cX0_crushedIn 4 = .ok (.iload_n 2, 1) := dk_28 (dk_at dksX0_crushedIn_0 4 rfl rfl)
theorem dX0_crushedIn_5 : decode cX0_crushedIn 5 = .ok (.invokevirtual 77, 3) := dk_182 0 77 (dk_at dksX0_crushedIn_0 5 rfl rfl)
theorem dX0_crushedIn_8 : decode cX0_crushedIn 8 = .ok (.i2l, 1) := dk_133 (dk_at dksX0_crushedIn_0 8 rfl rfl)
theorem dX0_crushedIn_9 : decode cX0_crushedIn 9 = .ok (.lastore, 1) := dk_80 (dk_at dksX0_crushedIn_0 9 rfl rfl)
theorem dX0_crushedIn_10 : decode cX0_crushedIn 10 = .ok (.goto 11, 3) := dk_167 0 11 (dk_at dksX0_crushedIn_0 10 rfl rfl)
theorem dX0_crushedIn_13 : decode cX0_crushedIn 13 = .ok (.astore 4, 2) := dk_58 4 (dk_at dksX0_crushedIn_0 13 rfl rfl)
theorem dX0_crushedIn_15 : decode cX0_crushedIn 15 = .ok (.iconst 1, 1) := dk_4 (dk_at dksX0_crushedIn_0 15 rfl rfl)
theorem dX0_crushedIn_16 : decode cX0_crushedIn 16 = .ok (.ireturn, 1) := dk_172 (dk_at dksX0_crushedIn_0 16 rfl rfl)
theorem dX0_crushedIn_17 : decode cX0_crushedIn 17 = .ok (.astore 4, 2) := dk_58 4 (dk_at dksX0_crushedIn_0 17 rfl rfl)
theorem dX0_crushedIn_19 : decode cX0_crushedIn 19 = .ok (.iconst 2, 1) := dk_5 (dk_at dksX0_crushedIn_0 19 rfl rfl)
theorem dX0_crushedIn_20 : decode cX0_crushedIn 20 = .ok (.ireturn, 1) := dk_172 (dk_at dksX0_crushedIn_0 20 rfl rfl)
theorem dX0_crushedIn_21 : decode cX0_crushedIn 21 = .ok (.iconst 0, 1) := dk_3 (dk_at dksX0_crushedIn_0 21 rfl rfl)
theorem dX0_crushedIn_22 : decode cX0_crushedIn 22 = .ok (.ireturn, 1) := dk_172 (dk_at dksX0_crushedIn_0 22 rfl rfl)
abbrev cX0_stopsIn : ByteArray := method_23_code
def yX0_stopsIn : MethodName := ⟨RX0, "stopsIn", "(LCanecrush;I[J)I"⟩
def dkwX0_stopsIn_0 : List UInt8 := [44, 3, 42, 27, 182, 0, 80, 133, 80, 167, 0, 6, 78, 4, 172, 3, 172]
abbrev dktX0_stopsIn_0 : List UInt8 := dkwX0_stopsIn_0 ++ []
theorem dksX0_stopsIn_0 : cX0_stopsIn.data.toList.drop 0 = dktX0_stopsIn_0 := by decide +kernel
theorem dX0_stopsIn_0 : decode cX0_stopsIn 0 = .ok (.aload_n 2, 1) := dk_44 (dk_at dksX0_stopsIn_0 0 rfl rfl)
theorem dX0_stopsIn_1 : decode cX0_stopsIn 1 = .ok (.iconst 0, 1) := dk_3 (dk_at dksX0_stopsIn_0 1 rfl rfl)
theorem dX0_stopsIn_2 : decode cX0_stopsIn 2 = .ok (.aload_n 0, 1) := dk_42 (dk_at dksX0_stopsIn_0 2 rfl rfl)
theorem dX0_stopsIn_3 : decode cX0_stopsIn 3 = .ok (.iload_n 1, 1) := dk_27 (dk_at dksX0_stopsIn_0 3 rfl rfl)
theorem dX0_stopsIn_4 : decode cX0_stopsIn 4 = .ok (.invokevirtual 80, 3) := dk_182 0 80 (dk_at dksX0_stopsIn_0 4 rfl rfl)
theorem dX0_stopsIn_7 : decode cX0_stopsIn 7 = .ok (.i2l, 1) := dk_133 (dk_at dksX0_stopsIn_0 7 rfl rfl)
theorem dX0_stopsIn_8 : decode cX0_stopsIn 8 = .ok (.lastore, 1) := dk_80 (dk_at dksX0_stopsIn_0 8 rfl rfl)
theorem dX0_stopsIn_9 : decode cX0_stopsIn 9 = .ok (.goto 6, 3) := dk_167 0 6 (dk_at dksX0_stopsIn_0 9 rfl rfl)
theorem dX0_stopsIn_12 : decode cX0_stopsIn 12 = .ok (.astore_n 3, 1) := dk_78 (dk_at dksX0_stopsIn_0 12 rfl rfl)
theorem dX0_stopsIn_13 : decode cX0_stopsIn 13 = .ok (.iconst 1, 1) := dk_4 (dk_at dksX0_stopsIn_0 13 rfl rfl)
theorem dX0_stopsIn_14 : decode cX0_stopsIn 14 = .ok (.ireturn, 1) := dk_172 (dk_at dksX0_stopsIn_0 14 rfl rfl)
theorem dX0_stopsIn_15 : decode cX0_stopsIn 15 = .ok (.iconst 0, 1) := dk_3 (dk_at dksX0_stopsIn_0 15 rfl rfl)
theorem dX0_stopsIn_16 : decode cX0_stopsIn 16 = .ok (.ireturn, 1) := dk_172 (dk_at dksX0_stopsIn_0 16 rfl rfl)
abbrev cX0_bestOrder : ByteArray := method_24_code
def yX0_bestOrder : MethodName := ⟨RX0, "bestOrder", "(LCanecrush;I[J)I"⟩
def dkwX0_bestOrder_0 : List UInt8 := [44, 3, 42, 27, 182, 0, 83, 133, 80, 167, 0, 6, 78, 4, 172, 3, 172]
abbrev dktX0_bestOrder_0 : List UInt8 := dkwX0_bestOrder_0 ++ []
theorem dksX0_bestOrder_0 : cX0_bestOrder.data.toList.drop 0 = dktX0_bestOrder_0 := by decide +kernel
theorem dX0_bestOrder_0 : decode cX0_bestOrder 0 = .ok (.aload_n 2, 1) := dk_44 (dk_at dksX0_bestOrder_0 0 rfl rfl)
theorem dX0_bestOrder_1 : decode cX0_bestOrder 1 = .ok (.iconst 0, 1) := dk_3 (dk_at dksX0_bestOrder_0 1 rfl rfl)
theorem dX0_bestOrder_2 : decode cX0_bestOrder 2 = .ok (.aload_n 0, 1) := dk_42 (dk_at dksX0_bestOrder_0 2 rfl rfl)
theorem dX0_bestOrder_3 : decode cX0_bestOrder 3 = .ok (.iload_n 1, 1) := dk_27 (dk_at dksX0_bestOrder_0 3 rfl rfl)
theorem dX0_bestOrder_4 : decode cX0_bestOrder 4 = .ok (.invokevirtual 83, 3) := dk_182 0 83 (dk_at dksX0_bestOrder_0 4 rfl rfl)
theorem dX0_bestOrder_7 : decode cX0_bestOrder 7 = .ok (.i2l, 1) := dk_133 (dk_at dksX0_bestOrder_0 7 rfl rfl)
theorem dX0_bestOrder_8 : decode cX0_bestOrder 8 = .ok (.lastore, 1) := dk_80 (dk_at dksX0_bestOrder_0 8 rfl rfl)
theorem dX0_bestOrder_9 : decode cX0_bestOrder 9 = .ok (.goto 6, 3) := dk_167 0 6 (dk_at dksX0_bestOrder_0 9 rfl rfl)
theorem dX0_bestOrder_12 : decode cX0_bestOrder 12 = .ok (.astore_n 3, 1) := dk_78 (dk_at dksX0_bestOrder_0 12 rfl rfl)
theorem dX0_bestOrder_13 : decode cX0_bestOrder 13 = .ok (.iconst 1, 1) := dk_4 (dk_at dksX0_bestOrder_0 13 rfl rfl)
theorem dX0_bestOrder_14 : decode cX0_bestOrder 14 = .ok (.ireturn, 1) := dk_172 (dk_at dksX0_bestOrder_0 14 rfl rfl)
theorem dX0_bestOrder_15 : decode cX0_bestOrder 15 = .ok (.iconst 0, 1) := dk_3 (dk_at dksX0_bestOrder_0 15 rfl rfl)
theorem dX0_bestOrder_16 : decode cX0_bestOrder 16 = .ok (.ireturn, 1) := dk_172 (dk_at dksX0_bestOrder_0 16 rfl rfl)
abbrev cX0_bestDay : ByteArray := method_25_code
def yX0_bestDay : MethodName := ⟨RX0, "bestDay", "(LCanecrush;IIII[J)I"⟩
def dkwX0_bestDay_1 : List UInt8 := [172, 3, 172]
abbrev dktX0_bestDay_1 : List UInt8 := dkwX0_bestDay_1 ++ []
def dkwX0_bestDay_0 : List UInt8 := [25, 5, 3, 42, 27, 28, 29, 21, 4, 182, 0, 86, 133, 80, 167, 0, 11, 58, 6, 4, 172, 58, 6, 5]
abbrev dktX0_bestDay_0 : List UInt8 := dkwX0_bestDay_0 ++ dktX0_bestDay_1
theorem dksX0_bestDay_0 : cX0_bestDay.data.toList.drop 0 = dktX0_bestDay_0 := by decide +kernel
theorem dksX0_bestDay_1 : cX0_bestDay.data.toList.drop 24 = dktX0_bestDay_1 := dk_seg dksX0_bestDay_0 24 rfl rfl
theorem dX0_bestDay_0 : decode cX0_bestDay 0 = .ok (.aload 5, 2) := dk_25 5 (dk_at dksX0_bestDay_0 0 rfl rfl)
theorem dX0_bestDay_2 : decode cX0_bestDay 2 = .ok (.iconst 0, 1) := dk_3 (dk_at dksX0_bestDay_0 2 rfl rfl)
theorem dX0_bestDay_3 : decode cX0_bestDay 3 = .ok (.aload_n 0, 1) := dk_42 (dk_at dksX0_bestDay_0 3 rfl rfl)
theorem dX0_bestDay_4 : decode cX0_bestDay 4 = .ok (.iload_n 1, 1) := dk_27 (dk_at dksX0_bestDay_0 4 rfl rfl)
theorem dX0_bestDay_5 : decode cX0_bestDay 5 = .ok (.iload_n 2, 1) := dk_28 (dk_at dksX0_bestDay_0 5 rfl rfl)
theorem dX0_bestDay_6 : decode cX0_bestDay 6 = .ok (.iload_n 3, 1) := dk_29 (dk_at dksX0_bestDay_0 6 rfl rfl)
theorem dX0_bestDay_7 : decode cX0_bestDay 7 = .ok (.iload 4, 2) := dk_21 4 (dk_at dksX0_bestDay_0 7 rfl rfl)
theorem dX0_bestDay_9 : decode cX0_bestDay 9 = .ok (.invokevirtual 86, 3) := dk_182 0 86 (dk_at dksX0_bestDay_0 9 rfl rfl)
theorem dX0_bestDay_12 : decode cX0_bestDay 12 = .ok (.i2l, 1) := dk_133 (dk_at dksX0_bestDay_0 12 rfl rfl)
theorem dX0_bestDay_13 : decode cX0_bestDay 13 = .ok (.lastore, 1) := dk_80 (dk_at dksX0_bestDay_0 13 rfl rfl)
theorem dX0_bestDay_14 : decode cX0_bestDay 14 = .ok (.goto 11, 3) := dk_167 0 11 (dk_at dksX0_bestDay_0 14 rfl rfl)
theorem dX0_bestDay_17 : decode cX0_bestDay 17 = .ok (.astore 6, 2) := dk_58 6 (dk_at dksX0_bestDay_0 17 rfl rfl)
theorem dX0_bestDay_19 : decode cX0_bestDay 19 = .ok (.iconst 1, 1) := dk_4 (dk_at dksX0_bestDay_0 19 rfl rfl)
theorem dX0_bestDay_20 : decode cX0_bestDay 20 = .ok (.ireturn, 1) := dk_172 (dk_at dksX0_bestDay_0 20 rfl rfl)
theorem dX0_bestDay_21 : decode cX0_bestDay 21 = .ok (.astore 6, 2) := dk_58 6 (dk_at dksX0_bestDay_0 21 rfl rfl)
theorem dX0_bestDay_23 : decode cX0_bestDay 23 = .ok (.iconst 2, 1) := dk_5 (dk_at dksX0_bestDay_0 23 rfl rfl)
theorem dX0_bestDay_24 : decode cX0_bestDay 24 = .ok (.ireturn, 1) := dk_172 (dk_at dksX0_bestDay_1 0 rfl rfl)
theorem dX0_bestDay_25 : decode cX0_bestDay 25 = .ok (.iconst 0, 1) := dk_3 (dk_at dksX0_bestDay_1 1 rfl rfl)
theorem dX0_bestDay_26 : decode cX0_bestDay 26 = .ok (.ireturn, 1) := dk_172 (dk_at dksX0_bestDay_1 2 rfl rfl)
theorem q49 : (Jvm.Cond.initialized "CanecrushLaw") ∈ lw_all := lw_g (lw_at lw_m1 0 rfl) rfl
theorem q80 : (Jvm.Cond.classLink "CanecrushLaw" (8 : Nat) "Canecrush") ∈ lw_all := lw_g (lw_at lw_m1 31 rfl) rfl
theorem q82 : (Jvm.Cond.methodLink "CanecrushLaw" (90 : Nat) ({ cls := "Canecrush", name := "<init>", desc := "()V" } : Jvm.MethodName)) ∈ lw_all := lw_g (lw_at lw_m1 33 rfl) rfl
theorem q240 : (Jvm.Cond.methodLink "CanecrushLaw" (160 : Nat) ({ cls := "Canecrush", name := "meanSweet", desc := "()D" } : Jvm.MethodName)) ∈ lw_all := lw_g (lw_at lw_m1 191 rfl) rfl
theorem q244 : (Jvm.Cond.methodLink "CanecrushLaw" (178 : Nat) ({ cls := "Canecrush", name := "digest", desc := "()J" } : Jvm.MethodName)) ∈ lw_all := lw_g (lw_at lw_m1 195 rfl) rfl
theorem q610 : (Jvm.Cond.methodLink "CanecrushLaw" (94 : Nat) ({ cls := "CanecrushLaw", name := "field", desc := "(LCanecrush;III[J)I" } : Jvm.MethodName)) ∈ lw_all := lw_g (lw_at lw_m3 81 rfl) rfl
theorem q611 : (Jvm.Cond.static ({ cls := "CanecrushLaw", name := "field", desc := "(LCanecrush;III[J)I" } : Jvm.MethodName)) ∈ lw_all := lw_g (lw_at lw_m3 82 rfl) rfl
theorem q612 : (Jvm.Cond.codeWith ({ cls := "CanecrushLaw", name := "field", desc := "(LCanecrush;III[J)I" } : Jvm.MethodName) method_3_code (6 : Nat) (Option.some Jvm.ClassFile.FieldType.int) [((0 : Nat), (12 : Nat), (15 : Nat), (13 : Nat)), ((0 : Nat), (12 : Nat), (19 : Nat), (15 : Nat)), ((0 : Nat), (12 : Nat), (23 : Nat), (17 : Nat))]) ∈ lw_all := lw_g (lw_at lw_m3 83 rfl) rfl
theorem q613 : (Jvm.Cond.classLink "CanecrushLaw" (13 : Nat) "java/lang/IndexOutOfBoundsException") ∈ lw_all := lw_g (lw_at lw_m3 84 rfl) rfl
theorem q690 : (Jvm.Cond.classLink "CanecrushLaw" (15 : Nat) "java/lang/IllegalArgumentException") ∈ lw_all := lw_g (lw_at lw_m3 161 rfl) rfl
theorem q691 : (Jvm.Cond.classLink "CanecrushLaw" (17 : Nat) "java/lang/IllegalStateException") ∈ lw_all := lw_g (lw_at lw_m3 162 rfl) rfl
theorem q692 : (Jvm.Cond.methodLink "CanecrushLaw" (7 : Nat) ({ cls := "Canecrush", name := "field", desc := "(III)I" } : Jvm.MethodName)) ∈ lw_all := lw_g (lw_at lw_m3 163 rfl) rfl
theorem q760 : (Jvm.Cond.methodLink "CanecrushLaw" (103 : Nat) ({ cls := "CanecrushLaw", name := "truck", desc := "(LCanecrush;[J)I" } : Jvm.MethodName)) ∈ lw_all := lw_g (lw_at lw_m3 231 rfl) rfl
theorem q761 : (Jvm.Cond.static ({ cls := "CanecrushLaw", name := "truck", desc := "(LCanecrush;[J)I" } : Jvm.MethodName)) ∈ lw_all := lw_g (lw_at lw_m3 232 rfl) rfl
theorem q762 : (Jvm.Cond.codeWith ({ cls := "CanecrushLaw", name := "truck", desc := "(LCanecrush;[J)I" } : Jvm.MethodName) method_4_code (3 : Nat) (Option.some Jvm.ClassFile.FieldType.int) [((0 : Nat), (8 : Nat), (11 : Nat), (17 : Nat))]) ∈ lw_all := lw_g (lw_at lw_m3 233 rfl) rfl
theorem q763 : (Jvm.Cond.methodLink "CanecrushLaw" (19 : Nat) ({ cls := "Canecrush", name := "truck", desc := "()I" } : Jvm.MethodName)) ∈ lw_all := lw_g (lw_at lw_m3 234 rfl) rfl
theorem q768 : (Jvm.Cond.methodLink "CanecrushLaw" (107 : Nat) ({ cls := "CanecrushLaw", name := "smut", desc := "(LCanecrush;II[J)I" } : Jvm.MethodName)) ∈ lw_all := lw_g (lw_at lw_m3 239 rfl) rfl
theorem q769 : (Jvm.Cond.static ({ cls := "CanecrushLaw", name := "smut", desc := "(LCanecrush;II[J)I" } : Jvm.MethodName)) ∈ lw_all := lw_g (lw_at lw_m4 0 rfl) rfl
theorem q770 : (Jvm.Cond.codeWith ({ cls := "CanecrushLaw", name := "smut", desc := "(LCanecrush;II[J)I" } : Jvm.MethodName) method_5_code (5 : Nat) (Option.some Jvm.ClassFile.FieldType.int) [((0 : Nat), (10 : Nat), (13 : Nat), (13 : Nat)), ((0 : Nat), (10 : Nat), (17 : Nat), (15 : Nat))]) ∈ lw_all := lw_g (lw_at lw_m4 1 rfl) rfl
theorem q771 : (Jvm.Cond.methodLink "CanecrushLaw" (23 : Nat) ({ cls := "Canecrush", name := "smut", desc := "(II)I" } : Jvm.MethodName)) ∈ lw_all := lw_g (lw_at lw_m4 2 rfl) rfl
theorem q779 : (Jvm.Cond.methodLink "CanecrushLaw" (111 : Nat) ({ cls := "CanecrushLaw", name := "set", desc := "(LCanecrush;III[J)I" } : Jvm.MethodName)) ∈ lw_all := lw_g (lw_at lw_m4 10 rfl) rfl
theorem q780 : (Jvm.Cond.static ({ cls := "CanecrushLaw", name := "set", desc := "(LCanecrush;III[J)I" } : Jvm.MethodName)) ∈ lw_all := lw_g (lw_at lw_m4 11 rfl) rfl
theorem q781 : (Jvm.Cond.codeWith ({ cls := "CanecrushLaw", name := "set", desc := "(LCanecrush;III[J)I" } : Jvm.MethodName) method_6_code (6 : Nat) (Option.some Jvm.ClassFile.FieldType.int) [((0 : Nat), (12 : Nat), (15 : Nat), (15 : Nat))]) ∈ lw_all := lw_g (lw_at lw_m4 12 rfl) rfl
theorem q782 : (Jvm.Cond.methodLink "CanecrushLaw" (27 : Nat) ({ cls := "Canecrush", name := "set", desc := "(III)I" } : Jvm.MethodName)) ∈ lw_all := lw_g (lw_at lw_m4 13 rfl) rfl
theorem q786 : (Jvm.Cond.methodLink "CanecrushLaw" (114 : Nat) ({ cls := "CanecrushLaw", name := "burn", desc := "(LCanecrush;I[J)I" } : Jvm.MethodName)) ∈ lw_all := lw_g (lw_at lw_m4 17 rfl) rfl
theorem q787 : (Jvm.Cond.static ({ cls := "CanecrushLaw", name := "burn", desc := "(LCanecrush;I[J)I" } : Jvm.MethodName)) ∈ lw_all := lw_g (lw_at lw_m4 18 rfl) rfl
theorem q788 : (Jvm.Cond.codeWith ({ cls := "CanecrushLaw", name := "burn", desc := "(LCanecrush;I[J)I" } : Jvm.MethodName) method_7_code (4 : Nat) (Option.some Jvm.ClassFile.FieldType.int) [((0 : Nat), (16 : Nat), (19 : Nat), (13 : Nat)), ((0 : Nat), (16 : Nat), (22 : Nat), (17 : Nat))]) ∈ lw_all := lw_g (lw_at lw_m4 19 rfl) rfl
theorem q789 : (Jvm.Cond.methodLink "CanecrushLaw" (30 : Nat) ({ cls := "Canecrush", name := "burn", desc := "(I)Z" } : Jvm.MethodName)) ∈ lw_all := lw_g (lw_at lw_m4 20 rfl) rfl
theorem q793 : (Jvm.Cond.methodLink "CanecrushLaw" (118 : Nat) ({ cls := "CanecrushLaw", name := "cut", desc := "(LCanecrush;II[J)I" } : Jvm.MethodName)) ∈ lw_all := lw_g (lw_at lw_m4 24 rfl) rfl
theorem q794 : (Jvm.Cond.static ({ cls := "CanecrushLaw", name := "cut", desc := "(LCanecrush;II[J)I" } : Jvm.MethodName)) ∈ lw_all := lw_g (lw_at lw_m4 25 rfl) rfl
theorem q795 : (Jvm.Cond.codeWith ({ cls := "CanecrushLaw", name := "cut", desc := "(LCanecrush;II[J)I" } : Jvm.MethodName) method_8_code (5 : Nat) (Option.some Jvm.ClassFile.FieldType.int) [((0 : Nat), (10 : Nat), (13 : Nat), (13 : Nat)), ((0 : Nat), (10 : Nat), (17 : Nat), (15 : Nat)), ((0 : Nat), (10 : Nat), (21 : Nat), (17 : Nat))]) ∈ lw_all := lw_g (lw_at lw_m4 26 rfl) rfl
theorem q796 : (Jvm.Cond.methodLink "CanecrushLaw" (34 : Nat) ({ cls := "Canecrush", name := "cut", desc := "(II)I" } : Jvm.MethodName)) ∈ lw_all := lw_g (lw_at lw_m4 27 rfl) rfl
theorem q805 : (Jvm.Cond.methodLink "CanecrushLaw" (121 : Nat) ({ cls := "CanecrushLaw", name := "send", desc := "(LCanecrush;II[J)I" } : Jvm.MethodName)) ∈ lw_all := lw_g (lw_at lw_m4 36 rfl) rfl
theorem q806 : (Jvm.Cond.static ({ cls := "CanecrushLaw", name := "send", desc := "(LCanecrush;II[J)I" } : Jvm.MethodName)) ∈ lw_all := lw_g (lw_at lw_m4 37 rfl) rfl
theorem q807 : (Jvm.Cond.codeWith ({ cls := "CanecrushLaw", name := "send", desc := "(LCanecrush;II[J)I" } : Jvm.MethodName) method_9_code (5 : Nat) (Option.some Jvm.ClassFile.FieldType.int) [((0 : Nat), (10 : Nat), (13 : Nat), (13 : Nat)), ((0 : Nat), (10 : Nat), (17 : Nat), (17 : Nat))]) ∈ lw_all := lw_g (lw_at lw_m4 38 rfl) rfl
theorem q808 : (Jvm.Cond.methodLink "CanecrushLaw" (37 : Nat) ({ cls := "Canecrush", name := "send", desc := "(II)I" } : Jvm.MethodName)) ∈ lw_all := lw_g (lw_at lw_m4 39 rfl) rfl
theorem q816 : (Jvm.Cond.methodLink "CanecrushLaw" (124 : Nat) ({ cls := "CanecrushLaw", name := "recall", desc := "(LCanecrush;I[J)I" } : Jvm.MethodName)) ∈ lw_all := lw_g (lw_at lw_m4 47 rfl) rfl
theorem q817 : (Jvm.Cond.static ({ cls := "CanecrushLaw", name := "recall", desc := "(LCanecrush;I[J)I" } : Jvm.MethodName)) ∈ lw_all := lw_g (lw_at lw_m4 48 rfl) rfl
theorem q818 : (Jvm.Cond.codeWith ({ cls := "CanecrushLaw", name := "recall", desc := "(LCanecrush;I[J)I" } : Jvm.MethodName) method_10_code (4 : Nat) (Option.some Jvm.ClassFile.FieldType.int) [((0 : Nat), (9 : Nat), (12 : Nat), (13 : Nat)), ((0 : Nat), (9 : Nat), (15 : Nat), (17 : Nat))]) ∈ lw_all := lw_g (lw_at lw_m4 49 rfl) rfl
theorem q819 : (Jvm.Cond.methodLink "CanecrushLaw" (40 : Nat) ({ cls := "Canecrush", name := "recall", desc := "(I)I" } : Jvm.MethodName)) ∈ lw_all := lw_g (lw_at lw_m4 50 rfl) rfl
theorem q824 : (Jvm.Cond.methodLink "CanecrushLaw" (127 : Nat) ({ cls := "CanecrushLaw", name := "start", desc := "(LCanecrush;[J)I" } : Jvm.MethodName)) ∈ lw_all := lw_g (lw_at lw_m4 55 rfl) rfl
theorem q825 : (Jvm.Cond.static ({ cls := "CanecrushLaw", name := "start", desc := "(LCanecrush;[J)I" } : Jvm.MethodName)) ∈ lw_all := lw_g (lw_at lw_m4 56 rfl) rfl
theorem q826 : (Jvm.Cond.codeWith ({ cls := "CanecrushLaw", name := "start", desc := "(LCanecrush;[J)I" } : Jvm.MethodName) method_11_code (3 : Nat) (Option.some Jvm.ClassFile.FieldType.int) [((0 : Nat), (8 : Nat), (11 : Nat), (17 : Nat))]) ∈ lw_all := lw_g (lw_at lw_m4 57 rfl) rfl
theorem q827 : (Jvm.Cond.methodLink "CanecrushLaw" (44 : Nat) ({ cls := "Canecrush", name := "start", desc := "()I" } : Jvm.MethodName)) ∈ lw_all := lw_g (lw_at lw_m4 58 rfl) rfl
theorem q832 : (Jvm.Cond.methodLink "CanecrushLaw" (130 : Nat) ({ cls := "CanecrushLaw", name := "boil", desc := "(LCanecrush;I[J)I" } : Jvm.MethodName)) ∈ lw_all := lw_g (lw_at lw_m4 63 rfl) rfl
theorem q833 : (Jvm.Cond.static ({ cls := "CanecrushLaw", name := "boil", desc := "(LCanecrush;I[J)I" } : Jvm.MethodName)) ∈ lw_all := lw_g (lw_at lw_m4 64 rfl) rfl
theorem q834 : (Jvm.Cond.codeWith ({ cls := "CanecrushLaw", name := "boil", desc := "(LCanecrush;I[J)I" } : Jvm.MethodName) method_12_code (4 : Nat) (Option.some Jvm.ClassFile.FieldType.int) [((0 : Nat), (9 : Nat), (12 : Nat), (13 : Nat)), ((0 : Nat), (9 : Nat), (15 : Nat), (17 : Nat))]) ∈ lw_all := lw_g (lw_at lw_m4 65 rfl) rfl
theorem q835 : (Jvm.Cond.methodLink "CanecrushLaw" (47 : Nat) ({ cls := "Canecrush", name := "boil", desc := "(I)I" } : Jvm.MethodName)) ∈ lw_all := lw_g (lw_at lw_m4 66 rfl) rfl
theorem q839 : (Jvm.Cond.methodLink "CanecrushLaw" (133 : Nat) ({ cls := "CanecrushLaw", name := "distil", desc := "(LCanecrush;[J)I" } : Jvm.MethodName)) ∈ lw_all := lw_g (lw_at lw_m4 70 rfl) rfl
theorem q840 : (Jvm.Cond.static ({ cls := "CanecrushLaw", name := "distil", desc := "(LCanecrush;[J)I" } : Jvm.MethodName)) ∈ lw_all := lw_g (lw_at lw_m4 71 rfl) rfl
theorem q841 : (Jvm.Cond.codeWith ({ cls := "CanecrushLaw", name := "distil", desc := "(LCanecrush;[J)I" } : Jvm.MethodName) method_13_code (3 : Nat) (Option.some Jvm.ClassFile.FieldType.int) [((0 : Nat), (8 : Nat), (11 : Nat), (17 : Nat))]) ∈ lw_all := lw_g (lw_at lw_m4 72 rfl) rfl
theorem q842 : (Jvm.Cond.methodLink "CanecrushLaw" (50 : Nat) ({ cls := "Canecrush", name := "distil", desc := "()I" } : Jvm.MethodName)) ∈ lw_all := lw_g (lw_at lw_m4 73 rfl) rfl
theorem q846 : (Jvm.Cond.methodLink "CanecrushLaw" (136 : Nat) ({ cls := "CanecrushLaw", name := "sell", desc := "(LCanecrush;II[J)I" } : Jvm.MethodName)) ∈ lw_all := lw_g (lw_at lw_m4 77 rfl) rfl
theorem q847 : (Jvm.Cond.static ({ cls := "CanecrushLaw", name := "sell", desc := "(LCanecrush;II[J)I" } : Jvm.MethodName)) ∈ lw_all := lw_g (lw_at lw_m4 78 rfl) rfl
theorem q848 : (Jvm.Cond.codeWith ({ cls := "CanecrushLaw", name := "sell", desc := "(LCanecrush;II[J)I" } : Jvm.MethodName) method_14_code (5 : Nat) (Option.some Jvm.ClassFile.FieldType.int) [((0 : Nat), (10 : Nat), (13 : Nat), (13 : Nat)), ((0 : Nat), (10 : Nat), (17 : Nat), (15 : Nat)), ((0 : Nat), (10 : Nat), (21 : Nat), (17 : Nat))]) ∈ lw_all := lw_g (lw_at lw_m4 79 rfl) rfl
theorem q849 : (Jvm.Cond.methodLink "CanecrushLaw" (53 : Nat) ({ cls := "Canecrush", name := "sell", desc := "(II)I" } : Jvm.MethodName)) ∈ lw_all := lw_g (lw_at lw_m4 80 rfl) rfl
theorem q853 : (Jvm.Cond.methodLink "CanecrushLaw" (139 : Nat) ({ cls := "CanecrushLaw", name := "pay", desc := "(LCanecrush;I[J)I" } : Jvm.MethodName)) ∈ lw_all := lw_g (lw_at lw_m4 84 rfl) rfl
theorem q854 : (Jvm.Cond.static ({ cls := "CanecrushLaw", name := "pay", desc := "(LCanecrush;I[J)I" } : Jvm.MethodName)) ∈ lw_all := lw_g (lw_at lw_m4 85 rfl) rfl
theorem q855 : (Jvm.Cond.codeWith ({ cls := "CanecrushLaw", name := "pay", desc := "(LCanecrush;I[J)I" } : Jvm.MethodName) method_15_code (4 : Nat) (Option.some Jvm.ClassFile.FieldType.int) [((0 : Nat), (9 : Nat), (12 : Nat), (15 : Nat)), ((0 : Nat), (9 : Nat), (15 : Nat), (17 : Nat))]) ∈ lw_all := lw_g (lw_at lw_m4 86 rfl) rfl
theorem q856 : (Jvm.Cond.methodLink "CanecrushLaw" (56 : Nat) ({ cls := "Canecrush", name := "pay", desc := "(I)I" } : Jvm.MethodName)) ∈ lw_all := lw_g (lw_at lw_m4 87 rfl) rfl
theorem q860 : (Jvm.Cond.methodLink "CanecrushLaw" (142 : Nat) ({ cls := "CanecrushLaw", name := "pass", desc := "(LCanecrush;III[J)I" } : Jvm.MethodName)) ∈ lw_all := lw_g (lw_at lw_m4 91 rfl) rfl
theorem q861 : (Jvm.Cond.static ({ cls := "CanecrushLaw", name := "pass", desc := "(LCanecrush;III[J)I" } : Jvm.MethodName)) ∈ lw_all := lw_g (lw_at lw_m4 92 rfl) rfl
theorem q862 : (Jvm.Cond.codeWith ({ cls := "CanecrushLaw", name := "pass", desc := "(LCanecrush;III[J)I" } : Jvm.MethodName) method_16_code (6 : Nat) (Option.some Jvm.ClassFile.FieldType.int) [((0 : Nat), (12 : Nat), (15 : Nat), (15 : Nat))]) ∈ lw_all := lw_g (lw_at lw_m4 93 rfl) rfl
theorem q863 : (Jvm.Cond.methodLink "CanecrushLaw" (59 : Nat) ({ cls := "Canecrush", name := "pass", desc := "(III)I" } : Jvm.MethodName)) ∈ lw_all := lw_g (lw_at lw_m4 94 rfl) rfl
theorem q870 : (Jvm.Cond.methodLink "CanecrushLaw" (145 : Nat) ({ cls := "CanecrushLaw", name := "ofField", desc := "(LCanecrush;II[J)I" } : Jvm.MethodName)) ∈ lw_all := lw_g (lw_at lw_m4 101 rfl) rfl
theorem q871 : (Jvm.Cond.static ({ cls := "CanecrushLaw", name := "ofField", desc := "(LCanecrush;II[J)I" } : Jvm.MethodName)) ∈ lw_all := lw_g (lw_at lw_m4 102 rfl) rfl
theorem q872 : (Jvm.Cond.codeWith ({ cls := "CanecrushLaw", name := "ofField", desc := "(LCanecrush;II[J)I" } : Jvm.MethodName) method_17_code (5 : Nat) (Option.some Jvm.ClassFile.FieldType.int) [((0 : Nat), (10 : Nat), (13 : Nat), (13 : Nat)), ((0 : Nat), (10 : Nat), (17 : Nat), (15 : Nat))]) ∈ lw_all := lw_g (lw_at lw_m4 103 rfl) rfl
theorem q873 : (Jvm.Cond.methodLink "CanecrushLaw" (62 : Nat) ({ cls := "Canecrush", name := "ofField", desc := "(II)I" } : Jvm.MethodName)) ∈ lw_all := lw_g (lw_at lw_m4 104 rfl) rfl
theorem q877 : (Jvm.Cond.methodLink "CanecrushLaw" (148 : Nat) ({ cls := "CanecrushLaw", name := "ofLoad", desc := "(LCanecrush;II[J)I" } : Jvm.MethodName)) ∈ lw_all := lw_g (lw_at lw_m4 108 rfl) rfl
theorem q878 : (Jvm.Cond.static ({ cls := "CanecrushLaw", name := "ofLoad", desc := "(LCanecrush;II[J)I" } : Jvm.MethodName)) ∈ lw_all := lw_g (lw_at lw_m4 109 rfl) rfl
theorem q879 : (Jvm.Cond.codeWith ({ cls := "CanecrushLaw", name := "ofLoad", desc := "(LCanecrush;II[J)I" } : Jvm.MethodName) method_18_code (5 : Nat) (Option.some Jvm.ClassFile.FieldType.int) [((0 : Nat), (10 : Nat), (13 : Nat), (13 : Nat)), ((0 : Nat), (10 : Nat), (17 : Nat), (15 : Nat))]) ∈ lw_all := lw_g (lw_at lw_m4 110 rfl) rfl
theorem q880 : (Jvm.Cond.methodLink "CanecrushLaw" (65 : Nat) ({ cls := "Canecrush", name := "ofLoad", desc := "(II)I" } : Jvm.MethodName)) ∈ lw_all := lw_g (lw_at lw_m4 111 rfl) rfl
theorem q888 : (Jvm.Cond.methodLink "CanecrushLaw" (151 : Nat) ({ cls := "CanecrushLaw", name := "ofTruck", desc := "(LCanecrush;II[J)I" } : Jvm.MethodName)) ∈ lw_all := lw_g (lw_at lw_m4 119 rfl) rfl
theorem q889 : (Jvm.Cond.static ({ cls := "CanecrushLaw", name := "ofTruck", desc := "(LCanecrush;II[J)I" } : Jvm.MethodName)) ∈ lw_all := lw_g (lw_at lw_m4 120 rfl) rfl
theorem q890 : (Jvm.Cond.codeWith ({ cls := "CanecrushLaw", name := "ofTruck", desc := "(LCanecrush;II[J)I" } : Jvm.MethodName) method_19_code (5 : Nat) (Option.some Jvm.ClassFile.FieldType.int) [((0 : Nat), (10 : Nat), (13 : Nat), (13 : Nat)), ((0 : Nat), (10 : Nat), (17 : Nat), (15 : Nat))]) ∈ lw_all := lw_g (lw_at lw_m4 121 rfl) rfl
theorem q891 : (Jvm.Cond.methodLink "CanecrushLaw" (68 : Nat) ({ cls := "Canecrush", name := "ofTruck", desc := "(II)I" } : Jvm.MethodName)) ∈ lw_all := lw_g (lw_at lw_m4 122 rfl) rfl
theorem q895 : (Jvm.Cond.methodLink "CanecrushLaw" (154 : Nat) ({ cls := "CanecrushLaw", name := "ofGrower", desc := "(LCanecrush;II[J)I" } : Jvm.MethodName)) ∈ lw_all := lw_g (lw_at lw_m4 126 rfl) rfl
theorem q896 : (Jvm.Cond.static ({ cls := "CanecrushLaw", name := "ofGrower", desc := "(LCanecrush;II[J)I" } : Jvm.MethodName)) ∈ lw_all := lw_g (lw_at lw_m4 127 rfl) rfl
theorem q897 : (Jvm.Cond.codeWith ({ cls := "CanecrushLaw", name := "ofGrower", desc := "(LCanecrush;II[J)I" } : Jvm.MethodName) method_20_code (5 : Nat) (Option.some Jvm.ClassFile.FieldType.int) [((0 : Nat), (10 : Nat), (13 : Nat), (13 : Nat)), ((0 : Nat), (10 : Nat), (17 : Nat), (15 : Nat))]) ∈ lw_all := lw_g (lw_at lw_m4 128 rfl) rfl
theorem q898 : (Jvm.Cond.methodLink "CanecrushLaw" (71 : Nat) ({ cls := "Canecrush", name := "ofGrower", desc := "(II)I" } : Jvm.MethodName)) ∈ lw_all := lw_g (lw_at lw_m4 129 rfl) rfl
theorem q902 : (Jvm.Cond.methodLink "CanecrushLaw" (157 : Nat) ({ cls := "CanecrushLaw", name := "many", desc := "(LCanecrush;I[J)I" } : Jvm.MethodName)) ∈ lw_all := lw_g (lw_at lw_m4 133 rfl) rfl
theorem q903 : (Jvm.Cond.static ({ cls := "CanecrushLaw", name := "many", desc := "(LCanecrush;I[J)I" } : Jvm.MethodName)) ∈ lw_all := lw_g (lw_at lw_m4 134 rfl) rfl
theorem q904 : (Jvm.Cond.codeWith ({ cls := "CanecrushLaw", name := "many", desc := "(LCanecrush;I[J)I" } : Jvm.MethodName) method_21_code (4 : Nat) (Option.some Jvm.ClassFile.FieldType.int) [((0 : Nat), (9 : Nat), (12 : Nat), (15 : Nat))]) ∈ lw_all := lw_g (lw_at lw_m4 135 rfl) rfl
theorem q905 : (Jvm.Cond.methodLink "CanecrushLaw" (74 : Nat) ({ cls := "Canecrush", name := "many", desc := "(I)I" } : Jvm.MethodName)) ∈ lw_all := lw_g (lw_at lw_m4 136 rfl) rfl
theorem q909 : (Jvm.Cond.methodLink "CanecrushLaw" (165 : Nat) ({ cls := "CanecrushLaw", name := "crushedIn", desc := "(LCanecrush;II[J)I" } : Jvm.MethodName)) ∈ lw_all := lw_g (lw_at lw_m4 140 rfl) rfl
theorem q910 : (Jvm.Cond.static ({ cls := "CanecrushLaw", name := "crushedIn", desc := "(LCanecrush;II[J)I" } : Jvm.MethodName)) ∈ lw_all := lw_g (lw_at lw_m4 141 rfl) rfl
theorem q911 : (Jvm.Cond.codeWith ({ cls := "CanecrushLaw", name := "crushedIn", desc := "(LCanecrush;II[J)I" } : Jvm.MethodName) method_22_code (5 : Nat) (Option.some Jvm.ClassFile.FieldType.int) [((0 : Nat), (10 : Nat), (13 : Nat), (13 : Nat)), ((0 : Nat), (10 : Nat), (17 : Nat), (15 : Nat))]) ∈ lw_all := lw_g (lw_at lw_m4 142 rfl) rfl
theorem q912 : (Jvm.Cond.methodLink "CanecrushLaw" (77 : Nat) ({ cls := "Canecrush", name := "crushedIn", desc := "(II)I" } : Jvm.MethodName)) ∈ lw_all := lw_g (lw_at lw_m4 143 rfl) rfl
theorem q919 : (Jvm.Cond.methodLink "CanecrushLaw" (168 : Nat) ({ cls := "CanecrushLaw", name := "stopsIn", desc := "(LCanecrush;I[J)I" } : Jvm.MethodName)) ∈ lw_all := lw_g (lw_at lw_m4 150 rfl) rfl
theorem q920 : (Jvm.Cond.static ({ cls := "CanecrushLaw", name := "stopsIn", desc := "(LCanecrush;I[J)I" } : Jvm.MethodName)) ∈ lw_all := lw_g (lw_at lw_m4 151 rfl) rfl
theorem q921 : (Jvm.Cond.codeWith ({ cls := "CanecrushLaw", name := "stopsIn", desc := "(LCanecrush;I[J)I" } : Jvm.MethodName) method_23_code (4 : Nat) (Option.some Jvm.ClassFile.FieldType.int) [((0 : Nat), (9 : Nat), (12 : Nat), (15 : Nat))]) ∈ lw_all := lw_g (lw_at lw_m4 152 rfl) rfl
theorem q922 : (Jvm.Cond.methodLink "CanecrushLaw" (80 : Nat) ({ cls := "Canecrush", name := "stopsIn", desc := "(I)I" } : Jvm.MethodName)) ∈ lw_all := lw_g (lw_at lw_m4 153 rfl) rfl
theorem q926 : (Jvm.Cond.methodLink "CanecrushLaw" (171 : Nat) ({ cls := "CanecrushLaw", name := "bestOrder", desc := "(LCanecrush;I[J)I" } : Jvm.MethodName)) ∈ lw_all := lw_g (lw_at lw_m4 157 rfl) rfl
theorem q927 : (Jvm.Cond.static ({ cls := "CanecrushLaw", name := "bestOrder", desc := "(LCanecrush;I[J)I" } : Jvm.MethodName)) ∈ lw_all := lw_g (lw_at lw_m4 158 rfl) rfl
theorem q928 : (Jvm.Cond.codeWith ({ cls := "CanecrushLaw", name := "bestOrder", desc := "(LCanecrush;I[J)I" } : Jvm.MethodName) method_24_code (4 : Nat) (Option.some Jvm.ClassFile.FieldType.int) [((0 : Nat), (9 : Nat), (12 : Nat), (15 : Nat))]) ∈ lw_all := lw_g (lw_at lw_m4 159 rfl) rfl
theorem q929 : (Jvm.Cond.methodLink "CanecrushLaw" (83 : Nat) ({ cls := "Canecrush", name := "bestOrder", desc := "(I)I" } : Jvm.MethodName)) ∈ lw_all := lw_g (lw_at lw_m4 160 rfl) rfl
theorem q933 : (Jvm.Cond.methodLink "CanecrushLaw" (174 : Nat) ({ cls := "CanecrushLaw", name := "bestDay", desc := "(LCanecrush;IIII[J)I" } : Jvm.MethodName)) ∈ lw_all := lw_g (lw_at lw_m4 164 rfl) rfl
theorem q934 : (Jvm.Cond.static ({ cls := "CanecrushLaw", name := "bestDay", desc := "(LCanecrush;IIII[J)I" } : Jvm.MethodName)) ∈ lw_all := lw_g (lw_at lw_m4 165 rfl) rfl
theorem q935 : (Jvm.Cond.codeWith ({ cls := "CanecrushLaw", name := "bestDay", desc := "(LCanecrush;IIII[J)I" } : Jvm.MethodName) method_25_code (7 : Nat) (Option.some Jvm.ClassFile.FieldType.int) [((0 : Nat), (14 : Nat), (17 : Nat), (13 : Nat)), ((0 : Nat), (14 : Nat), (21 : Nat), (15 : Nat))]) ∈ lw_all := lw_g (lw_at lw_m4 166 rfl) rfl
theorem q936 : (Jvm.Cond.methodLink "CanecrushLaw" (86 : Nat) ({ cls := "Canecrush", name := "bestDay", desc := "(IIII)I" } : Jvm.MethodName)) ∈ lw_all := lw_g (lw_at lw_m4 167 rfl) rfl
theorem q940 : (Jvm.Cond.classLink "CanecrushLaw" (91 : Nat) "CanecrushModel") ∈ lw_all := lw_g (lw_at lw_m4 171 rfl) rfl
theorem q942 : (Jvm.Cond.methodLink "CanecrushLaw" (93 : Nat) ({ cls := "CanecrushModel", name := "<init>", desc := "()V" } : Jvm.MethodName)) ∈ lw_all := lw_g (lw_at lw_m4 173 rfl) rfl
theorem q1055 : (Jvm.Cond.methodLink "CanecrushLaw" (100 : Nat) ({ cls := "CanecrushModel", name := "thrown", desc := "()I" } : Jvm.MethodName)) ∈ lw_all := lw_g (lw_at lw_m5 46 rfl) rfl
theorem q1059 : (Jvm.Cond.methodLink "CanecrushLaw" (99 : Nat) ({ cls := "CanecrushModel", name := "field", desc := "(III)I" } : Jvm.MethodName)) ∈ lw_all := lw_g (lw_at lw_m5 50 rfl) rfl
theorem q1132 : (Jvm.Cond.methodLink "CanecrushLaw" (106 : Nat) ({ cls := "CanecrushModel", name := "truck", desc := "()I" } : Jvm.MethodName)) ∈ lw_all := lw_g (lw_at lw_m5 123 rfl) rfl
theorem q1163 : (Jvm.Cond.methodLink "CanecrushLaw" (110 : Nat) ({ cls := "CanecrushModel", name := "smut", desc := "(II)I" } : Jvm.MethodName)) ∈ lw_all := lw_g (lw_at lw_m5 154 rfl) rfl
theorem q1173 : (Jvm.Cond.methodLink "CanecrushLaw" (113 : Nat) ({ cls := "CanecrushModel", name := "set", desc := "(III)I" } : Jvm.MethodName)) ∈ lw_all := lw_g (lw_at lw_m5 164 rfl) rfl
theorem q1177 : (Jvm.Cond.methodLink "CanecrushLaw" (117 : Nat) ({ cls := "CanecrushModel", name := "burn", desc := "(I)Z" } : Jvm.MethodName)) ∈ lw_all := lw_g (lw_at lw_m5 168 rfl) rfl
theorem q1181 : (Jvm.Cond.methodLink "CanecrushLaw" (120 : Nat) ({ cls := "CanecrushModel", name := "cut", desc := "(II)I" } : Jvm.MethodName)) ∈ lw_all := lw_g (lw_at lw_m5 172 rfl) rfl
theorem q1233 : (Jvm.Cond.methodLink "CanecrushLaw" (123 : Nat) ({ cls := "CanecrushModel", name := "send", desc := "(II)I" } : Jvm.MethodName)) ∈ lw_all := lw_g (lw_at lw_m5 224 rfl) rfl
theorem q1241 : (Jvm.Cond.methodLink "CanecrushLaw" (126 : Nat) ({ cls := "CanecrushModel", name := "recall", desc := "(I)I" } : Jvm.MethodName)) ∈ lw_all := lw_g (lw_at lw_m5 232 rfl) rfl
theorem q1245 : (Jvm.Cond.methodLink "CanecrushLaw" (129 : Nat) ({ cls := "CanecrushModel", name := "start", desc := "()I" } : Jvm.MethodName)) ∈ lw_all := lw_g (lw_at lw_m5 236 rfl) rfl
theorem q1254 : (Jvm.Cond.methodLink "CanecrushLaw" (132 : Nat) ({ cls := "CanecrushModel", name := "boil", desc := "(I)I" } : Jvm.MethodName)) ∈ lw_all := lw_g (lw_at lw_m6 5 rfl) rfl
theorem q1258 : (Jvm.Cond.methodLink "CanecrushLaw" (135 : Nat) ({ cls := "CanecrushModel", name := "distil", desc := "()I" } : Jvm.MethodName)) ∈ lw_all := lw_g (lw_at lw_m6 9 rfl) rfl
theorem q1262 : (Jvm.Cond.methodLink "CanecrushLaw" (138 : Nat) ({ cls := "CanecrushModel", name := "sell", desc := "(II)I" } : Jvm.MethodName)) ∈ lw_all := lw_g (lw_at lw_m6 13 rfl) rfl
theorem q1266 : (Jvm.Cond.methodLink "CanecrushLaw" (141 : Nat) ({ cls := "CanecrushModel", name := "pay", desc := "(I)I" } : Jvm.MethodName)) ∈ lw_all := lw_g (lw_at lw_m6 17 rfl) rfl
theorem q1270 : (Jvm.Cond.methodLink "CanecrushLaw" (144 : Nat) ({ cls := "CanecrushModel", name := "pass", desc := "(III)I" } : Jvm.MethodName)) ∈ lw_all := lw_g (lw_at lw_m6 21 rfl) rfl
theorem q1377 : (Jvm.Cond.methodLink "CanecrushLaw" (147 : Nat) ({ cls := "CanecrushModel", name := "ofField", desc := "(II)I" } : Jvm.MethodName)) ∈ lw_all := lw_g (lw_at lw_m6 128 rfl) rfl
theorem q1389 : (Jvm.Cond.methodLink "CanecrushLaw" (150 : Nat) ({ cls := "CanecrushModel", name := "ofLoad", desc := "(II)I" } : Jvm.MethodName)) ∈ lw_all := lw_g (lw_at lw_m6 140 rfl) rfl
theorem q1402 : (Jvm.Cond.methodLink "CanecrushLaw" (153 : Nat) ({ cls := "CanecrushModel", name := "ofTruck", desc := "(II)I" } : Jvm.MethodName)) ∈ lw_all := lw_g (lw_at lw_m6 153 rfl) rfl
theorem q1410 : (Jvm.Cond.methodLink "CanecrushLaw" (156 : Nat) ({ cls := "CanecrushModel", name := "ofGrower", desc := "(II)I" } : Jvm.MethodName)) ∈ lw_all := lw_g (lw_at lw_m6 161 rfl) rfl
theorem q1418 : (Jvm.Cond.methodLink "CanecrushLaw" (159 : Nat) ({ cls := "CanecrushModel", name := "many", desc := "(I)I" } : Jvm.MethodName)) ∈ lw_all := lw_g (lw_at lw_m6 169 rfl) rfl
theorem q1426 : (Jvm.Cond.methodLink "CanecrushLaw" (164 : Nat) ({ cls := "CanecrushModel", name := "meanSweet", desc := "()D" } : Jvm.MethodName)) ∈ lw_all := lw_g (lw_at lw_m6 177 rfl) rfl
theorem q1430 : (Jvm.Cond.methodLink "CanecrushLaw" (167 : Nat) ({ cls := "CanecrushModel", name := "crushedIn", desc := "(II)I" } : Jvm.MethodName)) ∈ lw_all := lw_g (lw_at lw_m6 181 rfl) rfl
theorem q1477 : (Jvm.Cond.methodLink "CanecrushLaw" (170 : Nat) ({ cls := "CanecrushModel", name := "stopsIn", desc := "(I)I" } : Jvm.MethodName)) ∈ lw_all := lw_g (lw_at lw_m6 228 rfl) rfl
theorem q1485 : (Jvm.Cond.methodLink "CanecrushLaw" (173 : Nat) ({ cls := "CanecrushModel", name := "bestOrder", desc := "(I)I" } : Jvm.MethodName)) ∈ lw_all := lw_g (lw_at lw_m6 236 rfl) rfl
theorem q1493 : (Jvm.Cond.methodLink "CanecrushLaw" (177 : Nat) ({ cls := "CanecrushModel", name := "bestDay", desc := "(IIII)I" } : Jvm.MethodName)) ∈ lw_all := lw_g (lw_at lw_m7 4 rfl) rfl
theorem q1503 : (Jvm.Cond.methodLink "CanecrushLaw" (182 : Nat) ({ cls := "CanecrushModel", name := "digest", desc := "()J" } : Jvm.MethodName)) ∈ lw_all := lw_g (lw_at lw_m7 14 rfl) rfl

/-! the law's own entry -/
set_option maxRecDepth 100000
abbrev cL_law : ByteArray := code
def dkwL_law_69 : List UInt8 := [172]
abbrev dktL_law_69 : List UInt8 := dkwL_law_69 ++ []
def dkwL_law_68 : List UInt8 := [167, 0, 17, 43, 182, 0, 178, 44, 182, 0, 182, 148, 153, 0, 5, 3, 172, 132, 4, 5, 167, 249, 130, 4]
abbrev dktL_law_68 : List UInt8 := dkwL_law_68 ++ dktL_law_69
def dkwL_law_67 : List UInt8 := [159, 0, 5, 3, 172, 21, 5, 154, 0, 15, 45, 3, 47, 21, 6, 133, 148, 153, 0, 5, 3, 172]
abbrev dktL_law_67 : List UInt8 := dkwL_law_67 ++ dktL_law_68
def dkwL_law_66 : List UInt8 := [42, 21, 4, 6, 96, 46, 42, 21, 4, 7, 96, 46, 182, 0, 177, 54, 6, 44, 182, 0, 100, 21, 5]
abbrev dktL_law_66 : List UInt8 := dkwL_law_66 ++ dktL_law_67
def dkwL_law_65 : List UInt8 := [21, 4, 7, 96, 46, 45, 184, 0, 174, 54, 5, 44, 42, 21, 4, 4, 96, 46, 42, 21, 4, 5, 96, 46]
abbrev dktL_law_65 : List UInt8 := dkwL_law_65 ++ dktL_law_66
def dkwL_law_64 : List UInt8 := [167, 0, 109, 43, 42, 21, 4, 4, 96, 46, 42, 21, 4, 5, 96, 46, 42, 21, 4, 6, 96, 46, 42]
abbrev dktL_law_64 : List UInt8 := dkwL_law_64 ++ dktL_law_65
def dkwL_law_63 : List UInt8 := [21, 5, 159, 0, 5, 3, 172, 21, 5, 154, 0, 15, 45, 3, 47, 21, 6, 133, 148, 153, 0, 5, 3, 172]
abbrev dktL_law_63 : List UInt8 := dkwL_law_63 ++ dktL_law_64
def dkwL_law_62 : List UInt8 := [46, 45, 184, 0, 171, 54, 5, 44, 42, 21, 4, 4, 96, 46, 182, 0, 173, 54, 6, 44, 182, 0, 100]
abbrev dktL_law_62 : List UInt8 := dkwL_law_62 ++ dktL_law_63
def dkwL_law_61 : List UInt8 := [154, 0, 15, 45, 3, 47, 21, 6, 133, 148, 153, 0, 5, 3, 172, 167, 0, 165, 43, 42, 21, 4, 4, 96]
abbrev dktL_law_61 : List UInt8 := dkwL_law_61 ++ dktL_law_62
def dkwL_law_60 : List UInt8 := [21, 4, 4, 96, 46, 182, 0, 170, 54, 6, 44, 182, 0, 100, 21, 5, 159, 0, 5, 3, 172, 21, 5]
abbrev dktL_law_60 : List UInt8 := dkwL_law_60 ++ dktL_law_61
def dkwL_law_59 : List UInt8 := [153, 0, 5, 3, 172, 167, 0, 221, 43, 42, 21, 4, 4, 96, 46, 45, 184, 0, 168, 54, 5, 44, 42]
abbrev dktL_law_59 : List UInt8 := dkwL_law_59 ++ dktL_law_60
def dkwL_law_58 : List UInt8 := [44, 182, 0, 100, 21, 5, 159, 0, 5, 3, 172, 21, 5, 154, 0, 15, 45, 3, 47, 21, 6, 133, 148]
abbrev dktL_law_58 : List UInt8 := dkwL_law_58 ++ dktL_law_59
def dkwL_law_57 : List UInt8 := [45, 184, 0, 165, 54, 5, 44, 42, 21, 4, 4, 96, 46, 42, 21, 4, 5, 96, 46, 182, 0, 167, 54, 6]
abbrev dktL_law_57 : List UInt8 := dkwL_law_57 ++ dktL_law_58
def dkwL_law_56 : List UInt8 := [24, 7, 151, 154, 0, 5, 3, 172, 167, 1, 33, 43, 42, 21, 4, 4, 96, 46, 42, 21, 4, 5, 96, 46]
abbrev dktL_law_56 : List UInt8 := dkwL_law_56 ++ dktL_law_57
def dkwL_law_55 : List UInt8 := [44, 182, 0, 164, 57, 7, 24, 5, 24, 7, 151, 153, 0, 21, 24, 5, 24, 5, 151, 153, 0, 11, 24, 7]
abbrev dktL_law_55 : List UInt8 := dkwL_law_55 ++ dktL_law_56
def dkwL_law_54 : List UInt8 := [154, 0, 15, 45, 3, 47, 21, 6, 133, 148, 153, 0, 5, 3, 172, 167, 1, 74, 43, 182, 0, 160, 57, 5]
abbrev dktL_law_54 : List UInt8 := dkwL_law_54 ++ dktL_law_55
def dkwL_law_53 : List UInt8 := [21, 4, 4, 96, 46, 182, 0, 159, 54, 6, 44, 182, 0, 100, 21, 5, 159, 0, 5, 3, 172, 21, 5]
abbrev dktL_law_53 : List UInt8 := dkwL_law_53 ++ dktL_law_54
def dkwL_law_52 : List UInt8 := [148, 153, 0, 5, 3, 172, 167, 1, 130, 43, 42, 21, 4, 4, 96, 46, 45, 184, 0, 157, 54, 5, 44, 42]
abbrev dktL_law_52 : List UInt8 := dkwL_law_52 ++ dktL_law_53
def dkwL_law_51 : List UInt8 := [54, 6, 44, 182, 0, 100, 21, 5, 159, 0, 5, 3, 172, 21, 5, 154, 0, 15, 45, 3, 47, 21, 6, 133]
abbrev dktL_law_51 : List UInt8 := dkwL_law_51 ++ dktL_law_52
def dkwL_law_50 : List UInt8 := [46, 45, 184, 0, 154, 54, 5, 44, 42, 21, 4, 4, 96, 46, 42, 21, 4, 5, 96, 46, 182, 0, 156]
abbrev dktL_law_50 : List UInt8 := dkwL_law_50 ++ dktL_law_51
def dkwL_law_49 : List UInt8 := [21, 6, 133, 148, 153, 0, 5, 3, 172, 167, 1, 198, 43, 42, 21, 4, 4, 96, 46, 42, 21, 4, 5, 96]
abbrev dktL_law_49 : List UInt8 := dkwL_law_49 ++ dktL_law_50
def dkwL_law_48 : List UInt8 := [182, 0, 153, 54, 6, 44, 182, 0, 100, 21, 5, 159, 0, 5, 3, 172, 21, 5, 154, 0, 15, 45, 3, 47]
abbrev dktL_law_48 : List UInt8 := dkwL_law_48 ++ dktL_law_49
def dkwL_law_47 : List UInt8 := [5, 96, 46, 45, 184, 0, 151, 54, 5, 44, 42, 21, 4, 4, 96, 46, 42, 21, 4, 5, 96, 46]
abbrev dktL_law_47 : List UInt8 := dkwL_law_47 ++ dktL_law_48
def dkwL_law_46 : List UInt8 := [3, 47, 21, 6, 133, 148, 153, 0, 5, 3, 172, 167, 2, 10, 43, 42, 21, 4, 4, 96, 46, 42, 21, 4]
abbrev dktL_law_46 : List UInt8 := dkwL_law_46 ++ dktL_law_47
def dkwL_law_45 : List UInt8 := [96, 46, 182, 0, 150, 54, 6, 44, 182, 0, 100, 21, 5, 159, 0, 5, 3, 172, 21, 5, 154, 0, 15, 45]
abbrev dktL_law_45 : List UInt8 := dkwL_law_45 ++ dktL_law_46
def dkwL_law_44 : List UInt8 := [46, 42, 21, 4, 5, 96, 46, 45, 184, 0, 148, 54, 5, 44, 42, 21, 4, 4, 96, 46, 42, 21, 4, 5]
abbrev dktL_law_44 : List UInt8 := dkwL_law_44 ++ dktL_law_45
def dkwL_law_43 : List UInt8 := [154, 0, 15, 45, 3, 47, 21, 6, 133, 148, 153, 0, 5, 3, 172, 167, 2, 78, 43, 42, 21, 4, 4, 96]
abbrev dktL_law_43 : List UInt8 := dkwL_law_43 ++ dktL_law_44
def dkwL_law_42 : List UInt8 := [21, 4, 5, 96, 46, 182, 0, 147, 54, 6, 44, 182, 0, 100, 21, 5, 159, 0, 5, 3, 172, 21, 5]
abbrev dktL_law_42 : List UInt8 := dkwL_law_42 ++ dktL_law_43
def dkwL_law_41 : List UInt8 := [4, 96, 46, 42, 21, 4, 5, 96, 46, 45, 184, 0, 145, 54, 5, 44, 42, 21, 4, 4, 96, 46, 42]
abbrev dktL_law_41 : List UInt8 := dkwL_law_41 ++ dktL_law_42
def dkwL_law_40 : List UInt8 := [21, 5, 154, 0, 15, 45, 3, 47, 21, 6, 133, 148, 153, 0, 5, 3, 172, 167, 2, 146, 43, 42, 21, 4]
abbrev dktL_law_40 : List UInt8 := dkwL_law_40 ++ dktL_law_41
def dkwL_law_39 : List UInt8 := [96, 46, 42, 21, 4, 6, 96, 46, 182, 0, 144, 54, 6, 44, 182, 0, 100, 21, 5, 159, 0, 5, 3, 172]
abbrev dktL_law_39 : List UInt8 := dkwL_law_39 ++ dktL_law_40
def dkwL_law_38 : List UInt8 := [46, 42, 21, 4, 6, 96, 46, 45, 184, 0, 142, 54, 5, 44, 42, 21, 4, 4, 96, 46, 42, 21, 4, 5]
abbrev dktL_law_38 : List UInt8 := dkwL_law_38 ++ dktL_law_39
def dkwL_law_37 : List UInt8 := [21, 6, 133, 148, 153, 0, 5, 3, 172, 167, 2, 226, 43, 42, 21, 4, 4, 96, 46, 42, 21, 4, 5, 96]
abbrev dktL_law_37 : List UInt8 := dkwL_law_37 ++ dktL_law_38
def dkwL_law_36 : List UInt8 := [182, 0, 141, 54, 6, 44, 182, 0, 100, 21, 5, 159, 0, 5, 3, 172, 21, 5, 154, 0, 15, 45, 3, 47]
abbrev dktL_law_36 : List UInt8 := dkwL_law_36 ++ dktL_law_37
def dkwL_law_35 : List UInt8 := [167, 3, 26, 43, 42, 21, 4, 4, 96, 46, 45, 184, 0, 139, 54, 5, 44, 42, 21, 4, 4, 96, 46]
abbrev dktL_law_35 : List UInt8 := dkwL_law_35 ++ dktL_law_36
def dkwL_law_34 : List UInt8 := [159, 0, 5, 3, 172, 21, 5, 154, 0, 15, 45, 3, 47, 21, 6, 133, 148, 153, 0, 5, 3, 172]
abbrev dktL_law_34 : List UInt8 := dkwL_law_34 ++ dktL_law_35
def dkwL_law_33 : List UInt8 := [21, 4, 4, 96, 46, 42, 21, 4, 5, 96, 46, 182, 0, 138, 54, 6, 44, 182, 0, 100, 21, 5]
abbrev dktL_law_33 : List UInt8 := dkwL_law_33 ++ dktL_law_34
def dkwL_law_32 : List UInt8 := [167, 3, 94, 43, 42, 21, 4, 4, 96, 46, 42, 21, 4, 5, 96, 46, 45, 184, 0, 136, 54, 5, 44, 42]
abbrev dktL_law_32 : List UInt8 := dkwL_law_32 ++ dktL_law_33
def dkwL_law_31 : List UInt8 := [159, 0, 5, 3, 172, 21, 5, 154, 0, 15, 45, 3, 47, 21, 6, 133, 148, 153, 0, 5, 3, 172]
abbrev dktL_law_31 : List UInt8 := dkwL_law_31 ++ dktL_law_32
def dkwL_law_30 : List UInt8 := [167, 3, 138, 43, 45, 184, 0, 133, 54, 5, 44, 182, 0, 135, 54, 6, 44, 182, 0, 100, 21, 5]
abbrev dktL_law_30 : List UInt8 := dkwL_law_30 ++ dktL_law_31
def dkwL_law_29 : List UInt8 := [159, 0, 5, 3, 172, 21, 5, 154, 0, 15, 45, 3, 47, 21, 6, 133, 148, 153, 0, 5, 3, 172]
abbrev dktL_law_29 : List UInt8 := dkwL_law_29 ++ dktL_law_30
def dkwL_law_28 : List UInt8 := [184, 0, 130, 54, 5, 44, 42, 21, 4, 4, 96, 46, 182, 0, 132, 54, 6, 44, 182, 0, 100, 21, 5]
abbrev dktL_law_28 : List UInt8 := dkwL_law_28 ++ dktL_law_29
def dkwL_law_27 : List UInt8 := [45, 3, 47, 21, 6, 133, 148, 153, 0, 5, 3, 172, 167, 3, 194, 43, 42, 21, 4, 4, 96, 46, 45]
abbrev dktL_law_27 : List UInt8 := dkwL_law_27 ++ dktL_law_28
def dkwL_law_26 : List UInt8 := [54, 5, 44, 182, 0, 129, 54, 6, 44, 182, 0, 100, 21, 5, 159, 0, 5, 3, 172, 21, 5, 154, 0, 15]
abbrev dktL_law_26 : List UInt8 := dkwL_law_26 ++ dktL_law_27
def dkwL_law_25 : List UInt8 := [154, 0, 15, 45, 3, 47, 21, 6, 133, 148, 153, 0, 5, 3, 172, 167, 3, 238, 43, 45, 184, 0, 127]
abbrev dktL_law_25 : List UInt8 := dkwL_law_25 ++ dktL_law_26
def dkwL_law_24 : List UInt8 := [21, 4, 4, 96, 46, 182, 0, 126, 54, 6, 44, 182, 0, 100, 21, 5, 159, 0, 5, 3, 172, 21, 5]
abbrev dktL_law_24 : List UInt8 := dkwL_law_24 ++ dktL_law_25
def dkwL_law_23 : List UInt8 := [153, 0, 5, 3, 172, 167, 4, 38, 43, 42, 21, 4, 4, 96, 46, 45, 184, 0, 124, 54, 5, 44, 42]
abbrev dktL_law_23 : List UInt8 := dkwL_law_23 ++ dktL_law_24
def dkwL_law_22 : List UInt8 := [182, 0, 100, 21, 5, 159, 0, 5, 3, 172, 21, 5, 154, 0, 15, 45, 3, 47, 21, 6, 133, 148]
abbrev dktL_law_22 : List UInt8 := dkwL_law_22 ++ dktL_law_23
def dkwL_law_21 : List UInt8 := [184, 0, 121, 54, 5, 44, 42, 21, 4, 4, 96, 46, 42, 21, 4, 5, 96, 46, 182, 0, 123, 54, 6, 44]
abbrev dktL_law_21 : List UInt8 := dkwL_law_21 ++ dktL_law_22
def dkwL_law_20 : List UInt8 := [153, 0, 5, 3, 172, 167, 4, 106, 43, 42, 21, 4, 4, 96, 46, 42, 21, 4, 5, 96, 46, 45]
abbrev dktL_law_20 : List UInt8 := dkwL_law_20 ++ dktL_law_21
def dkwL_law_19 : List UInt8 := [182, 0, 100, 21, 5, 159, 0, 5, 3, 172, 21, 5, 154, 0, 15, 45, 3, 47, 21, 6, 133, 148]
abbrev dktL_law_19 : List UInt8 := dkwL_law_19 ++ dktL_law_20
def dkwL_law_18 : List UInt8 := [184, 0, 118, 54, 5, 44, 42, 21, 4, 4, 96, 46, 42, 21, 4, 5, 96, 46, 182, 0, 120, 54, 6, 44]
abbrev dktL_law_18 : List UInt8 := dkwL_law_18 ++ dktL_law_19
def dkwL_law_17 : List UInt8 := [9, 148, 153, 0, 5, 3, 172, 167, 4, 174, 43, 42, 21, 4, 4, 96, 46, 42, 21, 4, 5, 96, 46, 45]
abbrev dktL_law_17 : List UInt8 := dkwL_law_17 ++ dktL_law_18
def dkwL_law_16 : List UInt8 := [21, 5, 159, 0, 5, 3, 172, 21, 5, 154, 0, 22, 45, 3, 47, 21, 6, 153, 0, 7, 10, 167, 0, 4]
abbrev dktL_law_16 : List UInt8 := dkwL_law_16 ++ dktL_law_17
def dkwL_law_15 : List UInt8 := [46, 45, 184, 0, 114, 54, 5, 44, 42, 21, 4, 4, 96, 46, 182, 0, 117, 54, 6, 44, 182, 0, 100]
abbrev dktL_law_15 : List UInt8 := dkwL_law_15 ++ dktL_law_16
def dkwL_law_14 : List UInt8 := [154, 0, 15, 45, 3, 47, 21, 6, 133, 148, 153, 0, 5, 3, 172, 167, 4, 237, 43, 42, 21, 4, 4, 96]
abbrev dktL_law_14 : List UInt8 := dkwL_law_14 ++ dktL_law_15
def dkwL_law_13 : List UInt8 := [21, 4, 6, 96, 46, 182, 0, 113, 54, 6, 44, 182, 0, 100, 21, 5, 159, 0, 5, 3, 172, 21, 5]
abbrev dktL_law_13 : List UInt8 := dkwL_law_13 ++ dktL_law_14
def dkwL_law_12 : List UInt8 := [6, 96, 46, 45, 184, 0, 111, 54, 5, 44, 42, 21, 4, 4, 96, 46, 42, 21, 4, 5, 96, 46, 42]
abbrev dktL_law_12 : List UInt8 := dkwL_law_12 ++ dktL_law_13
def dkwL_law_11 : List UInt8 := [153, 0, 5, 3, 172, 167, 5, 61, 43, 42, 21, 4, 4, 96, 46, 42, 21, 4, 5, 96, 46, 42, 21, 4]
abbrev dktL_law_11 : List UInt8 := dkwL_law_11 ++ dktL_law_12
def dkwL_law_10 : List UInt8 := [182, 0, 100, 21, 5, 159, 0, 5, 3, 172, 21, 5, 154, 0, 15, 45, 3, 47, 21, 6, 133, 148]
abbrev dktL_law_10 : List UInt8 := dkwL_law_10 ++ dktL_law_11
def dkwL_law_9 : List UInt8 := [184, 0, 107, 54, 5, 44, 42, 21, 4, 4, 96, 46, 42, 21, 4, 5, 96, 46, 182, 0, 110, 54, 6, 44]
abbrev dktL_law_9 : List UInt8 := dkwL_law_9 ++ dktL_law_10
def dkwL_law_8 : List UInt8 := [153, 0, 5, 3, 172, 167, 5, 129, 43, 42, 21, 4, 4, 96, 46, 42, 21, 4, 5, 96, 46, 45]
abbrev dktL_law_8 : List UInt8 := dkwL_law_8 ++ dktL_law_9
def dkwL_law_7 : List UInt8 := [182, 0, 100, 21, 5, 159, 0, 5, 3, 172, 21, 5, 154, 0, 15, 45, 3, 47, 21, 6, 133, 148]
abbrev dktL_law_7 : List UInt8 := dkwL_law_7 ++ dktL_law_8
def dkwL_law_6 : List UInt8 := [148, 153, 0, 5, 3, 172, 167, 5, 173, 43, 45, 184, 0, 103, 54, 5, 44, 182, 0, 106, 54, 6, 44]
abbrev dktL_law_6 : List UInt8 := dkwL_law_6 ++ dktL_law_7
def dkwL_law_5 : List UInt8 := [54, 6, 44, 182, 0, 100, 21, 5, 159, 0, 5, 3, 172, 21, 5, 154, 0, 15, 45, 3, 47, 21, 6, 133]
abbrev dktL_law_5 : List UInt8 := dkwL_law_5 ++ dktL_law_6
def dkwL_law_4 : List UInt8 := [54, 5, 44, 42, 21, 4, 4, 96, 46, 42, 21, 4, 5, 96, 46, 42, 21, 4, 6, 96, 46, 182, 0, 99]
abbrev dktL_law_4 : List UInt8 := dkwL_law_4 ++ dktL_law_5
def dkwL_law_3 : List UInt8 := [43, 42, 21, 4, 4, 96, 46, 42, 21, 4, 5, 96, 46, 42, 21, 4, 6, 96, 46, 45, 184, 0, 94]
abbrev dktL_law_3 : List UInt8 := dkwL_law_3 ++ dktL_law_4
def dkwL_law_2 : List UInt8 := [170, 0, 0, 6, 107, 0, 0, 0, 0, 0, 0, 0, 24, 0, 0, 0, 113, 0, 0, 0, 193, 0, 0, 0, 237, 0, 0, 1, 49, 0, 0, 1, 129, 0, 0, 1, 192, 0, 0, 2, 4, 0, 0, 2, 72, 0, 0, 2, 128, 0, 0, 2, 172, 0, 0, 2, 228, 0, 0, 3, 16, 0, 0, 3, 84, 0, 0, 3, 140, 0, 0, 3, 220, 0, 0, 4, 32, 0, 0, 4, 100, 0, 0, 4, 168, 0, 0, 4, 236, 0, 0, 5, 36, 0, 0, 5, 77, 0, 0, 5, 145, 0, 0, 5, 201, 0, 0, 6, 1, 0, 0, 6, 93]
abbrev dktL_law_2 : List UInt8 := dkwL_law_2 ++ dktL_law_3
def dkwL_law_1 : List UInt8 := [21, 4, 42, 190, 8, 100, 163, 6, 123, 42, 21, 4, 46, 16, 31, 126]
abbrev dktL_law_1 : List UInt8 := dkwL_law_1 ++ dktL_law_2
def dkwL_law_0 : List UInt8 := [187, 0, 8, 89, 183, 0, 90, 76, 187, 0, 91, 89, 183, 0, 93, 77, 4, 188, 11, 78, 3, 54, 4]
abbrev dktL_law_0 : List UInt8 := dkwL_law_0 ++ dktL_law_1
theorem dksL_law_0 : cL_law.data.toList.drop 0 = dktL_law_0 := by decide +kernel
theorem dksL_law_1 : cL_law.data.toList.drop 23 = dktL_law_1 := dk_seg dksL_law_0 23 rfl rfl
theorem dksL_law_2 : cL_law.data.toList.drop 39 = dktL_law_2 := dk_seg dksL_law_1 16 rfl rfl
theorem dksL_law_3 : cL_law.data.toList.drop 152 = dktL_law_3 := dk_seg dksL_law_2 113 rfl rfl
theorem dksL_law_4 : cL_law.data.toList.drop 175 = dktL_law_4 := dk_seg dksL_law_3 23 rfl rfl
theorem dksL_law_5 : cL_law.data.toList.drop 199 = dktL_law_5 := dk_seg dksL_law_4 24 rfl rfl
theorem dksL_law_6 : cL_law.data.toList.drop 223 = dktL_law_6 := dk_seg dksL_law_5 24 rfl rfl
theorem dksL_law_7 : cL_law.data.toList.drop 246 = dktL_law_7 := dk_seg dksL_law_6 23 rfl rfl
theorem dksL_law_8 : cL_law.data.toList.drop 268 = dktL_law_8 := dk_seg dksL_law_7 22 rfl rfl
theorem dksL_law_9 : cL_law.data.toList.drop 290 = dktL_law_9 := dk_seg dksL_law_8 22 rfl rfl
theorem dksL_law_10 : cL_law.data.toList.drop 314 = dktL_law_10 := dk_seg dksL_law_9 24 rfl rfl
theorem dksL_law_11 : cL_law.data.toList.drop 336 = dktL_law_11 := dk_seg dksL_law_10 22 rfl rfl
theorem dksL_law_12 : cL_law.data.toList.drop 360 = dktL_law_12 := dk_seg dksL_law_11 24 rfl rfl
theorem dksL_law_13 : cL_law.data.toList.drop 383 = dktL_law_13 := dk_seg dksL_law_12 23 rfl rfl
theorem dksL_law_14 : cL_law.data.toList.drop 406 = dktL_law_14 := dk_seg dksL_law_13 23 rfl rfl
theorem dksL_law_15 : cL_law.data.toList.drop 430 = dktL_law_15 := dk_seg dksL_law_14 24 rfl rfl
theorem dksL_law_16 : cL_law.data.toList.drop 453 = dktL_law_16 := dk_seg dksL_law_15 23 rfl rfl
theorem dksL_law_17 : cL_law.data.toList.drop 477 = dktL_law_17 := dk_seg dksL_law_16 24 rfl rfl
theorem dksL_law_18 : cL_law.data.toList.drop 501 = dktL_law_18 := dk_seg dksL_law_17 24 rfl rfl
theorem dksL_law_19 : cL_law.data.toList.drop 525 = dktL_law_19 := dk_seg dksL_law_18 24 rfl rfl
theorem dksL_law_20 : cL_law.data.toList.drop 547 = dktL_law_20 := dk_seg dksL_law_19 22 rfl rfl
theorem dksL_law_21 : cL_law.data.toList.drop 569 = dktL_law_21 := dk_seg dksL_law_20 22 rfl rfl
theorem dksL_law_22 : cL_law.data.toList.drop 593 = dktL_law_22 := dk_seg dksL_law_21 24 rfl rfl
theorem dksL_law_23 : cL_law.data.toList.drop 615 = dktL_law_23 := dk_seg dksL_law_22 22 rfl rfl
theorem dksL_law_24 : cL_law.data.toList.drop 638 = dktL_law_24 := dk_seg dksL_law_23 23 rfl rfl
theorem dksL_law_25 : cL_law.data.toList.drop 661 = dktL_law_25 := dk_seg dksL_law_24 23 rfl rfl
theorem dksL_law_26 : cL_law.data.toList.drop 684 = dktL_law_26 := dk_seg dksL_law_25 23 rfl rfl
theorem dksL_law_27 : cL_law.data.toList.drop 708 = dktL_law_27 := dk_seg dksL_law_26 24 rfl rfl
theorem dksL_law_28 : cL_law.data.toList.drop 731 = dktL_law_28 := dk_seg dksL_law_27 23 rfl rfl
theorem dksL_law_29 : cL_law.data.toList.drop 754 = dktL_law_29 := dk_seg dksL_law_28 23 rfl rfl
theorem dksL_law_30 : cL_law.data.toList.drop 776 = dktL_law_30 := dk_seg dksL_law_29 22 rfl rfl
theorem dksL_law_31 : cL_law.data.toList.drop 798 = dktL_law_31 := dk_seg dksL_law_30 22 rfl rfl
theorem dksL_law_32 : cL_law.data.toList.drop 820 = dktL_law_32 := dk_seg dksL_law_31 22 rfl rfl
theorem dksL_law_33 : cL_law.data.toList.drop 844 = dktL_law_33 := dk_seg dksL_law_32 24 rfl rfl
theorem dksL_law_34 : cL_law.data.toList.drop 866 = dktL_law_34 := dk_seg dksL_law_33 22 rfl rfl
theorem dksL_law_35 : cL_law.data.toList.drop 888 = dktL_law_35 := dk_seg dksL_law_34 22 rfl rfl
theorem dksL_law_36 : cL_law.data.toList.drop 911 = dktL_law_36 := dk_seg dksL_law_35 23 rfl rfl
theorem dksL_law_37 : cL_law.data.toList.drop 935 = dktL_law_37 := dk_seg dksL_law_36 24 rfl rfl
theorem dksL_law_38 : cL_law.data.toList.drop 959 = dktL_law_38 := dk_seg dksL_law_37 24 rfl rfl
theorem dksL_law_39 : cL_law.data.toList.drop 983 = dktL_law_39 := dk_seg dksL_law_38 24 rfl rfl
theorem dksL_law_40 : cL_law.data.toList.drop 1007 = dktL_law_40 := dk_seg dksL_law_39 24 rfl rfl
theorem dksL_law_41 : cL_law.data.toList.drop 1031 = dktL_law_41 := dk_seg dksL_law_40 24 rfl rfl
theorem dksL_law_42 : cL_law.data.toList.drop 1054 = dktL_law_42 := dk_seg dksL_law_41 23 rfl rfl
theorem dksL_law_43 : cL_law.data.toList.drop 1077 = dktL_law_43 := dk_seg dksL_law_42 23 rfl rfl
theorem dksL_law_44 : cL_law.data.toList.drop 1101 = dktL_law_44 := dk_seg dksL_law_43 24 rfl rfl
theorem dksL_law_45 : cL_law.data.toList.drop 1125 = dktL_law_45 := dk_seg dksL_law_44 24 rfl rfl
theorem dksL_law_46 : cL_law.data.toList.drop 1149 = dktL_law_46 := dk_seg dksL_law_45 24 rfl rfl
theorem dksL_law_47 : cL_law.data.toList.drop 1173 = dktL_law_47 := dk_seg dksL_law_46 24 rfl rfl
theorem dksL_law_48 : cL_law.data.toList.drop 1195 = dktL_law_48 := dk_seg dksL_law_47 22 rfl rfl
theorem dksL_law_49 : cL_law.data.toList.drop 1219 = dktL_law_49 := dk_seg dksL_law_48 24 rfl rfl
theorem dksL_law_50 : cL_law.data.toList.drop 1243 = dktL_law_50 := dk_seg dksL_law_49 24 rfl rfl
theorem dksL_law_51 : cL_law.data.toList.drop 1266 = dktL_law_51 := dk_seg dksL_law_50 23 rfl rfl
theorem dksL_law_52 : cL_law.data.toList.drop 1290 = dktL_law_52 := dk_seg dksL_law_51 24 rfl rfl
theorem dksL_law_53 : cL_law.data.toList.drop 1314 = dktL_law_53 := dk_seg dksL_law_52 24 rfl rfl
theorem dksL_law_54 : cL_law.data.toList.drop 1337 = dktL_law_54 := dk_seg dksL_law_53 23 rfl rfl
theorem dksL_law_55 : cL_law.data.toList.drop 1361 = dktL_law_55 := dk_seg dksL_law_54 24 rfl rfl
theorem dksL_law_56 : cL_law.data.toList.drop 1385 = dktL_law_56 := dk_seg dksL_law_55 24 rfl rfl
theorem dksL_law_57 : cL_law.data.toList.drop 1409 = dktL_law_57 := dk_seg dksL_law_56 24 rfl rfl
theorem dksL_law_58 : cL_law.data.toList.drop 1433 = dktL_law_58 := dk_seg dksL_law_57 24 rfl rfl
theorem dksL_law_59 : cL_law.data.toList.drop 1456 = dktL_law_59 := dk_seg dksL_law_58 23 rfl rfl
theorem dksL_law_60 : cL_law.data.toList.drop 1479 = dktL_law_60 := dk_seg dksL_law_59 23 rfl rfl
theorem dksL_law_61 : cL_law.data.toList.drop 1502 = dktL_law_61 := dk_seg dksL_law_60 23 rfl rfl
theorem dksL_law_62 : cL_law.data.toList.drop 1526 = dktL_law_62 := dk_seg dksL_law_61 24 rfl rfl
theorem dksL_law_63 : cL_law.data.toList.drop 1549 = dktL_law_63 := dk_seg dksL_law_62 23 rfl rfl
theorem dksL_law_64 : cL_law.data.toList.drop 1573 = dktL_law_64 := dk_seg dksL_law_63 24 rfl rfl
theorem dksL_law_65 : cL_law.data.toList.drop 1596 = dktL_law_65 := dk_seg dksL_law_64 23 rfl rfl
theorem dksL_law_66 : cL_law.data.toList.drop 1620 = dktL_law_66 := dk_seg dksL_law_65 24 rfl rfl
theorem dksL_law_67 : cL_law.data.toList.drop 1643 = dktL_law_67 := dk_seg dksL_law_66 23 rfl rfl
theorem dksL_law_68 : cL_law.data.toList.drop 1665 = dktL_law_68 := dk_seg dksL_law_67 22 rfl rfl
theorem dksL_law_69 : cL_law.data.toList.drop 1689 = dktL_law_69 := dk_seg dksL_law_68 24 rfl rfl
theorem dL_law_0 : decode cL_law 0 = .ok (.new 8, 3) := dk_187 0 8 (dk_at dksL_law_0 0 rfl rfl)
theorem dL_law_3 : decode cL_law 3 = .ok (.dup, 1) := dk_89 (dk_at dksL_law_0 3 rfl rfl)
theorem dL_law_4 : decode cL_law 4 = .ok (.invokespecial 90, 3) := dk_183 0 90 (dk_at dksL_law_0 4 rfl rfl)
theorem dL_law_7 : decode cL_law 7 = .ok (.astore_n 1, 1) := dk_76 (dk_at dksL_law_0 7 rfl rfl)
theorem dL_law_8 : decode cL_law 8 = .ok (.new 91, 3) := dk_187 0 91 (dk_at dksL_law_0 8 rfl rfl)
theorem dL_law_11 : decode cL_law 11 = .ok (.dup, 1) := dk_89 (dk_at dksL_law_0 11 rfl rfl)
theorem dL_law_12 : decode cL_law 12 = .ok (.invokespecial 93, 3) := dk_183 0 93 (dk_at dksL_law_0 12 rfl rfl)
theorem dL_law_15 : decode cL_law 15 = .ok (.astore_n 2, 1) := dk_77 (dk_at dksL_law_0 15 rfl rfl)
theorem dL_law_16 : decode cL_law 16 = .ok (.iconst 1, 1) := dk_4 (dk_at dksL_law_0 16 rfl rfl)
theorem dL_law_17 : decode cL_law 17 = .ok (.newarray .long, 2) := dk_188_11 (dk_at dksL_law_0 17 rfl rfl)
theorem dL_law_19 : decode cL_law 19 = .ok (.astore_n 3, 1) := dk_78 (dk_at dksL_law_0 19 rfl rfl)
theorem dL_law_20 : decode cL_law 20 = .ok (.iconst 0, 1) := dk_3 (dk_at dksL_law_0 20 rfl rfl)
theorem dL_law_21 : decode cL_law 21 = .ok (.istore 4, 2) := dk_54 4 (dk_at dksL_law_0 21 rfl rfl)
theorem dL_law_23 : decode cL_law 23 = .ok (.iload 4, 2) := dk_21 4 (dk_at dksL_law_1 0 rfl rfl)
theorem dL_law_25 : decode cL_law 25 = .ok (.aload_n 0, 1) := dk_42 (dk_at dksL_law_1 2 rfl rfl)
theorem dL_law_26 : decode cL_law 26 = .ok (.arraylength, 1) := dk_190 (dk_at dksL_law_1 3 rfl rfl)
theorem dL_law_27 : decode cL_law 27 = .ok (.iconst 5, 1) := dk_8 (dk_at dksL_law_1 4 rfl rfl)
theorem dL_law_28 : decode cL_law 28 = .ok (.isub, 1) := dk_100 (dk_at dksL_law_1 5 rfl rfl)
theorem dL_law_29 : decode cL_law 29 = .ok (.if_icmp .gt 1659, 3) := dk_163 6 123 (dk_at dksL_law_1 6 rfl rfl)
theorem dL_law_32 : decode cL_law 32 = .ok (.aload_n 0, 1) := dk_42 (dk_at dksL_law_1 9 rfl rfl)
theorem dL_law_33 : decode cL_law 33 = .ok (.iload 4, 2) := dk_21 4 (dk_at dksL_law_1 10 rfl rfl)
theorem dL_law_35 : decode cL_law 35 = .ok (.iaload, 1) := dk_46 (dk_at dksL_law_1 12 rfl rfl)
theorem dL_law_36 : decode cL_law 36 = .ok (.bipush 31, 2) := dk_16 31 (dk_at dksL_law_1 13 rfl rfl)
theorem dL_law_38 : decode cL_law 38 = .ok (.iand, 1) := dk_126 (dk_at dksL_law_1 15 rfl rfl)
theorem dL_law_39 : decode cL_law 39 = .ok (.tableswitch 1643 0 24 #[113, 193, 237, 305, 385, 448, 516, 584, 640, 684, 740, 784, 852, 908, 988, 1056, 1124, 1192, 1260, 1316, 1357, 1425, 1481, 1537, 1629], 113) := by decide +kernel
theorem dL_law_152 : decode cL_law 152 = .ok (.aload_n 1, 1) := dk_43 (dk_at dksL_law_3 0 rfl rfl)
theorem dL_law_153 : decode cL_law 153 = .ok (.aload_n 0, 1) := dk_42 (dk_at dksL_law_3 1 rfl rfl)
theorem dL_law_154 : decode cL_law 154 = .ok (.iload 4, 2) := dk_21 4 (dk_at dksL_law_3 2 rfl rfl)
theorem dL_law_156 : decode cL_law 156 = .ok (.iconst 1, 1) := dk_4 (dk_at dksL_law_3 4 rfl rfl)
theorem dL_law_157 : decode cL_law 157 = .ok (.iadd, 1) := dk_96 (dk_at dksL_law_3 5 rfl rfl)
theorem dL_law_158 : decode cL_law 158 = .ok (.iaload, 1) := dk_46 (dk_at dksL_law_3 6 rfl rfl)
theorem dL_law_159 : decode cL_law 159 = .ok (.aload_n 0, 1) := dk_42 (dk_at dksL_law_3 7 rfl rfl)
theorem dL_law_160 : decode cL_law 160 = .ok (.iload 4, 2) := dk_21 4 (dk_at dksL_law_3 8 rfl rfl)
theorem dL_law_162 : decode cL_law 162 = .ok (.iconst 2, 1) := dk_5 (dk_at dksL_law_3 10 rfl rfl)
theorem dL_law_163 : decode cL_law 163 = .ok (.iadd, 1) := dk_96 (dk_at dksL_law_3 11 rfl rfl)
theorem dL_law_164 : decode cL_law 164 = .ok (.iaload, 1) := dk_46 (dk_at dksL_law_3 12 rfl rfl)
theorem dL_law_165 : decode cL_law 165 = .ok (.aload_n 0, 1) := dk_42 (dk_at dksL_law_3 13 rfl rfl)
theorem dL_law_166 : decode cL_law 166 = .ok (.iload 4, 2) := dk_21 4 (dk_at dksL_law_3 14 rfl rfl)
theorem dL_law_168 : decode cL_law 168 = .ok (.iconst 3, 1) := dk_6 (dk_at dksL_law_3 16 rfl rfl)
theorem dL_law_169 : decode cL_law 169 = .ok (.iadd, 1) := dk_96 (dk_at dksL_law_3 17 rfl rfl)
theorem dL_law_170 : decode cL_law 170 = .ok (.iaload, 1) := dk_46 (dk_at dksL_law_3 18 rfl rfl)
theorem dL_law_171 : decode cL_law 171 = .ok (.aload_n 3, 1) := dk_45 (dk_at dksL_law_3 19 rfl rfl)
theorem dL_law_172 : decode cL_law 172 = .ok (.invokestatic 94, 3) := dk_184 0 94 (dk_at dksL_law_3 20 rfl rfl)
theorem dL_law_175 : decode cL_law 175 = .ok (.istore 5, 2) := dk_54 5 (dk_at dksL_law_4 0 rfl rfl)
theorem dL_law_177 : decode cL_law 177 = .ok (.aload_n 2, 1) := dk_44 (dk_at dksL_law_4 2 rfl rfl)
theorem dL_law_178 : decode cL_law 178 = .ok (.aload_n 0, 1) := dk_42 (dk_at dksL_law_4 3 rfl rfl)
theorem dL_law_179 : decode cL_law 179 = .ok (.iload 4, 2) := dk_21 4 (dk_at dksL_law_4 4 rfl rfl)
theorem dL_law_181 : decode cL_law 181 = .ok (.iconst 1, 1) := dk_4 (dk_at dksL_law_4 6 rfl rfl)
theorem dL_law_182 : decode cL_law 182 = .ok (.iadd, 1) := dk_96 (dk_at dksL_law_4 7 rfl rfl)
theorem dL_law_183 : decode cL_law 183 = .ok (.iaload, 1) := dk_46 (dk_at dksL_law_4 8 rfl rfl)
theorem dL_law_184 : decode cL_law 184 = .ok (.aload_n 0, 1) := dk_42 (dk_at dksL_law_4 9 rfl rfl)
theorem dL_law_185 : decode cL_law 185 = .ok (.iload 4, 2) := dk_21 4 (dk_at dksL_law_4 10 rfl rfl)
theorem dL_law_187 : decode cL_law 187 = .ok (.iconst 2, 1) := dk_5 (dk_at dksL_law_4 12 rfl rfl)
theorem dL_law_188 : decode cL_law 188 = .ok (.iadd, 1) := dk_96 (dk_at dksL_law_4 13 rfl rfl)
theorem dL_law_189 : decode cL_law 189 = .ok (.iaload, 1) := dk_46 (dk_at dksL_law_4 14 rfl rfl)
theorem dL_law_190 : decode cL_law 190 = .ok (.aload_n 0, 1) := dk_42 (dk_at dksL_law_4 15 rfl rfl)
theorem dL_law_191 : decode cL_law 191 = .ok (.iload 4, 2) := dk_21 4 (dk_at dksL_law_4 16 rfl rfl)
theorem dL_law_193 : decode cL_law 193 = .ok (.iconst 3, 1) := dk_6 (dk_at dksL_law_4 18 rfl rfl)
theorem dL_law_194 : decode cL_law 194 = .ok (.iadd, 1) := dk_96 (dk_at dksL_law_4 19 rfl rfl)
theorem dL_law_195 : decode cL_law 195 = .ok (.iaload, 1) := dk_46 (dk_at dksL_law_4 20 rfl rfl)
theorem dL_law_196 : decode cL_law 196 = .ok (.invokevirtual 99, 3) := dk_182 0 99 (dk_at dksL_law_4 21 rfl rfl)
theorem dL_law_199 : decode cL_law 199 = .ok (.istore 6, 2) := dk_54 6 (dk_at dksL_law_5 0 rfl rfl)
theorem dL_law_201 : decode cL_law 201 = .ok (.aload_n 2, 1) := dk_44 (dk_at dksL_law_5 2 rfl rfl)
theorem dL_law_202 : decode cL_law 202 = .ok (.invokevirtual 100, 3) := dk_182 0 100 (dk_at dksL_law_5 3 rfl rfl)
theorem dL_law_205 : decode cL_law 205 = .ok (.iload 5, 2) := dk_21 5 (dk_at dksL_law_5 6 rfl rfl)
theorem dL_law_207 : decode cL_law 207 = .ok (.if_icmp .eq 5, 3) := dk_159 0 5 (dk_at dksL_law_5 8 rfl rfl)
theorem dL_law_210 : decode cL_law 210 = .ok (.iconst 0, 1) := dk_3 (dk_at dksL_law_5 11 rfl rfl)
theorem dL_law_211 : decode cL_law 211 = .ok (.ireturn, 1) := dk_172 (dk_at dksL_law_5 12 rfl rfl)
theorem dL_law_212 : decode cL_law 212 = .ok (.iload 5, 2) := dk_21 5 (dk_at dksL_law_5 13 rfl rfl)
theorem dL_law_214 : decode cL_law 214 = .ok (.ifCond .ne 15, 3) := dk_154 0 15 (dk_at dksL_law_5 15 rfl rfl)
theorem dL_law_217 : decode cL_law 217 = .ok (.aload_n 3, 1) := dk_45 (dk_at dksL_law_5 18 rfl rfl)
theorem dL_law_218 : decode cL_law 218 = .ok (.iconst 0, 1) := dk_3 (dk_at dksL_law_5 19 rfl rfl)
theorem dL_law_219 : decode cL_law 219 = .ok (.laload, 1) := dk_47 (dk_at dksL_law_5 20 rfl rfl)
theorem dL_law_220 : decode cL_law 220 = .ok (.iload 6, 2) := dk_21 6 (dk_at dksL_law_5 21 rfl rfl)
theorem dL_law_222 : decode cL_law 222 = .ok (.i2l, 1) := dk_133 (dk_at dksL_law_5 23 rfl rfl)
theorem dL_law_223 : decode cL_law 223 = .ok (.lcmp, 1) := dk_148 (dk_at dksL_law_6 0 rfl rfl)
theorem dL_law_224 : decode cL_law 224 = .ok (.ifCond .eq 5, 3) := dk_153 0 5 (dk_at dksL_law_6 1 rfl rfl)
theorem dL_law_227 : decode cL_law 227 = .ok (.iconst 0, 1) := dk_3 (dk_at dksL_law_6 4 rfl rfl)
theorem dL_law_228 : decode cL_law 228 = .ok (.ireturn, 1) := dk_172 (dk_at dksL_law_6 5 rfl rfl)
theorem dL_law_229 : decode cL_law 229 = .ok (.goto 1453, 3) := dk_167 5 173 (dk_at dksL_law_6 6 rfl rfl)
theorem dL_law_232 : decode cL_law 232 = .ok (.aload_n 1, 1) := dk_43 (dk_at dksL_law_6 9 rfl rfl)
theorem dL_law_233 : decode cL_law 233 = .ok (.aload_n 3, 1) := dk_45 (dk_at dksL_law_6 10 rfl rfl)
theorem dL_law_234 : decode cL_law 234 = .ok (.invokestatic 103, 3) := dk_184 0 103 (dk_at dksL_law_6 11 rfl rfl)
theorem dL_law_237 : decode cL_law 237 = .ok (.istore 5, 2) := dk_54 5 (dk_at dksL_law_6 14 rfl rfl)
theorem dL_law_239 : decode cL_law 239 = .ok (.aload_n 2, 1) := dk_44 (dk_at dksL_law_6 16 rfl rfl)
theorem dL_law_240 : decode cL_law 240 = .ok (.invokevirtual 106, 3) := dk_182 0 106 (dk_at dksL_law_6 17 rfl rfl)
theorem dL_law_243 : decode cL_law 243 = .ok (.istore 6, 2) := dk_54 6 (dk_at dksL_law_6 20 rfl rfl)
theorem dL_law_245 : decode cL_law 245 = .ok (.aload_n 2, 1) := dk_44 (dk_at dksL_law_6 22 rfl rfl)
theorem dL_law_246 : decode cL_law 246 = .ok (.invokevirtual 100, 3) := dk_182 0 100 (dk_at dksL_law_7 0 rfl rfl)
theorem dL_law_249 : decode cL_law 249 = .ok (.iload 5, 2) := dk_21 5 (dk_at dksL_law_7 3 rfl rfl)
theorem dL_law_251 : decode cL_law 251 = .ok (.if_icmp .eq 5, 3) := dk_159 0 5 (dk_at dksL_law_7 5 rfl rfl)
theorem dL_law_254 : decode cL_law 254 = .ok (.iconst 0, 1) := dk_3 (dk_at dksL_law_7 8 rfl rfl)
theorem dL_law_255 : decode cL_law 255 = .ok (.ireturn, 1) := dk_172 (dk_at dksL_law_7 9 rfl rfl)
theorem dL_law_256 : decode cL_law 256 = .ok (.iload 5, 2) := dk_21 5 (dk_at dksL_law_7 10 rfl rfl)
theorem dL_law_258 : decode cL_law 258 = .ok (.ifCond .ne 15, 3) := dk_154 0 15 (dk_at dksL_law_7 12 rfl rfl)
theorem dL_law_261 : decode cL_law 261 = .ok (.aload_n 3, 1) := dk_45 (dk_at dksL_law_7 15 rfl rfl)
theorem dL_law_262 : decode cL_law 262 = .ok (.iconst 0, 1) := dk_3 (dk_at dksL_law_7 16 rfl rfl)
theorem dL_law_263 : decode cL_law 263 = .ok (.laload, 1) := dk_47 (dk_at dksL_law_7 17 rfl rfl)
theorem dL_law_264 : decode cL_law 264 = .ok (.iload 6, 2) := dk_21 6 (dk_at dksL_law_7 18 rfl rfl)
theorem dL_law_266 : decode cL_law 266 = .ok (.i2l, 1) := dk_133 (dk_at dksL_law_7 20 rfl rfl)
theorem dL_law_267 : decode cL_law 267 = .ok (.lcmp, 1) := dk_148 (dk_at dksL_law_7 21 rfl rfl)
theorem dL_law_268 : decode cL_law 268 = .ok (.ifCond .eq 5, 3) := dk_153 0 5 (dk_at dksL_law_8 0 rfl rfl)
theorem dL_law_271 : decode cL_law 271 = .ok (.iconst 0, 1) := dk_3 (dk_at dksL_law_8 3 rfl rfl)
theorem dL_law_272 : decode cL_law 272 = .ok (.ireturn, 1) := dk_172 (dk_at dksL_law_8 4 rfl rfl)
theorem dL_law_273 : decode cL_law 273 = .ok (.goto 1409, 3) := dk_167 5 129 (dk_at dksL_law_8 5 rfl rfl)
theorem dL_law_276 : decode cL_law 276 = .ok (.aload_n 1, 1) := dk_43 (dk_at dksL_law_8 8 rfl rfl)
theorem dL_law_277 : decode cL_law 277 = .ok (.aload_n 0, 1) := dk_42 (dk_at dksL_law_8 9 rfl rfl)
theorem dL_law_278 : decode cL_law 278 = .ok (.iload 4, 2) := dk_21 4 (dk_at dksL_law_8 10 rfl rfl)
theorem dL_law_280 : decode cL_law 280 = .ok (.iconst 1, 1) := dk_4 (dk_at dksL_law_8 12 rfl rfl)
theorem dL_law_281 : decode cL_law 281 = .ok (.iadd, 1) := dk_96 (dk_at dksL_law_8 13 rfl rfl)
theorem dL_law_282 : decode cL_law 282 = .ok (.iaload, 1) := dk_46 (dk_at dksL_law_8 14 rfl rfl)
theorem dL_law_283 : decode cL_law 283 = .ok (.aload_n 0, 1) := dk_42 (dk_at dksL_law_8 15 rfl rfl)
theorem dL_law_284 : decode cL_law 284 = .ok (.iload 4, 2) := dk_21 4 (dk_at dksL_law_8 16 rfl rfl)
theorem dL_law_286 : decode cL_law 286 = .ok (.iconst 2, 1) := dk_5 (dk_at dksL_law_8 18 rfl rfl)
theorem dL_law_287 : decode cL_law 287 = .ok (.iadd, 1) := dk_96 (dk_at dksL_law_8 19 rfl rfl)
theorem dL_law_288 : decode cL_law 288 = .ok (.iaload, 1) := dk_46 (dk_at dksL_law_8 20 rfl rfl)
theorem dL_law_289 : decode cL_law 289 = .ok (.aload_n 3, 1) := dk_45 (dk_at dksL_law_8 21 rfl rfl)
theorem dL_law_290 : decode cL_law 290 = .ok (.invokestatic 107, 3) := dk_184 0 107 (dk_at dksL_law_9 0 rfl rfl)
theorem dL_law_293 : decode cL_law 293 = .ok (.istore 5, 2) := dk_54 5 (dk_at dksL_law_9 3 rfl rfl)
theorem dL_law_295 : decode cL_law 295 = .ok (.aload_n 2, 1) := dk_44 (dk_at dksL_law_9 5 rfl rfl)
theorem dL_law_296 : decode cL_law 296 = .ok (.aload_n 0, 1) := dk_42 (dk_at dksL_law_9 6 rfl rfl)
theorem dL_law_297 : decode cL_law 297 = .ok (.iload 4, 2) := dk_21 4 (dk_at dksL_law_9 7 rfl rfl)
theorem dL_law_299 : decode cL_law 299 = .ok (.iconst 1, 1) := dk_4 (dk_at dksL_law_9 9 rfl rfl)
theorem dL_law_300 : decode cL_law 300 = .ok (.iadd, 1) := dk_96 (dk_at dksL_law_9 10 rfl rfl)
theorem dL_law_301 : decode cL_law 301 = .ok (.iaload, 1) := dk_46 (dk_at dksL_law_9 11 rfl rfl)
theorem dL_law_302 : decode cL_law 302 = .ok (.aload_n 0, 1) := dk_42 (dk_at dksL_law_9 12 rfl rfl)
theorem dL_law_303 : decode cL_law 303 = .ok (.iload 4, 2) := dk_21 4 (dk_at dksL_law_9 13 rfl rfl)
theorem dL_law_305 : decode cL_law 305 = .ok (.iconst 2, 1) := dk_5 (dk_at dksL_law_9 15 rfl rfl)
theorem dL_law_306 : decode cL_law 306 = .ok (.iadd, 1) := dk_96 (dk_at dksL_law_9 16 rfl rfl)
theorem dL_law_307 : decode cL_law 307 = .ok (.iaload, 1) := dk_46 (dk_at dksL_law_9 17 rfl rfl)
theorem dL_law_308 : decode cL_law 308 = .ok (.invokevirtual 110, 3) := dk_182 0 110 (dk_at dksL_law_9 18 rfl rfl)
theorem dL_law_311 : decode cL_law 311 = .ok (.istore 6, 2) := dk_54 6 (dk_at dksL_law_9 21 rfl rfl)
theorem dL_law_313 : decode cL_law 313 = .ok (.aload_n 2, 1) := dk_44 (dk_at dksL_law_9 23 rfl rfl)
theorem dL_law_314 : decode cL_law 314 = .ok (.invokevirtual 100, 3) := dk_182 0 100 (dk_at dksL_law_10 0 rfl rfl)
theorem dL_law_317 : decode cL_law 317 = .ok (.iload 5, 2) := dk_21 5 (dk_at dksL_law_10 3 rfl rfl)
theorem dL_law_319 : decode cL_law 319 = .ok (.if_icmp .eq 5, 3) := dk_159 0 5 (dk_at dksL_law_10 5 rfl rfl)
theorem dL_law_322 : decode cL_law 322 = .ok (.iconst 0, 1) := dk_3 (dk_at dksL_law_10 8 rfl rfl)
theorem dL_law_323 : decode cL_law 323 = .ok (.ireturn, 1) := dk_172 (dk_at dksL_law_10 9 rfl rfl)
theorem dL_law_324 : decode cL_law 324 = .ok (.iload 5, 2) := dk_21 5 (dk_at dksL_law_10 10 rfl rfl)
theorem dL_law_326 : decode cL_law 326 = .ok (.ifCond .ne 15, 3) := dk_154 0 15 (dk_at dksL_law_10 12 rfl rfl)
theorem dL_law_329 : decode cL_law 329 = .ok (.aload_n 3, 1) := dk_45 (dk_at dksL_law_10 15 rfl rfl)
theorem dL_law_330 : decode cL_law 330 = .ok (.iconst 0, 1) := dk_3 (dk_at dksL_law_10 16 rfl rfl)
theorem dL_law_331 : decode cL_law 331 = .ok (.laload, 1) := dk_47 (dk_at dksL_law_10 17 rfl rfl)
theorem dL_law_332 : decode cL_law 332 = .ok (.iload 6, 2) := dk_21 6 (dk_at dksL_law_10 18 rfl rfl)
theorem dL_law_334 : decode cL_law 334 = .ok (.i2l, 1) := dk_133 (dk_at dksL_law_10 20 rfl rfl)
theorem dL_law_335 : decode cL_law 335 = .ok (.lcmp, 1) := dk_148 (dk_at dksL_law_10 21 rfl rfl)
theorem dL_law_336 : decode cL_law 336 = .ok (.ifCond .eq 5, 3) := dk_153 0 5 (dk_at dksL_law_11 0 rfl rfl)
theorem dL_law_339 : decode cL_law 339 = .ok (.iconst 0, 1) := dk_3 (dk_at dksL_law_11 3 rfl rfl)
theorem dL_law_340 : decode cL_law 340 = .ok (.ireturn, 1) := dk_172 (dk_at dksL_law_11 4 rfl rfl)
theorem dL_law_341 : decode cL_law 341 = .ok (.goto 1341, 3) := dk_167 5 61 (dk_at dksL_law_11 5 rfl rfl)
theorem dL_law_344 : decode cL_law 344 = .ok (.aload_n 1, 1) := dk_43 (dk_at dksL_law_11 8 rfl rfl)
theorem dL_law_345 : decode cL_law 345 = .ok (.aload_n 0, 1) := dk_42 (dk_at dksL_law_11 9 rfl rfl)
theorem dL_law_346 : decode cL_law 346 = .ok (.iload 4, 2) := dk_21 4 (dk_at dksL_law_11 10 rfl rfl)
theorem dL_law_348 : decode cL_law 348 = .ok (.iconst 1, 1) := dk_4 (dk_at dksL_law_11 12 rfl rfl)
theorem dL_law_349 : decode cL_law 349 = .ok (.iadd, 1) := dk_96 (dk_at dksL_law_11 13 rfl rfl)
theorem dL_law_350 : decode cL_law 350 = .ok (.iaload, 1) := dk_46 (dk_at dksL_law_11 14 rfl rfl)
theorem dL_law_351 : decode cL_law 351 = .ok (.aload_n 0, 1) := dk_42 (dk_at dksL_law_11 15 rfl rfl)
theorem dL_law_352 : decode cL_law 352 = .ok (.iload 4, 2) := dk_21 4 (dk_at dksL_law_11 16 rfl rfl)
theorem dL_law_354 : decode cL_law 354 = .ok (.iconst 2, 1) := dk_5 (dk_at dksL_law_11 18 rfl rfl)
theorem dL_law_355 : decode cL_law 355 = .ok (.iadd, 1) := dk_96 (dk_at dksL_law_11 19 rfl rfl)
theorem dL_law_356 : decode cL_law 356 = .ok (.iaload, 1) := dk_46 (dk_at dksL_law_11 20 rfl rfl)
theorem dL_law_357 : decode cL_law 357 = .ok (.aload_n 0, 1) := dk_42 (dk_at dksL_law_11 21 rfl rfl)
theorem dL_law_358 : decode cL_law 358 = .ok (.iload 4, 2) := dk_21 4 (dk_at dksL_law_11 22 rfl rfl)
theorem dL_law_360 : decode cL_law 360 = .ok (.iconst 3, 1) := dk_6 (dk_at dksL_law_12 0 rfl rfl)
theorem dL_law_361 : decode cL_law 361 = .ok (.iadd, 1) := dk_96 (dk_at dksL_law_12 1 rfl rfl)
theorem dL_law_362 : decode cL_law 362 = .ok (.iaload, 1) := dk_46 (dk_at dksL_law_12 2 rfl rfl)
theorem dL_law_363 : decode cL_law 363 = .ok (.aload_n 3, 1) := dk_45 (dk_at dksL_law_12 3 rfl rfl)
theorem dL_law_364 : decode cL_law 364 = .ok (.invokestatic 111, 3) := dk_184 0 111 (dk_at dksL_law_12 4 rfl rfl)
theorem dL_law_367 : decode cL_law 367 = .ok (.istore 5, 2) := dk_54 5 (dk_at dksL_law_12 7 rfl rfl)
theorem dL_law_369 : decode cL_law 369 = .ok (.aload_n 2, 1) := dk_44 (dk_at dksL_law_12 9 rfl rfl)
theorem dL_law_370 : decode cL_law 370 = .ok (.aload_n 0, 1) := dk_42 (dk_at dksL_law_12 10 rfl rfl)
theorem dL_law_371 : decode cL_law 371 = .ok (.iload 4, 2) := dk_21 4 (dk_at dksL_law_12 11 rfl rfl)
theorem dL_law_373 : decode cL_law 373 = .ok (.iconst 1, 1) := dk_4 (dk_at dksL_law_12 13 rfl rfl)
theorem dL_law_374 : decode cL_law 374 = .ok (.iadd, 1) := dk_96 (dk_at dksL_law_12 14 rfl rfl)
theorem dL_law_375 : decode cL_law 375 = .ok (.iaload, 1) := dk_46 (dk_at dksL_law_12 15 rfl rfl)
theorem dL_law_376 : decode cL_law 376 = .ok (.aload_n 0, 1) := dk_42 (dk_at dksL_law_12 16 rfl rfl)
theorem dL_law_377 : decode cL_law 377 = .ok (.iload 4, 2) := dk_21 4 (dk_at dksL_law_12 17 rfl rfl)
theorem dL_law_379 : decode cL_law 379 = .ok (.iconst 2, 1) := dk_5 (dk_at dksL_law_12 19 rfl rfl)
theorem dL_law_380 : decode cL_law 380 = .ok (.iadd, 1) := dk_96 (dk_at dksL_law_12 20 rfl rfl)
theorem dL_law_381 : decode cL_law 381 = .ok (.iaload, 1) := dk_46 (dk_at dksL_law_12 21 rfl rfl)
theorem dL_law_382 : decode cL_law 382 = .ok (.aload_n 0, 1) := dk_42 (dk_at dksL_law_12 22 rfl rfl)
theorem dL_law_383 : decode cL_law 383 = .ok (.iload 4, 2) := dk_21 4 (dk_at dksL_law_13 0 rfl rfl)
theorem dL_law_385 : decode cL_law 385 = .ok (.iconst 3, 1) := dk_6 (dk_at dksL_law_13 2 rfl rfl)
theorem dL_law_386 : decode cL_law 386 = .ok (.iadd, 1) := dk_96 (dk_at dksL_law_13 3 rfl rfl)
theorem dL_law_387 : decode cL_law 387 = .ok (.iaload, 1) := dk_46 (dk_at dksL_law_13 4 rfl rfl)
theorem dL_law_388 : decode cL_law 388 = .ok (.invokevirtual 113, 3) := dk_182 0 113 (dk_at dksL_law_13 5 rfl rfl)
theorem dL_law_391 : decode cL_law 391 = .ok (.istore 6, 2) := dk_54 6 (dk_at dksL_law_13 8 rfl rfl)
theorem dL_law_393 : decode cL_law 393 = .ok (.aload_n 2, 1) := dk_44 (dk_at dksL_law_13 10 rfl rfl)
theorem dL_law_394 : decode cL_law 394 = .ok (.invokevirtual 100, 3) := dk_182 0 100 (dk_at dksL_law_13 11 rfl rfl)
theorem dL_law_397 : decode cL_law 397 = .ok (.iload 5, 2) := dk_21 5 (dk_at dksL_law_13 14 rfl rfl)
theorem dL_law_399 : decode cL_law 399 = .ok (.if_icmp .eq 5, 3) := dk_159 0 5 (dk_at dksL_law_13 16 rfl rfl)
theorem dL_law_402 : decode cL_law 402 = .ok (.iconst 0, 1) := dk_3 (dk_at dksL_law_13 19 rfl rfl)
theorem dL_law_403 : decode cL_law 403 = .ok (.ireturn, 1) := dk_172 (dk_at dksL_law_13 20 rfl rfl)
theorem dL_law_404 : decode cL_law 404 = .ok (.iload 5, 2) := dk_21 5 (dk_at dksL_law_13 21 rfl rfl)
theorem dL_law_406 : decode cL_law 406 = .ok (.ifCond .ne 15, 3) := dk_154 0 15 (dk_at dksL_law_14 0 rfl rfl)
theorem dL_law_409 : decode cL_law 409 = .ok (.aload_n 3, 1) := dk_45 (dk_at dksL_law_14 3 rfl rfl)
theorem dL_law_410 : decode cL_law 410 = .ok (.iconst 0, 1) := dk_3 (dk_at dksL_law_14 4 rfl rfl)
theorem dL_law_411 : decode cL_law 411 = .ok (.laload, 1) := dk_47 (dk_at dksL_law_14 5 rfl rfl)
theorem dL_law_412 : decode cL_law 412 = .ok (.iload 6, 2) := dk_21 6 (dk_at dksL_law_14 6 rfl rfl)
theorem dL_law_414 : decode cL_law 414 = .ok (.i2l, 1) := dk_133 (dk_at dksL_law_14 8 rfl rfl)
theorem dL_law_415 : decode cL_law 415 = .ok (.lcmp, 1) := dk_148 (dk_at dksL_law_14 9 rfl rfl)
theorem dL_law_416 : decode cL_law 416 = .ok (.ifCond .eq 5, 3) := dk_153 0 5 (dk_at dksL_law_14 10 rfl rfl)
theorem dL_law_419 : decode cL_law 419 = .ok (.iconst 0, 1) := dk_3 (dk_at dksL_law_14 13 rfl rfl)
theorem dL_law_420 : decode cL_law 420 = .ok (.ireturn, 1) := dk_172 (dk_at dksL_law_14 14 rfl rfl)
theorem dL_law_421 : decode cL_law 421 = .ok (.goto 1261, 3) := dk_167 4 237 (dk_at dksL_law_14 15 rfl rfl)
theorem dL_law_424 : decode cL_law 424 = .ok (.aload_n 1, 1) := dk_43 (dk_at dksL_law_14 18 rfl rfl)
theorem dL_law_425 : decode cL_law 425 = .ok (.aload_n 0, 1) := dk_42 (dk_at dksL_law_14 19 rfl rfl)
theorem dL_law_426 : decode cL_law 426 = .ok (.iload 4, 2) := dk_21 4 (dk_at dksL_law_14 20 rfl rfl)
theorem dL_law_428 : decode cL_law 428 = .ok (.iconst 1, 1) := dk_4 (dk_at dksL_law_14 22 rfl rfl)
theorem dL_law_429 : decode cL_law 429 = .ok (.iadd, 1) := dk_96 (dk_at dksL_law_14 23 rfl rfl)
theorem dL_law_430 : decode cL_law 430 = .ok (.iaload, 1) := dk_46 (dk_at dksL_law_15 0 rfl rfl)
theorem dL_law_431 : decode cL_law 431 = .ok (.aload_n 3, 1) := dk_45 (dk_at dksL_law_15 1 rfl rfl)
theorem dL_law_432 : decode cL_law 432 = .ok (.invokestatic 114, 3) := dk_184 0 114 (dk_at dksL_law_15 2 rfl rfl)
theorem dL_law_435 : decode cL_law 435 = .ok (.istore 5, 2) := dk_54 5 (dk_at dksL_law_15 5 rfl rfl)
theorem dL_law_437 : decode cL_law 437 = .ok (.aload_n 2, 1) := dk_44 (dk_at dksL_law_15 7 rfl rfl)
theorem dL_law_438 : decode cL_law 438 = .ok (.aload_n 0, 1) := dk_42 (dk_at dksL_law_15 8 rfl rfl)
theorem dL_law_439 : decode cL_law 439 = .ok (.iload 4, 2) := dk_21 4 (dk_at dksL_law_15 9 rfl rfl)
theorem dL_law_441 : decode cL_law 441 = .ok (.iconst 1, 1) := dk_4 (dk_at dksL_law_15 11 rfl rfl)
theorem dL_law_442 : decode cL_law 442 = .ok (.iadd, 1) := dk_96 (dk_at dksL_law_15 12 rfl rfl)
theorem dL_law_443 : decode cL_law 443 = .ok (.iaload, 1) := dk_46 (dk_at dksL_law_15 13 rfl rfl)
theorem dL_law_444 : decode cL_law 444 = .ok (.invokevirtual 117, 3) := dk_182 0 117 (dk_at dksL_law_15 14 rfl rfl)
theorem dL_law_447 : decode cL_law 447 = .ok (.istore 6, 2) := dk_54 6 (dk_at dksL_law_15 17 rfl rfl)
theorem dL_law_449 : decode cL_law 449 = .ok (.aload_n 2, 1) := dk_44 (dk_at dksL_law_15 19 rfl rfl)
theorem dL_law_450 : decode cL_law 450 = .ok (.invokevirtual 100, 3) := dk_182 0 100 (dk_at dksL_law_15 20 rfl rfl)
theorem dL_law_453 : decode cL_law 453 = .ok (.iload 5, 2) := dk_21 5 (dk_at dksL_law_16 0 rfl rfl)
theorem dL_law_455 : decode cL_law 455 = .ok (.if_icmp .eq 5, 3) := dk_159 0 5 (dk_at dksL_law_16 2 rfl rfl)
theorem dL_law_458 : decode cL_law 458 = .ok (.iconst 0, 1) := dk_3 (dk_at dksL_law_16 5 rfl rfl)
theorem dL_law_459 : decode cL_law 459 = .ok (.ireturn, 1) := dk_172 (dk_at dksL_law_16 6 rfl rfl)
theorem dL_law_460 : decode cL_law 460 = .ok (.iload 5, 2) := dk_21 5 (dk_at dksL_law_16 7 rfl rfl)
theorem dL_law_462 : decode cL_law 462 = .ok (.ifCond .ne 22, 3) := dk_154 0 22 (dk_at dksL_law_16 9 rfl rfl)
theorem dL_law_465 : decode cL_law 465 = .ok (.aload_n 3, 1) := dk_45 (dk_at dksL_law_16 12 rfl rfl)
theorem dL_law_466 : decode cL_law 466 = .ok (.iconst 0, 1) := dk_3 (dk_at dksL_law_16 13 rfl rfl)
theorem dL_law_467 : decode cL_law 467 = .ok (.laload, 1) := dk_47 (dk_at dksL_law_16 14 rfl rfl)
theorem dL_law_468 : decode cL_law 468 = .ok (.iload 6, 2) := dk_21 6 (dk_at dksL_law_16 15 rfl rfl)
theorem dL_law_470 : decode cL_law 470 = .ok (.ifCond .eq 7, 3) := dk_153 0 7 (dk_at dksL_law_16 17 rfl rfl)
theorem dL_law_473 : decode cL_law 473 = .ok (.lconst 1, 1) := dk_10 (dk_at dksL_law_16 20 rfl rfl)
theorem dL_law_474 : decode cL_law 474 = .ok (.goto 4, 3) := dk_167 0 4 (dk_at dksL_law_16 21 rfl rfl)
theorem dL_law_477 : decode cL_law 477 = .ok (.lconst 0, 1) := dk_9 (dk_at dksL_law_17 0 rfl rfl)
theorem dL_law_478 : decode cL_law 478 = .ok (.lcmp, 1) := dk_148 (dk_at dksL_law_17 1 rfl rfl)
theorem dL_law_479 : decode cL_law 479 = .ok (.ifCond .eq 5, 3) := dk_153 0 5 (dk_at dksL_law_17 2 rfl rfl)
theorem dL_law_482 : decode cL_law 482 = .ok (.iconst 0, 1) := dk_3 (dk_at dksL_law_17 5 rfl rfl)
theorem dL_law_483 : decode cL_law 483 = .ok (.ireturn, 1) := dk_172 (dk_at dksL_law_17 6 rfl rfl)
theorem dL_law_484 : decode cL_law 484 = .ok (.goto 1198, 3) := dk_167 4 174 (dk_at dksL_law_17 7 rfl rfl)
theorem dL_law_487 : decode cL_law 487 = .ok (.aload_n 1, 1) := dk_43 (dk_at dksL_law_17 10 rfl rfl)
theorem dL_law_488 : decode cL_law 488 = .ok (.aload_n 0, 1) := dk_42 (dk_at dksL_law_17 11 rfl rfl)
theorem dL_law_489 : decode cL_law 489 = .ok (.iload 4, 2) := dk_21 4 (dk_at dksL_law_17 12 rfl rfl)
theorem dL_law_491 : decode cL_law 491 = .ok (.iconst 1, 1) := dk_4 (dk_at dksL_law_17 14 rfl rfl)
theorem dL_law_492 : decode cL_law 492 = .ok (.iadd, 1) := dk_96 (dk_at dksL_law_17 15 rfl rfl)
theorem dL_law_493 : decode cL_law 493 = .ok (.iaload, 1) := dk_46 (dk_at dksL_law_17 16 rfl rfl)
theorem dL_law_494 : decode cL_law 494 = .ok (.aload_n 0, 1) := dk_42 (dk_at dksL_law_17 17 rfl rfl)
theorem dL_law_495 : decode cL_law 495 = .ok (.iload 4, 2) := dk_21 4 (dk_at dksL_law_17 18 rfl rfl)
theorem dL_law_497 : decode cL_law 497 = .ok (.iconst 2, 1) := dk_5 (dk_at dksL_law_17 20 rfl rfl)
theorem dL_law_498 : decode cL_law 498 = .ok (.iadd, 1) := dk_96 (dk_at dksL_law_17 21 rfl rfl)
theorem dL_law_499 : decode cL_law 499 = .ok (.iaload, 1) := dk_46 (dk_at dksL_law_17 22 rfl rfl)
theorem dL_law_500 : decode cL_law 500 = .ok (.aload_n 3, 1) := dk_45 (dk_at dksL_law_17 23 rfl rfl)
theorem dL_law_501 : decode cL_law 501 = .ok (.invokestatic 118, 3) := dk_184 0 118 (dk_at dksL_law_18 0 rfl rfl)
theorem dL_law_504 : decode cL_law 504 = .ok (.istore 5, 2) := dk_54 5 (dk_at dksL_law_18 3 rfl rfl)
theorem dL_law_506 : decode cL_law 506 = .ok (.aload_n 2, 1) := dk_44 (dk_at dksL_law_18 5 rfl rfl)
theorem dL_law_507 : decode cL_law 507 = .ok (.aload_n 0, 1) := dk_42 (dk_at dksL_law_18 6 rfl rfl)
theorem dL_law_508 : decode cL_law 508 = .ok (.iload 4, 2) := dk_21 4 (dk_at dksL_law_18 7 rfl rfl)
theorem dL_law_510 : decode cL_law 510 = .ok (.iconst 1, 1) := dk_4 (dk_at dksL_law_18 9 rfl rfl)
theorem dL_law_511 : decode cL_law 511 = .ok (.iadd, 1) := dk_96 (dk_at dksL_law_18 10 rfl rfl)
theorem dL_law_512 : decode cL_law 512 = .ok (.iaload, 1) := dk_46 (dk_at dksL_law_18 11 rfl rfl)
theorem dL_law_513 : decode cL_law 513 = .ok (.aload_n 0, 1) := dk_42 (dk_at dksL_law_18 12 rfl rfl)
theorem dL_law_514 : decode cL_law 514 = .ok (.iload 4, 2) := dk_21 4 (dk_at dksL_law_18 13 rfl rfl)
theorem dL_law_516 : decode cL_law 516 = .ok (.iconst 2, 1) := dk_5 (dk_at dksL_law_18 15 rfl rfl)
theorem dL_law_517 : decode cL_law 517 = .ok (.iadd, 1) := dk_96 (dk_at dksL_law_18 16 rfl rfl)
theorem dL_law_518 : decode cL_law 518 = .ok (.iaload, 1) := dk_46 (dk_at dksL_law_18 17 rfl rfl)
theorem dL_law_519 : decode cL_law 519 = .ok (.invokevirtual 120, 3) := dk_182 0 120 (dk_at dksL_law_18 18 rfl rfl)
theorem dL_law_522 : decode cL_law 522 = .ok (.istore 6, 2) := dk_54 6 (dk_at dksL_law_18 21 rfl rfl)
theorem dL_law_524 : decode cL_law 524 = .ok (.aload_n 2, 1) := dk_44 (dk_at dksL_law_18 23 rfl rfl)
theorem dL_law_525 : decode cL_law 525 = .ok (.invokevirtual 100, 3) := dk_182 0 100 (dk_at dksL_law_19 0 rfl rfl)
theorem dL_law_528 : decode cL_law 528 = .ok (.iload 5, 2) := dk_21 5 (dk_at dksL_law_19 3 rfl rfl)
theorem dL_law_530 : decode cL_law 530 = .ok (.if_icmp .eq 5, 3) := dk_159 0 5 (dk_at dksL_law_19 5 rfl rfl)
theorem dL_law_533 : decode cL_law 533 = .ok (.iconst 0, 1) := dk_3 (dk_at dksL_law_19 8 rfl rfl)
theorem dL_law_534 : decode cL_law 534 = .ok (.ireturn, 1) := dk_172 (dk_at dksL_law_19 9 rfl rfl)
theorem dL_law_535 : decode cL_law 535 = .ok (.iload 5, 2) := dk_21 5 (dk_at dksL_law_19 10 rfl rfl)
theorem dL_law_537 : decode cL_law 537 = .ok (.ifCond .ne 15, 3) := dk_154 0 15 (dk_at dksL_law_19 12 rfl rfl)
theorem dL_law_540 : decode cL_law 540 = .ok (.aload_n 3, 1) := dk_45 (dk_at dksL_law_19 15 rfl rfl)
theorem dL_law_541 : decode cL_law 541 = .ok (.iconst 0, 1) := dk_3 (dk_at dksL_law_19 16 rfl rfl)
theorem dL_law_542 : decode cL_law 542 = .ok (.laload, 1) := dk_47 (dk_at dksL_law_19 17 rfl rfl)
theorem dL_law_543 : decode cL_law 543 = .ok (.iload 6, 2) := dk_21 6 (dk_at dksL_law_19 18 rfl rfl)
theorem dL_law_545 : decode cL_law 545 = .ok (.i2l, 1) := dk_133 (dk_at dksL_law_19 20 rfl rfl)
theorem dL_law_546 : decode cL_law 546 = .ok (.lcmp, 1) := dk_148 (dk_at dksL_law_19 21 rfl rfl)
theorem dL_law_547 : decode cL_law 547 = .ok (.ifCond .eq 5, 3) := dk_153 0 5 (dk_at dksL_law_20 0 rfl rfl)
theorem dL_law_550 : decode cL_law 550 = .ok (.iconst 0, 1) := dk_3 (dk_at dksL_law_20 3 rfl rfl)
theorem dL_law_551 : decode cL_law 551 = .ok (.ireturn, 1) := dk_172 (dk_at dksL_law_20 4 rfl rfl)
theorem dL_law_552 : decode cL_law 552 = .ok (.goto 1130, 3) := dk_167 4 106 (dk_at dksL_law_20 5 rfl rfl)
theorem dL_law_555 : decode cL_law 555 = .ok (.aload_n 1, 1) := dk_43 (dk_at dksL_law_20 8 rfl rfl)
theorem dL_law_556 : decode cL_law 556 = .ok (.aload_n 0, 1) := dk_42 (dk_at dksL_law_20 9 rfl rfl)
theorem dL_law_557 : decode cL_law 557 = .ok (.iload 4, 2) := dk_21 4 (dk_at dksL_law_20 10 rfl rfl)
theorem dL_law_559 : decode cL_law 559 = .ok (.iconst 1, 1) := dk_4 (dk_at dksL_law_20 12 rfl rfl)
theorem dL_law_560 : decode cL_law 560 = .ok (.iadd, 1) := dk_96 (dk_at dksL_law_20 13 rfl rfl)
theorem dL_law_561 : decode cL_law 561 = .ok (.iaload, 1) := dk_46 (dk_at dksL_law_20 14 rfl rfl)
theorem dL_law_562 : decode cL_law 562 = .ok (.aload_n 0, 1) := dk_42 (dk_at dksL_law_20 15 rfl rfl)
theorem dL_law_563 : decode cL_law 563 = .ok (.iload 4, 2) := dk_21 4 (dk_at dksL_law_20 16 rfl rfl)
theorem dL_law_565 : decode cL_law 565 = .ok (.iconst 2, 1) := dk_5 (dk_at dksL_law_20 18 rfl rfl)
theorem dL_law_566 : decode cL_law 566 = .ok (.iadd, 1) := dk_96 (dk_at dksL_law_20 19 rfl rfl)
theorem dL_law_567 : decode cL_law 567 = .ok (.iaload, 1) := dk_46 (dk_at dksL_law_20 20 rfl rfl)
theorem dL_law_568 : decode cL_law 568 = .ok (.aload_n 3, 1) := dk_45 (dk_at dksL_law_20 21 rfl rfl)
theorem dL_law_569 : decode cL_law 569 = .ok (.invokestatic 121, 3) := dk_184 0 121 (dk_at dksL_law_21 0 rfl rfl)
theorem dL_law_572 : decode cL_law 572 = .ok (.istore 5, 2) := dk_54 5 (dk_at dksL_law_21 3 rfl rfl)
theorem dL_law_574 : decode cL_law 574 = .ok (.aload_n 2, 1) := dk_44 (dk_at dksL_law_21 5 rfl rfl)
theorem dL_law_575 : decode cL_law 575 = .ok (.aload_n 0, 1) := dk_42 (dk_at dksL_law_21 6 rfl rfl)
theorem dL_law_576 : decode cL_law 576 = .ok (.iload 4, 2) := dk_21 4 (dk_at dksL_law_21 7 rfl rfl)
theorem dL_law_578 : decode cL_law 578 = .ok (.iconst 1, 1) := dk_4 (dk_at dksL_law_21 9 rfl rfl)
theorem dL_law_579 : decode cL_law 579 = .ok (.iadd, 1) := dk_96 (dk_at dksL_law_21 10 rfl rfl)
theorem dL_law_580 : decode cL_law 580 = .ok (.iaload, 1) := dk_46 (dk_at dksL_law_21 11 rfl rfl)
theorem dL_law_581 : decode cL_law 581 = .ok (.aload_n 0, 1) := dk_42 (dk_at dksL_law_21 12 rfl rfl)
theorem dL_law_582 : decode cL_law 582 = .ok (.iload 4, 2) := dk_21 4 (dk_at dksL_law_21 13 rfl rfl)
theorem dL_law_584 : decode cL_law 584 = .ok (.iconst 2, 1) := dk_5 (dk_at dksL_law_21 15 rfl rfl)
theorem dL_law_585 : decode cL_law 585 = .ok (.iadd, 1) := dk_96 (dk_at dksL_law_21 16 rfl rfl)
theorem dL_law_586 : decode cL_law 586 = .ok (.iaload, 1) := dk_46 (dk_at dksL_law_21 17 rfl rfl)
theorem dL_law_587 : decode cL_law 587 = .ok (.invokevirtual 123, 3) := dk_182 0 123 (dk_at dksL_law_21 18 rfl rfl)
theorem dL_law_590 : decode cL_law 590 = .ok (.istore 6, 2) := dk_54 6 (dk_at dksL_law_21 21 rfl rfl)
theorem dL_law_592 : decode cL_law 592 = .ok (.aload_n 2, 1) := dk_44 (dk_at dksL_law_21 23 rfl rfl)
theorem dL_law_593 : decode cL_law 593 = .ok (.invokevirtual 100, 3) := dk_182 0 100 (dk_at dksL_law_22 0 rfl rfl)
theorem dL_law_596 : decode cL_law 596 = .ok (.iload 5, 2) := dk_21 5 (dk_at dksL_law_22 3 rfl rfl)
theorem dL_law_598 : decode cL_law 598 = .ok (.if_icmp .eq 5, 3) := dk_159 0 5 (dk_at dksL_law_22 5 rfl rfl)
theorem dL_law_601 : decode cL_law 601 = .ok (.iconst 0, 1) := dk_3 (dk_at dksL_law_22 8 rfl rfl)
theorem dL_law_602 : decode cL_law 602 = .ok (.ireturn, 1) := dk_172 (dk_at dksL_law_22 9 rfl rfl)
theorem dL_law_603 : decode cL_law 603 = .ok (.iload 5, 2) := dk_21 5 (dk_at dksL_law_22 10 rfl rfl)
theorem dL_law_605 : decode cL_law 605 = .ok (.ifCond .ne 15, 3) := dk_154 0 15 (dk_at dksL_law_22 12 rfl rfl)
theorem dL_law_608 : decode cL_law 608 = .ok (.aload_n 3, 1) := dk_45 (dk_at dksL_law_22 15 rfl rfl)
theorem dL_law_609 : decode cL_law 609 = .ok (.iconst 0, 1) := dk_3 (dk_at dksL_law_22 16 rfl rfl)
theorem dL_law_610 : decode cL_law 610 = .ok (.laload, 1) := dk_47 (dk_at dksL_law_22 17 rfl rfl)
theorem dL_law_611 : decode cL_law 611 = .ok (.iload 6, 2) := dk_21 6 (dk_at dksL_law_22 18 rfl rfl)
theorem dL_law_613 : decode cL_law 613 = .ok (.i2l, 1) := dk_133 (dk_at dksL_law_22 20 rfl rfl)
theorem dL_law_614 : decode cL_law 614 = .ok (.lcmp, 1) := dk_148 (dk_at dksL_law_22 21 rfl rfl)
theorem dL_law_615 : decode cL_law 615 = .ok (.ifCond .eq 5, 3) := dk_153 0 5 (dk_at dksL_law_23 0 rfl rfl)
theorem dL_law_618 : decode cL_law 618 = .ok (.iconst 0, 1) := dk_3 (dk_at dksL_law_23 3 rfl rfl)
theorem dL_law_619 : decode cL_law 619 = .ok (.ireturn, 1) := dk_172 (dk_at dksL_law_23 4 rfl rfl)
theorem dL_law_620 : decode cL_law 620 = .ok (.goto 1062, 3) := dk_167 4 38 (dk_at dksL_law_23 5 rfl rfl)
theorem dL_law_623 : decode cL_law 623 = .ok (.aload_n 1, 1) := dk_43 (dk_at dksL_law_23 8 rfl rfl)
theorem dL_law_624 : decode cL_law 624 = .ok (.aload_n 0, 1) := dk_42 (dk_at dksL_law_23 9 rfl rfl)
theorem dL_law_625 : decode cL_law 625 = .ok (.iload 4, 2) := dk_21 4 (dk_at dksL_law_23 10 rfl rfl)
theorem dL_law_627 : decode cL_law 627 = .ok (.iconst 1, 1) := dk_4 (dk_at dksL_law_23 12 rfl rfl)
theorem dL_law_628 : decode cL_law 628 = .ok (.iadd, 1) := dk_96 (dk_at dksL_law_23 13 rfl rfl)
theorem dL_law_629 : decode cL_law 629 = .ok (.iaload, 1) := dk_46 (dk_at dksL_law_23 14 rfl rfl)
theorem dL_law_630 : decode cL_law 630 = .ok (.aload_n 3, 1) := dk_45 (dk_at dksL_law_23 15 rfl rfl)
theorem dL_law_631 : decode cL_law 631 = .ok (.invokestatic 124, 3) := dk_184 0 124 (dk_at dksL_law_23 16 rfl rfl)
theorem dL_law_634 : decode cL_law 634 = .ok (.istore 5, 2) := dk_54 5 (dk_at dksL_law_23 19 rfl rfl)
theorem dL_law_636 : decode cL_law 636 = .ok (.aload_n 2, 1) := dk_44 (dk_at dksL_law_23 21 rfl rfl)
theorem dL_law_637 : decode cL_law 637 = .ok (.aload_n 0, 1) := dk_42 (dk_at dksL_law_23 22 rfl rfl)
theorem dL_law_638 : decode cL_law 638 = .ok (.iload 4, 2) := dk_21 4 (dk_at dksL_law_24 0 rfl rfl)
theorem dL_law_640 : decode cL_law 640 = .ok (.iconst 1, 1) := dk_4 (dk_at dksL_law_24 2 rfl rfl)
theorem dL_law_641 : decode cL_law 641 = .ok (.iadd, 1) := dk_96 (dk_at dksL_law_24 3 rfl rfl)
theorem dL_law_642 : decode cL_law 642 = .ok (.iaload, 1) := dk_46 (dk_at dksL_law_24 4 rfl rfl)
theorem dL_law_643 : decode cL_law 643 = .ok (.invokevirtual 126, 3) := dk_182 0 126 (dk_at dksL_law_24 5 rfl rfl)
theorem dL_law_646 : decode cL_law 646 = .ok (.istore 6, 2) := dk_54 6 (dk_at dksL_law_24 8 rfl rfl)
theorem dL_law_648 : decode cL_law 648 = .ok (.aload_n 2, 1) := dk_44 (dk_at dksL_law_24 10 rfl rfl)
theorem dL_law_649 : decode cL_law 649 = .ok (.invokevirtual 100, 3) := dk_182 0 100 (dk_at dksL_law_24 11 rfl rfl)
theorem dL_law_652 : decode cL_law 652 = .ok (.iload 5, 2) := dk_21 5 (dk_at dksL_law_24 14 rfl rfl)
theorem dL_law_654 : decode cL_law 654 = .ok (.if_icmp .eq 5, 3) := dk_159 0 5 (dk_at dksL_law_24 16 rfl rfl)
theorem dL_law_657 : decode cL_law 657 = .ok (.iconst 0, 1) := dk_3 (dk_at dksL_law_24 19 rfl rfl)
theorem dL_law_658 : decode cL_law 658 = .ok (.ireturn, 1) := dk_172 (dk_at dksL_law_24 20 rfl rfl)
theorem dL_law_659 : decode cL_law 659 = .ok (.iload 5, 2) := dk_21 5 (dk_at dksL_law_24 21 rfl rfl)
theorem dL_law_661 : decode cL_law 661 = .ok (.ifCond .ne 15, 3) := dk_154 0 15 (dk_at dksL_law_25 0 rfl rfl)
theorem dL_law_664 : decode cL_law 664 = .ok (.aload_n 3, 1) := dk_45 (dk_at dksL_law_25 3 rfl rfl)
theorem dL_law_665 : decode cL_law 665 = .ok (.iconst 0, 1) := dk_3 (dk_at dksL_law_25 4 rfl rfl)
theorem dL_law_666 : decode cL_law 666 = .ok (.laload, 1) := dk_47 (dk_at dksL_law_25 5 rfl rfl)
theorem dL_law_667 : decode cL_law 667 = .ok (.iload 6, 2) := dk_21 6 (dk_at dksL_law_25 6 rfl rfl)
theorem dL_law_669 : decode cL_law 669 = .ok (.i2l, 1) := dk_133 (dk_at dksL_law_25 8 rfl rfl)
theorem dL_law_670 : decode cL_law 670 = .ok (.lcmp, 1) := dk_148 (dk_at dksL_law_25 9 rfl rfl)
theorem dL_law_671 : decode cL_law 671 = .ok (.ifCond .eq 5, 3) := dk_153 0 5 (dk_at dksL_law_25 10 rfl rfl)
theorem dL_law_674 : decode cL_law 674 = .ok (.iconst 0, 1) := dk_3 (dk_at dksL_law_25 13 rfl rfl)
theorem dL_law_675 : decode cL_law 675 = .ok (.ireturn, 1) := dk_172 (dk_at dksL_law_25 14 rfl rfl)
theorem dL_law_676 : decode cL_law 676 = .ok (.goto 1006, 3) := dk_167 3 238 (dk_at dksL_law_25 15 rfl rfl)
theorem dL_law_679 : decode cL_law 679 = .ok (.aload_n 1, 1) := dk_43 (dk_at dksL_law_25 18 rfl rfl)
theorem dL_law_680 : decode cL_law 680 = .ok (.aload_n 3, 1) := dk_45 (dk_at dksL_law_25 19 rfl rfl)
theorem dL_law_681 : decode cL_law 681 = .ok (.invokestatic 127, 3) := dk_184 0 127 (dk_at dksL_law_25 20 rfl rfl)
theorem dL_law_684 : decode cL_law 684 = .ok (.istore 5, 2) := dk_54 5 (dk_at dksL_law_26 0 rfl rfl)
theorem dL_law_686 : decode cL_law 686 = .ok (.aload_n 2, 1) := dk_44 (dk_at dksL_law_26 2 rfl rfl)
theorem dL_law_687 : decode cL_law 687 = .ok (.invokevirtual 129, 3) := dk_182 0 129 (dk_at dksL_law_26 3 rfl rfl)
theorem dL_law_690 : decode cL_law 690 = .ok (.istore 6, 2) := dk_54 6 (dk_at dksL_law_26 6 rfl rfl)
theorem dL_law_692 : decode cL_law 692 = .ok (.aload_n 2, 1) := dk_44 (dk_at dksL_law_26 8 rfl rfl)
theorem dL_law_693 : decode cL_law 693 = .ok (.invokevirtual 100, 3) := dk_182 0 100 (dk_at dksL_law_26 9 rfl rfl)
theorem dL_law_696 : decode cL_law 696 = .ok (.iload 5, 2) := dk_21 5 (dk_at dksL_law_26 12 rfl rfl)
theorem dL_law_698 : decode cL_law 698 = .ok (.if_icmp .eq 5, 3) := dk_159 0 5 (dk_at dksL_law_26 14 rfl rfl)
theorem dL_law_701 : decode cL_law 701 = .ok (.iconst 0, 1) := dk_3 (dk_at dksL_law_26 17 rfl rfl)
theorem dL_law_702 : decode cL_law 702 = .ok (.ireturn, 1) := dk_172 (dk_at dksL_law_26 18 rfl rfl)
theorem dL_law_703 : decode cL_law 703 = .ok (.iload 5, 2) := dk_21 5 (dk_at dksL_law_26 19 rfl rfl)
theorem dL_law_705 : decode cL_law 705 = .ok (.ifCond .ne 15, 3) := dk_154 0 15 (dk_at dksL_law_26 21 rfl rfl)
theorem dL_law_708 : decode cL_law 708 = .ok (.aload_n 3, 1) := dk_45 (dk_at dksL_law_27 0 rfl rfl)
theorem dL_law_709 : decode cL_law 709 = .ok (.iconst 0, 1) := dk_3 (dk_at dksL_law_27 1 rfl rfl)
theorem dL_law_710 : decode cL_law 710 = .ok (.laload, 1) := dk_47 (dk_at dksL_law_27 2 rfl rfl)
theorem dL_law_711 : decode cL_law 711 = .ok (.iload 6, 2) := dk_21 6 (dk_at dksL_law_27 3 rfl rfl)
theorem dL_law_713 : decode cL_law 713 = .ok (.i2l, 1) := dk_133 (dk_at dksL_law_27 5 rfl rfl)
theorem dL_law_714 : decode cL_law 714 = .ok (.lcmp, 1) := dk_148 (dk_at dksL_law_27 6 rfl rfl)
theorem dL_law_715 : decode cL_law 715 = .ok (.ifCond .eq 5, 3) := dk_153 0 5 (dk_at dksL_law_27 7 rfl rfl)
theorem dL_law_718 : decode cL_law 718 = .ok (.iconst 0, 1) := dk_3 (dk_at dksL_law_27 10 rfl rfl)
theorem dL_law_719 : decode cL_law 719 = .ok (.ireturn, 1) := dk_172 (dk_at dksL_law_27 11 rfl rfl)
theorem dL_law_720 : decode cL_law 720 = .ok (.goto 962, 3) := dk_167 3 194 (dk_at dksL_law_27 12 rfl rfl)
theorem dL_law_723 : decode cL_law 723 = .ok (.aload_n 1, 1) := dk_43 (dk_at dksL_law_27 15 rfl rfl)
theorem dL_law_724 : decode cL_law 724 = .ok (.aload_n 0, 1) := dk_42 (dk_at dksL_law_27 16 rfl rfl)
theorem dL_law_725 : decode cL_law 725 = .ok (.iload 4, 2) := dk_21 4 (dk_at dksL_law_27 17 rfl rfl)
theorem dL_law_727 : decode cL_law 727 = .ok (.iconst 1, 1) := dk_4 (dk_at dksL_law_27 19 rfl rfl)
theorem dL_law_728 : decode cL_law 728 = .ok (.iadd, 1) := dk_96 (dk_at dksL_law_27 20 rfl rfl)
theorem dL_law_729 : decode cL_law 729 = .ok (.iaload, 1) := dk_46 (dk_at dksL_law_27 21 rfl rfl)
theorem dL_law_730 : decode cL_law 730 = .ok (.aload_n 3, 1) := dk_45 (dk_at dksL_law_27 22 rfl rfl)
theorem dL_law_731 : decode cL_law 731 = .ok (.invokestatic 130, 3) := dk_184 0 130 (dk_at dksL_law_28 0 rfl rfl)
theorem dL_law_734 : decode cL_law 734 = .ok (.istore 5, 2) := dk_54 5 (dk_at dksL_law_28 3 rfl rfl)
theorem dL_law_736 : decode cL_law 736 = .ok (.aload_n 2, 1) := dk_44 (dk_at dksL_law_28 5 rfl rfl)
theorem dL_law_737 : decode cL_law 737 = .ok (.aload_n 0, 1) := dk_42 (dk_at dksL_law_28 6 rfl rfl)
theorem dL_law_738 : decode cL_law 738 = .ok (.iload 4, 2) := dk_21 4 (dk_at dksL_law_28 7 rfl rfl)
theorem dL_law_740 : decode cL_law 740 = .ok (.iconst 1, 1) := dk_4 (dk_at dksL_law_28 9 rfl rfl)
theorem dL_law_741 : decode cL_law 741 = .ok (.iadd, 1) := dk_96 (dk_at dksL_law_28 10 rfl rfl)
theorem dL_law_742 : decode cL_law 742 = .ok (.iaload, 1) := dk_46 (dk_at dksL_law_28 11 rfl rfl)
theorem dL_law_743 : decode cL_law 743 = .ok (.invokevirtual 132, 3) := dk_182 0 132 (dk_at dksL_law_28 12 rfl rfl)
theorem dL_law_746 : decode cL_law 746 = .ok (.istore 6, 2) := dk_54 6 (dk_at dksL_law_28 15 rfl rfl)
theorem dL_law_748 : decode cL_law 748 = .ok (.aload_n 2, 1) := dk_44 (dk_at dksL_law_28 17 rfl rfl)
theorem dL_law_749 : decode cL_law 749 = .ok (.invokevirtual 100, 3) := dk_182 0 100 (dk_at dksL_law_28 18 rfl rfl)
theorem dL_law_752 : decode cL_law 752 = .ok (.iload 5, 2) := dk_21 5 (dk_at dksL_law_28 21 rfl rfl)
theorem dL_law_754 : decode cL_law 754 = .ok (.if_icmp .eq 5, 3) := dk_159 0 5 (dk_at dksL_law_29 0 rfl rfl)
theorem dL_law_757 : decode cL_law 757 = .ok (.iconst 0, 1) := dk_3 (dk_at dksL_law_29 3 rfl rfl)
theorem dL_law_758 : decode cL_law 758 = .ok (.ireturn, 1) := dk_172 (dk_at dksL_law_29 4 rfl rfl)
theorem dL_law_759 : decode cL_law 759 = .ok (.iload 5, 2) := dk_21 5 (dk_at dksL_law_29 5 rfl rfl)
theorem dL_law_761 : decode cL_law 761 = .ok (.ifCond .ne 15, 3) := dk_154 0 15 (dk_at dksL_law_29 7 rfl rfl)
theorem dL_law_764 : decode cL_law 764 = .ok (.aload_n 3, 1) := dk_45 (dk_at dksL_law_29 10 rfl rfl)
theorem dL_law_765 : decode cL_law 765 = .ok (.iconst 0, 1) := dk_3 (dk_at dksL_law_29 11 rfl rfl)
theorem dL_law_766 : decode cL_law 766 = .ok (.laload, 1) := dk_47 (dk_at dksL_law_29 12 rfl rfl)
theorem dL_law_767 : decode cL_law 767 = .ok (.iload 6, 2) := dk_21 6 (dk_at dksL_law_29 13 rfl rfl)
theorem dL_law_769 : decode cL_law 769 = .ok (.i2l, 1) := dk_133 (dk_at dksL_law_29 15 rfl rfl)
theorem dL_law_770 : decode cL_law 770 = .ok (.lcmp, 1) := dk_148 (dk_at dksL_law_29 16 rfl rfl)
theorem dL_law_771 : decode cL_law 771 = .ok (.ifCond .eq 5, 3) := dk_153 0 5 (dk_at dksL_law_29 17 rfl rfl)
theorem dL_law_774 : decode cL_law 774 = .ok (.iconst 0, 1) := dk_3 (dk_at dksL_law_29 20 rfl rfl)
theorem dL_law_775 : decode cL_law 775 = .ok (.ireturn, 1) := dk_172 (dk_at dksL_law_29 21 rfl rfl)
theorem dL_law_776 : decode cL_law 776 = .ok (.goto 906, 3) := dk_167 3 138 (dk_at dksL_law_30 0 rfl rfl)
theorem dL_law_779 : decode cL_law 779 = .ok (.aload_n 1, 1) := dk_43 (dk_at dksL_law_30 3 rfl rfl)
theorem dL_law_780 : decode cL_law 780 = .ok (.aload_n 3, 1) := dk_45 (dk_at dksL_law_30 4 rfl rfl)
theorem dL_law_781 : decode cL_law 781 = .ok (.invokestatic 133, 3) := dk_184 0 133 (dk_at dksL_law_30 5 rfl rfl)
theorem dL_law_784 : decode cL_law 784 = .ok (.istore 5, 2) := dk_54 5 (dk_at dksL_law_30 8 rfl rfl)
theorem dL_law_786 : decode cL_law 786 = .ok (.aload_n 2, 1) := dk_44 (dk_at dksL_law_30 10 rfl rfl)
theorem dL_law_787 : decode cL_law 787 = .ok (.invokevirtual 135, 3) := dk_182 0 135 (dk_at dksL_law_30 11 rfl rfl)
theorem dL_law_790 : decode cL_law 790 = .ok (.istore 6, 2) := dk_54 6 (dk_at dksL_law_30 14 rfl rfl)
theorem dL_law_792 : decode cL_law 792 = .ok (.aload_n 2, 1) := dk_44 (dk_at dksL_law_30 16 rfl rfl)
theorem dL_law_793 : decode cL_law 793 = .ok (.invokevirtual 100, 3) := dk_182 0 100 (dk_at dksL_law_30 17 rfl rfl)
theorem dL_law_796 : decode cL_law 796 = .ok (.iload 5, 2) := dk_21 5 (dk_at dksL_law_30 20 rfl rfl)
theorem dL_law_798 : decode cL_law 798 = .ok (.if_icmp .eq 5, 3) := dk_159 0 5 (dk_at dksL_law_31 0 rfl rfl)
theorem dL_law_801 : decode cL_law 801 = .ok (.iconst 0, 1) := dk_3 (dk_at dksL_law_31 3 rfl rfl)
theorem dL_law_802 : decode cL_law 802 = .ok (.ireturn, 1) := dk_172 (dk_at dksL_law_31 4 rfl rfl)
theorem dL_law_803 : decode cL_law 803 = .ok (.iload 5, 2) := dk_21 5 (dk_at dksL_law_31 5 rfl rfl)
theorem dL_law_805 : decode cL_law 805 = .ok (.ifCond .ne 15, 3) := dk_154 0 15 (dk_at dksL_law_31 7 rfl rfl)
theorem dL_law_808 : decode cL_law 808 = .ok (.aload_n 3, 1) := dk_45 (dk_at dksL_law_31 10 rfl rfl)
theorem dL_law_809 : decode cL_law 809 = .ok (.iconst 0, 1) := dk_3 (dk_at dksL_law_31 11 rfl rfl)
theorem dL_law_810 : decode cL_law 810 = .ok (.laload, 1) := dk_47 (dk_at dksL_law_31 12 rfl rfl)
theorem dL_law_811 : decode cL_law 811 = .ok (.iload 6, 2) := dk_21 6 (dk_at dksL_law_31 13 rfl rfl)
theorem dL_law_813 : decode cL_law 813 = .ok (.i2l, 1) := dk_133 (dk_at dksL_law_31 15 rfl rfl)
theorem dL_law_814 : decode cL_law 814 = .ok (.lcmp, 1) := dk_148 (dk_at dksL_law_31 16 rfl rfl)
theorem dL_law_815 : decode cL_law 815 = .ok (.ifCond .eq 5, 3) := dk_153 0 5 (dk_at dksL_law_31 17 rfl rfl)
theorem dL_law_818 : decode cL_law 818 = .ok (.iconst 0, 1) := dk_3 (dk_at dksL_law_31 20 rfl rfl)
theorem dL_law_819 : decode cL_law 819 = .ok (.ireturn, 1) := dk_172 (dk_at dksL_law_31 21 rfl rfl)
theorem dL_law_820 : decode cL_law 820 = .ok (.goto 862, 3) := dk_167 3 94 (dk_at dksL_law_32 0 rfl rfl)
theorem dL_law_823 : decode cL_law 823 = .ok (.aload_n 1, 1) := dk_43 (dk_at dksL_law_32 3 rfl rfl)
theorem dL_law_824 : decode cL_law 824 = .ok (.aload_n 0, 1) := dk_42 (dk_at dksL_law_32 4 rfl rfl)
theorem dL_law_825 : decode cL_law 825 = .ok (.iload 4, 2) := dk_21 4 (dk_at dksL_law_32 5 rfl rfl)
theorem dL_law_827 : decode cL_law 827 = .ok (.iconst 1, 1) := dk_4 (dk_at dksL_law_32 7 rfl rfl)
theorem dL_law_828 : decode cL_law 828 = .ok (.iadd, 1) := dk_96 (dk_at dksL_law_32 8 rfl rfl)
theorem dL_law_829 : decode cL_law 829 = .ok (.iaload, 1) := dk_46 (dk_at dksL_law_32 9 rfl rfl)
theorem dL_law_830 : decode cL_law 830 = .ok (.aload_n 0, 1) := dk_42 (dk_at dksL_law_32 10 rfl rfl)
theorem dL_law_831 : decode cL_law 831 = .ok (.iload 4, 2) := dk_21 4 (dk_at dksL_law_32 11 rfl rfl)
theorem dL_law_833 : decode cL_law 833 = .ok (.iconst 2, 1) := dk_5 (dk_at dksL_law_32 13 rfl rfl)
theorem dL_law_834 : decode cL_law 834 = .ok (.iadd, 1) := dk_96 (dk_at dksL_law_32 14 rfl rfl)
theorem dL_law_835 : decode cL_law 835 = .ok (.iaload, 1) := dk_46 (dk_at dksL_law_32 15 rfl rfl)
theorem dL_law_836 : decode cL_law 836 = .ok (.aload_n 3, 1) := dk_45 (dk_at dksL_law_32 16 rfl rfl)
theorem dL_law_837 : decode cL_law 837 = .ok (.invokestatic 136, 3) := dk_184 0 136 (dk_at dksL_law_32 17 rfl rfl)
theorem dL_law_840 : decode cL_law 840 = .ok (.istore 5, 2) := dk_54 5 (dk_at dksL_law_32 20 rfl rfl)
theorem dL_law_842 : decode cL_law 842 = .ok (.aload_n 2, 1) := dk_44 (dk_at dksL_law_32 22 rfl rfl)
theorem dL_law_843 : decode cL_law 843 = .ok (.aload_n 0, 1) := dk_42 (dk_at dksL_law_32 23 rfl rfl)
theorem dL_law_844 : decode cL_law 844 = .ok (.iload 4, 2) := dk_21 4 (dk_at dksL_law_33 0 rfl rfl)
theorem dL_law_846 : decode cL_law 846 = .ok (.iconst 1, 1) := dk_4 (dk_at dksL_law_33 2 rfl rfl)
theorem dL_law_847 : decode cL_law 847 = .ok (.iadd, 1) := dk_96 (dk_at dksL_law_33 3 rfl rfl)
theorem dL_law_848 : decode cL_law 848 = .ok (.iaload, 1) := dk_46 (dk_at dksL_law_33 4 rfl rfl)
theorem dL_law_849 : decode cL_law 849 = .ok (.aload_n 0, 1) := dk_42 (dk_at dksL_law_33 5 rfl rfl)
theorem dL_law_850 : decode cL_law 850 = .ok (.iload 4, 2) := dk_21 4 (dk_at dksL_law_33 6 rfl rfl)
theorem dL_law_852 : decode cL_law 852 = .ok (.iconst 2, 1) := dk_5 (dk_at dksL_law_33 8 rfl rfl)
theorem dL_law_853 : decode cL_law 853 = .ok (.iadd, 1) := dk_96 (dk_at dksL_law_33 9 rfl rfl)
theorem dL_law_854 : decode cL_law 854 = .ok (.iaload, 1) := dk_46 (dk_at dksL_law_33 10 rfl rfl)
theorem dL_law_855 : decode cL_law 855 = .ok (.invokevirtual 138, 3) := dk_182 0 138 (dk_at dksL_law_33 11 rfl rfl)
theorem dL_law_858 : decode cL_law 858 = .ok (.istore 6, 2) := dk_54 6 (dk_at dksL_law_33 14 rfl rfl)
theorem dL_law_860 : decode cL_law 860 = .ok (.aload_n 2, 1) := dk_44 (dk_at dksL_law_33 16 rfl rfl)
theorem dL_law_861 : decode cL_law 861 = .ok (.invokevirtual 100, 3) := dk_182 0 100 (dk_at dksL_law_33 17 rfl rfl)
theorem dL_law_864 : decode cL_law 864 = .ok (.iload 5, 2) := dk_21 5 (dk_at dksL_law_33 20 rfl rfl)
theorem dL_law_866 : decode cL_law 866 = .ok (.if_icmp .eq 5, 3) := dk_159 0 5 (dk_at dksL_law_34 0 rfl rfl)
theorem dL_law_869 : decode cL_law 869 = .ok (.iconst 0, 1) := dk_3 (dk_at dksL_law_34 3 rfl rfl)
theorem dL_law_870 : decode cL_law 870 = .ok (.ireturn, 1) := dk_172 (dk_at dksL_law_34 4 rfl rfl)
theorem dL_law_871 : decode cL_law 871 = .ok (.iload 5, 2) := dk_21 5 (dk_at dksL_law_34 5 rfl rfl)
theorem dL_law_873 : decode cL_law 873 = .ok (.ifCond .ne 15, 3) := dk_154 0 15 (dk_at dksL_law_34 7 rfl rfl)
theorem dL_law_876 : decode cL_law 876 = .ok (.aload_n 3, 1) := dk_45 (dk_at dksL_law_34 10 rfl rfl)
theorem dL_law_877 : decode cL_law 877 = .ok (.iconst 0, 1) := dk_3 (dk_at dksL_law_34 11 rfl rfl)
theorem dL_law_878 : decode cL_law 878 = .ok (.laload, 1) := dk_47 (dk_at dksL_law_34 12 rfl rfl)
theorem dL_law_879 : decode cL_law 879 = .ok (.iload 6, 2) := dk_21 6 (dk_at dksL_law_34 13 rfl rfl)
theorem dL_law_881 : decode cL_law 881 = .ok (.i2l, 1) := dk_133 (dk_at dksL_law_34 15 rfl rfl)
theorem dL_law_882 : decode cL_law 882 = .ok (.lcmp, 1) := dk_148 (dk_at dksL_law_34 16 rfl rfl)
theorem dL_law_883 : decode cL_law 883 = .ok (.ifCond .eq 5, 3) := dk_153 0 5 (dk_at dksL_law_34 17 rfl rfl)
theorem dL_law_886 : decode cL_law 886 = .ok (.iconst 0, 1) := dk_3 (dk_at dksL_law_34 20 rfl rfl)
theorem dL_law_887 : decode cL_law 887 = .ok (.ireturn, 1) := dk_172 (dk_at dksL_law_34 21 rfl rfl)
theorem dL_law_888 : decode cL_law 888 = .ok (.goto 794, 3) := dk_167 3 26 (dk_at dksL_law_35 0 rfl rfl)
theorem dL_law_891 : decode cL_law 891 = .ok (.aload_n 1, 1) := dk_43 (dk_at dksL_law_35 3 rfl rfl)
theorem dL_law_892 : decode cL_law 892 = .ok (.aload_n 0, 1) := dk_42 (dk_at dksL_law_35 4 rfl rfl)
theorem dL_law_893 : decode cL_law 893 = .ok (.iload 4, 2) := dk_21 4 (dk_at dksL_law_35 5 rfl rfl)
theorem dL_law_895 : decode cL_law 895 = .ok (.iconst 1, 1) := dk_4 (dk_at dksL_law_35 7 rfl rfl)
theorem dL_law_896 : decode cL_law 896 = .ok (.iadd, 1) := dk_96 (dk_at dksL_law_35 8 rfl rfl)
theorem dL_law_897 : decode cL_law 897 = .ok (.iaload, 1) := dk_46 (dk_at dksL_law_35 9 rfl rfl)
theorem dL_law_898 : decode cL_law 898 = .ok (.aload_n 3, 1) := dk_45 (dk_at dksL_law_35 10 rfl rfl)
theorem dL_law_899 : decode cL_law 899 = .ok (.invokestatic 139, 3) := dk_184 0 139 (dk_at dksL_law_35 11 rfl rfl)
theorem dL_law_902 : decode cL_law 902 = .ok (.istore 5, 2) := dk_54 5 (dk_at dksL_law_35 14 rfl rfl)
theorem dL_law_904 : decode cL_law 904 = .ok (.aload_n 2, 1) := dk_44 (dk_at dksL_law_35 16 rfl rfl)
theorem dL_law_905 : decode cL_law 905 = .ok (.aload_n 0, 1) := dk_42 (dk_at dksL_law_35 17 rfl rfl)
theorem dL_law_906 : decode cL_law 906 = .ok (.iload 4, 2) := dk_21 4 (dk_at dksL_law_35 18 rfl rfl)
theorem dL_law_908 : decode cL_law 908 = .ok (.iconst 1, 1) := dk_4 (dk_at dksL_law_35 20 rfl rfl)
theorem dL_law_909 : decode cL_law 909 = .ok (.iadd, 1) := dk_96 (dk_at dksL_law_35 21 rfl rfl)
theorem dL_law_910 : decode cL_law 910 = .ok (.iaload, 1) := dk_46 (dk_at dksL_law_35 22 rfl rfl)
theorem dL_law_911 : decode cL_law 911 = .ok (.invokevirtual 141, 3) := dk_182 0 141 (dk_at dksL_law_36 0 rfl rfl)
theorem dL_law_914 : decode cL_law 914 = .ok (.istore 6, 2) := dk_54 6 (dk_at dksL_law_36 3 rfl rfl)
theorem dL_law_916 : decode cL_law 916 = .ok (.aload_n 2, 1) := dk_44 (dk_at dksL_law_36 5 rfl rfl)
theorem dL_law_917 : decode cL_law 917 = .ok (.invokevirtual 100, 3) := dk_182 0 100 (dk_at dksL_law_36 6 rfl rfl)
theorem dL_law_920 : decode cL_law 920 = .ok (.iload 5, 2) := dk_21 5 (dk_at dksL_law_36 9 rfl rfl)
theorem dL_law_922 : decode cL_law 922 = .ok (.if_icmp .eq 5, 3) := dk_159 0 5 (dk_at dksL_law_36 11 rfl rfl)
theorem dL_law_925 : decode cL_law 925 = .ok (.iconst 0, 1) := dk_3 (dk_at dksL_law_36 14 rfl rfl)
theorem dL_law_926 : decode cL_law 926 = .ok (.ireturn, 1) := dk_172 (dk_at dksL_law_36 15 rfl rfl)
theorem dL_law_927 : decode cL_law 927 = .ok (.iload 5, 2) := dk_21 5 (dk_at dksL_law_36 16 rfl rfl)
theorem dL_law_929 : decode cL_law 929 = .ok (.ifCond .ne 15, 3) := dk_154 0 15 (dk_at dksL_law_36 18 rfl rfl)
theorem dL_law_932 : decode cL_law 932 = .ok (.aload_n 3, 1) := dk_45 (dk_at dksL_law_36 21 rfl rfl)
theorem dL_law_933 : decode cL_law 933 = .ok (.iconst 0, 1) := dk_3 (dk_at dksL_law_36 22 rfl rfl)
theorem dL_law_934 : decode cL_law 934 = .ok (.laload, 1) := dk_47 (dk_at dksL_law_36 23 rfl rfl)
theorem dL_law_935 : decode cL_law 935 = .ok (.iload 6, 2) := dk_21 6 (dk_at dksL_law_37 0 rfl rfl)
theorem dL_law_937 : decode cL_law 937 = .ok (.i2l, 1) := dk_133 (dk_at dksL_law_37 2 rfl rfl)
theorem dL_law_938 : decode cL_law 938 = .ok (.lcmp, 1) := dk_148 (dk_at dksL_law_37 3 rfl rfl)
theorem dL_law_939 : decode cL_law 939 = .ok (.ifCond .eq 5, 3) := dk_153 0 5 (dk_at dksL_law_37 4 rfl rfl)
theorem dL_law_942 : decode cL_law 942 = .ok (.iconst 0, 1) := dk_3 (dk_at dksL_law_37 7 rfl rfl)
theorem dL_law_943 : decode cL_law 943 = .ok (.ireturn, 1) := dk_172 (dk_at dksL_law_37 8 rfl rfl)
theorem dL_law_944 : decode cL_law 944 = .ok (.goto 738, 3) := dk_167 2 226 (dk_at dksL_law_37 9 rfl rfl)
theorem dL_law_947 : decode cL_law 947 = .ok (.aload_n 1, 1) := dk_43 (dk_at dksL_law_37 12 rfl rfl)
theorem dL_law_948 : decode cL_law 948 = .ok (.aload_n 0, 1) := dk_42 (dk_at dksL_law_37 13 rfl rfl)
theorem dL_law_949 : decode cL_law 949 = .ok (.iload 4, 2) := dk_21 4 (dk_at dksL_law_37 14 rfl rfl)
theorem dL_law_951 : decode cL_law 951 = .ok (.iconst 1, 1) := dk_4 (dk_at dksL_law_37 16 rfl rfl)
theorem dL_law_952 : decode cL_law 952 = .ok (.iadd, 1) := dk_96 (dk_at dksL_law_37 17 rfl rfl)
theorem dL_law_953 : decode cL_law 953 = .ok (.iaload, 1) := dk_46 (dk_at dksL_law_37 18 rfl rfl)
theorem dL_law_954 : decode cL_law 954 = .ok (.aload_n 0, 1) := dk_42 (dk_at dksL_law_37 19 rfl rfl)
theorem dL_law_955 : decode cL_law 955 = .ok (.iload 4, 2) := dk_21 4 (dk_at dksL_law_37 20 rfl rfl)
theorem dL_law_957 : decode cL_law 957 = .ok (.iconst 2, 1) := dk_5 (dk_at dksL_law_37 22 rfl rfl)
theorem dL_law_958 : decode cL_law 958 = .ok (.iadd, 1) := dk_96 (dk_at dksL_law_37 23 rfl rfl)
theorem dL_law_959 : decode cL_law 959 = .ok (.iaload, 1) := dk_46 (dk_at dksL_law_38 0 rfl rfl)
theorem dL_law_960 : decode cL_law 960 = .ok (.aload_n 0, 1) := dk_42 (dk_at dksL_law_38 1 rfl rfl)
theorem dL_law_961 : decode cL_law 961 = .ok (.iload 4, 2) := dk_21 4 (dk_at dksL_law_38 2 rfl rfl)
theorem dL_law_963 : decode cL_law 963 = .ok (.iconst 3, 1) := dk_6 (dk_at dksL_law_38 4 rfl rfl)
theorem dL_law_964 : decode cL_law 964 = .ok (.iadd, 1) := dk_96 (dk_at dksL_law_38 5 rfl rfl)
theorem dL_law_965 : decode cL_law 965 = .ok (.iaload, 1) := dk_46 (dk_at dksL_law_38 6 rfl rfl)
theorem dL_law_966 : decode cL_law 966 = .ok (.aload_n 3, 1) := dk_45 (dk_at dksL_law_38 7 rfl rfl)
theorem dL_law_967 : decode cL_law 967 = .ok (.invokestatic 142, 3) := dk_184 0 142 (dk_at dksL_law_38 8 rfl rfl)
theorem dL_law_970 : decode cL_law 970 = .ok (.istore 5, 2) := dk_54 5 (dk_at dksL_law_38 11 rfl rfl)
theorem dL_law_972 : decode cL_law 972 = .ok (.aload_n 2, 1) := dk_44 (dk_at dksL_law_38 13 rfl rfl)
theorem dL_law_973 : decode cL_law 973 = .ok (.aload_n 0, 1) := dk_42 (dk_at dksL_law_38 14 rfl rfl)
theorem dL_law_974 : decode cL_law 974 = .ok (.iload 4, 2) := dk_21 4 (dk_at dksL_law_38 15 rfl rfl)
theorem dL_law_976 : decode cL_law 976 = .ok (.iconst 1, 1) := dk_4 (dk_at dksL_law_38 17 rfl rfl)
theorem dL_law_977 : decode cL_law 977 = .ok (.iadd, 1) := dk_96 (dk_at dksL_law_38 18 rfl rfl)
theorem dL_law_978 : decode cL_law 978 = .ok (.iaload, 1) := dk_46 (dk_at dksL_law_38 19 rfl rfl)
theorem dL_law_979 : decode cL_law 979 = .ok (.aload_n 0, 1) := dk_42 (dk_at dksL_law_38 20 rfl rfl)
theorem dL_law_980 : decode cL_law 980 = .ok (.iload 4, 2) := dk_21 4 (dk_at dksL_law_38 21 rfl rfl)
theorem dL_law_982 : decode cL_law 982 = .ok (.iconst 2, 1) := dk_5 (dk_at dksL_law_38 23 rfl rfl)
theorem dL_law_983 : decode cL_law 983 = .ok (.iadd, 1) := dk_96 (dk_at dksL_law_39 0 rfl rfl)
theorem dL_law_984 : decode cL_law 984 = .ok (.iaload, 1) := dk_46 (dk_at dksL_law_39 1 rfl rfl)
theorem dL_law_985 : decode cL_law 985 = .ok (.aload_n 0, 1) := dk_42 (dk_at dksL_law_39 2 rfl rfl)
theorem dL_law_986 : decode cL_law 986 = .ok (.iload 4, 2) := dk_21 4 (dk_at dksL_law_39 3 rfl rfl)
theorem dL_law_988 : decode cL_law 988 = .ok (.iconst 3, 1) := dk_6 (dk_at dksL_law_39 5 rfl rfl)
theorem dL_law_989 : decode cL_law 989 = .ok (.iadd, 1) := dk_96 (dk_at dksL_law_39 6 rfl rfl)
theorem dL_law_990 : decode cL_law 990 = .ok (.iaload, 1) := dk_46 (dk_at dksL_law_39 7 rfl rfl)
theorem dL_law_991 : decode cL_law 991 = .ok (.invokevirtual 144, 3) := dk_182 0 144 (dk_at dksL_law_39 8 rfl rfl)
theorem dL_law_994 : decode cL_law 994 = .ok (.istore 6, 2) := dk_54 6 (dk_at dksL_law_39 11 rfl rfl)
theorem dL_law_996 : decode cL_law 996 = .ok (.aload_n 2, 1) := dk_44 (dk_at dksL_law_39 13 rfl rfl)
theorem dL_law_997 : decode cL_law 997 = .ok (.invokevirtual 100, 3) := dk_182 0 100 (dk_at dksL_law_39 14 rfl rfl)
theorem dL_law_1000 : decode cL_law 1000 = .ok (.iload 5, 2) := dk_21 5 (dk_at dksL_law_39 17 rfl rfl)
theorem dL_law_1002 : decode cL_law 1002 = .ok (.if_icmp .eq 5, 3) := dk_159 0 5 (dk_at dksL_law_39 19 rfl rfl)
theorem dL_law_1005 : decode cL_law 1005 = .ok (.iconst 0, 1) := dk_3 (dk_at dksL_law_39 22 rfl rfl)
theorem dL_law_1006 : decode cL_law 1006 = .ok (.ireturn, 1) := dk_172 (dk_at dksL_law_39 23 rfl rfl)
theorem dL_law_1007 : decode cL_law 1007 = .ok (.iload 5, 2) := dk_21 5 (dk_at dksL_law_40 0 rfl rfl)
theorem dL_law_1009 : decode cL_law 1009 = .ok (.ifCond .ne 15, 3) := dk_154 0 15 (dk_at dksL_law_40 2 rfl rfl)
theorem dL_law_1012 : decode cL_law 1012 = .ok (.aload_n 3, 1) := dk_45 (dk_at dksL_law_40 5 rfl rfl)
theorem dL_law_1013 : decode cL_law 1013 = .ok (.iconst 0, 1) := dk_3 (dk_at dksL_law_40 6 rfl rfl)
theorem dL_law_1014 : decode cL_law 1014 = .ok (.laload, 1) := dk_47 (dk_at dksL_law_40 7 rfl rfl)
theorem dL_law_1015 : decode cL_law 1015 = .ok (.iload 6, 2) := dk_21 6 (dk_at dksL_law_40 8 rfl rfl)
theorem dL_law_1017 : decode cL_law 1017 = .ok (.i2l, 1) := dk_133 (dk_at dksL_law_40 10 rfl rfl)
theorem dL_law_1018 : decode cL_law 1018 = .ok (.lcmp, 1) := dk_148 (dk_at dksL_law_40 11 rfl rfl)
theorem dL_law_1019 : decode cL_law 1019 = .ok (.ifCond .eq 5, 3) := dk_153 0 5 (dk_at dksL_law_40 12 rfl rfl)
theorem dL_law_1022 : decode cL_law 1022 = .ok (.iconst 0, 1) := dk_3 (dk_at dksL_law_40 15 rfl rfl)
theorem dL_law_1023 : decode cL_law 1023 = .ok (.ireturn, 1) := dk_172 (dk_at dksL_law_40 16 rfl rfl)
theorem dL_law_1024 : decode cL_law 1024 = .ok (.goto 658, 3) := dk_167 2 146 (dk_at dksL_law_40 17 rfl rfl)
theorem dL_law_1027 : decode cL_law 1027 = .ok (.aload_n 1, 1) := dk_43 (dk_at dksL_law_40 20 rfl rfl)
theorem dL_law_1028 : decode cL_law 1028 = .ok (.aload_n 0, 1) := dk_42 (dk_at dksL_law_40 21 rfl rfl)
theorem dL_law_1029 : decode cL_law 1029 = .ok (.iload 4, 2) := dk_21 4 (dk_at dksL_law_40 22 rfl rfl)
theorem dL_law_1031 : decode cL_law 1031 = .ok (.iconst 1, 1) := dk_4 (dk_at dksL_law_41 0 rfl rfl)
theorem dL_law_1032 : decode cL_law 1032 = .ok (.iadd, 1) := dk_96 (dk_at dksL_law_41 1 rfl rfl)
theorem dL_law_1033 : decode cL_law 1033 = .ok (.iaload, 1) := dk_46 (dk_at dksL_law_41 2 rfl rfl)
theorem dL_law_1034 : decode cL_law 1034 = .ok (.aload_n 0, 1) := dk_42 (dk_at dksL_law_41 3 rfl rfl)
theorem dL_law_1035 : decode cL_law 1035 = .ok (.iload 4, 2) := dk_21 4 (dk_at dksL_law_41 4 rfl rfl)
theorem dL_law_1037 : decode cL_law 1037 = .ok (.iconst 2, 1) := dk_5 (dk_at dksL_law_41 6 rfl rfl)
theorem dL_law_1038 : decode cL_law 1038 = .ok (.iadd, 1) := dk_96 (dk_at dksL_law_41 7 rfl rfl)
theorem dL_law_1039 : decode cL_law 1039 = .ok (.iaload, 1) := dk_46 (dk_at dksL_law_41 8 rfl rfl)
theorem dL_law_1040 : decode cL_law 1040 = .ok (.aload_n 3, 1) := dk_45 (dk_at dksL_law_41 9 rfl rfl)
theorem dL_law_1041 : decode cL_law 1041 = .ok (.invokestatic 145, 3) := dk_184 0 145 (dk_at dksL_law_41 10 rfl rfl)
theorem dL_law_1044 : decode cL_law 1044 = .ok (.istore 5, 2) := dk_54 5 (dk_at dksL_law_41 13 rfl rfl)
theorem dL_law_1046 : decode cL_law 1046 = .ok (.aload_n 2, 1) := dk_44 (dk_at dksL_law_41 15 rfl rfl)
theorem dL_law_1047 : decode cL_law 1047 = .ok (.aload_n 0, 1) := dk_42 (dk_at dksL_law_41 16 rfl rfl)
theorem dL_law_1048 : decode cL_law 1048 = .ok (.iload 4, 2) := dk_21 4 (dk_at dksL_law_41 17 rfl rfl)
theorem dL_law_1050 : decode cL_law 1050 = .ok (.iconst 1, 1) := dk_4 (dk_at dksL_law_41 19 rfl rfl)
theorem dL_law_1051 : decode cL_law 1051 = .ok (.iadd, 1) := dk_96 (dk_at dksL_law_41 20 rfl rfl)
theorem dL_law_1052 : decode cL_law 1052 = .ok (.iaload, 1) := dk_46 (dk_at dksL_law_41 21 rfl rfl)
theorem dL_law_1053 : decode cL_law 1053 = .ok (.aload_n 0, 1) := dk_42 (dk_at dksL_law_41 22 rfl rfl)
theorem dL_law_1054 : decode cL_law 1054 = .ok (.iload 4, 2) := dk_21 4 (dk_at dksL_law_42 0 rfl rfl)
theorem dL_law_1056 : decode cL_law 1056 = .ok (.iconst 2, 1) := dk_5 (dk_at dksL_law_42 2 rfl rfl)
theorem dL_law_1057 : decode cL_law 1057 = .ok (.iadd, 1) := dk_96 (dk_at dksL_law_42 3 rfl rfl)
theorem dL_law_1058 : decode cL_law 1058 = .ok (.iaload, 1) := dk_46 (dk_at dksL_law_42 4 rfl rfl)
theorem dL_law_1059 : decode cL_law 1059 = .ok (.invokevirtual 147, 3) := dk_182 0 147 (dk_at dksL_law_42 5 rfl rfl)
theorem dL_law_1062 : decode cL_law 1062 = .ok (.istore 6, 2) := dk_54 6 (dk_at dksL_law_42 8 rfl rfl)
theorem dL_law_1064 : decode cL_law 1064 = .ok (.aload_n 2, 1) := dk_44 (dk_at dksL_law_42 10 rfl rfl)
theorem dL_law_1065 : decode cL_law 1065 = .ok (.invokevirtual 100, 3) := dk_182 0 100 (dk_at dksL_law_42 11 rfl rfl)
theorem dL_law_1068 : decode cL_law 1068 = .ok (.iload 5, 2) := dk_21 5 (dk_at dksL_law_42 14 rfl rfl)
theorem dL_law_1070 : decode cL_law 1070 = .ok (.if_icmp .eq 5, 3) := dk_159 0 5 (dk_at dksL_law_42 16 rfl rfl)
theorem dL_law_1073 : decode cL_law 1073 = .ok (.iconst 0, 1) := dk_3 (dk_at dksL_law_42 19 rfl rfl)
theorem dL_law_1074 : decode cL_law 1074 = .ok (.ireturn, 1) := dk_172 (dk_at dksL_law_42 20 rfl rfl)
theorem dL_law_1075 : decode cL_law 1075 = .ok (.iload 5, 2) := dk_21 5 (dk_at dksL_law_42 21 rfl rfl)
theorem dL_law_1077 : decode cL_law 1077 = .ok (.ifCond .ne 15, 3) := dk_154 0 15 (dk_at dksL_law_43 0 rfl rfl)
theorem dL_law_1080 : decode cL_law 1080 = .ok (.aload_n 3, 1) := dk_45 (dk_at dksL_law_43 3 rfl rfl)
theorem dL_law_1081 : decode cL_law 1081 = .ok (.iconst 0, 1) := dk_3 (dk_at dksL_law_43 4 rfl rfl)
theorem dL_law_1082 : decode cL_law 1082 = .ok (.laload, 1) := dk_47 (dk_at dksL_law_43 5 rfl rfl)
theorem dL_law_1083 : decode cL_law 1083 = .ok (.iload 6, 2) := dk_21 6 (dk_at dksL_law_43 6 rfl rfl)
theorem dL_law_1085 : decode cL_law 1085 = .ok (.i2l, 1) := dk_133 (dk_at dksL_law_43 8 rfl rfl)
theorem dL_law_1086 : decode cL_law 1086 = .ok (.lcmp, 1) := dk_148 (dk_at dksL_law_43 9 rfl rfl)
theorem dL_law_1087 : decode cL_law 1087 = .ok (.ifCond .eq 5, 3) := dk_153 0 5 (dk_at dksL_law_43 10 rfl rfl)
theorem dL_law_1090 : decode cL_law 1090 = .ok (.iconst 0, 1) := dk_3 (dk_at dksL_law_43 13 rfl rfl)
theorem dL_law_1091 : decode cL_law 1091 = .ok (.ireturn, 1) := dk_172 (dk_at dksL_law_43 14 rfl rfl)
theorem dL_law_1092 : decode cL_law 1092 = .ok (.goto 590, 3) := dk_167 2 78 (dk_at dksL_law_43 15 rfl rfl)
theorem dL_law_1095 : decode cL_law 1095 = .ok (.aload_n 1, 1) := dk_43 (dk_at dksL_law_43 18 rfl rfl)
theorem dL_law_1096 : decode cL_law 1096 = .ok (.aload_n 0, 1) := dk_42 (dk_at dksL_law_43 19 rfl rfl)
theorem dL_law_1097 : decode cL_law 1097 = .ok (.iload 4, 2) := dk_21 4 (dk_at dksL_law_43 20 rfl rfl)
theorem dL_law_1099 : decode cL_law 1099 = .ok (.iconst 1, 1) := dk_4 (dk_at dksL_law_43 22 rfl rfl)
theorem dL_law_1100 : decode cL_law 1100 = .ok (.iadd, 1) := dk_96 (dk_at dksL_law_43 23 rfl rfl)
theorem dL_law_1101 : decode cL_law 1101 = .ok (.iaload, 1) := dk_46 (dk_at dksL_law_44 0 rfl rfl)
theorem dL_law_1102 : decode cL_law 1102 = .ok (.aload_n 0, 1) := dk_42 (dk_at dksL_law_44 1 rfl rfl)
theorem dL_law_1103 : decode cL_law 1103 = .ok (.iload 4, 2) := dk_21 4 (dk_at dksL_law_44 2 rfl rfl)
theorem dL_law_1105 : decode cL_law 1105 = .ok (.iconst 2, 1) := dk_5 (dk_at dksL_law_44 4 rfl rfl)
theorem dL_law_1106 : decode cL_law 1106 = .ok (.iadd, 1) := dk_96 (dk_at dksL_law_44 5 rfl rfl)
theorem dL_law_1107 : decode cL_law 1107 = .ok (.iaload, 1) := dk_46 (dk_at dksL_law_44 6 rfl rfl)
theorem dL_law_1108 : decode cL_law 1108 = .ok (.aload_n 3, 1) := dk_45 (dk_at dksL_law_44 7 rfl rfl)
theorem dL_law_1109 : decode cL_law 1109 = .ok (.invokestatic 148, 3) := dk_184 0 148 (dk_at dksL_law_44 8 rfl rfl)
theorem dL_law_1112 : decode cL_law 1112 = .ok (.istore 5, 2) := dk_54 5 (dk_at dksL_law_44 11 rfl rfl)
theorem dL_law_1114 : decode cL_law 1114 = .ok (.aload_n 2, 1) := dk_44 (dk_at dksL_law_44 13 rfl rfl)
theorem dL_law_1115 : decode cL_law 1115 = .ok (.aload_n 0, 1) := dk_42 (dk_at dksL_law_44 14 rfl rfl)
theorem dL_law_1116 : decode cL_law 1116 = .ok (.iload 4, 2) := dk_21 4 (dk_at dksL_law_44 15 rfl rfl)
theorem dL_law_1118 : decode cL_law 1118 = .ok (.iconst 1, 1) := dk_4 (dk_at dksL_law_44 17 rfl rfl)
theorem dL_law_1119 : decode cL_law 1119 = .ok (.iadd, 1) := dk_96 (dk_at dksL_law_44 18 rfl rfl)
theorem dL_law_1120 : decode cL_law 1120 = .ok (.iaload, 1) := dk_46 (dk_at dksL_law_44 19 rfl rfl)
theorem dL_law_1121 : decode cL_law 1121 = .ok (.aload_n 0, 1) := dk_42 (dk_at dksL_law_44 20 rfl rfl)
theorem dL_law_1122 : decode cL_law 1122 = .ok (.iload 4, 2) := dk_21 4 (dk_at dksL_law_44 21 rfl rfl)
theorem dL_law_1124 : decode cL_law 1124 = .ok (.iconst 2, 1) := dk_5 (dk_at dksL_law_44 23 rfl rfl)
theorem dL_law_1125 : decode cL_law 1125 = .ok (.iadd, 1) := dk_96 (dk_at dksL_law_45 0 rfl rfl)
theorem dL_law_1126 : decode cL_law 1126 = .ok (.iaload, 1) := dk_46 (dk_at dksL_law_45 1 rfl rfl)
theorem dL_law_1127 : decode cL_law 1127 = .ok (.invokevirtual 150, 3) := dk_182 0 150 (dk_at dksL_law_45 2 rfl rfl)
theorem dL_law_1130 : decode cL_law 1130 = .ok (.istore 6, 2) := dk_54 6 (dk_at dksL_law_45 5 rfl rfl)
theorem dL_law_1132 : decode cL_law 1132 = .ok (.aload_n 2, 1) := dk_44 (dk_at dksL_law_45 7 rfl rfl)
theorem dL_law_1133 : decode cL_law 1133 = .ok (.invokevirtual 100, 3) := dk_182 0 100 (dk_at dksL_law_45 8 rfl rfl)
theorem dL_law_1136 : decode cL_law 1136 = .ok (.iload 5, 2) := dk_21 5 (dk_at dksL_law_45 11 rfl rfl)
theorem dL_law_1138 : decode cL_law 1138 = .ok (.if_icmp .eq 5, 3) := dk_159 0 5 (dk_at dksL_law_45 13 rfl rfl)
theorem dL_law_1141 : decode cL_law 1141 = .ok (.iconst 0, 1) := dk_3 (dk_at dksL_law_45 16 rfl rfl)
theorem dL_law_1142 : decode cL_law 1142 = .ok (.ireturn, 1) := dk_172 (dk_at dksL_law_45 17 rfl rfl)
theorem dL_law_1143 : decode cL_law 1143 = .ok (.iload 5, 2) := dk_21 5 (dk_at dksL_law_45 18 rfl rfl)
theorem dL_law_1145 : decode cL_law 1145 = .ok (.ifCond .ne 15, 3) := dk_154 0 15 (dk_at dksL_law_45 20 rfl rfl)
theorem dL_law_1148 : decode cL_law 1148 = .ok (.aload_n 3, 1) := dk_45 (dk_at dksL_law_45 23 rfl rfl)
theorem dL_law_1149 : decode cL_law 1149 = .ok (.iconst 0, 1) := dk_3 (dk_at dksL_law_46 0 rfl rfl)
theorem dL_law_1150 : decode cL_law 1150 = .ok (.laload, 1) := dk_47 (dk_at dksL_law_46 1 rfl rfl)
theorem dL_law_1151 : decode cL_law 1151 = .ok (.iload 6, 2) := dk_21 6 (dk_at dksL_law_46 2 rfl rfl)
theorem dL_law_1153 : decode cL_law 1153 = .ok (.i2l, 1) := dk_133 (dk_at dksL_law_46 4 rfl rfl)
theorem dL_law_1154 : decode cL_law 1154 = .ok (.lcmp, 1) := dk_148 (dk_at dksL_law_46 5 rfl rfl)
theorem dL_law_1155 : decode cL_law 1155 = .ok (.ifCond .eq 5, 3) := dk_153 0 5 (dk_at dksL_law_46 6 rfl rfl)
theorem dL_law_1158 : decode cL_law 1158 = .ok (.iconst 0, 1) := dk_3 (dk_at dksL_law_46 9 rfl rfl)
theorem dL_law_1159 : decode cL_law 1159 = .ok (.ireturn, 1) := dk_172 (dk_at dksL_law_46 10 rfl rfl)
theorem dL_law_1160 : decode cL_law 1160 = .ok (.goto 522, 3) := dk_167 2 10 (dk_at dksL_law_46 11 rfl rfl)
theorem dL_law_1163 : decode cL_law 1163 = .ok (.aload_n 1, 1) := dk_43 (dk_at dksL_law_46 14 rfl rfl)
theorem dL_law_1164 : decode cL_law 1164 = .ok (.aload_n 0, 1) := dk_42 (dk_at dksL_law_46 15 rfl rfl)
theorem dL_law_1165 : decode cL_law 1165 = .ok (.iload 4, 2) := dk_21 4 (dk_at dksL_law_46 16 rfl rfl)
theorem dL_law_1167 : decode cL_law 1167 = .ok (.iconst 1, 1) := dk_4 (dk_at dksL_law_46 18 rfl rfl)
theorem dL_law_1168 : decode cL_law 1168 = .ok (.iadd, 1) := dk_96 (dk_at dksL_law_46 19 rfl rfl)
theorem dL_law_1169 : decode cL_law 1169 = .ok (.iaload, 1) := dk_46 (dk_at dksL_law_46 20 rfl rfl)
theorem dL_law_1170 : decode cL_law 1170 = .ok (.aload_n 0, 1) := dk_42 (dk_at dksL_law_46 21 rfl rfl)
theorem dL_law_1171 : decode cL_law 1171 = .ok (.iload 4, 2) := dk_21 4 (dk_at dksL_law_46 22 rfl rfl)
theorem dL_law_1173 : decode cL_law 1173 = .ok (.iconst 2, 1) := dk_5 (dk_at dksL_law_47 0 rfl rfl)
theorem dL_law_1174 : decode cL_law 1174 = .ok (.iadd, 1) := dk_96 (dk_at dksL_law_47 1 rfl rfl)
theorem dL_law_1175 : decode cL_law 1175 = .ok (.iaload, 1) := dk_46 (dk_at dksL_law_47 2 rfl rfl)
theorem dL_law_1176 : decode cL_law 1176 = .ok (.aload_n 3, 1) := dk_45 (dk_at dksL_law_47 3 rfl rfl)
theorem dL_law_1177 : decode cL_law 1177 = .ok (.invokestatic 151, 3) := dk_184 0 151 (dk_at dksL_law_47 4 rfl rfl)
theorem dL_law_1180 : decode cL_law 1180 = .ok (.istore 5, 2) := dk_54 5 (dk_at dksL_law_47 7 rfl rfl)
theorem dL_law_1182 : decode cL_law 1182 = .ok (.aload_n 2, 1) := dk_44 (dk_at dksL_law_47 9 rfl rfl)
theorem dL_law_1183 : decode cL_law 1183 = .ok (.aload_n 0, 1) := dk_42 (dk_at dksL_law_47 10 rfl rfl)
theorem dL_law_1184 : decode cL_law 1184 = .ok (.iload 4, 2) := dk_21 4 (dk_at dksL_law_47 11 rfl rfl)
theorem dL_law_1186 : decode cL_law 1186 = .ok (.iconst 1, 1) := dk_4 (dk_at dksL_law_47 13 rfl rfl)
theorem dL_law_1187 : decode cL_law 1187 = .ok (.iadd, 1) := dk_96 (dk_at dksL_law_47 14 rfl rfl)
theorem dL_law_1188 : decode cL_law 1188 = .ok (.iaload, 1) := dk_46 (dk_at dksL_law_47 15 rfl rfl)
theorem dL_law_1189 : decode cL_law 1189 = .ok (.aload_n 0, 1) := dk_42 (dk_at dksL_law_47 16 rfl rfl)
theorem dL_law_1190 : decode cL_law 1190 = .ok (.iload 4, 2) := dk_21 4 (dk_at dksL_law_47 17 rfl rfl)
theorem dL_law_1192 : decode cL_law 1192 = .ok (.iconst 2, 1) := dk_5 (dk_at dksL_law_47 19 rfl rfl)
theorem dL_law_1193 : decode cL_law 1193 = .ok (.iadd, 1) := dk_96 (dk_at dksL_law_47 20 rfl rfl)
theorem dL_law_1194 : decode cL_law 1194 = .ok (.iaload, 1) := dk_46 (dk_at dksL_law_47 21 rfl rfl)
theorem dL_law_1195 : decode cL_law 1195 = .ok (.invokevirtual 153, 3) := dk_182 0 153 (dk_at dksL_law_48 0 rfl rfl)
theorem dL_law_1198 : decode cL_law 1198 = .ok (.istore 6, 2) := dk_54 6 (dk_at dksL_law_48 3 rfl rfl)
theorem dL_law_1200 : decode cL_law 1200 = .ok (.aload_n 2, 1) := dk_44 (dk_at dksL_law_48 5 rfl rfl)
theorem dL_law_1201 : decode cL_law 1201 = .ok (.invokevirtual 100, 3) := dk_182 0 100 (dk_at dksL_law_48 6 rfl rfl)
theorem dL_law_1204 : decode cL_law 1204 = .ok (.iload 5, 2) := dk_21 5 (dk_at dksL_law_48 9 rfl rfl)
theorem dL_law_1206 : decode cL_law 1206 = .ok (.if_icmp .eq 5, 3) := dk_159 0 5 (dk_at dksL_law_48 11 rfl rfl)
theorem dL_law_1209 : decode cL_law 1209 = .ok (.iconst 0, 1) := dk_3 (dk_at dksL_law_48 14 rfl rfl)
theorem dL_law_1210 : decode cL_law 1210 = .ok (.ireturn, 1) := dk_172 (dk_at dksL_law_48 15 rfl rfl)
theorem dL_law_1211 : decode cL_law 1211 = .ok (.iload 5, 2) := dk_21 5 (dk_at dksL_law_48 16 rfl rfl)
theorem dL_law_1213 : decode cL_law 1213 = .ok (.ifCond .ne 15, 3) := dk_154 0 15 (dk_at dksL_law_48 18 rfl rfl)
theorem dL_law_1216 : decode cL_law 1216 = .ok (.aload_n 3, 1) := dk_45 (dk_at dksL_law_48 21 rfl rfl)
theorem dL_law_1217 : decode cL_law 1217 = .ok (.iconst 0, 1) := dk_3 (dk_at dksL_law_48 22 rfl rfl)
theorem dL_law_1218 : decode cL_law 1218 = .ok (.laload, 1) := dk_47 (dk_at dksL_law_48 23 rfl rfl)
theorem dL_law_1219 : decode cL_law 1219 = .ok (.iload 6, 2) := dk_21 6 (dk_at dksL_law_49 0 rfl rfl)
theorem dL_law_1221 : decode cL_law 1221 = .ok (.i2l, 1) := dk_133 (dk_at dksL_law_49 2 rfl rfl)
theorem dL_law_1222 : decode cL_law 1222 = .ok (.lcmp, 1) := dk_148 (dk_at dksL_law_49 3 rfl rfl)
theorem dL_law_1223 : decode cL_law 1223 = .ok (.ifCond .eq 5, 3) := dk_153 0 5 (dk_at dksL_law_49 4 rfl rfl)
theorem dL_law_1226 : decode cL_law 1226 = .ok (.iconst 0, 1) := dk_3 (dk_at dksL_law_49 7 rfl rfl)
theorem dL_law_1227 : decode cL_law 1227 = .ok (.ireturn, 1) := dk_172 (dk_at dksL_law_49 8 rfl rfl)
theorem dL_law_1228 : decode cL_law 1228 = .ok (.goto 454, 3) := dk_167 1 198 (dk_at dksL_law_49 9 rfl rfl)
theorem dL_law_1231 : decode cL_law 1231 = .ok (.aload_n 1, 1) := dk_43 (dk_at dksL_law_49 12 rfl rfl)
theorem dL_law_1232 : decode cL_law 1232 = .ok (.aload_n 0, 1) := dk_42 (dk_at dksL_law_49 13 rfl rfl)
theorem dL_law_1233 : decode cL_law 1233 = .ok (.iload 4, 2) := dk_21 4 (dk_at dksL_law_49 14 rfl rfl)
theorem dL_law_1235 : decode cL_law 1235 = .ok (.iconst 1, 1) := dk_4 (dk_at dksL_law_49 16 rfl rfl)
theorem dL_law_1236 : decode cL_law 1236 = .ok (.iadd, 1) := dk_96 (dk_at dksL_law_49 17 rfl rfl)
theorem dL_law_1237 : decode cL_law 1237 = .ok (.iaload, 1) := dk_46 (dk_at dksL_law_49 18 rfl rfl)
theorem dL_law_1238 : decode cL_law 1238 = .ok (.aload_n 0, 1) := dk_42 (dk_at dksL_law_49 19 rfl rfl)
theorem dL_law_1239 : decode cL_law 1239 = .ok (.iload 4, 2) := dk_21 4 (dk_at dksL_law_49 20 rfl rfl)
theorem dL_law_1241 : decode cL_law 1241 = .ok (.iconst 2, 1) := dk_5 (dk_at dksL_law_49 22 rfl rfl)
theorem dL_law_1242 : decode cL_law 1242 = .ok (.iadd, 1) := dk_96 (dk_at dksL_law_49 23 rfl rfl)
theorem dL_law_1243 : decode cL_law 1243 = .ok (.iaload, 1) := dk_46 (dk_at dksL_law_50 0 rfl rfl)
theorem dL_law_1244 : decode cL_law 1244 = .ok (.aload_n 3, 1) := dk_45 (dk_at dksL_law_50 1 rfl rfl)
theorem dL_law_1245 : decode cL_law 1245 = .ok (.invokestatic 154, 3) := dk_184 0 154 (dk_at dksL_law_50 2 rfl rfl)
theorem dL_law_1248 : decode cL_law 1248 = .ok (.istore 5, 2) := dk_54 5 (dk_at dksL_law_50 5 rfl rfl)
theorem dL_law_1250 : decode cL_law 1250 = .ok (.aload_n 2, 1) := dk_44 (dk_at dksL_law_50 7 rfl rfl)
theorem dL_law_1251 : decode cL_law 1251 = .ok (.aload_n 0, 1) := dk_42 (dk_at dksL_law_50 8 rfl rfl)
theorem dL_law_1252 : decode cL_law 1252 = .ok (.iload 4, 2) := dk_21 4 (dk_at dksL_law_50 9 rfl rfl)
theorem dL_law_1254 : decode cL_law 1254 = .ok (.iconst 1, 1) := dk_4 (dk_at dksL_law_50 11 rfl rfl)
theorem dL_law_1255 : decode cL_law 1255 = .ok (.iadd, 1) := dk_96 (dk_at dksL_law_50 12 rfl rfl)
theorem dL_law_1256 : decode cL_law 1256 = .ok (.iaload, 1) := dk_46 (dk_at dksL_law_50 13 rfl rfl)
theorem dL_law_1257 : decode cL_law 1257 = .ok (.aload_n 0, 1) := dk_42 (dk_at dksL_law_50 14 rfl rfl)
theorem dL_law_1258 : decode cL_law 1258 = .ok (.iload 4, 2) := dk_21 4 (dk_at dksL_law_50 15 rfl rfl)
theorem dL_law_1260 : decode cL_law 1260 = .ok (.iconst 2, 1) := dk_5 (dk_at dksL_law_50 17 rfl rfl)
theorem dL_law_1261 : decode cL_law 1261 = .ok (.iadd, 1) := dk_96 (dk_at dksL_law_50 18 rfl rfl)
theorem dL_law_1262 : decode cL_law 1262 = .ok (.iaload, 1) := dk_46 (dk_at dksL_law_50 19 rfl rfl)
theorem dL_law_1263 : decode cL_law 1263 = .ok (.invokevirtual 156, 3) := dk_182 0 156 (dk_at dksL_law_50 20 rfl rfl)
theorem dL_law_1266 : decode cL_law 1266 = .ok (.istore 6, 2) := dk_54 6 (dk_at dksL_law_51 0 rfl rfl)
theorem dL_law_1268 : decode cL_law 1268 = .ok (.aload_n 2, 1) := dk_44 (dk_at dksL_law_51 2 rfl rfl)
theorem dL_law_1269 : decode cL_law 1269 = .ok (.invokevirtual 100, 3) := dk_182 0 100 (dk_at dksL_law_51 3 rfl rfl)
theorem dL_law_1272 : decode cL_law 1272 = .ok (.iload 5, 2) := dk_21 5 (dk_at dksL_law_51 6 rfl rfl)
theorem dL_law_1274 : decode cL_law 1274 = .ok (.if_icmp .eq 5, 3) := dk_159 0 5 (dk_at dksL_law_51 8 rfl rfl)
theorem dL_law_1277 : decode cL_law 1277 = .ok (.iconst 0, 1) := dk_3 (dk_at dksL_law_51 11 rfl rfl)
theorem dL_law_1278 : decode cL_law 1278 = .ok (.ireturn, 1) := dk_172 (dk_at dksL_law_51 12 rfl rfl)
theorem dL_law_1279 : decode cL_law 1279 = .ok (.iload 5, 2) := dk_21 5 (dk_at dksL_law_51 13 rfl rfl)
theorem dL_law_1281 : decode cL_law 1281 = .ok (.ifCond .ne 15, 3) := dk_154 0 15 (dk_at dksL_law_51 15 rfl rfl)
theorem dL_law_1284 : decode cL_law 1284 = .ok (.aload_n 3, 1) := dk_45 (dk_at dksL_law_51 18 rfl rfl)
theorem dL_law_1285 : decode cL_law 1285 = .ok (.iconst 0, 1) := dk_3 (dk_at dksL_law_51 19 rfl rfl)
theorem dL_law_1286 : decode cL_law 1286 = .ok (.laload, 1) := dk_47 (dk_at dksL_law_51 20 rfl rfl)
theorem dL_law_1287 : decode cL_law 1287 = .ok (.iload 6, 2) := dk_21 6 (dk_at dksL_law_51 21 rfl rfl)
theorem dL_law_1289 : decode cL_law 1289 = .ok (.i2l, 1) := dk_133 (dk_at dksL_law_51 23 rfl rfl)
theorem dL_law_1290 : decode cL_law 1290 = .ok (.lcmp, 1) := dk_148 (dk_at dksL_law_52 0 rfl rfl)
theorem dL_law_1291 : decode cL_law 1291 = .ok (.ifCond .eq 5, 3) := dk_153 0 5 (dk_at dksL_law_52 1 rfl rfl)
theorem dL_law_1294 : decode cL_law 1294 = .ok (.iconst 0, 1) := dk_3 (dk_at dksL_law_52 4 rfl rfl)
theorem dL_law_1295 : decode cL_law 1295 = .ok (.ireturn, 1) := dk_172 (dk_at dksL_law_52 5 rfl rfl)
theorem dL_law_1296 : decode cL_law 1296 = .ok (.goto 386, 3) := dk_167 1 130 (dk_at dksL_law_52 6 rfl rfl)
theorem dL_law_1299 : decode cL_law 1299 = .ok (.aload_n 1, 1) := dk_43 (dk_at dksL_law_52 9 rfl rfl)
theorem dL_law_1300 : decode cL_law 1300 = .ok (.aload_n 0, 1) := dk_42 (dk_at dksL_law_52 10 rfl rfl)
theorem dL_law_1301 : decode cL_law 1301 = .ok (.iload 4, 2) := dk_21 4 (dk_at dksL_law_52 11 rfl rfl)
theorem dL_law_1303 : decode cL_law 1303 = .ok (.iconst 1, 1) := dk_4 (dk_at dksL_law_52 13 rfl rfl)
theorem dL_law_1304 : decode cL_law 1304 = .ok (.iadd, 1) := dk_96 (dk_at dksL_law_52 14 rfl rfl)
theorem dL_law_1305 : decode cL_law 1305 = .ok (.iaload, 1) := dk_46 (dk_at dksL_law_52 15 rfl rfl)
theorem dL_law_1306 : decode cL_law 1306 = .ok (.aload_n 3, 1) := dk_45 (dk_at dksL_law_52 16 rfl rfl)
theorem dL_law_1307 : decode cL_law 1307 = .ok (.invokestatic 157, 3) := dk_184 0 157 (dk_at dksL_law_52 17 rfl rfl)
theorem dL_law_1310 : decode cL_law 1310 = .ok (.istore 5, 2) := dk_54 5 (dk_at dksL_law_52 20 rfl rfl)
theorem dL_law_1312 : decode cL_law 1312 = .ok (.aload_n 2, 1) := dk_44 (dk_at dksL_law_52 22 rfl rfl)
theorem dL_law_1313 : decode cL_law 1313 = .ok (.aload_n 0, 1) := dk_42 (dk_at dksL_law_52 23 rfl rfl)
theorem dL_law_1314 : decode cL_law 1314 = .ok (.iload 4, 2) := dk_21 4 (dk_at dksL_law_53 0 rfl rfl)
theorem dL_law_1316 : decode cL_law 1316 = .ok (.iconst 1, 1) := dk_4 (dk_at dksL_law_53 2 rfl rfl)
theorem dL_law_1317 : decode cL_law 1317 = .ok (.iadd, 1) := dk_96 (dk_at dksL_law_53 3 rfl rfl)
theorem dL_law_1318 : decode cL_law 1318 = .ok (.iaload, 1) := dk_46 (dk_at dksL_law_53 4 rfl rfl)
theorem dL_law_1319 : decode cL_law 1319 = .ok (.invokevirtual 159, 3) := dk_182 0 159 (dk_at dksL_law_53 5 rfl rfl)
theorem dL_law_1322 : decode cL_law 1322 = .ok (.istore 6, 2) := dk_54 6 (dk_at dksL_law_53 8 rfl rfl)
theorem dL_law_1324 : decode cL_law 1324 = .ok (.aload_n 2, 1) := dk_44 (dk_at dksL_law_53 10 rfl rfl)
theorem dL_law_1325 : decode cL_law 1325 = .ok (.invokevirtual 100, 3) := dk_182 0 100 (dk_at dksL_law_53 11 rfl rfl)
theorem dL_law_1328 : decode cL_law 1328 = .ok (.iload 5, 2) := dk_21 5 (dk_at dksL_law_53 14 rfl rfl)
theorem dL_law_1330 : decode cL_law 1330 = .ok (.if_icmp .eq 5, 3) := dk_159 0 5 (dk_at dksL_law_53 16 rfl rfl)
theorem dL_law_1333 : decode cL_law 1333 = .ok (.iconst 0, 1) := dk_3 (dk_at dksL_law_53 19 rfl rfl)
theorem dL_law_1334 : decode cL_law 1334 = .ok (.ireturn, 1) := dk_172 (dk_at dksL_law_53 20 rfl rfl)
theorem dL_law_1335 : decode cL_law 1335 = .ok (.iload 5, 2) := dk_21 5 (dk_at dksL_law_53 21 rfl rfl)
theorem dL_law_1337 : decode cL_law 1337 = .ok (.ifCond .ne 15, 3) := dk_154 0 15 (dk_at dksL_law_54 0 rfl rfl)
theorem dL_law_1340 : decode cL_law 1340 = .ok (.aload_n 3, 1) := dk_45 (dk_at dksL_law_54 3 rfl rfl)
theorem dL_law_1341 : decode cL_law 1341 = .ok (.iconst 0, 1) := dk_3 (dk_at dksL_law_54 4 rfl rfl)
theorem dL_law_1342 : decode cL_law 1342 = .ok (.laload, 1) := dk_47 (dk_at dksL_law_54 5 rfl rfl)
theorem dL_law_1343 : decode cL_law 1343 = .ok (.iload 6, 2) := dk_21 6 (dk_at dksL_law_54 6 rfl rfl)
theorem dL_law_1345 : decode cL_law 1345 = .ok (.i2l, 1) := dk_133 (dk_at dksL_law_54 8 rfl rfl)
theorem dL_law_1346 : decode cL_law 1346 = .ok (.lcmp, 1) := dk_148 (dk_at dksL_law_54 9 rfl rfl)
theorem dL_law_1347 : decode cL_law 1347 = .ok (.ifCond .eq 5, 3) := dk_153 0 5 (dk_at dksL_law_54 10 rfl rfl)
theorem dL_law_1350 : decode cL_law 1350 = .ok (.iconst 0, 1) := dk_3 (dk_at dksL_law_54 13 rfl rfl)
theorem dL_law_1351 : decode cL_law 1351 = .ok (.ireturn, 1) := dk_172 (dk_at dksL_law_54 14 rfl rfl)
theorem dL_law_1352 : decode cL_law 1352 = .ok (.goto 330, 3) := dk_167 1 74 (dk_at dksL_law_54 15 rfl rfl)
theorem dL_law_1355 : decode cL_law 1355 = .ok (.aload_n 1, 1) := dk_43 (dk_at dksL_law_54 18 rfl rfl)
theorem dL_law_1356 : decode cL_law 1356 = .ok (.invokevirtual 160, 3) := dk_182 0 160 (dk_at dksL_law_54 19 rfl rfl)
theorem dL_law_1359 : decode cL_law 1359 = .ok (.dstore 5, 2) := dk_57 5 (dk_at dksL_law_54 22 rfl rfl)
theorem dL_law_1361 : decode cL_law 1361 = .ok (.aload_n 2, 1) := dk_44 (dk_at dksL_law_55 0 rfl rfl)
theorem dL_law_1362 : decode cL_law 1362 = .ok (.invokevirtual 164, 3) := dk_182 0 164 (dk_at dksL_law_55 1 rfl rfl)
theorem dL_law_1365 : decode cL_law 1365 = .ok (.dstore 7, 2) := dk_57 7 (dk_at dksL_law_55 4 rfl rfl)
theorem dL_law_1367 : decode cL_law 1367 = .ok (.dload 5, 2) := dk_24 5 (dk_at dksL_law_55 6 rfl rfl)
theorem dL_law_1369 : decode cL_law 1369 = .ok (.dload 7, 2) := dk_24 7 (dk_at dksL_law_55 8 rfl rfl)
theorem dL_law_1371 : decode cL_law 1371 = .ok (.dcmp .l, 1) := dk_151 (dk_at dksL_law_55 10 rfl rfl)
theorem dL_law_1372 : decode cL_law 1372 = .ok (.ifCond .eq 21, 3) := dk_153 0 21 (dk_at dksL_law_55 11 rfl rfl)
theorem dL_law_1375 : decode cL_law 1375 = .ok (.dload 5, 2) := dk_24 5 (dk_at dksL_law_55 14 rfl rfl)
theorem dL_law_1377 : decode cL_law 1377 = .ok (.dload 5, 2) := dk_24 5 (dk_at dksL_law_55 16 rfl rfl)
theorem dL_law_1379 : decode cL_law 1379 = .ok (.dcmp .l, 1) := dk_151 (dk_at dksL_law_55 18 rfl rfl)
theorem dL_law_1380 : decode cL_law 1380 = .ok (.ifCond .eq 11, 3) := dk_153 0 11 (dk_at dksL_law_55 19 rfl rfl)
theorem dL_law_1383 : decode cL_law 1383 = .ok (.dload 7, 2) := dk_24 7 (dk_at dksL_law_55 22 rfl rfl)
theorem dL_law_1385 : decode cL_law 1385 = .ok (.dload 7, 2) := dk_24 7 (dk_at dksL_law_56 0 rfl rfl)
theorem dL_law_1387 : decode cL_law 1387 = .ok (.dcmp .l, 1) := dk_151 (dk_at dksL_law_56 2 rfl rfl)
theorem dL_law_1388 : decode cL_law 1388 = .ok (.ifCond .ne 5, 3) := dk_154 0 5 (dk_at dksL_law_56 3 rfl rfl)
theorem dL_law_1391 : decode cL_law 1391 = .ok (.iconst 0, 1) := dk_3 (dk_at dksL_law_56 6 rfl rfl)
theorem dL_law_1392 : decode cL_law 1392 = .ok (.ireturn, 1) := dk_172 (dk_at dksL_law_56 7 rfl rfl)
theorem dL_law_1393 : decode cL_law 1393 = .ok (.goto 289, 3) := dk_167 1 33 (dk_at dksL_law_56 8 rfl rfl)
theorem dL_law_1396 : decode cL_law 1396 = .ok (.aload_n 1, 1) := dk_43 (dk_at dksL_law_56 11 rfl rfl)
theorem dL_law_1397 : decode cL_law 1397 = .ok (.aload_n 0, 1) := dk_42 (dk_at dksL_law_56 12 rfl rfl)
theorem dL_law_1398 : decode cL_law 1398 = .ok (.iload 4, 2) := dk_21 4 (dk_at dksL_law_56 13 rfl rfl)
theorem dL_law_1400 : decode cL_law 1400 = .ok (.iconst 1, 1) := dk_4 (dk_at dksL_law_56 15 rfl rfl)
theorem dL_law_1401 : decode cL_law 1401 = .ok (.iadd, 1) := dk_96 (dk_at dksL_law_56 16 rfl rfl)
theorem dL_law_1402 : decode cL_law 1402 = .ok (.iaload, 1) := dk_46 (dk_at dksL_law_56 17 rfl rfl)
theorem dL_law_1403 : decode cL_law 1403 = .ok (.aload_n 0, 1) := dk_42 (dk_at dksL_law_56 18 rfl rfl)
theorem dL_law_1404 : decode cL_law 1404 = .ok (.iload 4, 2) := dk_21 4 (dk_at dksL_law_56 19 rfl rfl)
theorem dL_law_1406 : decode cL_law 1406 = .ok (.iconst 2, 1) := dk_5 (dk_at dksL_law_56 21 rfl rfl)
theorem dL_law_1407 : decode cL_law 1407 = .ok (.iadd, 1) := dk_96 (dk_at dksL_law_56 22 rfl rfl)
theorem dL_law_1408 : decode cL_law 1408 = .ok (.iaload, 1) := dk_46 (dk_at dksL_law_56 23 rfl rfl)
theorem dL_law_1409 : decode cL_law 1409 = .ok (.aload_n 3, 1) := dk_45 (dk_at dksL_law_57 0 rfl rfl)
theorem dL_law_1410 : decode cL_law 1410 = .ok (.invokestatic 165, 3) := dk_184 0 165 (dk_at dksL_law_57 1 rfl rfl)
theorem dL_law_1413 : decode cL_law 1413 = .ok (.istore 5, 2) := dk_54 5 (dk_at dksL_law_57 4 rfl rfl)
theorem dL_law_1415 : decode cL_law 1415 = .ok (.aload_n 2, 1) := dk_44 (dk_at dksL_law_57 6 rfl rfl)
theorem dL_law_1416 : decode cL_law 1416 = .ok (.aload_n 0, 1) := dk_42 (dk_at dksL_law_57 7 rfl rfl)
theorem dL_law_1417 : decode cL_law 1417 = .ok (.iload 4, 2) := dk_21 4 (dk_at dksL_law_57 8 rfl rfl)
theorem dL_law_1419 : decode cL_law 1419 = .ok (.iconst 1, 1) := dk_4 (dk_at dksL_law_57 10 rfl rfl)
theorem dL_law_1420 : decode cL_law 1420 = .ok (.iadd, 1) := dk_96 (dk_at dksL_law_57 11 rfl rfl)
theorem dL_law_1421 : decode cL_law 1421 = .ok (.iaload, 1) := dk_46 (dk_at dksL_law_57 12 rfl rfl)
theorem dL_law_1422 : decode cL_law 1422 = .ok (.aload_n 0, 1) := dk_42 (dk_at dksL_law_57 13 rfl rfl)
theorem dL_law_1423 : decode cL_law 1423 = .ok (.iload 4, 2) := dk_21 4 (dk_at dksL_law_57 14 rfl rfl)
theorem dL_law_1425 : decode cL_law 1425 = .ok (.iconst 2, 1) := dk_5 (dk_at dksL_law_57 16 rfl rfl)
theorem dL_law_1426 : decode cL_law 1426 = .ok (.iadd, 1) := dk_96 (dk_at dksL_law_57 17 rfl rfl)
theorem dL_law_1427 : decode cL_law 1427 = .ok (.iaload, 1) := dk_46 (dk_at dksL_law_57 18 rfl rfl)
theorem dL_law_1428 : decode cL_law 1428 = .ok (.invokevirtual 167, 3) := dk_182 0 167 (dk_at dksL_law_57 19 rfl rfl)
theorem dL_law_1431 : decode cL_law 1431 = .ok (.istore 6, 2) := dk_54 6 (dk_at dksL_law_57 22 rfl rfl)
theorem dL_law_1433 : decode cL_law 1433 = .ok (.aload_n 2, 1) := dk_44 (dk_at dksL_law_58 0 rfl rfl)
theorem dL_law_1434 : decode cL_law 1434 = .ok (.invokevirtual 100, 3) := dk_182 0 100 (dk_at dksL_law_58 1 rfl rfl)
theorem dL_law_1437 : decode cL_law 1437 = .ok (.iload 5, 2) := dk_21 5 (dk_at dksL_law_58 4 rfl rfl)
theorem dL_law_1439 : decode cL_law 1439 = .ok (.if_icmp .eq 5, 3) := dk_159 0 5 (dk_at dksL_law_58 6 rfl rfl)
theorem dL_law_1442 : decode cL_law 1442 = .ok (.iconst 0, 1) := dk_3 (dk_at dksL_law_58 9 rfl rfl)
theorem dL_law_1443 : decode cL_law 1443 = .ok (.ireturn, 1) := dk_172 (dk_at dksL_law_58 10 rfl rfl)
theorem dL_law_1444 : decode cL_law 1444 = .ok (.iload 5, 2) := dk_21 5 (dk_at dksL_law_58 11 rfl rfl)
theorem dL_law_1446 : decode cL_law 1446 = .ok (.ifCond .ne 15, 3) := dk_154 0 15 (dk_at dksL_law_58 13 rfl rfl)
theorem dL_law_1449 : decode cL_law 1449 = .ok (.aload_n 3, 1) := dk_45 (dk_at dksL_law_58 16 rfl rfl)
theorem dL_law_1450 : decode cL_law 1450 = .ok (.iconst 0, 1) := dk_3 (dk_at dksL_law_58 17 rfl rfl)
theorem dL_law_1451 : decode cL_law 1451 = .ok (.laload, 1) := dk_47 (dk_at dksL_law_58 18 rfl rfl)
theorem dL_law_1452 : decode cL_law 1452 = .ok (.iload 6, 2) := dk_21 6 (dk_at dksL_law_58 19 rfl rfl)
theorem dL_law_1454 : decode cL_law 1454 = .ok (.i2l, 1) := dk_133 (dk_at dksL_law_58 21 rfl rfl)
theorem dL_law_1455 : decode cL_law 1455 = .ok (.lcmp, 1) := dk_148 (dk_at dksL_law_58 22 rfl rfl)
theorem dL_law_1456 : decode cL_law 1456 = .ok (.ifCond .eq 5, 3) := dk_153 0 5 (dk_at dksL_law_59 0 rfl rfl)
theorem dL_law_1459 : decode cL_law 1459 = .ok (.iconst 0, 1) := dk_3 (dk_at dksL_law_59 3 rfl rfl)
theorem dL_law_1460 : decode cL_law 1460 = .ok (.ireturn, 1) := dk_172 (dk_at dksL_law_59 4 rfl rfl)
theorem dL_law_1461 : decode cL_law 1461 = .ok (.goto 221, 3) := dk_167 0 221 (dk_at dksL_law_59 5 rfl rfl)
theorem dL_law_1464 : decode cL_law 1464 = .ok (.aload_n 1, 1) := dk_43 (dk_at dksL_law_59 8 rfl rfl)
theorem dL_law_1465 : decode cL_law 1465 = .ok (.aload_n 0, 1) := dk_42 (dk_at dksL_law_59 9 rfl rfl)
theorem dL_law_1466 : decode cL_law 1466 = .ok (.iload 4, 2) := dk_21 4 (dk_at dksL_law_59 10 rfl rfl)
theorem dL_law_1468 : decode cL_law 1468 = .ok (.iconst 1, 1) := dk_4 (dk_at dksL_law_59 12 rfl rfl)
theorem dL_law_1469 : decode cL_law 1469 = .ok (.iadd, 1) := dk_96 (dk_at dksL_law_59 13 rfl rfl)
theorem dL_law_1470 : decode cL_law 1470 = .ok (.iaload, 1) := dk_46 (dk_at dksL_law_59 14 rfl rfl)
theorem dL_law_1471 : decode cL_law 1471 = .ok (.aload_n 3, 1) := dk_45 (dk_at dksL_law_59 15 rfl rfl)
theorem dL_law_1472 : decode cL_law 1472 = .ok (.invokestatic 168, 3) := dk_184 0 168 (dk_at dksL_law_59 16 rfl rfl)
theorem dL_law_1475 : decode cL_law 1475 = .ok (.istore 5, 2) := dk_54 5 (dk_at dksL_law_59 19 rfl rfl)
theorem dL_law_1477 : decode cL_law 1477 = .ok (.aload_n 2, 1) := dk_44 (dk_at dksL_law_59 21 rfl rfl)
theorem dL_law_1478 : decode cL_law 1478 = .ok (.aload_n 0, 1) := dk_42 (dk_at dksL_law_59 22 rfl rfl)
theorem dL_law_1479 : decode cL_law 1479 = .ok (.iload 4, 2) := dk_21 4 (dk_at dksL_law_60 0 rfl rfl)
theorem dL_law_1481 : decode cL_law 1481 = .ok (.iconst 1, 1) := dk_4 (dk_at dksL_law_60 2 rfl rfl)
theorem dL_law_1482 : decode cL_law 1482 = .ok (.iadd, 1) := dk_96 (dk_at dksL_law_60 3 rfl rfl)
theorem dL_law_1483 : decode cL_law 1483 = .ok (.iaload, 1) := dk_46 (dk_at dksL_law_60 4 rfl rfl)
theorem dL_law_1484 : decode cL_law 1484 = .ok (.invokevirtual 170, 3) := dk_182 0 170 (dk_at dksL_law_60 5 rfl rfl)
theorem dL_law_1487 : decode cL_law 1487 = .ok (.istore 6, 2) := dk_54 6 (dk_at dksL_law_60 8 rfl rfl)
theorem dL_law_1489 : decode cL_law 1489 = .ok (.aload_n 2, 1) := dk_44 (dk_at dksL_law_60 10 rfl rfl)
theorem dL_law_1490 : decode cL_law 1490 = .ok (.invokevirtual 100, 3) := dk_182 0 100 (dk_at dksL_law_60 11 rfl rfl)
theorem dL_law_1493 : decode cL_law 1493 = .ok (.iload 5, 2) := dk_21 5 (dk_at dksL_law_60 14 rfl rfl)
theorem dL_law_1495 : decode cL_law 1495 = .ok (.if_icmp .eq 5, 3) := dk_159 0 5 (dk_at dksL_law_60 16 rfl rfl)
theorem dL_law_1498 : decode cL_law 1498 = .ok (.iconst 0, 1) := dk_3 (dk_at dksL_law_60 19 rfl rfl)
theorem dL_law_1499 : decode cL_law 1499 = .ok (.ireturn, 1) := dk_172 (dk_at dksL_law_60 20 rfl rfl)
theorem dL_law_1500 : decode cL_law 1500 = .ok (.iload 5, 2) := dk_21 5 (dk_at dksL_law_60 21 rfl rfl)
theorem dL_law_1502 : decode cL_law 1502 = .ok (.ifCond .ne 15, 3) := dk_154 0 15 (dk_at dksL_law_61 0 rfl rfl)
theorem dL_law_1505 : decode cL_law 1505 = .ok (.aload_n 3, 1) := dk_45 (dk_at dksL_law_61 3 rfl rfl)
theorem dL_law_1506 : decode cL_law 1506 = .ok (.iconst 0, 1) := dk_3 (dk_at dksL_law_61 4 rfl rfl)
theorem dL_law_1507 : decode cL_law 1507 = .ok (.laload, 1) := dk_47 (dk_at dksL_law_61 5 rfl rfl)
theorem dL_law_1508 : decode cL_law 1508 = .ok (.iload 6, 2) := dk_21 6 (dk_at dksL_law_61 6 rfl rfl)
theorem dL_law_1510 : decode cL_law 1510 = .ok (.i2l, 1) := dk_133 (dk_at dksL_law_61 8 rfl rfl)
theorem dL_law_1511 : decode cL_law 1511 = .ok (.lcmp, 1) := dk_148 (dk_at dksL_law_61 9 rfl rfl)
theorem dL_law_1512 : decode cL_law 1512 = .ok (.ifCond .eq 5, 3) := dk_153 0 5 (dk_at dksL_law_61 10 rfl rfl)
theorem dL_law_1515 : decode cL_law 1515 = .ok (.iconst 0, 1) := dk_3 (dk_at dksL_law_61 13 rfl rfl)
theorem dL_law_1516 : decode cL_law 1516 = .ok (.ireturn, 1) := dk_172 (dk_at dksL_law_61 14 rfl rfl)
theorem dL_law_1517 : decode cL_law 1517 = .ok (.goto 165, 3) := dk_167 0 165 (dk_at dksL_law_61 15 rfl rfl)
theorem dL_law_1520 : decode cL_law 1520 = .ok (.aload_n 1, 1) := dk_43 (dk_at dksL_law_61 18 rfl rfl)
theorem dL_law_1521 : decode cL_law 1521 = .ok (.aload_n 0, 1) := dk_42 (dk_at dksL_law_61 19 rfl rfl)
theorem dL_law_1522 : decode cL_law 1522 = .ok (.iload 4, 2) := dk_21 4 (dk_at dksL_law_61 20 rfl rfl)
theorem dL_law_1524 : decode cL_law 1524 = .ok (.iconst 1, 1) := dk_4 (dk_at dksL_law_61 22 rfl rfl)
theorem dL_law_1525 : decode cL_law 1525 = .ok (.iadd, 1) := dk_96 (dk_at dksL_law_61 23 rfl rfl)
theorem dL_law_1526 : decode cL_law 1526 = .ok (.iaload, 1) := dk_46 (dk_at dksL_law_62 0 rfl rfl)
theorem dL_law_1527 : decode cL_law 1527 = .ok (.aload_n 3, 1) := dk_45 (dk_at dksL_law_62 1 rfl rfl)
theorem dL_law_1528 : decode cL_law 1528 = .ok (.invokestatic 171, 3) := dk_184 0 171 (dk_at dksL_law_62 2 rfl rfl)
theorem dL_law_1531 : decode cL_law 1531 = .ok (.istore 5, 2) := dk_54 5 (dk_at dksL_law_62 5 rfl rfl)
theorem dL_law_1533 : decode cL_law 1533 = .ok (.aload_n 2, 1) := dk_44 (dk_at dksL_law_62 7 rfl rfl)
theorem dL_law_1534 : decode cL_law 1534 = .ok (.aload_n 0, 1) := dk_42 (dk_at dksL_law_62 8 rfl rfl)
theorem dL_law_1535 : decode cL_law 1535 = .ok (.iload 4, 2) := dk_21 4 (dk_at dksL_law_62 9 rfl rfl)
theorem dL_law_1537 : decode cL_law 1537 = .ok (.iconst 1, 1) := dk_4 (dk_at dksL_law_62 11 rfl rfl)
theorem dL_law_1538 : decode cL_law 1538 = .ok (.iadd, 1) := dk_96 (dk_at dksL_law_62 12 rfl rfl)
theorem dL_law_1539 : decode cL_law 1539 = .ok (.iaload, 1) := dk_46 (dk_at dksL_law_62 13 rfl rfl)
theorem dL_law_1540 : decode cL_law 1540 = .ok (.invokevirtual 173, 3) := dk_182 0 173 (dk_at dksL_law_62 14 rfl rfl)
theorem dL_law_1543 : decode cL_law 1543 = .ok (.istore 6, 2) := dk_54 6 (dk_at dksL_law_62 17 rfl rfl)
theorem dL_law_1545 : decode cL_law 1545 = .ok (.aload_n 2, 1) := dk_44 (dk_at dksL_law_62 19 rfl rfl)
theorem dL_law_1546 : decode cL_law 1546 = .ok (.invokevirtual 100, 3) := dk_182 0 100 (dk_at dksL_law_62 20 rfl rfl)
theorem dL_law_1549 : decode cL_law 1549 = .ok (.iload 5, 2) := dk_21 5 (dk_at dksL_law_63 0 rfl rfl)
theorem dL_law_1551 : decode cL_law 1551 = .ok (.if_icmp .eq 5, 3) := dk_159 0 5 (dk_at dksL_law_63 2 rfl rfl)
theorem dL_law_1554 : decode cL_law 1554 = .ok (.iconst 0, 1) := dk_3 (dk_at dksL_law_63 5 rfl rfl)
theorem dL_law_1555 : decode cL_law 1555 = .ok (.ireturn, 1) := dk_172 (dk_at dksL_law_63 6 rfl rfl)
theorem dL_law_1556 : decode cL_law 1556 = .ok (.iload 5, 2) := dk_21 5 (dk_at dksL_law_63 7 rfl rfl)
theorem dL_law_1558 : decode cL_law 1558 = .ok (.ifCond .ne 15, 3) := dk_154 0 15 (dk_at dksL_law_63 9 rfl rfl)
theorem dL_law_1561 : decode cL_law 1561 = .ok (.aload_n 3, 1) := dk_45 (dk_at dksL_law_63 12 rfl rfl)
theorem dL_law_1562 : decode cL_law 1562 = .ok (.iconst 0, 1) := dk_3 (dk_at dksL_law_63 13 rfl rfl)
theorem dL_law_1563 : decode cL_law 1563 = .ok (.laload, 1) := dk_47 (dk_at dksL_law_63 14 rfl rfl)
theorem dL_law_1564 : decode cL_law 1564 = .ok (.iload 6, 2) := dk_21 6 (dk_at dksL_law_63 15 rfl rfl)
theorem dL_law_1566 : decode cL_law 1566 = .ok (.i2l, 1) := dk_133 (dk_at dksL_law_63 17 rfl rfl)
theorem dL_law_1567 : decode cL_law 1567 = .ok (.lcmp, 1) := dk_148 (dk_at dksL_law_63 18 rfl rfl)
theorem dL_law_1568 : decode cL_law 1568 = .ok (.ifCond .eq 5, 3) := dk_153 0 5 (dk_at dksL_law_63 19 rfl rfl)
theorem dL_law_1571 : decode cL_law 1571 = .ok (.iconst 0, 1) := dk_3 (dk_at dksL_law_63 22 rfl rfl)
theorem dL_law_1572 : decode cL_law 1572 = .ok (.ireturn, 1) := dk_172 (dk_at dksL_law_63 23 rfl rfl)
theorem dL_law_1573 : decode cL_law 1573 = .ok (.goto 109, 3) := dk_167 0 109 (dk_at dksL_law_64 0 rfl rfl)
theorem dL_law_1576 : decode cL_law 1576 = .ok (.aload_n 1, 1) := dk_43 (dk_at dksL_law_64 3 rfl rfl)
theorem dL_law_1577 : decode cL_law 1577 = .ok (.aload_n 0, 1) := dk_42 (dk_at dksL_law_64 4 rfl rfl)
theorem dL_law_1578 : decode cL_law 1578 = .ok (.iload 4, 2) := dk_21 4 (dk_at dksL_law_64 5 rfl rfl)
theorem dL_law_1580 : decode cL_law 1580 = .ok (.iconst 1, 1) := dk_4 (dk_at dksL_law_64 7 rfl rfl)
theorem dL_law_1581 : decode cL_law 1581 = .ok (.iadd, 1) := dk_96 (dk_at dksL_law_64 8 rfl rfl)
theorem dL_law_1582 : decode cL_law 1582 = .ok (.iaload, 1) := dk_46 (dk_at dksL_law_64 9 rfl rfl)
theorem dL_law_1583 : decode cL_law 1583 = .ok (.aload_n 0, 1) := dk_42 (dk_at dksL_law_64 10 rfl rfl)
theorem dL_law_1584 : decode cL_law 1584 = .ok (.iload 4, 2) := dk_21 4 (dk_at dksL_law_64 11 rfl rfl)
theorem dL_law_1586 : decode cL_law 1586 = .ok (.iconst 2, 1) := dk_5 (dk_at dksL_law_64 13 rfl rfl)
theorem dL_law_1587 : decode cL_law 1587 = .ok (.iadd, 1) := dk_96 (dk_at dksL_law_64 14 rfl rfl)
theorem dL_law_1588 : decode cL_law 1588 = .ok (.iaload, 1) := dk_46 (dk_at dksL_law_64 15 rfl rfl)
theorem dL_law_1589 : decode cL_law 1589 = .ok (.aload_n 0, 1) := dk_42 (dk_at dksL_law_64 16 rfl rfl)
theorem dL_law_1590 : decode cL_law 1590 = .ok (.iload 4, 2) := dk_21 4 (dk_at dksL_law_64 17 rfl rfl)
theorem dL_law_1592 : decode cL_law 1592 = .ok (.iconst 3, 1) := dk_6 (dk_at dksL_law_64 19 rfl rfl)
theorem dL_law_1593 : decode cL_law 1593 = .ok (.iadd, 1) := dk_96 (dk_at dksL_law_64 20 rfl rfl)
theorem dL_law_1594 : decode cL_law 1594 = .ok (.iaload, 1) := dk_46 (dk_at dksL_law_64 21 rfl rfl)
theorem dL_law_1595 : decode cL_law 1595 = .ok (.aload_n 0, 1) := dk_42 (dk_at dksL_law_64 22 rfl rfl)
theorem dL_law_1596 : decode cL_law 1596 = .ok (.iload 4, 2) := dk_21 4 (dk_at dksL_law_65 0 rfl rfl)
theorem dL_law_1598 : decode cL_law 1598 = .ok (.iconst 4, 1) := dk_7 (dk_at dksL_law_65 2 rfl rfl)
theorem dL_law_1599 : decode cL_law 1599 = .ok (.iadd, 1) := dk_96 (dk_at dksL_law_65 3 rfl rfl)
theorem dL_law_1600 : decode cL_law 1600 = .ok (.iaload, 1) := dk_46 (dk_at dksL_law_65 4 rfl rfl)
theorem dL_law_1601 : decode cL_law 1601 = .ok (.aload_n 3, 1) := dk_45 (dk_at dksL_law_65 5 rfl rfl)
theorem dL_law_1602 : decode cL_law 1602 = .ok (.invokestatic 174, 3) := dk_184 0 174 (dk_at dksL_law_65 6 rfl rfl)
theorem dL_law_1605 : decode cL_law 1605 = .ok (.istore 5, 2) := dk_54 5 (dk_at dksL_law_65 9 rfl rfl)
theorem dL_law_1607 : decode cL_law 1607 = .ok (.aload_n 2, 1) := dk_44 (dk_at dksL_law_65 11 rfl rfl)
theorem dL_law_1608 : decode cL_law 1608 = .ok (.aload_n 0, 1) := dk_42 (dk_at dksL_law_65 12 rfl rfl)
theorem dL_law_1609 : decode cL_law 1609 = .ok (.iload 4, 2) := dk_21 4 (dk_at dksL_law_65 13 rfl rfl)
theorem dL_law_1611 : decode cL_law 1611 = .ok (.iconst 1, 1) := dk_4 (dk_at dksL_law_65 15 rfl rfl)
theorem dL_law_1612 : decode cL_law 1612 = .ok (.iadd, 1) := dk_96 (dk_at dksL_law_65 16 rfl rfl)
theorem dL_law_1613 : decode cL_law 1613 = .ok (.iaload, 1) := dk_46 (dk_at dksL_law_65 17 rfl rfl)
theorem dL_law_1614 : decode cL_law 1614 = .ok (.aload_n 0, 1) := dk_42 (dk_at dksL_law_65 18 rfl rfl)
theorem dL_law_1615 : decode cL_law 1615 = .ok (.iload 4, 2) := dk_21 4 (dk_at dksL_law_65 19 rfl rfl)
theorem dL_law_1617 : decode cL_law 1617 = .ok (.iconst 2, 1) := dk_5 (dk_at dksL_law_65 21 rfl rfl)
theorem dL_law_1618 : decode cL_law 1618 = .ok (.iadd, 1) := dk_96 (dk_at dksL_law_65 22 rfl rfl)
theorem dL_law_1619 : decode cL_law 1619 = .ok (.iaload, 1) := dk_46 (dk_at dksL_law_65 23 rfl rfl)
theorem dL_law_1620 : decode cL_law 1620 = .ok (.aload_n 0, 1) := dk_42 (dk_at dksL_law_66 0 rfl rfl)
theorem dL_law_1621 : decode cL_law 1621 = .ok (.iload 4, 2) := dk_21 4 (dk_at dksL_law_66 1 rfl rfl)
theorem dL_law_1623 : decode cL_law 1623 = .ok (.iconst 3, 1) := dk_6 (dk_at dksL_law_66 3 rfl rfl)
theorem dL_law_1624 : decode cL_law 1624 = .ok (.iadd, 1) := dk_96 (dk_at dksL_law_66 4 rfl rfl)
theorem dL_law_1625 : decode cL_law 1625 = .ok (.iaload, 1) := dk_46 (dk_at dksL_law_66 5 rfl rfl)
theorem dL_law_1626 : decode cL_law 1626 = .ok (.aload_n 0, 1) := dk_42 (dk_at dksL_law_66 6 rfl rfl)
theorem dL_law_1627 : decode cL_law 1627 = .ok (.iload 4, 2) := dk_21 4 (dk_at dksL_law_66 7 rfl rfl)
theorem dL_law_1629 : decode cL_law 1629 = .ok (.iconst 4, 1) := dk_7 (dk_at dksL_law_66 9 rfl rfl)
theorem dL_law_1630 : decode cL_law 1630 = .ok (.iadd, 1) := dk_96 (dk_at dksL_law_66 10 rfl rfl)
theorem dL_law_1631 : decode cL_law 1631 = .ok (.iaload, 1) := dk_46 (dk_at dksL_law_66 11 rfl rfl)
theorem dL_law_1632 : decode cL_law 1632 = .ok (.invokevirtual 177, 3) := dk_182 0 177 (dk_at dksL_law_66 12 rfl rfl)
theorem dL_law_1635 : decode cL_law 1635 = .ok (.istore 6, 2) := dk_54 6 (dk_at dksL_law_66 15 rfl rfl)
theorem dL_law_1637 : decode cL_law 1637 = .ok (.aload_n 2, 1) := dk_44 (dk_at dksL_law_66 17 rfl rfl)
theorem dL_law_1638 : decode cL_law 1638 = .ok (.invokevirtual 100, 3) := dk_182 0 100 (dk_at dksL_law_66 18 rfl rfl)
theorem dL_law_1641 : decode cL_law 1641 = .ok (.iload 5, 2) := dk_21 5 (dk_at dksL_law_66 21 rfl rfl)
theorem dL_law_1643 : decode cL_law 1643 = .ok (.if_icmp .eq 5, 3) := dk_159 0 5 (dk_at dksL_law_67 0 rfl rfl)
theorem dL_law_1646 : decode cL_law 1646 = .ok (.iconst 0, 1) := dk_3 (dk_at dksL_law_67 3 rfl rfl)
theorem dL_law_1647 : decode cL_law 1647 = .ok (.ireturn, 1) := dk_172 (dk_at dksL_law_67 4 rfl rfl)
theorem dL_law_1648 : decode cL_law 1648 = .ok (.iload 5, 2) := dk_21 5 (dk_at dksL_law_67 5 rfl rfl)
theorem dL_law_1650 : decode cL_law 1650 = .ok (.ifCond .ne 15, 3) := dk_154 0 15 (dk_at dksL_law_67 7 rfl rfl)
theorem dL_law_1653 : decode cL_law 1653 = .ok (.aload_n 3, 1) := dk_45 (dk_at dksL_law_67 10 rfl rfl)
theorem dL_law_1654 : decode cL_law 1654 = .ok (.iconst 0, 1) := dk_3 (dk_at dksL_law_67 11 rfl rfl)
theorem dL_law_1655 : decode cL_law 1655 = .ok (.laload, 1) := dk_47 (dk_at dksL_law_67 12 rfl rfl)
theorem dL_law_1656 : decode cL_law 1656 = .ok (.iload 6, 2) := dk_21 6 (dk_at dksL_law_67 13 rfl rfl)
theorem dL_law_1658 : decode cL_law 1658 = .ok (.i2l, 1) := dk_133 (dk_at dksL_law_67 15 rfl rfl)
theorem dL_law_1659 : decode cL_law 1659 = .ok (.lcmp, 1) := dk_148 (dk_at dksL_law_67 16 rfl rfl)
theorem dL_law_1660 : decode cL_law 1660 = .ok (.ifCond .eq 5, 3) := dk_153 0 5 (dk_at dksL_law_67 17 rfl rfl)
theorem dL_law_1663 : decode cL_law 1663 = .ok (.iconst 0, 1) := dk_3 (dk_at dksL_law_67 20 rfl rfl)
theorem dL_law_1664 : decode cL_law 1664 = .ok (.ireturn, 1) := dk_172 (dk_at dksL_law_67 21 rfl rfl)
theorem dL_law_1665 : decode cL_law 1665 = .ok (.goto 17, 3) := dk_167 0 17 (dk_at dksL_law_68 0 rfl rfl)
theorem dL_law_1668 : decode cL_law 1668 = .ok (.aload_n 1, 1) := dk_43 (dk_at dksL_law_68 3 rfl rfl)
theorem dL_law_1669 : decode cL_law 1669 = .ok (.invokevirtual 178, 3) := dk_182 0 178 (dk_at dksL_law_68 4 rfl rfl)
theorem dL_law_1672 : decode cL_law 1672 = .ok (.aload_n 2, 1) := dk_44 (dk_at dksL_law_68 7 rfl rfl)
theorem dL_law_1673 : decode cL_law 1673 = .ok (.invokevirtual 182, 3) := dk_182 0 182 (dk_at dksL_law_68 8 rfl rfl)
theorem dL_law_1676 : decode cL_law 1676 = .ok (.lcmp, 1) := dk_148 (dk_at dksL_law_68 11 rfl rfl)
theorem dL_law_1677 : decode cL_law 1677 = .ok (.ifCond .eq 5, 3) := dk_153 0 5 (dk_at dksL_law_68 12 rfl rfl)
theorem dL_law_1680 : decode cL_law 1680 = .ok (.iconst 0, 1) := dk_3 (dk_at dksL_law_68 15 rfl rfl)
theorem dL_law_1681 : decode cL_law 1681 = .ok (.ireturn, 1) := dk_172 (dk_at dksL_law_68 16 rfl rfl)
theorem dL_law_1682 : decode cL_law 1682 = .ok (.iinc 4 5, 3) := dk_132 4 5 (dk_at dksL_law_68 17 rfl rfl)
theorem dL_law_1685 : decode cL_law 1685 = .ok (.goto (-1662), 3) := dk_167 249 130 (dk_at dksL_law_68 20 rfl rfl)
theorem dL_law_1688 : decode cL_law 1688 = .ok (.iconst 1, 1) := dk_4 (dk_at dksL_law_68 23 rfl rfl)
theorem dL_law_1689 : decode cL_law 1689 = .ok (.ireturn, 1) := dk_172 (dk_at dksL_law_69 0 rfl rfl)
